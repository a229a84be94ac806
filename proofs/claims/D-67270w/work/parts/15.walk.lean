set_option maxRecDepth 100000
def k_X1_room : List (Nat × Instr × Nat) := [(0, .iload_n 0, 1), (1, .ifCond .ne 11, 3), (4, .new 10, 3), (7, .dup, 1), (8, .invokespecial 12, 3), (11, .athrow, 1), (12, .return_, 1)]
theorem t_X1_room : ∀ q ∈ k_X1_room, decode cX1_room q.1 = .ok q.2 := dl_all (by decide +kernel)
noncomputable def m_X1_room (a0 : Int) (h : Hp) : Option ((Int × Int) × Hp) :=
  if a0 ≠ 0 then (some ((0, 0), h))
  else (al h 480 6 fun a4 h4 =>
  (x_init0 a4 h4).bind fun h8 =>
  some ((1, a4), h8))
theorem s_X1_room {l : Launch} [NoTr l] {D : SD} {a0 : Int} {h : Hp} (r0 : (a0 = 0 ∨ a0 = 1)) {r : (Int × Int) × Hp} (hm : m_X1_room a0 h = some r) : Sim l D yX1_room (Cond.code yX1_room cX1_room 1 (Option.none : Option Jvm.ClassFile.FieldType)) 9 336 [iv a0] h 0 r := by
  refine Sim.of (fin := fun (v : (Int × Int) × Hp) => v) (lsE := [(0, iv a0)]) hm rfl cwS_code (la_i la_n) (ll_i ll_n) ?_
  intro p e s m below meth c X hcw hmm hcc hnm hname
  have hno := noh hcw hnm hmm hcc
  unfold m_X1_room
  refine g_iload_n (pc := 0) X (j := 0) (i := 0) (q := 0) (x := a0) rfl rfl (dl_at t_X1_room 0 rfl) ?_
  refine g_ifne (pc := 1) X (r32_z r0) (off := 11) (tgt := 12) rfl (dl_at t_X1_room 1 rfl) (fun _ => ?_) (fun _ => ?_)
  · exact g_vret (pc := 12) X (v := 0) rfl rfl (dl_at t_X1_room 6 rfl)
  refine r_new (pc := 4) X kJ3 q1654 (dl_at t_X1_room 2 rfl) fun a4 h4 p4 k4 E4 => ?_
  refine g_dup (pc := 7) X rv_cat (dl_at t_X1_room 3 rfl) ?_
  refine r_callV (pc := 8) X (fun _ hv => sx_IndexOutOfBoundsException_init__V k4 hv) cw_code q1665 q383 (in_I X (As := []) (Int.ne_of_gt p4) rfl (Or.inl q1663) q1664 q1665 ⟨by decide, by decide⟩ rfl (dl_at t_X1_room 4 rfl)) (dl_at t_X1_room 4 rfl) (cat24 (st := [rv D a4]) (Nat.le_of_ble_eq_true rfl)) (Nat.le_of_ble_eq_true rfl) (Nat.le_of_ble_eq_true rfl) fun h8 E8 => ?_
  refine g_athrow (pc := 11) X (Int.ne_of_gt p4) (dl_at t_X1_room 5 rfl) ?_
  exact gt_at fun Q hQ => gt_out (Q := Q) X rfl p4 (hno _) _ Q rfl hQ
def k_X1_four : List (Nat × Instr × Nat) := [(0, .bipush 24, 2), (2, .istore_n 2, 1), (3, .iload_n 2, 1), (4, .ifCond .lt 32, 3), (7, .aload_n 0, 1), (8, .getfield 22, 3), (11, .aload_n 0, 1), (12, .getfield 124, 3), (15, .iload_n 1, 1), (16, .iload_n 2, 1), (17, .ishr, 1), (18, .i2b, 1), (19, .bastore, 1), (20, .aload_n 0, 1), (21, .dup, 1), (22, .getfield 124, 3), (25, .iconst 1, 1), (26, .iadd, 1), (27, .putfield 124, 3), (30, .iinc 2 (-8), 3), (33, .goto (-30), 3), (36, .return_, 1)]
theorem t_X1_four : ∀ q ∈ k_X1_four, decode cX1_four q.1 = .ok q.2 := dl_all (by decide +kernel)
noncomputable def m_X1_four_l3 (a0 a1 x2_3 : Int) (h_3 : Hp) : Option ((Int × Hp) ⊕ ((Hp))) :=
  if x2_3 < 0 then (some (.inr h_3))
  else (gd (h_3 (h_3 a0 0) (-2) % 16 = 2 ∧ (0 : Int) ≤ (h_3 a0 1) ∧ (h_3 a0 1) < h_3 (h_3 a0 0) (-1)) (pt h_3 (h_3 a0 0) (h_3 a0 1) (w8 (ishr_ a1 x2_3)) fun h19 =>
  pt h19 a0 1 (w32 ((h19 a0 1) + 1)) fun h27 =>
  lt_ (w32 (x2_3 + (-8))) fun x2_30 =>
  some (.inl (x2_30, h27))))
noncomputable def m_X1_four (a0 a1 : Int) (h : Hp) : Option (Hp) :=
  lt_ 24 fun x2_2 =>
  (lp (fun (q : Int × Hp) => m_X1_four_l3 a0 a1 q.1 q.2) (x2_2, h)).bind (fun (x : Hp) => some x)
theorem s_X1_four {l : Launch} [NoTr l] {D : SD} {a0 a1 : Int} {h : Hp} (hk : h a0 (-2) = 16) (r1 : r32 a1) {r : Hp} (hm : m_X1_four a0 a1 h = some r) : Sim l D yX1_four (Cond.code yX1_four cX1_four 3 (Option.none : Option Jvm.ClassFile.FieldType)) 0 0 [rv D a0, iv a1] h 0 ((0, 0), r) := by
  refine Sim.of (fin := fun (v : Hp) => ((0, 0), v)) (lsE := [(0, rv D a0), (1, iv a1)]) hm rfl cwS_code (la_r (la_i la_n)) (ll_r (ll_i ll_n)) ?_
  intro p e s m below meth c X hcw hmm hcc hnm hname
  unfold m_X1_four
  refine g_bipush (pc := 0) X (n := 24) rfl (dl_at t_X1_four 0 rfl) ?_
  refine g_lti (r32_c rfl) fun x2_2 r2_2 => ?_
  refine g_istore_nN (pc := 2) X (j := 2) (i := 2) (x := x2_2) (b := 1) (w := iv a1) (rest := [(0, rv D a0)]) rfl (Nat.le_of_ble_eq_true rfl) [1, 0] rfl (by decide) rfl rfl (dl_at t_X1_four 1 rfl) ?_
  refine g_ls (ls2 := [(0, rv D a0), (1, iv a1), (2, iv x2_2)]) [2, 1, 0] rfl ?_
  refine g_loop0F (fun (q : Int × Hp) => [(0, rv D a0), (1, iv a1), (2, iv q.1)]) (fun (q : Int × Hp) => q.2) (fun (q : Int × Hp) => r32 q.1 ∧ Ext h q.2) (x2_2, h) ⟨r2_2, (Ext.refl _)⟩ ?_ (fun _ => rfl)
  · rintro ⟨x2_3, h_3⟩ ⟨r2_3, E_3⟩
    try dsimp only
    unfold m_X1_four_l3
    refine g_iload_n (pc := 3) X (j := 2) (i := 2) (q := 2) (x := x2_3) rfl rfl (dl_at t_X1_four 2 rfl) ?_
    refine g_iflt (pc := 4) X r2_3 (off := 32) (tgt := 36) rfl (dl_at t_X1_four 3 rfl) (fun _ => ?_) (fun _ => ?_)
    · exact g_at fun Q hQ => (g_vret (pc := 36) X (v := 0) rfl rfl (dl_at t_X1_four 21 rfl)) _ Q rfl hQ
    refine g_aload_n (pc := 7) X (j := 0) (i := 0) (q := 0) (x := a0) rfl rfl (dl_at t_X1_four 4 rfl) ?_
    have k8 := kx E_3 (by decide) hk
    refine r_getr (pc := 8) X fX1_0 k8 q1488 (dl_at t_X1_four 5 rfl) ?_
    refine g_aload_n (pc := 11) X (j := 0) (i := 0) (q := 0) (x := a0) rfl rfl (dl_at t_X1_four 6 rfl) ?_
    refine r_geti (pc := 12) X fX1_1 k8 q1489 (dl_at t_X1_four 7 rfl) fun g12 => ?_
    refine g_iload_n (pc := 15) X (j := 1) (i := 1) (q := 1) (x := a1) rfl rfl (dl_at t_X1_four 8 rfl) ?_
    refine g_iload_n (pc := 16) X (j := 2) (i := 2) (q := 2) (x := x2_3) rfl rfl (dl_at t_X1_four 9 rfl) ?_
    refine g_ishr (pc := 17) X (dl_at t_X1_four 10 rfl) ?_
    refine g_i2b (pc := 18) X (r32_ishr _ _) (dl_at t_X1_four 11 rfl) ?_
    refine g_gd fun k19 => ?_
    refine r_bastB (pc := 19) X g12 (b_w8 _) k19 (dl_at t_X1_four 12 rfl) (fun h19 E19 => ?_)
    refine g_aload_n (pc := 20) X (j := 0) (i := 0) (q := 0) (x := a0) rfl rfl (dl_at t_X1_four 13 rfl) ?_
    refine g_dup (pc := 21) X rv_cat (dl_at t_X1_four 14 rfl) ?_
    have k22 := kx E19 (by decide) k8
    refine r_geti (pc := 22) X fX1_1 k22 q1489 (dl_at t_X1_four 15 rfl) fun g22 => ?_
    refine g_iconst (pc := 25) X (n := 1) (dl_at t_X1_four 16 rfl) ?_
    refine g_iadd (pc := 26) X g22 (r32_c rfl) (dl_at t_X1_four 17 rfl) ?_
    refine r_puti (pc := 27) X fX1_1 k22 q1489 rfl (dl_at t_X1_four 18 rfl) (r32_w _) (fun h27 E27 => ?_)
    refine r_iincN (pc := 30) X (i := 2) (q := 2) (n := (-8)) (x := x2_3) (b := 1) (w := iv a1) (rest := [(0, rv D a0)]) rfl r2_3 (r32_c rfl) (Nat.le_of_ble_eq_true rfl) [1, 0] rfl (by decide) rfl rfl (dl_at t_X1_four 19 rfl) fun x2_30 r2_30 => ?_
    refine g_goto (pc := 33) X (off := (-30)) (tgt := 3) rfl (dl_at t_X1_four 20 rfl) ?_
    refine g_ls (ls2 := [(0, rv D a0), (1, iv a1), (2, iv x2_30)]) [2, 1, 0] rfl ?_
    exact g_at fun Q hQ => hQ ⟨r2_30, (E_3.trans (E19.trans E27))⟩
def k_X1_feed : List (Nat × Instr × Nat) := [(0, .aload_n 0, 1), (1, .getfield 124, 3), (4, .bipush 20, 2), (6, .iadd, 1), (7, .sipush 16384, 3), (10, .if_icmp .gt 7, 3), (13, .iconst 1, 1), (14, .goto 4, 3), (17, .iconst 0, 1), (18, .invokestatic 127, 3), (21, .aload_n 0, 1), (22, .iload_n 1, 1), (23, .invokevirtual 131, 3), (26, .aload_n 0, 1), (27, .iload_n 2, 1), (28, .invokevirtual 131, 3), (31, .aload_n 0, 1), (32, .iload_n 3, 1), (33, .invokevirtual 131, 3), (36, .aload_n 0, 1), (37, .iload 4, 2), (39, .invokevirtual 131, 3), (42, .aload_n 0, 1), (43, .iload 5, 2), (45, .invokevirtual 131, 3), (48, .aload_n 0, 1), (49, .getfield 124, 3), (52, .ireturn, 1)]
theorem t_X1_feed : ∀ q ∈ k_X1_feed, decode cX1_feed q.1 = .ok q.2 := dl_all (by decide +kernel)
noncomputable def m_X1_feed_j18 (a0 a1 a2 a3 a4 a5 s0_18 : Int) (h : Hp) : Option ((Int × Int) × Hp) :=
  bT (m_X1_room s0_18 h) (fun _ h18 =>
  (m_X1_four a0 a1 h18).bind fun h23 =>
  (m_X1_four a0 a2 h23).bind fun h28 =>
  (m_X1_four a0 a3 h28).bind fun h33 =>
  (m_X1_four a0 a4 h33).bind fun h39 =>
  (m_X1_four a0 a5 h39).bind fun h45 =>
  some ((0, (h45 a0 1)), h45)) (fun a_ h_ => some ((1, a_), h_))
noncomputable def m_X1_feed (a0 a1 a2 a3 a4 a5 : Int) (h : Hp) : Option ((Int × Int) × Hp) :=
  if 16384 < (w32 ((h a0 1) + 20)) then (m_X1_feed_j18 a0 a1 a2 a3 a4 a5 0 h)
  else (m_X1_feed_j18 a0 a1 a2 a3 a4 a5 1 h)
theorem s_X1_feed {l : Launch} [NoTr l] {D : SD} {a0 a1 a2 a3 a4 a5 : Int} {h : Hp} (hk : h a0 (-2) = 16) (r1 : r32 a1) (r2 : r32 a2) (r3 : r32 a3) (r4 : r32 a4) (r5 : r32 a5) {r : (Int × Int) × Hp} (hm : m_X1_feed a0 a1 a2 a3 a4 a5 h = some r) : Sim l D yX1_feed (Cond.code yX1_feed cX1_feed 6 (Option.some Jvm.ClassFile.FieldType.int)) 10 372 [rv D a0, iv a1, iv a2, iv a3, iv a4, iv a5] h 1 r := by
  refine Sim.of (fin := fun (v : (Int × Int) × Hp) => v) (lsE := [(0, rv D a0), (1, iv a1), (2, iv a2), (3, iv a3), (4, iv a4), (5, iv a5)]) hm rfl cwS_code (la_r (la_i (la_i (la_i (la_i (la_i la_n)))))) (ll_r (ll_i (ll_i (ll_i (ll_i (ll_i ll_n)))))) ?_
  intro p e s m below meth c X hcw hmm hcc hnm hname
  have hno := noh hcw hnm hmm hcc
  unfold m_X1_feed
  refine g_aload_n (pc := 0) X (j := 0) (i := 0) (q := 0) (x := a0) rfl rfl (dl_at t_X1_feed 0 rfl) ?_
  refine r_geti (pc := 1) X fX1_1 hk q1489 (dl_at t_X1_feed 1 rfl) fun g1 => ?_
  refine g_bipush (pc := 4) X (n := 20) rfl (dl_at t_X1_feed 2 rfl) ?_
  refine g_iadd (pc := 6) X g1 (r32_c rfl) (dl_at t_X1_feed 3 rfl) ?_
  refine g_sipush (pc := 7) X (n := 16384) rfl (dl_at t_X1_feed 4 rfl) ?_
  refine g_join (γ := Int) (fun q => (q = 0 ∨ q = 1)) 18 (fun q => [(0, rv D a0), (1, iv a1), (2, iv a2), (3, iv a3), (4, iv a4), (5, iv a5)]) (fun q => [iv q]) (fun q => h) (fun q => m_X1_feed_j18 a0 a1 a2 a3 a4 a5 q h) ?_ ?_
  · rintro s0_18 rs0_18
    try dsimp only
    unfold m_X1_feed_j18
    refine r_callTv (pc := 18) X (fun _ hv => s_X1_room rs0_18 hv) cw_code q1653 q355 (in_Sc X (As := [iv s0_18]) (Or.inl q1651) q1652 q355 q1653 ⟨by decide, by decide⟩ rfl (dl_at t_X1_feed 9 rfl)) (dl_at t_X1_feed 9 rfl) (cat24 (st := []) (Nat.le_of_ble_eq_true rfl)) (Nat.le_of_ble_eq_true rfl) (Nat.le_of_ble_eq_true rfl) (fun v18 h18 E18 => ?_) (fun _ _ ha _ => gt_at fun Q hQ => gt_out (Q := Q) X rfl ha (hno _) _ Q rfl hQ)
    refine g_aload_n (pc := 21) X (j := 0) (i := 0) (q := 0) (x := a0) rfl rfl (dl_at t_X1_feed 10 rfl) ?_
    refine g_iload_n (pc := 22) X (j := 1) (i := 1) (q := 1) (x := a1) rfl rfl (dl_at t_X1_feed 11 rfl) ?_
    have k23 := kx E18 (by decide) hk
    refine r_callV (pc := 23) X (fun _ hv => s_X1_four k23 r1 hv) cw_code q1678 q355 (in_Vk X (As := [iv a1]) kX1 k23 (Or.inl q1675) q1677 qs5 cw_code q1678 ⟨by decide, by decide⟩ rfl (dl_at t_X1_feed 12 rfl)) (dl_at t_X1_feed 12 rfl) (cat24 (st := []) (Nat.le_of_ble_eq_true rfl)) (Nat.le_of_ble_eq_true rfl) (Nat.le_of_ble_eq_true rfl) fun h23 E23 => ?_
    refine g_aload_n (pc := 26) X (j := 0) (i := 0) (q := 0) (x := a0) rfl rfl (dl_at t_X1_feed 13 rfl) ?_
    refine g_iload_n (pc := 27) X (j := 2) (i := 2) (q := 2) (x := a2) rfl rfl (dl_at t_X1_feed 14 rfl) ?_
    have k28 := kx E23 (by decide) k23
    refine r_callV (pc := 28) X (fun _ hv => s_X1_four k28 r2 hv) cw_code q1678 q355 (in_Vk X (As := [iv a2]) kX1 k28 (Or.inl q1675) q1677 qs5 cw_code q1678 ⟨by decide, by decide⟩ rfl (dl_at t_X1_feed 15 rfl)) (dl_at t_X1_feed 15 rfl) (cat24 (st := []) (Nat.le_of_ble_eq_true rfl)) (Nat.le_of_ble_eq_true rfl) (Nat.le_of_ble_eq_true rfl) fun h28 E28 => ?_
    refine g_aload_n (pc := 31) X (j := 0) (i := 0) (q := 0) (x := a0) rfl rfl (dl_at t_X1_feed 16 rfl) ?_
    refine g_iload_n (pc := 32) X (j := 3) (i := 3) (q := 3) (x := a3) rfl rfl (dl_at t_X1_feed 17 rfl) ?_
    have k33 := kx E28 (by decide) k28
    refine r_callV (pc := 33) X (fun _ hv => s_X1_four k33 r3 hv) cw_code q1678 q355 (in_Vk X (As := [iv a3]) kX1 k33 (Or.inl q1675) q1677 qs5 cw_code q1678 ⟨by decide, by decide⟩ rfl (dl_at t_X1_feed 18 rfl)) (dl_at t_X1_feed 18 rfl) (cat24 (st := []) (Nat.le_of_ble_eq_true rfl)) (Nat.le_of_ble_eq_true rfl) (Nat.le_of_ble_eq_true rfl) fun h33 E33 => ?_
    refine g_aload_n (pc := 36) X (j := 0) (i := 0) (q := 0) (x := a0) rfl rfl (dl_at t_X1_feed 19 rfl) ?_
    refine g_iload (pc := 37) X (i := 4) (q := 4) (x := a4) rfl (dl_at t_X1_feed 20 rfl) ?_
    have k39 := kx E33 (by decide) k33
    refine r_callV (pc := 39) X (fun _ hv => s_X1_four k39 r4 hv) cw_code q1678 q355 (in_Vk X (As := [iv a4]) kX1 k39 (Or.inl q1675) q1677 qs5 cw_code q1678 ⟨by decide, by decide⟩ rfl (dl_at t_X1_feed 21 rfl)) (dl_at t_X1_feed 21 rfl) (cat24 (st := []) (Nat.le_of_ble_eq_true rfl)) (Nat.le_of_ble_eq_true rfl) (Nat.le_of_ble_eq_true rfl) fun h39 E39 => ?_
    refine g_aload_n (pc := 42) X (j := 0) (i := 0) (q := 0) (x := a0) rfl rfl (dl_at t_X1_feed 22 rfl) ?_
    refine g_iload (pc := 43) X (i := 5) (q := 5) (x := a5) rfl (dl_at t_X1_feed 23 rfl) ?_
    have k45 := kx E39 (by decide) k39
    refine r_callV (pc := 45) X (fun _ hv => s_X1_four k45 r5 hv) cw_code q1678 q355 (in_Vk X (As := [iv a5]) kX1 k45 (Or.inl q1675) q1677 qs5 cw_code q1678 ⟨by decide, by decide⟩ rfl (dl_at t_X1_feed 24 rfl)) (dl_at t_X1_feed 24 rfl) (cat24 (st := []) (Nat.le_of_ble_eq_true rfl)) (Nat.le_of_ble_eq_true rfl) (Nat.le_of_ble_eq_true rfl) fun h45 E45 => ?_
    refine g_aload_n (pc := 48) X (j := 0) (i := 0) (q := 0) (x := a0) rfl rfl (dl_at t_X1_feed 25 rfl) ?_
    have k49 := kx E45 (by decide) k45
    refine r_geti (pc := 49) X fX1_1 k49 q1489 (dl_at t_X1_feed 26 rfl) fun g49 => ?_
    exact g_iret (pc := 52) X g49 rfl rfl (dl_at t_X1_feed 27 rfl)
  intro J18
  refine g_icmpgt (pc := 10) X (r32_w _) (r32_c rfl) (off := 7) (tgt := 17) rfl (dl_at t_X1_feed 5 rfl) (fun _ => ?_) (fun _ => ?_)
  · refine g_iconst (pc := 17) X (n := 0) (dl_at t_X1_feed 8 rfl) ?_
    exact J18 0 (Or.inl rfl)
  refine g_iconst (pc := 13) X (n := 1) (dl_at t_X1_feed 6 rfl) ?_
  refine g_goto (pc := 14) X (off := 4) (tgt := 18) rfl (dl_at t_X1_feed 7 rfl) ?_
  exact J18 1 (Or.inr rfl)
def k_X0_feed : List (Nat × Instr × Nat) := [(0, .aload 6, 2), (2, .iconst 0, 1), (3, .aload_n 0, 1), (4, .iload_n 1, 1), (5, .iload_n 2, 1), (6, .iload_n 3, 1), (7, .iload 4, 2), (9, .iload 5, 2), (11, .invokevirtual 7, 3), (14, .i2l, 1), (15, .lastore, 1), (16, .goto 7, 3), (19, .astore 7, 2), (21, .iconst 1, 1), (22, .ireturn, 1), (23, .iconst 0, 1), (24, .ireturn, 1)]
theorem t_X0_feed : ∀ q ∈ k_X0_feed, decode cX0_feed q.1 = .ok q.2 := dl_all (by decide +kernel)
noncomputable def m_X0_feed (a0 a1 a2 a3 a4 a5 a6 : Int) (h : Hp) : Option (Int × Hp) :=
  gd (h a0 (-2) = 16) (bT (m_X1_feed a0 a1 a2 a3 a4 a5 h) (fun v11 h11_1 =>
  gd (h11_1 a6 (-2) % 16 = 4 ∧ (0 : Int) ≤ 0 ∧ 0 < h11_1 a6 (-1)) (pt h11_1 a6 0 v11 fun h15 =>
  some (0, h15))) (fun a11 h11 => if h11 a11 (-2) = 480 then (some (1, h11))
  else (none)))
theorem s_X0_feed {l : Launch} [NoTr l] {D : SD} {a0 a1 a2 a3 a4 a5 a6 : Int} {h : Hp} (r1 : r32 a1) (r2 : r32 a2) (r3 : r32 a3) (r4 : r32 a4) (r5 : r32 a5) {r : Int × Hp} (hm : m_X0_feed a0 a1 a2 a3 a4 a5 a6 h = some r) : Sim l D yX0_feed (Cond.codeWith yX0_feed cX0_feed 8 (Option.some Jvm.ClassFile.FieldType.int) [((0 : Nat), (16 : Nat), (19 : Nat), (13 : Nat))]) 11 413 [rv D a0, iv a1, iv a2, iv a3, iv a4, iv a5, rv D a6] h 1 ((0, r.1), r.2) := by
  refine Sim.of (fin := fun (v : Int × Hp) => ((0, v.1), v.2)) (lsE := [(0, rv D a0), (1, iv a1), (2, iv a2), (3, iv a3), (4, iv a4), (5, iv a5), (6, rv D a6)]) hm rfl cwS_with (la_r (la_i (la_i (la_i (la_i (la_i (la_r la_n))))))) (ll_r (ll_i (ll_i (ll_i (ll_i (ll_i (ll_r ll_n))))))) ?_
  intro p e s m below meth c X hcw hmm hcc hnm hname
  have htb := tabW hcw hnm hmm hcc
  unfold m_X0_feed
  refine g_aload (pc := 0) X (i := 6) (q := 6) (x := a6) rfl (dl_at t_X0_feed 0 rfl) ?_
  refine g_iconst (pc := 2) X (n := 0) (dl_at t_X0_feed 1 rfl) ?_
  refine g_aload_n (pc := 3) X (j := 0) (i := 0) (q := 0) (x := a0) rfl rfl (dl_at t_X0_feed 2 rfl) ?_
  refine g_iload_n (pc := 4) X (j := 1) (i := 1) (q := 1) (x := a1) rfl rfl (dl_at t_X0_feed 3 rfl) ?_
  refine g_iload_n (pc := 5) X (j := 2) (i := 2) (q := 2) (x := a2) rfl rfl (dl_at t_X0_feed 4 rfl) ?_
  refine g_iload_n (pc := 6) X (j := 3) (i := 3) (q := 3) (x := a3) rfl rfl (dl_at t_X0_feed 5 rfl) ?_
  refine g_iload (pc := 7) X (i := 4) (q := 4) (x := a4) rfl (dl_at t_X0_feed 6 rfl) ?_
  refine g_iload (pc := 9) X (i := 5) (q := 5) (x := a5) rfl (dl_at t_X0_feed 7 rfl) ?_
  refine g_gd fun k11 => ?_
  refine r_callTi (pc := 11) X (fun _ hv => s_X1_feed k11 r1 r2 r3 r4 r5 hv) cw_code q1650 q355 (in_Vk X (As := [iv a1, iv a2, iv a3, iv a4, iv a5]) kX1 k11 (Or.inl q1647) q1648 q1649 cw_code q1650 ⟨by decide, by decide⟩ rfl (dl_at t_X0_feed 8 rfl)) (dl_at t_X0_feed 8 rfl) (cat24 (st := [iv 0, rv D a6]) (Nat.le_of_ble_eq_true rfl)) (Nat.le_of_ble_eq_true rfl) (Nat.le_of_ble_eq_true rfl) (fun v11 h11_1 g11 E11_1 => ?_) (fun a11 h11 p11 E11 => ?_)
  · refine g_i2l (pc := 14) X g11 (dl_at t_X0_feed 9 rfl) ?_
    refine g_gd fun k15 => ?_
    refine r_last (pc := 15) X (r32_c rfl) (r64_of g11) k15 (dl_at t_X0_feed 10 rfl) (fun h15 E15 => ?_)
    refine g_goto (pc := 16) X (off := 7) (tgt := 23) rfl (dl_at t_X0_feed 11 rfl) ?_
    refine g_iconst (pc := 23) X (n := 0) (dl_at t_X0_feed 15 rfl) ?_
    exact g_iret (pc := 24) X (r32_c rfl) rfl rfl (dl_at t_X0_feed 16 rfl)
  refine gt_case (fun k11_1 => ?_) (fun _ => ?_)
  · refine gt_catch (pc := 11) X kJ3 k11_1 [((0, 16, 19, 13), "java/lang/IndexOutOfBoundsException", true)] (hp := 19) rfl (by decide +kernel) (List.forall_mem_cons.mpr ⟨⟨q1565, by decide⟩, fun _ h => absurd h List.not_mem_nil⟩) htb ?_
    refine g_astore (pc := 19) X (i := 7) (x := a11) (rest := []) (Nat.le_of_ble_eq_true rfl) [] rfl rfl (dl_at t_X0_feed 12 rfl) ?_
    refine g_iconst (pc := 21) X (n := 1) (dl_at t_X0_feed 13 rfl) ?_
    exact g_iret (pc := 22) X (r32_c rfl) rfl rfl (dl_at t_X0_feed 14 rfl)
  exact gt_none
def k_X1_good : List (Nat × Instr × Nat) := [(0, .iload_n 0, 1), (1, .ifCond .ne 11, 3), (4, .new 1, 3), (7, .dup, 1), (8, .invokespecial 3, 3), (11, .athrow, 1), (12, .return_, 1)]
theorem t_X1_good : ∀ q ∈ k_X1_good, decode cX1_good q.1 = .ok q.2 := dl_all (by decide +kernel)
noncomputable def m_X1_good (a0 : Int) (h : Hp) : Option ((Int × Int) × Hp) :=
  if a0 ≠ 0 then (some ((0, 0), h))
  else (al h 496 6 fun a4 h4 =>
  (x_init0 a4 h4).bind fun h8 =>
  some ((1, a4), h8))
theorem s_X1_good {l : Launch} [NoTr l] {D : SD} {a0 : Int} {h : Hp} (r0 : (a0 = 0 ∨ a0 = 1)) {r : (Int × Int) × Hp} (hm : m_X1_good a0 h = some r) : Sim l D yX1_good (Cond.code yX1_good cX1_good 1 (Option.none : Option Jvm.ClassFile.FieldType)) 9 336 [iv a0] h 0 r := by
  refine Sim.of (fin := fun (v : (Int × Int) × Hp) => v) (lsE := [(0, iv a0)]) hm rfl cwS_code (la_i la_n) (ll_i ll_n) ?_
  intro p e s m below meth c X hcw hmm hcc hnm hname
  have hno := noh hcw hnm hmm hcc
  unfold m_X1_good
  refine g_iload_n (pc := 0) X (j := 0) (i := 0) (q := 0) (x := a0) rfl rfl (dl_at t_X1_good 0 rfl) ?_
  refine g_ifne (pc := 1) X (r32_z r0) (off := 11) (tgt := 12) rfl (dl_at t_X1_good 1 rfl) (fun _ => ?_) (fun _ => ?_)
  · exact g_vret (pc := 12) X (v := 0) rfl rfl (dl_at t_X1_good 6 rfl)
  refine r_new (pc := 4) X kJ6 q1690 (dl_at t_X1_good 2 rfl) fun a4 h4 p4 k4 E4 => ?_
  refine g_dup (pc := 7) X rv_cat (dl_at t_X1_good 3 rfl) ?_
  refine r_callV (pc := 8) X (fun _ hv => sx_IllegalArgumentException_init__V k4 hv) cw_code q1701 q386 (in_I X (As := []) (Int.ne_of_gt p4) rfl (Or.inl q1699) q1700 q1701 ⟨by decide, by decide⟩ rfl (dl_at t_X1_good 4 rfl)) (dl_at t_X1_good 4 rfl) (cat24 (st := [rv D a4]) (Nat.le_of_ble_eq_true rfl)) (Nat.le_of_ble_eq_true rfl) (Nat.le_of_ble_eq_true rfl) fun h8 E8 => ?_
  refine g_athrow (pc := 11) X (Int.ne_of_gt p4) (dl_at t_X1_good 5 rfl) ?_
  exact gt_at fun Q hQ => gt_out (Q := Q) X rfl p4 (hno _) _ Q rfl hQ
def k_X1_end : List (Nat × Instr × Nat) := [(0, .iload_n 1, 1), (1, .ifCond .lt 15, 3), (4, .iload_n 1, 1), (5, .aload_n 0, 1), (6, .getfield 124, 3), (9, .if_icmp .gt 7, 3), (12, .iconst 1, 1), (13, .goto 4, 3), (16, .iconst 0, 1), (17, .invokestatic 134, 3), (20, .aload_n 0, 1), (21, .iload_n 1, 1), (22, .putfield 124, 3), (25, .iload_n 1, 1), (26, .ireturn, 1)]
theorem t_X1_end : ∀ q ∈ k_X1_end, decode cX1_end q.1 = .ok q.2 := dl_all (by decide +kernel)
noncomputable def m_X1_end (a0 a1 : Int) (h : Hp) : Option ((Int × Int) × Hp) :=
  if a1 < 0 then (bT (m_X1_good 0 h) (fun _ h17 =>
  pt h17 a0 1 a1 fun h22 =>
  some ((0, a1), h22)) (fun a_ h_ => some ((1, a_), h_)))
  else (if (h a0 1) < a1 then (bT (m_X1_good 0 h) (fun _ h17_1 =>
  pt h17_1 a0 1 a1 fun h22_1 =>
  some ((0, a1), h22_1)) (fun a_ h_ => some ((1, a_), h_)))
  else (bT (m_X1_good 1 h) (fun _ h17_2 =>
  pt h17_2 a0 1 a1 fun h22_2 =>
  some ((0, a1), h22_2)) (fun a_ h_ => some ((1, a_), h_))))
theorem s_X1_end {l : Launch} [NoTr l] {D : SD} {a0 a1 : Int} {h : Hp} (hk : h a0 (-2) = 16) (r1 : r32 a1) {r : (Int × Int) × Hp} (hm : m_X1_end a0 a1 h = some r) : Sim l D yX1_end (Cond.code yX1_end cX1_end 2 (Option.some Jvm.ClassFile.FieldType.int)) 10 372 [rv D a0, iv a1] h 1 r := by
  refine Sim.of (fin := fun (v : (Int × Int) × Hp) => v) (lsE := [(0, rv D a0), (1, iv a1)]) hm rfl cwS_code (la_r (la_i la_n)) (ll_r (ll_i ll_n)) ?_
  intro p e s m below meth c X hcw hmm hcc hnm hname
  have hno := noh hcw hnm hmm hcc
  unfold m_X1_end
  refine g_iload_n (pc := 0) X (j := 1) (i := 1) (q := 1) (x := a1) rfl rfl (dl_at t_X1_end 0 rfl) ?_
  refine g_iflt (pc := 1) X r1 (off := 15) (tgt := 16) rfl (dl_at t_X1_end 1 rfl) (fun _ => ?_) (fun _ => ?_)
  · refine g_iconst (pc := 16) X (n := 0) (dl_at t_X1_end 8 rfl) ?_
    refine r_callTv (pc := 17) X (fun _ hv => s_X1_good (Or.inl rfl) hv) cw_code q1689 q355 (in_Sc X (As := [iv 0]) (Or.inl q1687) q1688 q355 q1689 ⟨by decide, by decide⟩ rfl (dl_at t_X1_end 9 rfl)) (dl_at t_X1_end 9 rfl) (cat24 (st := []) (Nat.le_of_ble_eq_true rfl)) (Nat.le_of_ble_eq_true rfl) (Nat.le_of_ble_eq_true rfl) (fun v17 h17 E17 => ?_) (fun _ _ ha _ => gt_at fun Q hQ => gt_out (Q := Q) X rfl ha (hno _) _ Q rfl hQ)
    refine g_aload_n (pc := 20) X (j := 0) (i := 0) (q := 0) (x := a0) rfl rfl (dl_at t_X1_end 10 rfl) ?_
    refine g_iload_n (pc := 21) X (j := 1) (i := 1) (q := 1) (x := a1) rfl rfl (dl_at t_X1_end 11 rfl) ?_
    have k22 := kx E17 (by decide) hk
    refine r_puti (pc := 22) X fX1_1 k22 q1489 rfl (dl_at t_X1_end 12 rfl) r1 (fun h22 E22 => ?_)
    refine g_iload_n (pc := 25) X (j := 1) (i := 1) (q := 1) (x := a1) rfl rfl (dl_at t_X1_end 13 rfl) ?_
    exact g_iret (pc := 26) X r1 rfl rfl (dl_at t_X1_end 14 rfl)
  refine g_iload_n (pc := 4) X (j := 1) (i := 1) (q := 1) (x := a1) rfl rfl (dl_at t_X1_end 2 rfl) ?_
  refine g_aload_n (pc := 5) X (j := 0) (i := 0) (q := 0) (x := a0) rfl rfl (dl_at t_X1_end 3 rfl) ?_
  refine r_geti (pc := 6) X fX1_1 hk q1489 (dl_at t_X1_end 4 rfl) fun g6 => ?_
  refine g_icmpgt (pc := 9) X r1 g6 (off := 7) (tgt := 16) rfl (dl_at t_X1_end 5 rfl) (fun _ => ?_) (fun _ => ?_)
  · refine g_iconst (pc := 16) X (n := 0) (dl_at t_X1_end 8 rfl) ?_
    refine r_callTv (pc := 17) X (fun _ hv => s_X1_good (Or.inl rfl) hv) cw_code q1689 q355 (in_Sc X (As := [iv 0]) (Or.inl q1687) q1688 q355 q1689 ⟨by decide, by decide⟩ rfl (dl_at t_X1_end 9 rfl)) (dl_at t_X1_end 9 rfl) (cat24 (st := []) (Nat.le_of_ble_eq_true rfl)) (Nat.le_of_ble_eq_true rfl) (Nat.le_of_ble_eq_true rfl) (fun v17_1 h17_1 E17_1 => ?_) (fun _ _ ha _ => gt_at fun Q hQ => gt_out (Q := Q) X rfl ha (hno _) _ Q rfl hQ)
    refine g_aload_n (pc := 20) X (j := 0) (i := 0) (q := 0) (x := a0) rfl rfl (dl_at t_X1_end 10 rfl) ?_
    refine g_iload_n (pc := 21) X (j := 1) (i := 1) (q := 1) (x := a1) rfl rfl (dl_at t_X1_end 11 rfl) ?_
    have k22_1 := kx E17_1 (by decide) hk
    refine r_puti (pc := 22) X fX1_1 k22_1 q1489 rfl (dl_at t_X1_end 12 rfl) r1 (fun h22_1 E22_1 => ?_)
    refine g_iload_n (pc := 25) X (j := 1) (i := 1) (q := 1) (x := a1) rfl rfl (dl_at t_X1_end 13 rfl) ?_
    exact g_iret (pc := 26) X r1 rfl rfl (dl_at t_X1_end 14 rfl)
  refine g_iconst (pc := 12) X (n := 1) (dl_at t_X1_end 6 rfl) ?_
  refine g_goto (pc := 13) X (off := 4) (tgt := 17) rfl (dl_at t_X1_end 7 rfl) ?_
  refine r_callTv (pc := 17) X (fun _ hv => s_X1_good (Or.inr rfl) hv) cw_code q1689 q355 (in_Sc X (As := [iv 1]) (Or.inl q1687) q1688 q355 q1689 ⟨by decide, by decide⟩ rfl (dl_at t_X1_end 9 rfl)) (dl_at t_X1_end 9 rfl) (cat24 (st := []) (Nat.le_of_ble_eq_true rfl)) (Nat.le_of_ble_eq_true rfl) (Nat.le_of_ble_eq_true rfl) (fun v17_2 h17_2 E17_2 => ?_) (fun _ _ ha _ => gt_at fun Q hQ => gt_out (Q := Q) X rfl ha (hno _) _ Q rfl hQ)
  refine g_aload_n (pc := 20) X (j := 0) (i := 0) (q := 0) (x := a0) rfl rfl (dl_at t_X1_end 10 rfl) ?_
  refine g_iload_n (pc := 21) X (j := 1) (i := 1) (q := 1) (x := a1) rfl rfl (dl_at t_X1_end 11 rfl) ?_
  have k22_2 := kx E17_2 (by decide) hk
  refine r_puti (pc := 22) X fX1_1 k22_2 q1489 rfl (dl_at t_X1_end 12 rfl) r1 (fun h22_2 E22_2 => ?_)
  refine g_iload_n (pc := 25) X (j := 1) (i := 1) (q := 1) (x := a1) rfl rfl (dl_at t_X1_end 13 rfl) ?_
  exact g_iret (pc := 26) X r1 rfl rfl (dl_at t_X1_end 14 rfl)
def k_X0_end : List (Nat × Instr × Nat) := [(0, .aload_n 2, 1), (1, .iconst 0, 1), (2, .aload_n 0, 1), (3, .iload_n 1, 1), (4, .invokevirtual 15, 3), (7, .i2l, 1), (8, .lastore, 1), (9, .goto 6, 3), (12, .astore_n 3, 1), (13, .iconst 1, 1), (14, .ireturn, 1), (15, .iconst 0, 1), (16, .ireturn, 1)]
theorem t_X0_end : ∀ q ∈ k_X0_end, decode cX0_end q.1 = .ok q.2 := dl_all (by decide +kernel)
noncomputable def m_X0_end (a0 a1 a2 : Int) (h : Hp) : Option (Int × Hp) :=
  gd (h a0 (-2) = 16) (bT (m_X1_end a0 a1 h) (fun v4 h4_1 =>
  gd (h4_1 a2 (-2) % 16 = 4 ∧ (0 : Int) ≤ 0 ∧ 0 < h4_1 a2 (-1)) (pt h4_1 a2 0 v4 fun h8 =>
  some (0, h8))) (fun a4 h4 => if h4 a4 (-2) = 496 then (some (1, h4))
  else (none)))
theorem s_X0_end {l : Launch} [NoTr l] {D : SD} {a0 a1 a2 : Int} {h : Hp} (r1 : r32 a1) {r : Int × Hp} (hm : m_X0_end a0 a1 a2 h = some r) : Sim l D yX0_end (Cond.codeWith yX0_end cX0_end 4 (Option.some Jvm.ClassFile.FieldType.int) [((0 : Nat), (9 : Nat), (12 : Nat), (19 : Nat))]) 11 409 [rv D a0, iv a1, rv D a2] h 1 ((0, r.1), r.2) := by
  refine Sim.of (fin := fun (v : Int × Hp) => ((0, v.1), v.2)) (lsE := [(0, rv D a0), (1, iv a1), (2, rv D a2)]) hm rfl cwS_with (la_r (la_i (la_r la_n))) (ll_r (ll_i (ll_r ll_n))) ?_
  intro p e s m below meth c X hcw hmm hcc hnm hname
  have htb := tabW hcw hnm hmm hcc
  unfold m_X0_end
  refine g_aload_n (pc := 0) X (j := 2) (i := 2) (q := 2) (x := a2) rfl rfl (dl_at t_X0_end 0 rfl) ?_
  refine g_iconst (pc := 1) X (n := 0) (dl_at t_X0_end 1 rfl) ?_
  refine g_aload_n (pc := 2) X (j := 0) (i := 0) (q := 0) (x := a0) rfl rfl (dl_at t_X0_end 2 rfl) ?_
  refine g_iload_n (pc := 3) X (j := 1) (i := 1) (q := 1) (x := a1) rfl rfl (dl_at t_X0_end 3 rfl) ?_
  refine g_gd fun k4 => ?_
  refine r_callTi (pc := 4) X (fun _ hv => s_X1_end k4 r1 hv) cw_code q1686 q355 (in_Vk X (As := [iv a1]) kX1 k4 (Or.inl q1683) q1684 q1685 cw_code q1686 ⟨by decide, by decide⟩ rfl (dl_at t_X0_end 4 rfl)) (dl_at t_X0_end 4 rfl) (cat24 (st := [iv 0, rv D a2]) (Nat.le_of_ble_eq_true rfl)) (Nat.le_of_ble_eq_true rfl) (Nat.le_of_ble_eq_true rfl) (fun v4 h4_1 g4 E4_1 => ?_) (fun a4 h4 p4 E4 => ?_)
  · refine g_i2l (pc := 7) X g4 (dl_at t_X0_end 5 rfl) ?_
    refine g_gd fun k8 => ?_
    refine r_last (pc := 8) X (r32_c rfl) (r64_of g4) k8 (dl_at t_X0_end 6 rfl) (fun h8 E8 => ?_)
    refine g_goto (pc := 9) X (off := 6) (tgt := 15) rfl (dl_at t_X0_end 7 rfl) ?_
    refine g_iconst (pc := 15) X (n := 0) (dl_at t_X0_end 11 rfl) ?_
    exact g_iret (pc := 16) X (r32_c rfl) rfl rfl (dl_at t_X0_end 12 rfl)
  refine gt_case (fun k4_1 => ?_) (fun _ => ?_)
  · refine gt_catch (pc := 4) X kJ6 k4_1 [((0, 9, 12, 19), "java/lang/IllegalArgumentException", true)] (hp := 12) rfl (by decide +kernel) (List.forall_mem_cons.mpr ⟨⟨q1682, by decide⟩, fun _ h => absurd h List.not_mem_nil⟩) htb ?_
    refine g_astore_n (pc := 12) X (j := 3) (i := 3) (x := a4) (rest := []) rfl (Nat.le_of_ble_eq_true rfl) [] rfl rfl (dl_at t_X0_end 8 rfl) ?_
    refine g_iconst (pc := 13) X (n := 1) (dl_at t_X0_end 9 rfl) ?_
    exact g_iret (pc := 14) X (r32_c rfl) rfl rfl (dl_at t_X0_end 10 rfl)
  exact gt_none
def k_X1_take : List (Nat × Instr × Nat) := [(0, .aload_n 0, 1), (1, .getfield 124, 3), (4, .istore_n 1, 1), (5, .aload_n 0, 1), (6, .iconst 0, 1), (7, .putfield 124, 3), (10, .aload_n 0, 1), (11, .iconst (-1), 1), (12, .putfield 80, 3), (15, .iload_n 1, 1), (16, .ireturn, 1)]
theorem t_X1_take : ∀ q ∈ k_X1_take, decode cX1_take q.1 = .ok q.2 := dl_all (by decide +kernel)
noncomputable def m_X1_take (a0 : Int) (h : Hp) : Option (Int × Hp) :=
  lt_ (h a0 1) fun x1_4 =>
  pt h a0 1 0 fun h7 =>
  pt h7 a0 14 (-1) fun h12 =>
  some (x1_4, h12)
theorem s_X1_take {l : Launch} [NoTr l] {D : SD} {a0 : Int} {h : Hp} (hk : h a0 (-2) = 16) {r : Int × Hp} (hm : m_X1_take a0 h = some r) : Sim l D yX1_take (Cond.code yX1_take cX1_take 2 (Option.some Jvm.ClassFile.FieldType.int)) 0 0 [rv D a0] h 1 ((0, r.1), r.2) := by
  refine Sim.of (fin := fun (v : Int × Hp) => ((0, v.1), v.2)) (lsE := [(0, rv D a0)]) hm rfl cwS_code (la_r la_n) (ll_r ll_n) ?_
  intro p e s m below meth c X hcw hmm hcc hnm hname
  unfold m_X1_take
  refine g_aload_n (pc := 0) X (j := 0) (i := 0) (q := 0) (x := a0) rfl rfl (dl_at t_X1_take 0 rfl) ?_
  refine r_geti (pc := 1) X fX1_1 hk q1489 (dl_at t_X1_take 1 rfl) fun g1 => ?_
  refine g_lti g1 fun x1_4 r1_4 => ?_
  refine g_istore_nN (pc := 4) X (j := 1) (i := 1) (x := x1_4) (b := 0) (w := rv D a0) (rest := []) rfl (Nat.le_of_ble_eq_true rfl) [0] rfl (by decide) rv_cat rfl (dl_at t_X1_take 2 rfl) ?_
  refine g_aload_n (pc := 5) X (j := 0) (i := 0) (q := 1) (x := a0) rfl rfl (dl_at t_X1_take 3 rfl) ?_
  refine g_iconst (pc := 6) X (n := 0) (dl_at t_X1_take 4 rfl) ?_
  refine r_puti (pc := 7) X fX1_1 hk q1489 rfl (dl_at t_X1_take 5 rfl) (r32_c rfl) (fun h7 E7 => ?_)
  refine g_aload_n (pc := 10) X (j := 0) (i := 0) (q := 1) (x := a0) rfl rfl (dl_at t_X1_take 6 rfl) ?_
  refine g_iconst (pc := 11) X (n := (-1)) (dl_at t_X1_take 7 rfl) ?_
  have k12 := kx E7 (by decide) hk
  refine r_puti (pc := 12) X fX1_14 k12 q1502 rfl (dl_at t_X1_take 8 rfl) (r32_c rfl) (fun h12 E12 => ?_)
  refine g_iload_n (pc := 15) X (j := 1) (i := 1) (q := 0) (x := x1_4) rfl rfl (dl_at t_X1_take 9 rfl) ?_
  exact g_iret (pc := 16) X r1_4 rfl rfl (dl_at t_X1_take 10 rfl)
def k_X2_byteAt : List (Nat × Instr × Nat) := [(0, .iload_n 1, 1), (1, .aload_n 0, 1), (2, .getfield 13, 3), (5, .if_icmp .ge 16, 3), (8, .aload_n 0, 1), (9, .getfield 7, 3), (12, .iload_n 1, 1), (13, .baload, 1), (14, .sipush 255, 3), (17, .iand, 1), (18, .goto 4, 3), (21, .iconst (-1), 1), (22, .ireturn, 1)]
theorem t_X2_byteAt : ∀ q ∈ k_X2_byteAt, decode cX2_byteAt q.1 = .ok q.2 := dl_all (by decide +kernel)
noncomputable def m_X2_byteAt (a0 a1 : Int) (h : Hp) : Option (Int) :=
  if (h a0 1) ≤ a1 then (some (-1))
  else (gd (h (h a0 0) (-2) % 16 = 2 ∧ (0 : Int) ≤ a1 ∧ a1 < h (h a0 0) (-1)) (some (iand_ (h (h a0 0) a1) 255)))
theorem s_X2_byteAt {l : Launch} [NoTr l] {D : SD} {a0 a1 : Int} {h : Hp} (hk : h a0 (-2) = 32) (r1 : r32 a1) {r : Int} (hm : m_X2_byteAt a0 a1 h = some r) : Sim l D yX2_byteAt (Cond.code yX2_byteAt cX2_byteAt 2 (Option.some Jvm.ClassFile.FieldType.int)) 0 0 [rv D a0, iv a1] h 1 ((0, r), h) := by
  refine Sim.of (fin := fun (v : Int) => ((0, v), h)) (lsE := [(0, rv D a0), (1, iv a1)]) hm rfl cwS_code (la_r (la_i la_n)) (ll_r (ll_i ll_n)) ?_
  intro p e s m below meth c X hcw hmm hcc hnm hname
  unfold m_X2_byteAt
  refine g_iload_n (pc := 0) X (j := 1) (i := 1) (q := 1) (x := a1) rfl rfl (dl_at t_X2_byteAt 0 rfl) ?_
  refine g_aload_n (pc := 1) X (j := 0) (i := 0) (q := 0) (x := a0) rfl rfl (dl_at t_X2_byteAt 1 rfl) ?_
  refine r_geti (pc := 2) X fX2_1 hk q417 (dl_at t_X2_byteAt 2 rfl) fun g2 => ?_
  refine g_icmpge (pc := 5) X r1 g2 (off := 16) (tgt := 21) rfl (dl_at t_X2_byteAt 3 rfl) (fun _ => ?_) (fun _ => ?_)
  · refine g_iconst (pc := 21) X (n := (-1)) (dl_at t_X2_byteAt 11 rfl) ?_
    exact g_iret (pc := 22) X (r32_c rfl) rfl rfl (dl_at t_X2_byteAt 12 rfl)
  refine g_aload_n (pc := 8) X (j := 0) (i := 0) (q := 0) (x := a0) rfl rfl (dl_at t_X2_byteAt 4 rfl) ?_
  refine r_getr (pc := 9) X fX2_0 hk q414 (dl_at t_X2_byteAt 5 rfl) ?_
  refine g_iload_n (pc := 12) X (j := 1) (i := 1) (q := 1) (x := a1) rfl rfl (dl_at t_X2_byteAt 6 rfl) ?_
  refine g_gd fun k13 => ?_
  refine g_bald (pc := 13) X r1 k13 (dl_at t_X2_byteAt 7 rfl) fun g13 => ?_
  refine g_sipush (pc := 14) X (n := 255) rfl (dl_at t_X2_byteAt 8 rfl) ?_
  refine g_iand (pc := 17) X (dl_at t_X2_byteAt 9 rfl) ?_
  refine g_goto (pc := 18) X (off := 4) (tgt := 22) rfl (dl_at t_X2_byteAt 10 rfl) ?_
  exact g_iret (pc := 22) X (r32_iand _ _) rfl rfl (dl_at t_X2_byteAt 12 rfl)
def k_X1_isBlank : List (Nat × Instr × Nat) := [(0, .iload_n 0, 1), (1, .bipush 10, 2), (3, .if_icmp .eq 9, 3), (6, .iload_n 0, 1), (7, .bipush 32, 2), (9, .if_icmp .ne 7, 3), (12, .iconst 1, 1), (13, .goto 4, 3), (16, .iconst 0, 1), (17, .ireturn, 1)]
theorem t_X1_isBlank : ∀ q ∈ k_X1_isBlank, decode cX1_isBlank q.1 = .ok q.2 := dl_all (by decide +kernel)
noncomputable def m_X1_isBlank (a0 : Int) : Option (Int) :=
  if a0 = 10 then (some 1)
  else (if a0 ≠ 32 then (some 0)
  else (some 1))
theorem s_X1_isBlank {l : Launch} [NoTr l] {D : SD} {a0 : Int} {h : Hp} (r0 : r32 a0) {r : Int} (hm : m_X1_isBlank a0 = some r) : Sim l D yX1_isBlank (Cond.code yX1_isBlank cX1_isBlank 1 (Option.some Jvm.ClassFile.FieldType.boolean)) 0 0 [iv a0] h 3 ((0, r), h) := by
  refine Sim.of (fin := fun (v : Int) => ((0, v), h)) (lsE := [(0, iv a0)]) hm rfl cwS_code (la_i la_n) (ll_i ll_n) ?_
  intro p e s m below meth c X hcw hmm hcc hnm hname
  unfold m_X1_isBlank
  refine g_iload_n (pc := 0) X (j := 0) (i := 0) (q := 0) (x := a0) rfl rfl (dl_at t_X1_isBlank 0 rfl) ?_
  refine g_bipush (pc := 1) X (n := 10) rfl (dl_at t_X1_isBlank 1 rfl) ?_
  refine g_icmpeq (pc := 3) X r0 (r32_c rfl) (off := 9) (tgt := 12) rfl (dl_at t_X1_isBlank 2 rfl) (fun _ => ?_) (fun _ => ?_)
  · refine g_iconst (pc := 12) X (n := 1) (dl_at t_X1_isBlank 6 rfl) ?_
    refine g_goto (pc := 13) X (off := 4) (tgt := 17) rfl (dl_at t_X1_isBlank 7 rfl) ?_
    exact g_zret (pc := 17) X (Or.inr rfl) rfl rfl (dl_at t_X1_isBlank 9 rfl)
  refine g_iload_n (pc := 6) X (j := 0) (i := 0) (q := 0) (x := a0) rfl rfl (dl_at t_X1_isBlank 3 rfl) ?_
  refine g_bipush (pc := 7) X (n := 32) rfl (dl_at t_X1_isBlank 4 rfl) ?_
  refine g_icmpne (pc := 9) X r0 (r32_c rfl) (off := 7) (tgt := 16) rfl (dl_at t_X1_isBlank 5 rfl) (fun _ => ?_) (fun _ => ?_)
  · refine g_iconst (pc := 16) X (n := 0) (dl_at t_X1_isBlank 8 rfl) ?_
    exact g_zret (pc := 17) X (Or.inl rfl) rfl rfl (dl_at t_X1_isBlank 9 rfl)
  refine g_iconst (pc := 12) X (n := 1) (dl_at t_X1_isBlank 6 rfl) ?_
  refine g_goto (pc := 13) X (off := 4) (tgt := 17) rfl (dl_at t_X1_isBlank 7 rfl) ?_
  exact g_zret (pc := 17) X (Or.inr rfl) rfl rfl (dl_at t_X1_isBlank 9 rfl)
def k_X1_isSmall : List (Nat × Instr × Nat) := [(0, .iload_n 0, 1), (1, .bipush 97, 2), (3, .if_icmp .lt 13, 3), (6, .iload_n 0, 1), (7, .bipush 122, 2), (9, .if_icmp .gt 7, 3), (12, .iconst 1, 1), (13, .goto 4, 3), (16, .iconst 0, 1), (17, .ireturn, 1)]
theorem t_X1_isSmall : ∀ q ∈ k_X1_isSmall, decode cX1_isSmall q.1 = .ok q.2 := dl_all (by decide +kernel)
noncomputable def m_X1_isSmall (a0 : Int) : Option (Int) :=
  if a0 < 97 then (some 0)
  else (if 122 < a0 then (some 0)
  else (some 1))
theorem s_X1_isSmall {l : Launch} [NoTr l] {D : SD} {a0 : Int} {h : Hp} (r0 : r32 a0) {r : Int} (hm : m_X1_isSmall a0 = some r) : Sim l D yX1_isSmall (Cond.code yX1_isSmall cX1_isSmall 1 (Option.some Jvm.ClassFile.FieldType.boolean)) 0 0 [iv a0] h 3 ((0, r), h) := by
  refine Sim.of (fin := fun (v : Int) => ((0, v), h)) (lsE := [(0, iv a0)]) hm rfl cwS_code (la_i la_n) (ll_i ll_n) ?_
  intro p e s m below meth c X hcw hmm hcc hnm hname
  unfold m_X1_isSmall
  refine g_iload_n (pc := 0) X (j := 0) (i := 0) (q := 0) (x := a0) rfl rfl (dl_at t_X1_isSmall 0 rfl) ?_
  refine g_bipush (pc := 1) X (n := 97) rfl (dl_at t_X1_isSmall 1 rfl) ?_
  refine g_icmplt (pc := 3) X r0 (r32_c rfl) (off := 13) (tgt := 16) rfl (dl_at t_X1_isSmall 2 rfl) (fun _ => ?_) (fun _ => ?_)
  · refine g_iconst (pc := 16) X (n := 0) (dl_at t_X1_isSmall 8 rfl) ?_
    exact g_zret (pc := 17) X (Or.inl rfl) rfl rfl (dl_at t_X1_isSmall 9 rfl)
  refine g_iload_n (pc := 6) X (j := 0) (i := 0) (q := 0) (x := a0) rfl rfl (dl_at t_X1_isSmall 3 rfl) ?_
  refine g_bipush (pc := 7) X (n := 122) rfl (dl_at t_X1_isSmall 4 rfl) ?_
  refine g_icmpgt (pc := 9) X r0 (r32_c rfl) (off := 7) (tgt := 16) rfl (dl_at t_X1_isSmall 5 rfl) (fun _ => ?_) (fun _ => ?_)
  · refine g_iconst (pc := 16) X (n := 0) (dl_at t_X1_isSmall 8 rfl) ?_
    exact g_zret (pc := 17) X (Or.inl rfl) rfl rfl (dl_at t_X1_isSmall 9 rfl)
  refine g_iconst (pc := 12) X (n := 1) (dl_at t_X1_isSmall 6 rfl) ?_
  refine g_goto (pc := 13) X (off := 4) (tgt := 17) rfl (dl_at t_X1_isSmall 7 rfl) ?_
  exact g_zret (pc := 17) X (Or.inr rfl) rfl rfl (dl_at t_X1_isSmall 9 rfl)
def k_X1_isDigit : List (Nat × Instr × Nat) := [(0, .iload_n 0, 1), (1, .bipush 48, 2), (3, .if_icmp .lt 13, 3), (6, .iload_n 0, 1), (7, .bipush 57, 2), (9, .if_icmp .gt 7, 3), (12, .iconst 1, 1), (13, .goto 4, 3), (16, .iconst 0, 1), (17, .ireturn, 1)]
theorem t_X1_isDigit : ∀ q ∈ k_X1_isDigit, decode cX1_isDigit q.1 = .ok q.2 := dl_all (by decide +kernel)
noncomputable def m_X1_isDigit (a0 : Int) : Option (Int) :=
  if a0 < 48 then (some 0)
  else (if 57 < a0 then (some 0)
  else (some 1))
theorem s_X1_isDigit {l : Launch} [NoTr l] {D : SD} {a0 : Int} {h : Hp} (r0 : r32 a0) {r : Int} (hm : m_X1_isDigit a0 = some r) : Sim l D yX1_isDigit (Cond.code yX1_isDigit cX1_isDigit 1 (Option.some Jvm.ClassFile.FieldType.boolean)) 0 0 [iv a0] h 3 ((0, r), h) := by
  refine Sim.of (fin := fun (v : Int) => ((0, v), h)) (lsE := [(0, iv a0)]) hm rfl cwS_code (la_i la_n) (ll_i ll_n) ?_
  intro p e s m below meth c X hcw hmm hcc hnm hname
  unfold m_X1_isDigit
  refine g_iload_n (pc := 0) X (j := 0) (i := 0) (q := 0) (x := a0) rfl rfl (dl_at t_X1_isDigit 0 rfl) ?_
  refine g_bipush (pc := 1) X (n := 48) rfl (dl_at t_X1_isDigit 1 rfl) ?_
  refine g_icmplt (pc := 3) X r0 (r32_c rfl) (off := 13) (tgt := 16) rfl (dl_at t_X1_isDigit 2 rfl) (fun _ => ?_) (fun _ => ?_)
  · refine g_iconst (pc := 16) X (n := 0) (dl_at t_X1_isDigit 8 rfl) ?_
    exact g_zret (pc := 17) X (Or.inl rfl) rfl rfl (dl_at t_X1_isDigit 9 rfl)
  refine g_iload_n (pc := 6) X (j := 0) (i := 0) (q := 0) (x := a0) rfl rfl (dl_at t_X1_isDigit 3 rfl) ?_
  refine g_bipush (pc := 7) X (n := 57) rfl (dl_at t_X1_isDigit 4 rfl) ?_
  refine g_icmpgt (pc := 9) X r0 (r32_c rfl) (off := 7) (tgt := 16) rfl (dl_at t_X1_isDigit 5 rfl) (fun _ => ?_) (fun _ => ?_)
  · refine g_iconst (pc := 16) X (n := 0) (dl_at t_X1_isDigit 8 rfl) ?_
    exact g_zret (pc := 17) X (Or.inl rfl) rfl rfl (dl_at t_X1_isDigit 9 rfl)
  refine g_iconst (pc := 12) X (n := 1) (dl_at t_X1_isDigit 6 rfl) ?_
  refine g_goto (pc := 13) X (off := 4) (tgt := 17) rfl (dl_at t_X1_isDigit 7 rfl) ?_
  exact g_zret (pc := 17) X (Or.inr rfl) rfl rfl (dl_at t_X1_isDigit 9 rfl)
def k_X2_name : List (Nat × Instr × Nat) := [(0, .aload_n 0, 1), (1, .aload_n 0, 1), (2, .getfield 17, 3), (5, .putfield 59, 3), (8, .aload_n 0, 1), (9, .aload_n 0, 1), (10, .getfield 17, 3), (13, .invokevirtual 23, 3), (16, .invokestatic 39, 3), (19, .ifCond .ne 17, 3), (22, .aload_n 0, 1), (23, .aload_n 0, 1), (24, .getfield 17, 3), (27, .invokevirtual 23, 3), (30, .invokestatic 45, 3), (33, .ifCond .eq 16, 3), (36, .aload_n 0, 1), (37, .dup, 1), (38, .getfield 17, 3), (41, .iconst 1, 1), (42, .iadd, 1), (43, .putfield 17, 3), (46, .goto (-38), 3), (49, .aload_n 0, 1), (50, .aload_n 0, 1), (51, .getfield 17, 3), (54, .aload_n 0, 1), (55, .getfield 59, 3), (58, .isub, 1), (59, .putfield 62, 3), (62, .aload_n 0, 1), (63, .aload_n 0, 1), (64, .getfield 62, 3), (67, .bipush 12, 2), (69, .if_icmp .le 7, 3), (72, .iconst 5, 1), (73, .goto 4, 3), (76, .iconst 1, 1), (77, .putfield 36, 3), (80, .return_, 1)]
theorem t_X2_name : ∀ q ∈ k_X2_name, decode cX2_name q.1 = .ok q.2 := dl_all (by decide +kernel)
noncomputable def m_X2_name_j36 (a0 : Int) (h_8 : Hp) : Option ((Hp) ⊕ ((Hp))) :=
  pt h_8 a0 2 (w32 ((h_8 a0 2) + 1)) fun h43 =>
  some (.inl h43)
noncomputable def m_X2_name_l8 (a0 : Int) (h_8 : Hp) : Option ((Hp) ⊕ ((Hp))) :=
  (m_X2_byteAt a0 (h_8 a0 2) h_8).bind fun v13 =>
  (m_X1_isSmall v13).bind fun v16 =>
  if v16 ≠ 0 then (m_X2_name_j36 a0 h_8)
  else ((m_X2_byteAt a0 (h_8 a0 2) h_8).bind fun v27 =>
  (m_X1_isDigit v27).bind fun v30 =>
  if v30 = 0 then (some (.inr h_8))
  else (m_X2_name_j36 a0 h_8))
noncomputable def m_X2_name (a0 : Int) (h : Hp) : Option (Hp) :=
  pt h a0 5 (h a0 2) fun h5 =>
  (lp (fun (q : Hp) => m_X2_name_l8 a0 q) h5).bind (fun (y49 : Hp) => pt y49 a0 6 (w32 ((y49 a0 2) - (y49 a0 5))) fun h59 =>
  if (h59 a0 6) ≤ 12 then (pt h59 a0 3 1 fun h77 =>
  some h77)
  else (pt h59 a0 3 5 fun h77_1 =>
  some h77_1))
theorem s_X2_name {l : Launch} [NoTr l] {D : SD} {a0 : Int} {h : Hp} (hk : h a0 (-2) = 32) {r : Hp} (hm : m_X2_name a0 h = some r) : Sim l D yX2_name (Cond.code yX2_name cX2_name 1 (Option.none : Option Jvm.ClassFile.FieldType)) 1 37 [rv D a0] h 0 ((0, 0), r) := by
  refine Sim.of (fin := fun (v : Hp) => ((0, 0), v)) (lsE := [(0, rv D a0)]) hm rfl cwS_code (la_r la_n) (ll_r ll_n) ?_
  intro p e s m below meth c X hcw hmm hcc hnm hname
  unfold m_X2_name
  refine g_aload_n (pc := 0) X (j := 0) (i := 0) (q := 0) (x := a0) rfl rfl (dl_at t_X2_name 0 rfl) ?_
  refine g_aload_n (pc := 1) X (j := 0) (i := 0) (q := 0) (x := a0) rfl rfl (dl_at t_X2_name 1 rfl) ?_
  refine r_geti (pc := 2) X fX2_2 hk q418 (dl_at t_X2_name 2 rfl) fun g2 => ?_
  refine r_puti (pc := 5) X fX2_5 hk q425 rfl (dl_at t_X2_name 3 rfl) g2 (fun h5 E5 => ?_)
  refine g_loop1 (fun (q : Hp) => [(0, rv D a0)]) (fun (q : Hp) => q) (fun (q : Hp) => Ext h5 q) 49 (fun (y49 : Hp) => [(0, rv D a0)]) (fun (y49 : Hp) => y49) (fun (y49 : Hp) => Ext h5 y49) h5 (Ext.refl _) ?_ ?_
  · rintro h_8 E_8
    try dsimp only
    unfold m_X2_name_l8
    refine g_aload_n (pc := 8) X (j := 0) (i := 0) (q := 0) (x := a0) rfl rfl (dl_at t_X2_name 4 rfl) ?_
    refine g_aload_n (pc := 9) X (j := 0) (i := 0) (q := 0) (x := a0) rfl rfl (dl_at t_X2_name 5 rfl) ?_
    have k10 := kx (E5.trans E_8) (by decide) hk
    refine r_geti (pc := 10) X fX2_2 k10 q418 (dl_at t_X2_name 6 rfl) fun g10 => ?_
    refine r_callRi (pc := 13) X (fun _ hv => s_X2_byteAt k10 g10 hv) cw_code q1729 q356 (in_Vk X (As := [iv (h_8 a0 2)]) kX2 k10 (Or.inl q1726) q1728 qs9 cw_code q1729 ⟨by decide, by decide⟩ rfl (dl_at t_X2_name 7 rfl)) (dl_at t_X2_name 7 rfl) (cat24 (st := []) (Nat.le_of_ble_eq_true rfl)) (Nat.le_of_ble_eq_true rfl) (Nat.le_of_ble_eq_true rfl) fun v13 g13 => ?_
    refine r_callRz (pc := 16) X (fun _ hv => s_X1_isSmall g13 hv) cw_code q1735 q355 (in_Sc X (As := [iv v13]) (Or.inr ⟨_, nw_in q1733 rfl⟩) q1734 q355 q1735 ⟨by decide, by decide⟩ rfl (dl_at t_X2_name 8 rfl)) (dl_at t_X2_name 8 rfl) (cat24 (st := []) (Nat.le_of_ble_eq_true rfl)) (Nat.le_of_ble_eq_true rfl) (Nat.le_of_ble_eq_true rfl) fun v16 g16 => ?_
    refine g_join (γ := Unit) (fun q => True) 36 (fun q => [(0, rv D a0)]) (fun q => []) (fun q => h_8) (fun q => m_X2_name_j36 a0 h_8) ?_ ?_
    · rintro _ _
      try dsimp only
      unfold m_X2_name_j36
      refine g_aload_n (pc := 36) X (j := 0) (i := 0) (q := 0) (x := a0) rfl rfl (dl_at t_X2_name 16 rfl) ?_
      refine g_dup (pc := 37) X rv_cat (dl_at t_X2_name 17 rfl) ?_
      refine r_geti (pc := 38) X fX2_2 k10 q418 (dl_at t_X2_name 18 rfl) fun g38 => ?_
      refine g_iconst (pc := 41) X (n := 1) (dl_at t_X2_name 19 rfl) ?_
      refine g_iadd (pc := 42) X g38 (r32_c rfl) (dl_at t_X2_name 20 rfl) ?_
      refine r_puti (pc := 43) X fX2_2 k10 q418 rfl (dl_at t_X2_name 21 rfl) (r32_w _) (fun h43 E43 => ?_)
      refine g_goto (pc := 46) X (off := (-38)) (tgt := 8) rfl (dl_at t_X2_name 22 rfl) ?_
      exact g_at fun Q hQ => hQ (E_8.trans E43)
    intro J36
    refine g_ifne (pc := 19) X (r32_z g16) (off := 17) (tgt := 36) rfl (dl_at t_X2_name 9 rfl) (fun _ => ?_) (fun _ => ?_)
    · exact J36 () trivial
    refine g_aload_n (pc := 22) X (j := 0) (i := 0) (q := 0) (x := a0) rfl rfl (dl_at t_X2_name 10 rfl) ?_
    refine g_aload_n (pc := 23) X (j := 0) (i := 0) (q := 0) (x := a0) rfl rfl (dl_at t_X2_name 11 rfl) ?_
    refine r_geti (pc := 24) X fX2_2 k10 q418 (dl_at t_X2_name 12 rfl) fun g24 => ?_
    refine r_callRi (pc := 27) X (fun _ hv => s_X2_byteAt k10 g24 hv) cw_code q1729 q356 (in_Vk X (As := [iv (h_8 a0 2)]) kX2 k10 (Or.inl q1726) q1728 qs9 cw_code q1729 ⟨by decide, by decide⟩ rfl (dl_at t_X2_name 13 rfl)) (dl_at t_X2_name 13 rfl) (cat24 (st := []) (Nat.le_of_ble_eq_true rfl)) (Nat.le_of_ble_eq_true rfl) (Nat.le_of_ble_eq_true rfl) fun v27 g27 => ?_
    refine r_callRz (pc := 30) X (fun _ hv => s_X1_isDigit g27 hv) cw_code q1742 q355 (in_Sc X (As := [iv v27]) (Or.inr ⟨_, nw_in q1740 rfl⟩) q1741 q355 q1742 ⟨by decide, by decide⟩ rfl (dl_at t_X2_name 14 rfl)) (dl_at t_X2_name 14 rfl) (cat24 (st := []) (Nat.le_of_ble_eq_true rfl)) (Nat.le_of_ble_eq_true rfl) (Nat.le_of_ble_eq_true rfl) fun v30 g30 => ?_
    refine g_ifeq (pc := 33) X (r32_z g30) (off := 16) (tgt := 49) rfl (dl_at t_X2_name 15 rfl) (fun _ => ?_) (fun _ => ?_)
    · exact g_at fun Q hQ => hQ E_8
    exact J36 () trivial
  · rintro h_49 E_49
    try dsimp only [sE]
    refine g_aload_n (pc := 49) X (j := 0) (i := 0) (q := 0) (x := a0) rfl rfl (dl_at t_X2_name 23 rfl) ?_
    refine g_aload_n (pc := 50) X (j := 0) (i := 0) (q := 0) (x := a0) rfl rfl (dl_at t_X2_name 24 rfl) ?_
    have k51 := kx (E5.trans E_49) (by decide) hk
    refine r_geti (pc := 51) X fX2_2 k51 q418 (dl_at t_X2_name 25 rfl) fun g51 => ?_
    refine g_aload_n (pc := 54) X (j := 0) (i := 0) (q := 0) (x := a0) rfl rfl (dl_at t_X2_name 26 rfl) ?_
    refine r_geti (pc := 55) X fX2_5 k51 q425 (dl_at t_X2_name 27 rfl) fun g55 => ?_
    refine g_isub (pc := 58) X g51 g55 (dl_at t_X2_name 28 rfl) ?_
    refine r_puti (pc := 59) X fX2_6 k51 q428 rfl (dl_at t_X2_name 29 rfl) (r32_w _) (fun h59 E59 => ?_)
    refine g_aload_n (pc := 62) X (j := 0) (i := 0) (q := 0) (x := a0) rfl rfl (dl_at t_X2_name 30 rfl) ?_
    refine g_aload_n (pc := 63) X (j := 0) (i := 0) (q := 0) (x := a0) rfl rfl (dl_at t_X2_name 31 rfl) ?_
    have k64 := kx E59 (by decide) k51
    refine r_geti (pc := 64) X fX2_6 k64 q428 (dl_at t_X2_name 32 rfl) fun g64 => ?_
    refine g_bipush (pc := 67) X (n := 12) rfl (dl_at t_X2_name 33 rfl) ?_
    refine g_icmple (pc := 69) X g64 (r32_c rfl) (off := 7) (tgt := 76) rfl (dl_at t_X2_name 34 rfl) (fun _ => ?_) (fun _ => ?_)
    · refine g_iconst (pc := 76) X (n := 1) (dl_at t_X2_name 37 rfl) ?_
      refine r_puti (pc := 77) X fX2_3 k64 q420 rfl (dl_at t_X2_name 38 rfl) (r32_c rfl) (fun h77 E77 => ?_)
      exact g_vret (pc := 80) X (v := 0) rfl rfl (dl_at t_X2_name 39 rfl)
    refine g_iconst (pc := 72) X (n := 5) (dl_at t_X2_name 35 rfl) ?_
    refine g_goto (pc := 73) X (off := 4) (tgt := 77) rfl (dl_at t_X2_name 36 rfl) ?_
    refine r_puti (pc := 77) X fX2_3 k64 q420 rfl (dl_at t_X2_name 38 rfl) (r32_c rfl) (fun h77_1 E77_1 => ?_)
    exact g_vret (pc := 80) X (v := 0) rfl rfl (dl_at t_X2_name 39 rfl)
def k_X2_number : List (Nat × Instr × Nat) := [(0, .aload_n 0, 1), (1, .iconst 0, 1), (2, .putfield 57, 3), (5, .iconst 0, 1), (6, .istore_n 1, 1), (7, .aload_n 0, 1), (8, .aload_n 0, 1), (9, .getfield 17, 3), (12, .invokevirtual 23, 3), (15, .invokestatic 45, 3), (18, .ifCond .eq 48, 3), (21, .iload_n 1, 1), (22, .bipush 7, 2), (24, .if_icmp .ge 26, 3), (27, .aload_n 0, 1), (28, .bipush 10, 2), (30, .aload_n 0, 1), (31, .getfield 57, 3), (34, .imul, 1), (35, .aload_n 0, 1), (36, .aload_n 0, 1), (37, .getfield 17, 3), (40, .invokevirtual 23, 3), (43, .iadd, 1), (44, .bipush 48, 2), (46, .isub, 1), (47, .putfield 57, 3), (50, .iinc 1 1, 3), (53, .aload_n 0, 1), (54, .dup, 1), (55, .getfield 17, 3), (58, .iconst 1, 1), (59, .iadd, 1), (60, .putfield 17, 3), (63, .goto (-56), 3), (66, .aload_n 0, 1), (67, .iload_n 1, 1), (68, .bipush 7, 2), (70, .if_icmp .le 7, 3), (73, .iconst 5, 1), (74, .goto 4, 3), (77, .iconst 2, 1), (78, .putfield 36, 3), (81, .return_, 1)]
theorem t_X2_number : ∀ q ∈ k_X2_number, decode cX2_number q.1 = .ok q.2 := dl_all (by decide +kernel)
noncomputable def m_X2_number_j50 (a0 x1_7 : Int) (h_50 : Hp) : Option ((Int × Hp) ⊕ ((Int × Hp))) :=
  lt_ (w32 (x1_7 + 1)) fun x1_50 =>
  pt h_50 a0 2 (w32 ((h_50 a0 2) + 1)) fun h60 =>
  some (.inl (x1_50, h60))
noncomputable def m_X2_number_l7 (a0 x1_7 : Int) (h_7 : Hp) : Option ((Int × Hp) ⊕ ((Int × Hp))) :=
  (m_X2_byteAt a0 (h_7 a0 2) h_7).bind fun v12 =>
  (m_X1_isDigit v12).bind fun v15 =>
  if v15 = 0 then (some (.inr (x1_7, h_7)))
  else (if 7 ≤ x1_7 then (m_X2_number_j50 a0 x1_7 h_7)
  else ((m_X2_byteAt a0 (h_7 a0 2) h_7).bind fun v40 =>
  pt h_7 a0 7 (w32 ((w32 ((w32 (10 * (h_7 a0 7))) + v40)) - 48)) fun h47 =>
  m_X2_number_j50 a0 x1_7 h47))
noncomputable def m_X2_number (a0 : Int) (h : Hp) : Option (Hp) :=
  pt h a0 7 0 fun h2 =>
  lt_ 0 fun x1_6 =>
  (lp (fun (q : Int × Hp) => m_X2_number_l7 a0 q.1 q.2) (x1_6, h2)).bind (fun (y66 : Int × Hp) => if y66.1 ≤ 7 then (pt y66.2 a0 3 2 fun h78 =>
  some h78)
  else (pt y66.2 a0 3 5 fun h78_1 =>
  some h78_1))
theorem s_X2_number {l : Launch} [NoTr l] {D : SD} {a0 : Int} {h : Hp} (hk : h a0 (-2) = 32) {r : Hp} (hm : m_X2_number a0 h = some r) : Sim l D yX2_number (Cond.code yX2_number cX2_number 2 (Option.none : Option Jvm.ClassFile.FieldType)) 1 37 [rv D a0] h 0 ((0, 0), r) := by
  refine Sim.of (fin := fun (v : Hp) => ((0, 0), v)) (lsE := [(0, rv D a0)]) hm rfl cwS_code (la_r la_n) (ll_r ll_n) ?_
  intro p e s m below meth c X hcw hmm hcc hnm hname
  unfold m_X2_number
  refine g_aload_n (pc := 0) X (j := 0) (i := 0) (q := 0) (x := a0) rfl rfl (dl_at t_X2_number 0 rfl) ?_
  refine g_iconst (pc := 1) X (n := 0) (dl_at t_X2_number 1 rfl) ?_
  refine r_puti (pc := 2) X fX2_7 hk q430 rfl (dl_at t_X2_number 2 rfl) (r32_c rfl) (fun h2 E2 => ?_)
  refine g_iconst (pc := 5) X (n := 0) (dl_at t_X2_number 3 rfl) ?_
  refine g_ltz (Or.inl rfl) fun x1_6 r1_6 => ?_
  refine g_istore_nN (pc := 6) X (j := 1) (i := 1) (x := x1_6) (b := 0) (w := rv D a0) (rest := []) rfl (Nat.le_of_ble_eq_true rfl) [0] rfl (by decide) rv_cat rfl (dl_at t_X2_number 4 rfl) ?_
  refine g_ls (ls2 := [(0, rv D a0), (1, iv x1_6)]) [1, 0] rfl ?_
  refine g_loop1 (fun (q : Int × Hp) => [(0, rv D a0), (1, iv q.1)]) (fun (q : Int × Hp) => q.2) (fun (q : Int × Hp) => r32 q.1 ∧ Ext h2 q.2) 66 (fun (y66 : Int × Hp) => [(0, rv D a0), (1, iv y66.1)]) (fun (y66 : Int × Hp) => y66.2) (fun (y66 : Int × Hp) => r32 y66.1 ∧ Ext h2 y66.2) (x1_6, h2) ⟨(r32_z r1_6), (Ext.refl _)⟩ ?_ ?_
  · rintro ⟨x1_7, h_7⟩ ⟨r1_7, E_7⟩
    try dsimp only
    unfold m_X2_number_l7
    refine g_aload_n (pc := 7) X (j := 0) (i := 0) (q := 0) (x := a0) rfl rfl (dl_at t_X2_number 5 rfl) ?_
    refine g_aload_n (pc := 8) X (j := 0) (i := 0) (q := 0) (x := a0) rfl rfl (dl_at t_X2_number 6 rfl) ?_
    have k9 := kx (E2.trans E_7) (by decide) hk
    refine r_geti (pc := 9) X fX2_2 k9 q418 (dl_at t_X2_number 7 rfl) fun g9 => ?_
    refine r_callRi (pc := 12) X (fun _ hv => s_X2_byteAt k9 g9 hv) cw_code q1729 q356 (in_Vk X (As := [iv (h_7 a0 2)]) kX2 k9 (Or.inl q1726) q1728 qs9 cw_code q1729 ⟨by decide, by decide⟩ rfl (dl_at t_X2_number 8 rfl)) (dl_at t_X2_number 8 rfl) (cat24 (st := []) (Nat.le_of_ble_eq_true rfl)) (Nat.le_of_ble_eq_true rfl) (Nat.le_of_ble_eq_true rfl) fun v12 g12 => ?_
    refine r_callRz (pc := 15) X (fun _ hv => s_X1_isDigit g12 hv) cw_code q1742 q355 (in_Sc X (As := [iv v12]) (Or.inr ⟨_, nw_in q1740 rfl⟩) q1741 q355 q1742 ⟨by decide, by decide⟩ rfl (dl_at t_X2_number 9 rfl)) (dl_at t_X2_number 9 rfl) (cat24 (st := []) (Nat.le_of_ble_eq_true rfl)) (Nat.le_of_ble_eq_true rfl) (Nat.le_of_ble_eq_true rfl) fun v15 g15 => ?_
    refine g_ifeq (pc := 18) X (r32_z g15) (off := 48) (tgt := 66) rfl (dl_at t_X2_number 10 rfl) (fun _ => ?_) (fun _ => ?_)
    · exact g_at fun Q hQ => hQ ⟨r1_7, E_7⟩
    refine g_iload_n (pc := 21) X (j := 1) (i := 1) (q := 1) (x := x1_7) rfl rfl (dl_at t_X2_number 11 rfl) ?_
    refine g_bipush (pc := 22) X (n := 7) rfl (dl_at t_X2_number 12 rfl) ?_
    refine g_join (γ := Hp) (fun q => Ext h_7 q) 50 (fun q => [(0, rv D a0), (1, iv x1_7)]) (fun q => []) (fun q => q) (fun q => m_X2_number_j50 a0 x1_7 q) ?_ ?_
    · rintro h_50 E_50
      try dsimp only
      unfold m_X2_number_j50
      refine r_iincN (pc := 50) X (i := 1) (q := 1) (n := 1) (x := x1_7) (b := 0) (w := rv D a0) (rest := []) rfl r1_7 (r32_c rfl) (Nat.le_of_ble_eq_true rfl) [0] rfl (by decide) rv_cat rfl (dl_at t_X2_number 27 rfl) fun x1_50 r1_50 => ?_
      refine g_aload_n (pc := 53) X (j := 0) (i := 0) (q := 1) (x := a0) rfl rfl (dl_at t_X2_number 28 rfl) ?_
      refine g_dup (pc := 54) X rv_cat (dl_at t_X2_number 29 rfl) ?_
      have k55 := kx E_50 (by decide) k9
      refine r_geti (pc := 55) X fX2_2 k55 q418 (dl_at t_X2_number 30 rfl) fun g55 => ?_
      refine g_iconst (pc := 58) X (n := 1) (dl_at t_X2_number 31 rfl) ?_
      refine g_iadd (pc := 59) X g55 (r32_c rfl) (dl_at t_X2_number 32 rfl) ?_
      refine r_puti (pc := 60) X fX2_2 k55 q418 rfl (dl_at t_X2_number 33 rfl) (r32_w _) (fun h60 E60 => ?_)
      refine g_goto (pc := 63) X (off := (-56)) (tgt := 7) rfl (dl_at t_X2_number 34 rfl) ?_
      refine g_ls (ls2 := [(0, rv D a0), (1, iv x1_50)]) [1, 0] rfl ?_
      exact g_at fun Q hQ => hQ ⟨r1_50, (E_7.trans (E_50.trans E60))⟩
    intro J50
    refine g_icmpge (pc := 24) X r1_7 (r32_c rfl) (off := 26) (tgt := 50) rfl (dl_at t_X2_number 13 rfl) (fun _ => ?_) (fun _ => ?_)
    · exact J50 h_7 (Ext.refl _)
    refine g_aload_n (pc := 27) X (j := 0) (i := 0) (q := 0) (x := a0) rfl rfl (dl_at t_X2_number 14 rfl) ?_
    refine g_bipush (pc := 28) X (n := 10) rfl (dl_at t_X2_number 15 rfl) ?_
    refine g_aload_n (pc := 30) X (j := 0) (i := 0) (q := 0) (x := a0) rfl rfl (dl_at t_X2_number 16 rfl) ?_
    refine r_geti (pc := 31) X fX2_7 k9 q430 (dl_at t_X2_number 17 rfl) fun g31 => ?_
    refine g_imul (pc := 34) X (r32_c rfl) g31 (dl_at t_X2_number 18 rfl) ?_
    refine g_aload_n (pc := 35) X (j := 0) (i := 0) (q := 0) (x := a0) rfl rfl (dl_at t_X2_number 19 rfl) ?_
    refine g_aload_n (pc := 36) X (j := 0) (i := 0) (q := 0) (x := a0) rfl rfl (dl_at t_X2_number 20 rfl) ?_
    refine r_geti (pc := 37) X fX2_2 k9 q418 (dl_at t_X2_number 21 rfl) fun g37 => ?_
    refine r_callRi (pc := 40) X (fun _ hv => s_X2_byteAt k9 g37 hv) cw_code q1729 q356 (in_Vk X (As := [iv (h_7 a0 2)]) kX2 k9 (Or.inl q1726) q1728 qs9 cw_code q1729 ⟨by decide, by decide⟩ rfl (dl_at t_X2_number 22 rfl)) (dl_at t_X2_number 22 rfl) (cat24 (st := [iv (w32 (10 * (h_7 a0 7))), rv D a0]) (Nat.le_of_ble_eq_true rfl)) (Nat.le_of_ble_eq_true rfl) (Nat.le_of_ble_eq_true rfl) fun v40 g40 => ?_
    refine g_iadd (pc := 43) X (r32_w _) g40 (dl_at t_X2_number 23 rfl) ?_
    refine g_bipush (pc := 44) X (n := 48) rfl (dl_at t_X2_number 24 rfl) ?_
    refine g_isub (pc := 46) X (r32_w _) (r32_c rfl) (dl_at t_X2_number 25 rfl) ?_
    refine r_puti (pc := 47) X fX2_7 k9 q430 rfl (dl_at t_X2_number 26 rfl) (r32_w _) (fun h47 E47 => ?_)
    exact J50 h47 E47
  · rintro ⟨x1_66, h_66⟩ ⟨r1_66, E_66⟩
    try dsimp only [sE]
    refine g_aload_n (pc := 66) X (j := 0) (i := 0) (q := 0) (x := a0) rfl rfl (dl_at t_X2_number 35 rfl) ?_
    refine g_iload_n (pc := 67) X (j := 1) (i := 1) (q := 1) (x := x1_66) rfl rfl (dl_at t_X2_number 36 rfl) ?_
    refine g_bipush (pc := 68) X (n := 7) rfl (dl_at t_X2_number 37 rfl) ?_
    refine g_icmple (pc := 70) X r1_66 (r32_c rfl) (off := 7) (tgt := 77) rfl (dl_at t_X2_number 38 rfl) (fun _ => ?_) (fun _ => ?_)
    · refine g_iconst (pc := 77) X (n := 2) (dl_at t_X2_number 41 rfl) ?_
      have k78 := kx (E2.trans E_66) (by decide) hk
      refine r_puti (pc := 78) X fX2_3 k78 q420 rfl (dl_at t_X2_number 42 rfl) (r32_c rfl) (fun h78 E78 => ?_)
      exact g_vret (pc := 81) X (v := 0) rfl rfl (dl_at t_X2_number 43 rfl)
    refine g_iconst (pc := 73) X (n := 5) (dl_at t_X2_number 39 rfl) ?_
    refine g_goto (pc := 74) X (off := 4) (tgt := 78) rfl (dl_at t_X2_number 40 rfl) ?_
    have k78_1 := kx (E2.trans E_66) (by decide) hk
    refine r_puti (pc := 78) X fX2_3 k78_1 q420 rfl (dl_at t_X2_number 42 rfl) (r32_c rfl) (fun h78_1 E78_1 => ?_)
    exact g_vret (pc := 81) X (v := 0) rfl rfl (dl_at t_X2_number 43 rfl)
def k_X1_isPlain : List (Nat × Instr × Nat) := [(0, .iload_n 0, 1), (1, .bipush 32, 2), (3, .if_icmp .lt 13, 3), (6, .iload_n 0, 1), (7, .bipush 126, 2), (9, .if_icmp .gt 7, 3), (12, .iconst 1, 1), (13, .goto 4, 3), (16, .iconst 0, 1), (17, .ireturn, 1)]
theorem t_X1_isPlain : ∀ q ∈ k_X1_isPlain, decode cX1_isPlain q.1 = .ok q.2 := dl_all (by decide +kernel)
noncomputable def m_X1_isPlain (a0 : Int) : Option (Int) :=
  if a0 < 32 then (some 0)
  else (if 126 < a0 then (some 0)
  else (some 1))
theorem s_X1_isPlain {l : Launch} [NoTr l] {D : SD} {a0 : Int} {h : Hp} (r0 : r32 a0) {r : Int} (hm : m_X1_isPlain a0 = some r) : Sim l D yX1_isPlain (Cond.code yX1_isPlain cX1_isPlain 1 (Option.some Jvm.ClassFile.FieldType.boolean)) 0 0 [iv a0] h 3 ((0, r), h) := by
  refine Sim.of (fin := fun (v : Int) => ((0, v), h)) (lsE := [(0, iv a0)]) hm rfl cwS_code (la_i la_n) (ll_i ll_n) ?_
  intro p e s m below meth c X hcw hmm hcc hnm hname
  unfold m_X1_isPlain
  refine g_iload_n (pc := 0) X (j := 0) (i := 0) (q := 0) (x := a0) rfl rfl (dl_at t_X1_isPlain 0 rfl) ?_
  refine g_bipush (pc := 1) X (n := 32) rfl (dl_at t_X1_isPlain 1 rfl) ?_
  refine g_icmplt (pc := 3) X r0 (r32_c rfl) (off := 13) (tgt := 16) rfl (dl_at t_X1_isPlain 2 rfl) (fun _ => ?_) (fun _ => ?_)
  · refine g_iconst (pc := 16) X (n := 0) (dl_at t_X1_isPlain 8 rfl) ?_
    exact g_zret (pc := 17) X (Or.inl rfl) rfl rfl (dl_at t_X1_isPlain 9 rfl)
  refine g_iload_n (pc := 6) X (j := 0) (i := 0) (q := 0) (x := a0) rfl rfl (dl_at t_X1_isPlain 3 rfl) ?_
  refine g_bipush (pc := 7) X (n := 126) rfl (dl_at t_X1_isPlain 4 rfl) ?_
  refine g_icmpgt (pc := 9) X r0 (r32_c rfl) (off := 7) (tgt := 16) rfl (dl_at t_X1_isPlain 5 rfl) (fun _ => ?_) (fun _ => ?_)
  · refine g_iconst (pc := 16) X (n := 0) (dl_at t_X1_isPlain 8 rfl) ?_
    exact g_zret (pc := 17) X (Or.inl rfl) rfl rfl (dl_at t_X1_isPlain 9 rfl)
  refine g_iconst (pc := 12) X (n := 1) (dl_at t_X1_isPlain 6 rfl) ?_
  refine g_goto (pc := 13) X (off := 4) (tgt := 17) rfl (dl_at t_X1_isPlain 7 rfl) ?_
  exact g_zret (pc := 17) X (Or.inr rfl) rfl rfl (dl_at t_X1_isPlain 9 rfl)
def k_X2_string : List (Nat × Instr × Nat) := [(0, .aload_n 0, 1), (1, .getfield 17, 3), (4, .iconst 1, 1), (5, .iadd, 1), (6, .istore_n 1, 1), (7, .aload_n 0, 1), (8, .iload_n 1, 1), (9, .invokevirtual 23, 3), (12, .invokestatic 54, 3), (15, .ifCond .eq 19, 3), (18, .aload_n 0, 1), (19, .iload_n 1, 1), (20, .invokevirtual 23, 3), (23, .bipush 34, 2), (25, .if_icmp .eq 9, 3), (28, .iinc 1 1, 3), (31, .goto (-24), 3), (34, .aload_n 0, 1), (35, .aload_n 0, 1), (36, .getfield 17, 3), (39, .iconst 1, 1), (40, .iadd, 1), (41, .putfield 59, 3), (44, .aload_n 0, 1), (45, .iload_n 1, 1), (46, .aload_n 0, 1), (47, .getfield 59, 3), (50, .isub, 1), (51, .putfield 62, 3), (54, .aload_n 0, 1), (55, .aload_n 0, 1), (56, .iload_n 1, 1), (57, .invokevirtual 23, 3), (60, .bipush 34, 2), (62, .if_icmp .ne 7, 3), (65, .iconst 3, 1), (66, .goto 4, 3), (69, .iconst 5, 1), (70, .putfield 36, 3), (73, .aload_n 0, 1), (74, .iload_n 1, 1), (75, .iconst 1, 1), (76, .iadd, 1), (77, .putfield 17, 3), (80, .return_, 1)]
theorem t_X2_string : ∀ q ∈ k_X2_string, decode cX2_string q.1 = .ok q.2 := dl_all (by decide +kernel)
noncomputable def m_X2_string_l7 (a0 x1_7 : Int) (h : Hp) : Option ((Int) ⊕ ((Int))) :=
  (m_X2_byteAt a0 x1_7 h).bind fun v9 =>
  (m_X1_isPlain v9).bind fun v12 =>
  if v12 = 0 then (some (.inr x1_7))
  else ((m_X2_byteAt a0 x1_7 h).bind fun v20 =>
  if v20 = 34 then (some (.inr x1_7))
  else (lt_ (w32 (x1_7 + 1)) fun x1_28 =>
  some (.inl x1_28)))
noncomputable def m_X2_string (a0 : Int) (h : Hp) : Option (Hp) :=
  lt_ (w32 ((h a0 2) + 1)) fun x1_6 =>
  (lp (fun (q : Int) => m_X2_string_l7 a0 q h) x1_6).bind (fun (y34 : Int) => pt h a0 5 (w32 ((h a0 2) + 1)) fun h41 =>
  pt h41 a0 6 (w32 (y34 - (h41 a0 5))) fun h51 =>
  (m_X2_byteAt a0 y34 h51).bind fun v57 =>
  if v57 ≠ 34 then (pt h51 a0 3 5 fun h70 =>
  pt h70 a0 2 (w32 (y34 + 1)) fun h77 =>
  some h77)
  else (pt h51 a0 3 3 fun h70_1 =>
  pt h70_1 a0 2 (w32 (y34 + 1)) fun h77_1 =>
  some h77_1))
theorem s_X2_string {l : Launch} [NoTr l] {D : SD} {a0 : Int} {h : Hp} (hk : h a0 (-2) = 32) {r : Hp} (hm : m_X2_string a0 h = some r) : Sim l D yX2_string (Cond.code yX2_string cX2_string 2 (Option.none : Option Jvm.ClassFile.FieldType)) 1 37 [rv D a0] h 0 ((0, 0), r) := by
  refine Sim.of (fin := fun (v : Hp) => ((0, 0), v)) (lsE := [(0, rv D a0)]) hm rfl cwS_code (la_r la_n) (ll_r ll_n) ?_
  intro p e s m below meth c X hcw hmm hcc hnm hname
  unfold m_X2_string
  refine g_aload_n (pc := 0) X (j := 0) (i := 0) (q := 0) (x := a0) rfl rfl (dl_at t_X2_string 0 rfl) ?_
  refine r_geti (pc := 1) X fX2_2 hk q418 (dl_at t_X2_string 1 rfl) fun g1 => ?_
  refine g_iconst (pc := 4) X (n := 1) (dl_at t_X2_string 2 rfl) ?_
  refine g_iadd (pc := 5) X g1 (r32_c rfl) (dl_at t_X2_string 3 rfl) ?_
  refine g_lti (r32_w _) fun x1_6 r1_6 => ?_
  refine g_istore_nN (pc := 6) X (j := 1) (i := 1) (x := x1_6) (b := 0) (w := rv D a0) (rest := []) rfl (Nat.le_of_ble_eq_true rfl) [0] rfl (by decide) rv_cat rfl (dl_at t_X2_string 4 rfl) ?_
  refine g_ls (ls2 := [(0, rv D a0), (1, iv x1_6)]) [1, 0] rfl ?_
  refine g_loop1 (fun (q : Int) => [(0, rv D a0), (1, iv q)]) (fun (q : Int) => h) (fun (q : Int) => r32 q) 34 (fun (y34 : Int) => [(0, rv D a0), (1, iv y34)]) (fun (y34 : Int) => h) (fun (y34 : Int) => r32 y34) x1_6 r1_6 ?_ ?_
  · rintro x1_7 r1_7
    try dsimp only
    unfold m_X2_string_l7
    refine g_aload_n (pc := 7) X (j := 0) (i := 0) (q := 0) (x := a0) rfl rfl (dl_at t_X2_string 5 rfl) ?_
    refine g_iload_n (pc := 8) X (j := 1) (i := 1) (q := 1) (x := x1_7) rfl rfl (dl_at t_X2_string 6 rfl) ?_
    refine r_callRi (pc := 9) X (fun _ hv => s_X2_byteAt hk r1_7 hv) cw_code q1729 q356 (in_Vk X (As := [iv x1_7]) kX2 hk (Or.inl q1726) q1728 qs9 cw_code q1729 ⟨by decide, by decide⟩ rfl (dl_at t_X2_string 7 rfl)) (dl_at t_X2_string 7 rfl) (cat24 (st := []) (Nat.le_of_ble_eq_true rfl)) (Nat.le_of_ble_eq_true rfl) (Nat.le_of_ble_eq_true rfl) fun v9 g9 => ?_
    refine r_callRz (pc := 12) X (fun _ hv => s_X1_isPlain g9 hv) cw_code q1753 q355 (in_Sc X (As := [iv v9]) (Or.inr ⟨_, nw_in q1751 rfl⟩) q1752 q355 q1753 ⟨by decide, by decide⟩ rfl (dl_at t_X2_string 8 rfl)) (dl_at t_X2_string 8 rfl) (cat24 (st := []) (Nat.le_of_ble_eq_true rfl)) (Nat.le_of_ble_eq_true rfl) (Nat.le_of_ble_eq_true rfl) fun v12 g12 => ?_
    refine g_ifeq (pc := 15) X (r32_z g12) (off := 19) (tgt := 34) rfl (dl_at t_X2_string 9 rfl) (fun _ => ?_) (fun _ => ?_)
    · exact g_at fun Q hQ => hQ r1_7
    refine g_aload_n (pc := 18) X (j := 0) (i := 0) (q := 0) (x := a0) rfl rfl (dl_at t_X2_string 10 rfl) ?_
    refine g_iload_n (pc := 19) X (j := 1) (i := 1) (q := 1) (x := x1_7) rfl rfl (dl_at t_X2_string 11 rfl) ?_
    refine r_callRi (pc := 20) X (fun _ hv => s_X2_byteAt hk r1_7 hv) cw_code q1729 q356 (in_Vk X (As := [iv x1_7]) kX2 hk (Or.inl q1726) q1728 qs9 cw_code q1729 ⟨by decide, by decide⟩ rfl (dl_at t_X2_string 12 rfl)) (dl_at t_X2_string 12 rfl) (cat24 (st := []) (Nat.le_of_ble_eq_true rfl)) (Nat.le_of_ble_eq_true rfl) (Nat.le_of_ble_eq_true rfl) fun v20 g20 => ?_
    refine g_bipush (pc := 23) X (n := 34) rfl (dl_at t_X2_string 13 rfl) ?_
    refine g_icmpeq (pc := 25) X g20 (r32_c rfl) (off := 9) (tgt := 34) rfl (dl_at t_X2_string 14 rfl) (fun _ => ?_) (fun _ => ?_)
    · exact g_at fun Q hQ => hQ r1_7
    refine r_iincN (pc := 28) X (i := 1) (q := 1) (n := 1) (x := x1_7) (b := 0) (w := rv D a0) (rest := []) rfl r1_7 (r32_c rfl) (Nat.le_of_ble_eq_true rfl) [0] rfl (by decide) rv_cat rfl (dl_at t_X2_string 15 rfl) fun x1_28 r1_28 => ?_
    refine g_goto (pc := 31) X (off := (-24)) (tgt := 7) rfl (dl_at t_X2_string 16 rfl) ?_
    refine g_ls (ls2 := [(0, rv D a0), (1, iv x1_28)]) [1, 0] rfl ?_
    exact g_at fun Q hQ => hQ r1_28
  · rintro x1_34 r1_34
    try dsimp only [sE]
    refine g_aload_n (pc := 34) X (j := 0) (i := 0) (q := 0) (x := a0) rfl rfl (dl_at t_X2_string 17 rfl) ?_
    refine g_aload_n (pc := 35) X (j := 0) (i := 0) (q := 0) (x := a0) rfl rfl (dl_at t_X2_string 18 rfl) ?_
    refine r_geti (pc := 36) X fX2_2 hk q418 (dl_at t_X2_string 19 rfl) fun g36 => ?_
    refine g_iconst (pc := 39) X (n := 1) (dl_at t_X2_string 20 rfl) ?_
    refine g_iadd (pc := 40) X g36 (r32_c rfl) (dl_at t_X2_string 21 rfl) ?_
    refine r_puti (pc := 41) X fX2_5 hk q425 rfl (dl_at t_X2_string 22 rfl) (r32_w _) (fun h41 E41 => ?_)
    refine g_aload_n (pc := 44) X (j := 0) (i := 0) (q := 0) (x := a0) rfl rfl (dl_at t_X2_string 23 rfl) ?_
    refine g_iload_n (pc := 45) X (j := 1) (i := 1) (q := 1) (x := x1_34) rfl rfl (dl_at t_X2_string 24 rfl) ?_
    refine g_aload_n (pc := 46) X (j := 0) (i := 0) (q := 0) (x := a0) rfl rfl (dl_at t_X2_string 25 rfl) ?_
    have k47 := kx E41 (by decide) hk
    refine r_geti (pc := 47) X fX2_5 k47 q425 (dl_at t_X2_string 26 rfl) fun g47 => ?_
    refine g_isub (pc := 50) X r1_34 g47 (dl_at t_X2_string 27 rfl) ?_
    refine r_puti (pc := 51) X fX2_6 k47 q428 rfl (dl_at t_X2_string 28 rfl) (r32_w _) (fun h51 E51 => ?_)
    refine g_aload_n (pc := 54) X (j := 0) (i := 0) (q := 0) (x := a0) rfl rfl (dl_at t_X2_string 29 rfl) ?_
    refine g_aload_n (pc := 55) X (j := 0) (i := 0) (q := 0) (x := a0) rfl rfl (dl_at t_X2_string 30 rfl) ?_
    refine g_iload_n (pc := 56) X (j := 1) (i := 1) (q := 1) (x := x1_34) rfl rfl (dl_at t_X2_string 31 rfl) ?_
    have k57 := kx E51 (by decide) k47
    refine r_callRi (pc := 57) X (fun _ hv => s_X2_byteAt k57 r1_34 hv) cw_code q1729 q356 (in_Vk X (As := [iv x1_34]) kX2 k57 (Or.inl q1726) q1728 qs9 cw_code q1729 ⟨by decide, by decide⟩ rfl (dl_at t_X2_string 32 rfl)) (dl_at t_X2_string 32 rfl) (cat24 (st := [rv D a0]) (Nat.le_of_ble_eq_true rfl)) (Nat.le_of_ble_eq_true rfl) (Nat.le_of_ble_eq_true rfl) fun v57 g57 => ?_
    refine g_bipush (pc := 60) X (n := 34) rfl (dl_at t_X2_string 33 rfl) ?_
    refine g_icmpne (pc := 62) X g57 (r32_c rfl) (off := 7) (tgt := 69) rfl (dl_at t_X2_string 34 rfl) (fun _ => ?_) (fun _ => ?_)
    · refine g_iconst (pc := 69) X (n := 5) (dl_at t_X2_string 37 rfl) ?_
      refine r_puti (pc := 70) X fX2_3 k57 q420 rfl (dl_at t_X2_string 38 rfl) (r32_c rfl) (fun h70 E70 => ?_)
      refine g_aload_n (pc := 73) X (j := 0) (i := 0) (q := 0) (x := a0) rfl rfl (dl_at t_X2_string 39 rfl) ?_
      refine g_iload_n (pc := 74) X (j := 1) (i := 1) (q := 1) (x := x1_34) rfl rfl (dl_at t_X2_string 40 rfl) ?_
      refine g_iconst (pc := 75) X (n := 1) (dl_at t_X2_string 41 rfl) ?_
      refine g_iadd (pc := 76) X r1_34 (r32_c rfl) (dl_at t_X2_string 42 rfl) ?_
      have k77 := kx E70 (by decide) k57
      refine r_puti (pc := 77) X fX2_2 k77 q418 rfl (dl_at t_X2_string 43 rfl) (r32_w _) (fun h77 E77 => ?_)
      exact g_vret (pc := 80) X (v := 0) rfl rfl (dl_at t_X2_string 44 rfl)
    refine g_iconst (pc := 65) X (n := 3) (dl_at t_X2_string 35 rfl) ?_
    refine g_goto (pc := 66) X (off := 4) (tgt := 70) rfl (dl_at t_X2_string 36 rfl) ?_
    refine r_puti (pc := 70) X fX2_3 k57 q420 rfl (dl_at t_X2_string 38 rfl) (r32_c rfl) (fun h70_1 E70_1 => ?_)
    refine g_aload_n (pc := 73) X (j := 0) (i := 0) (q := 0) (x := a0) rfl rfl (dl_at t_X2_string 39 rfl) ?_
    refine g_iload_n (pc := 74) X (j := 1) (i := 1) (q := 1) (x := x1_34) rfl rfl (dl_at t_X2_string 40 rfl) ?_
    refine g_iconst (pc := 75) X (n := 1) (dl_at t_X2_string 41 rfl) ?_
    refine g_iadd (pc := 76) X r1_34 (r32_c rfl) (dl_at t_X2_string 42 rfl) ?_
    have k77_1 := kx E70_1 (by decide) k57
    refine r_puti (pc := 77) X fX2_2 k77_1 q418 rfl (dl_at t_X2_string 43 rfl) (r32_w _) (fun h77_1 E77_1 => ?_)
    exact g_vret (pc := 80) X (v := 0) rfl rfl (dl_at t_X2_string 44 rfl)
def k_X2_next : List (Nat × Instr × Nat) := [(0, .aload_n 0, 1), (1, .aload_n 0, 1), (2, .getfield 17, 3), (5, .invokevirtual 23, 3), (8, .invokestatic 27, 3), (11, .ifCond .eq 16, 3), (14, .aload_n 0, 1), (15, .dup, 1), (16, .getfield 17, 3), (19, .iconst 1, 1), (20, .iadd, 1), (21, .putfield 17, 3), (24, .goto (-24), 3), (27, .aload_n 0, 1), (28, .aload_n 0, 1), (29, .getfield 17, 3), (32, .putfield 33, 3), (35, .aload_n 0, 1), (36, .aload_n 0, 1), (37, .getfield 17, 3), (40, .invokevirtual 23, 3), (43, .istore_n 1, 1), (44, .iload_n 1, 1), (45, .ifCond .ge 11, 3), (48, .aload_n 0, 1), (49, .iconst 0, 1), (50, .putfield 36, 3), (53, .goto 75, 3), (56, .iload_n 1, 1), (57, .invokestatic 39, 3), (60, .ifCond .eq 10, 3), (63, .aload_n 0, 1), (64, .invokevirtual 42, 3), (67, .goto 61, 3), (70, .iload_n 1, 1), (71, .invokestatic 45, 3), (74, .ifCond .eq 10, 3), (77, .aload_n 0, 1), (78, .invokevirtual 48, 3), (81, .goto 47, 3), (84, .iload_n 1, 1), (85, .bipush 34, 2), (87, .if_icmp .ne 10, 3), (90, .aload_n 0, 1), (91, .invokevirtual 51, 3), (94, .goto 34, 3), (97, .aload_n 0, 1), (98, .iload_n 1, 1), (99, .invokestatic 54, 3), (102, .ifCond .eq 7, 3), (105, .iconst 4, 1), (106, .goto 4, 3), (109, .iconst 5, 1), (110, .putfield 36, 3), (113, .aload_n 0, 1), (114, .iload_n 1, 1), (115, .putfield 57, 3), (118, .aload_n 0, 1), (119, .dup, 1), (120, .getfield 17, 3), (123, .iconst 1, 1), (124, .iadd, 1), (125, .putfield 17, 3), (128, .return_, 1)]
theorem t_X2_next : ∀ q ∈ k_X2_next, decode cX2_next q.1 = .ok q.2 := dl_all (by decide +kernel)
noncomputable def m_X2_next_l0 (a0 : Int) (h_0 : Hp) : Option ((Hp) ⊕ ((Hp))) :=
  (m_X2_byteAt a0 (h_0 a0 2) h_0).bind fun v5 =>
  (m_X1_isBlank v5).bind fun v8 =>
  if v8 = 0 then (some (.inr h_0))
  else (pt h_0 a0 2 (w32 ((h_0 a0 2) + 1)) fun h21 =>
  some (.inl h21))
noncomputable def m_X2_next_j110 (v40 a0 s1_110 : Int) (h32 : Hp) : Option (Hp) :=
  pt h32 a0 3 s1_110 fun h110 =>
  pt h110 a0 7 v40 fun h115 =>
  pt h115 a0 2 (w32 ((h115 a0 2) + 1)) fun h125 =>
  some h125
noncomputable def m_X2_next (a0 : Int) (h : Hp) : Option (Hp) :=
  (lp (fun (q : Hp) => m_X2_next_l0 a0 q) h).bind (fun (y27 : Hp) => pt y27 a0 4 (y27 a0 2) fun h32 =>
  (m_X2_byteAt a0 (h32 a0 2) h32).bind fun v40 =>
  if 0 ≤ v40 then ((m_X1_isSmall v40).bind fun v57 =>
  if v57 = 0 then ((m_X1_isDigit v40).bind fun v71 =>
  if v71 = 0 then (if v40 ≠ 34 then ((m_X1_isPlain v40).bind fun v99 =>
  if v99 = 0 then (m_X2_next_j110 v40 a0 5 h32)
  else (m_X2_next_j110 v40 a0 4 h32))
  else ((m_X2_string a0 h32).bind fun h91 =>
  some h91))
  else ((m_X2_number a0 h32).bind fun h78 =>
  some h78))
  else ((m_X2_name a0 h32).bind fun h64 =>
  some h64))
  else (pt h32 a0 3 0 fun h50 =>
  some h50))
theorem s_X2_next {l : Launch} [NoTr l] {D : SD} {a0 : Int} {h : Hp} (hk : h a0 (-2) = 32) {r : Hp} (hm : m_X2_next a0 h = some r) : Sim l D yX2_next (Cond.code yX2_next cX2_next 2 (Option.none : Option Jvm.ClassFile.FieldType)) 2 74 [rv D a0] h 0 ((0, 0), r) := by
  refine Sim.of (fin := fun (v : Hp) => ((0, 0), v)) (lsE := [(0, rv D a0)]) hm rfl cwS_code (la_r la_n) (ll_r ll_n) ?_
  intro p e s m below meth c X hcw hmm hcc hnm hname
  unfold m_X2_next
  refine g_loop1 (fun (q : Hp) => [(0, rv D a0)]) (fun (q : Hp) => q) (fun (q : Hp) => Ext h q) 27 (fun (y27 : Hp) => [(0, rv D a0)]) (fun (y27 : Hp) => y27) (fun (y27 : Hp) => Ext h y27) h (Ext.refl _) ?_ ?_
  · rintro h_0 E_0
    try dsimp only
    unfold m_X2_next_l0
    refine g_aload_n (pc := 0) X (j := 0) (i := 0) (q := 0) (x := a0) rfl rfl (dl_at t_X2_next 0 rfl) ?_
    refine g_aload_n (pc := 1) X (j := 0) (i := 0) (q := 0) (x := a0) rfl rfl (dl_at t_X2_next 1 rfl) ?_
    have k2 := kx E_0 (by decide) hk
    refine r_geti (pc := 2) X fX2_2 k2 q418 (dl_at t_X2_next 2 rfl) fun g2 => ?_
    refine r_callRi (pc := 5) X (fun _ hv => s_X2_byteAt k2 g2 hv) cw_code q1729 q356 (in_Vk X (As := [iv (h_0 a0 2)]) kX2 k2 (Or.inl q1726) q1728 qs9 cw_code q1729 ⟨by decide, by decide⟩ rfl (dl_at t_X2_next 3 rfl)) (dl_at t_X2_next 3 rfl) (cat24 (st := []) (Nat.le_of_ble_eq_true rfl)) (Nat.le_of_ble_eq_true rfl) (Nat.le_of_ble_eq_true rfl) fun v5 g5 => ?_
    refine r_callRz (pc := 8) X (fun _ hv => s_X1_isBlank g5 hv) cw_code q1732 q355 (in_Sc X (As := [iv v5]) (Or.inr ⟨_, nw_in q1730 rfl⟩) q1731 q355 q1732 ⟨by decide, by decide⟩ rfl (dl_at t_X2_next 4 rfl)) (dl_at t_X2_next 4 rfl) (cat24 (st := []) (Nat.le_of_ble_eq_true rfl)) (Nat.le_of_ble_eq_true rfl) (Nat.le_of_ble_eq_true rfl) fun v8 g8 => ?_
    refine g_ifeq (pc := 11) X (r32_z g8) (off := 16) (tgt := 27) rfl (dl_at t_X2_next 5 rfl) (fun _ => ?_) (fun _ => ?_)
    · exact g_at fun Q hQ => hQ E_0
    refine g_aload_n (pc := 14) X (j := 0) (i := 0) (q := 0) (x := a0) rfl rfl (dl_at t_X2_next 6 rfl) ?_
    refine g_dup (pc := 15) X rv_cat (dl_at t_X2_next 7 rfl) ?_
    refine r_geti (pc := 16) X fX2_2 k2 q418 (dl_at t_X2_next 8 rfl) fun g16 => ?_
    refine g_iconst (pc := 19) X (n := 1) (dl_at t_X2_next 9 rfl) ?_
    refine g_iadd (pc := 20) X g16 (r32_c rfl) (dl_at t_X2_next 10 rfl) ?_
    refine r_puti (pc := 21) X fX2_2 k2 q418 rfl (dl_at t_X2_next 11 rfl) (r32_w _) (fun h21 E21 => ?_)
    refine g_goto (pc := 24) X (off := (-24)) (tgt := 0) rfl (dl_at t_X2_next 12 rfl) ?_
    exact g_at fun Q hQ => hQ (E_0.trans E21)
  · rintro h_27 E_27
    try dsimp only [sE]
    refine g_aload_n (pc := 27) X (j := 0) (i := 0) (q := 0) (x := a0) rfl rfl (dl_at t_X2_next 13 rfl) ?_
    refine g_aload_n (pc := 28) X (j := 0) (i := 0) (q := 0) (x := a0) rfl rfl (dl_at t_X2_next 14 rfl) ?_
    have k29 := kx E_27 (by decide) hk
    refine r_geti (pc := 29) X fX2_2 k29 q418 (dl_at t_X2_next 15 rfl) fun g29 => ?_
    refine r_puti (pc := 32) X fX2_4 k29 q422 rfl (dl_at t_X2_next 16 rfl) g29 (fun h32 E32 => ?_)
    refine g_aload_n (pc := 35) X (j := 0) (i := 0) (q := 0) (x := a0) rfl rfl (dl_at t_X2_next 17 rfl) ?_
    refine g_aload_n (pc := 36) X (j := 0) (i := 0) (q := 0) (x := a0) rfl rfl (dl_at t_X2_next 18 rfl) ?_
    have k37 := kx E32 (by decide) k29
    refine r_geti (pc := 37) X fX2_2 k37 q418 (dl_at t_X2_next 19 rfl) fun g37 => ?_
    refine r_callRi (pc := 40) X (fun _ hv => s_X2_byteAt k37 g37 hv) cw_code q1729 q356 (in_Vk X (As := [iv (h32 a0 2)]) kX2 k37 (Or.inl q1726) q1728 qs9 cw_code q1729 ⟨by decide, by decide⟩ rfl (dl_at t_X2_next 20 rfl)) (dl_at t_X2_next 20 rfl) (cat24 (st := []) (Nat.le_of_ble_eq_true rfl)) (Nat.le_of_ble_eq_true rfl) (Nat.le_of_ble_eq_true rfl) fun v40 g40 => ?_
    refine g_istore_nN (pc := 43) X (j := 1) (i := 1) (x := v40) (b := 0) (w := rv D a0) (rest := []) rfl (Nat.le_of_ble_eq_true rfl) [0] rfl (by decide) rv_cat rfl (dl_at t_X2_next 21 rfl) ?_
    refine g_iload_n (pc := 44) X (j := 1) (i := 1) (q := 0) (x := v40) rfl rfl (dl_at t_X2_next 22 rfl) ?_
    refine g_ifge (pc := 45) X g40 (off := 11) (tgt := 56) rfl (dl_at t_X2_next 23 rfl) (fun _ => ?_) (fun _ => ?_)
    · refine g_iload_n (pc := 56) X (j := 1) (i := 1) (q := 0) (x := v40) rfl rfl (dl_at t_X2_next 28 rfl) ?_
      refine r_callRz (pc := 57) X (fun _ hv => s_X1_isSmall g40 hv) cw_code q1735 q355 (in_Sc X (As := [iv v40]) (Or.inr ⟨_, nw_in q1733 rfl⟩) q1734 q355 q1735 ⟨by decide, by decide⟩ rfl (dl_at t_X2_next 29 rfl)) (dl_at t_X2_next 29 rfl) (cat24 (st := []) (Nat.le_of_ble_eq_true rfl)) (Nat.le_of_ble_eq_true rfl) (Nat.le_of_ble_eq_true rfl) fun v57 g57 => ?_
      refine g_ifeq (pc := 60) X (r32_z g57) (off := 10) (tgt := 70) rfl (dl_at t_X2_next 30 rfl) (fun _ => ?_) (fun _ => ?_)
      · refine g_iload_n (pc := 70) X (j := 1) (i := 1) (q := 0) (x := v40) rfl rfl (dl_at t_X2_next 34 rfl) ?_
        refine r_callRz (pc := 71) X (fun _ hv => s_X1_isDigit g40 hv) cw_code q1742 q355 (in_Sc X (As := [iv v40]) (Or.inr ⟨_, nw_in q1740 rfl⟩) q1741 q355 q1742 ⟨by decide, by decide⟩ rfl (dl_at t_X2_next 35 rfl)) (dl_at t_X2_next 35 rfl) (cat24 (st := []) (Nat.le_of_ble_eq_true rfl)) (Nat.le_of_ble_eq_true rfl) (Nat.le_of_ble_eq_true rfl) fun v71 g71 => ?_
        refine g_ifeq (pc := 74) X (r32_z g71) (off := 10) (tgt := 84) rfl (dl_at t_X2_next 36 rfl) (fun _ => ?_) (fun _ => ?_)
        · refine g_iload_n (pc := 84) X (j := 1) (i := 1) (q := 0) (x := v40) rfl rfl (dl_at t_X2_next 40 rfl) ?_
          refine g_bipush (pc := 85) X (n := 34) rfl (dl_at t_X2_next 41 rfl) ?_
          refine g_icmpne (pc := 87) X g40 (r32_c rfl) (off := 10) (tgt := 97) rfl (dl_at t_X2_next 42 rfl) (fun _ => ?_) (fun _ => ?_)
          · refine g_aload_n (pc := 97) X (j := 0) (i := 0) (q := 1) (x := a0) rfl rfl (dl_at t_X2_next 46 rfl) ?_
            refine g_iload_n (pc := 98) X (j := 1) (i := 1) (q := 0) (x := v40) rfl rfl (dl_at t_X2_next 47 rfl) ?_
            refine r_callRz (pc := 99) X (fun _ hv => s_X1_isPlain g40 hv) cw_code q1753 q355 (in_Sc X (As := [iv v40]) (Or.inr ⟨_, nw_in q1751 rfl⟩) q1752 q355 q1753 ⟨by decide, by decide⟩ rfl (dl_at t_X2_next 48 rfl)) (dl_at t_X2_next 48 rfl) (cat24 (st := [rv D a0]) (Nat.le_of_ble_eq_true rfl)) (Nat.le_of_ble_eq_true rfl) (Nat.le_of_ble_eq_true rfl) fun v99 g99 => ?_
            refine g_join (γ := Int) (fun q => r32 q) 110 (fun q => [(0, rv D a0), (1, iv v40)]) (fun q => [iv q, rv D a0]) (fun q => h32) (fun q => m_X2_next_j110 v40 a0 q h32) ?_ ?_
            · rintro s1_110 rs1_110
              try dsimp only
              unfold m_X2_next_j110
              refine r_puti (pc := 110) X fX2_3 k37 q420 rfl (dl_at t_X2_next 53 rfl) rs1_110 (fun h110 E110 => ?_)
              refine g_aload_n (pc := 113) X (j := 0) (i := 0) (q := 0) (x := a0) rfl rfl (dl_at t_X2_next 54 rfl) ?_
              refine g_iload_n (pc := 114) X (j := 1) (i := 1) (q := 1) (x := v40) rfl rfl (dl_at t_X2_next 55 rfl) ?_
              have k115 := kx E110 (by decide) k37
              refine r_puti (pc := 115) X fX2_7 k115 q430 rfl (dl_at t_X2_next 56 rfl) g40 (fun h115 E115 => ?_)
              refine g_aload_n (pc := 118) X (j := 0) (i := 0) (q := 0) (x := a0) rfl rfl (dl_at t_X2_next 57 rfl) ?_
              refine g_dup (pc := 119) X rv_cat (dl_at t_X2_next 58 rfl) ?_
              have k120 := kx E115 (by decide) k115
              refine r_geti (pc := 120) X fX2_2 k120 q418 (dl_at t_X2_next 59 rfl) fun g120 => ?_
              refine g_iconst (pc := 123) X (n := 1) (dl_at t_X2_next 60 rfl) ?_
              refine g_iadd (pc := 124) X g120 (r32_c rfl) (dl_at t_X2_next 61 rfl) ?_
              refine r_puti (pc := 125) X fX2_2 k120 q418 rfl (dl_at t_X2_next 62 rfl) (r32_w _) (fun h125 E125 => ?_)
              exact g_vret (pc := 128) X (v := 0) rfl rfl (dl_at t_X2_next 63 rfl)
            intro J110
            refine g_ifeq (pc := 102) X (r32_z g99) (off := 7) (tgt := 109) rfl (dl_at t_X2_next 49 rfl) (fun _ => ?_) (fun _ => ?_)
            · refine g_iconst (pc := 109) X (n := 5) (dl_at t_X2_next 52 rfl) ?_
              refine g_ls (ls2 := [(0, rv D a0), (1, iv v40)]) [1, 0] rfl ?_
              exact J110 5 (r32_c rfl)
            refine g_iconst (pc := 105) X (n := 4) (dl_at t_X2_next 50 rfl) ?_
            refine g_goto (pc := 106) X (off := 4) (tgt := 110) rfl (dl_at t_X2_next 51 rfl) ?_
            refine g_ls (ls2 := [(0, rv D a0), (1, iv v40)]) [1, 0] rfl ?_
            exact J110 4 (r32_c rfl)
          refine g_aload_n (pc := 90) X (j := 0) (i := 0) (q := 1) (x := a0) rfl rfl (dl_at t_X2_next 43 rfl) ?_
          refine r_callV (pc := 91) X (fun _ hv => s_X2_string k37 hv) cw_code q1750 q356 (in_Vk X (As := []) kX2 k37 (Or.inl q1747) q1749 qs12 cw_code q1750 ⟨by decide, by decide⟩ rfl (dl_at t_X2_next 44 rfl)) (dl_at t_X2_next 44 rfl) (cat24 (st := []) (Nat.le_of_ble_eq_true rfl)) (Nat.le_of_ble_eq_true rfl) (Nat.le_of_ble_eq_true rfl) fun h91 E91 => ?_
          refine g_goto (pc := 94) X (off := 34) (tgt := 128) rfl (dl_at t_X2_next 45 rfl) ?_
          exact g_vret (pc := 128) X (v := 0) rfl rfl (dl_at t_X2_next 63 rfl)
        refine g_aload_n (pc := 77) X (j := 0) (i := 0) (q := 1) (x := a0) rfl rfl (dl_at t_X2_next 37 rfl) ?_
        refine r_callV (pc := 78) X (fun _ hv => s_X2_number k37 hv) cw_code q1746 q356 (in_Vk X (As := []) kX2 k37 (Or.inl q1743) q1745 qs11 cw_code q1746 ⟨by decide, by decide⟩ rfl (dl_at t_X2_next 38 rfl)) (dl_at t_X2_next 38 rfl) (cat24 (st := []) (Nat.le_of_ble_eq_true rfl)) (Nat.le_of_ble_eq_true rfl) (Nat.le_of_ble_eq_true rfl) fun h78 E78 => ?_
        refine g_goto (pc := 81) X (off := 47) (tgt := 128) rfl (dl_at t_X2_next 39 rfl) ?_
        exact g_vret (pc := 128) X (v := 0) rfl rfl (dl_at t_X2_next 63 rfl)
      refine g_aload_n (pc := 63) X (j := 0) (i := 0) (q := 1) (x := a0) rfl rfl (dl_at t_X2_next 31 rfl) ?_
      refine r_callV (pc := 64) X (fun _ hv => s_X2_name k37 hv) cw_code q1739 q356 (in_Vk X (As := []) kX2 k37 (Or.inl q1736) q1738 qs10 cw_code q1739 ⟨by decide, by decide⟩ rfl (dl_at t_X2_next 32 rfl)) (dl_at t_X2_next 32 rfl) (cat24 (st := []) (Nat.le_of_ble_eq_true rfl)) (Nat.le_of_ble_eq_true rfl) (Nat.le_of_ble_eq_true rfl) fun h64 E64 => ?_
      refine g_goto (pc := 67) X (off := 61) (tgt := 128) rfl (dl_at t_X2_next 33 rfl) ?_
      exact g_vret (pc := 128) X (v := 0) rfl rfl (dl_at t_X2_next 63 rfl)
    refine g_aload_n (pc := 48) X (j := 0) (i := 0) (q := 1) (x := a0) rfl rfl (dl_at t_X2_next 24 rfl) ?_
    refine g_iconst (pc := 49) X (n := 0) (dl_at t_X2_next 25 rfl) ?_
    refine r_puti (pc := 50) X fX2_3 k37 q420 rfl (dl_at t_X2_next 26 rfl) (r32_c rfl) (fun h50 E50 => ?_)
    refine g_goto (pc := 53) X (off := 75) (tgt := 128) rfl (dl_at t_X2_next 27 rfl) ?_
    exact g_vret (pc := 128) X (v := 0) rfl rfl (dl_at t_X2_next 63 rfl)
def k_X2_begin : List (Nat × Instr × Nat) := [(0, .aload_n 0, 1), (1, .iload_n 1, 1), (2, .putfield 13, 3), (5, .aload_n 0, 1), (6, .iconst 0, 1), (7, .putfield 17, 3), (10, .aload_n 0, 1), (11, .invokevirtual 20, 3), (14, .return_, 1)]
theorem t_X2_begin : ∀ q ∈ k_X2_begin, decode cX2_begin q.1 = .ok q.2 := dl_all (by decide +kernel)
noncomputable def m_X2_begin (a0 a1 : Int) (h : Hp) : Option (Hp) :=
  pt h a0 1 a1 fun h2 =>
  pt h2 a0 2 0 fun h7 =>
  (m_X2_next a0 h7).bind fun h11 =>
  some h11
theorem s_X2_begin {l : Launch} [NoTr l] {D : SD} {a0 a1 : Int} {h : Hp} (hk : h a0 (-2) = 32) (r1 : r32 a1) {r : Hp} (hm : m_X2_begin a0 a1 h = some r) : Sim l D yX2_begin (Cond.code yX2_begin cX2_begin 2 (Option.none : Option Jvm.ClassFile.FieldType)) 3 111 [rv D a0, iv a1] h 0 ((0, 0), r) := by
  refine Sim.of (fin := fun (v : Hp) => ((0, 0), v)) (lsE := [(0, rv D a0), (1, iv a1)]) hm rfl cwS_code (la_r (la_i la_n)) (ll_r (ll_i ll_n)) ?_
  intro p e s m below meth c X hcw hmm hcc hnm hname
  unfold m_X2_begin
  refine g_aload_n (pc := 0) X (j := 0) (i := 0) (q := 0) (x := a0) rfl rfl (dl_at t_X2_begin 0 rfl) ?_
  refine g_iload_n (pc := 1) X (j := 1) (i := 1) (q := 1) (x := a1) rfl rfl (dl_at t_X2_begin 1 rfl) ?_
  refine r_puti (pc := 2) X fX2_1 hk q417 rfl (dl_at t_X2_begin 2 rfl) r1 (fun h2 E2 => ?_)
  refine g_aload_n (pc := 5) X (j := 0) (i := 0) (q := 0) (x := a0) rfl rfl (dl_at t_X2_begin 3 rfl) ?_
  refine g_iconst (pc := 6) X (n := 0) (dl_at t_X2_begin 4 rfl) ?_
  have k7 := kx E2 (by decide) hk
  refine r_puti (pc := 7) X fX2_2 k7 q418 rfl (dl_at t_X2_begin 5 rfl) (r32_c rfl) (fun h7 E7 => ?_)
  refine g_aload_n (pc := 10) X (j := 0) (i := 0) (q := 0) (x := a0) rfl rfl (dl_at t_X2_begin 6 rfl) ?_
  have k11 := kx E7 (by decide) k7
  refine r_callV (pc := 11) X (fun _ hv => s_X2_next k11 hv) cw_code q1725 q356 (in_Vk X (As := []) kX2 k11 (Or.inl q1722) q1724 qs8 cw_code q1725 ⟨by decide, by decide⟩ rfl (dl_at t_X2_begin 7 rfl)) (dl_at t_X2_begin 7 rfl) (cat24 (st := []) (Nat.le_of_ble_eq_true rfl)) (Nat.le_of_ble_eq_true rfl) (Nat.le_of_ble_eq_true rfl) fun h11 E11 => ?_
  exact g_vret (pc := 14) X (v := 0) rfl rfl (dl_at t_X2_begin 8 rfl)
def k_X8_clear : List (Nat × Instr × Nat) := [(0, .iconst 0, 1), (1, .istore_n 1, 1), (2, .iload_n 1, 1), (3, .sipush 128, 3), (6, .if_icmp .ge 25, 3), (9, .aload_n 0, 1), (10, .getfield 9, 3), (13, .iload_n 1, 1), (14, .sipush 500, 3), (17, .iastore, 1), (18, .aload_n 0, 1), (19, .getfield 15, 3), (22, .iload_n 1, 1), (23, .iconst 0, 1), (24, .bastore, 1), (25, .iinc 1 1, 3), (28, .goto (-26), 3), (31, .iconst 0, 1), (32, .istore_n 1, 1), (33, .iload_n 1, 1), (34, .aload_n 0, 1), (35, .getfield 19, 3), (38, .arraylength, 1), (39, .if_icmp .ge 25, 3), (42, .aload_n 0, 1), (43, .getfield 19, 3), (46, .iload_n 1, 1), (47, .sipush 1000, 3), (50, .iastore, 1), (51, .aload_n 0, 1), (52, .getfield 22, 3), (55, .iload_n 1, 1), (56, .iconst 0, 1), (57, .iastore, 1), (58, .iinc 1 1, 3), (61, .goto (-28), 3), (64, .aload_n 0, 1), (65, .iconst 0, 1), (66, .putfield 28, 3), (69, .return_, 1)]
theorem t_X8_clear : ∀ q ∈ k_X8_clear, decode cX8_clear q.1 = .ok q.2 := dl_all (by decide +kernel)
noncomputable def m_X8_clear_l2 (a0 x1_2 : Int) (h_2 : Hp) : Option ((Int × Hp) ⊕ ((Hp))) :=
  if 128 ≤ x1_2 then (some (.inr h_2))
  else (gd (h_2 (h_2 a0 0) (-2) % 16 = 1 ∧ (0 : Int) ≤ x1_2 ∧ x1_2 < h_2 (h_2 a0 0) (-1)) (pt h_2 (h_2 a0 0) x1_2 500 fun h17 =>
  gd (h17 (h17 a0 1) (-2) % 16 = 3 ∧ (0 : Int) ≤ x1_2 ∧ x1_2 < h17 (h17 a0 1) (-1)) (pt h17 (h17 a0 1) x1_2 0 fun h24 =>
  lt_ (w32 (x1_2 + 1)) fun x1_25 =>
  some (.inl (x1_25, h24)))))
noncomputable def m_X8_clear_l33 (a0 x1_33 : Int) (h_33 : Hp) : Option ((Int × Hp) ⊕ ((Hp))) :=
  gd (1 ≤ h_33 (h_33 a0 2) (-2) % 16 ∧ h_33 (h_33 a0 2) (-2) % 16 ≤ 9) (if (h_33 (h_33 a0 2) (-1)) ≤ x1_33 then (pt h_33 a0 4 0 fun h66 =>
  some (.inr h66))
  else (gd (h_33 (h_33 a0 2) (-2) % 16 = 1 ∧ (0 : Int) ≤ x1_33 ∧ x1_33 < h_33 (h_33 a0 2) (-1)) (pt h_33 (h_33 a0 2) x1_33 1000 fun h50 =>
  gd (h50 (h50 a0 3) (-2) % 16 = 1 ∧ (0 : Int) ≤ x1_33 ∧ x1_33 < h50 (h50 a0 3) (-1)) (pt h50 (h50 a0 3) x1_33 0 fun h57 =>
  lt_ (w32 (x1_33 + 1)) fun x1_58 =>
  some (.inl (x1_58, h57))))))
noncomputable def m_X8_clear (a0 : Int) (h : Hp) : Option (Hp) :=
  lt_ 0 fun x1_1 =>
  (lp (fun (q : Int × Hp) => m_X8_clear_l2 a0 q.1 q.2) (x1_1, h)).bind (fun (y31 : Hp) => lt_ 0 fun x1_32 =>
  (lp (fun (q : Int × Hp) => m_X8_clear_l33 a0 q.1 q.2) (x1_32, y31)).bind (fun (x : Hp) => some x))
theorem s_X8_clear {l : Launch} [NoTr l] {D : SD} {a0 : Int} {h : Hp} (hk : h a0 (-2) = 128) {r : Hp} (hm : m_X8_clear a0 h = some r) : Sim l D yX8_clear (Cond.code yX8_clear cX8_clear 2 (Option.none : Option Jvm.ClassFile.FieldType)) 0 0 [rv D a0] h 0 ((0, 0), r) := by
  refine Sim.of (fin := fun (v : Hp) => ((0, 0), v)) (lsE := [(0, rv D a0)]) hm rfl cwS_code (la_r la_n) (ll_r ll_n) ?_
  intro p e s m below meth c X hcw hmm hcc hnm hname
  unfold m_X8_clear
  refine g_iconst (pc := 0) X (n := 0) (dl_at t_X8_clear 0 rfl) ?_
  refine g_ltz (Or.inl rfl) fun x1_1 r1_1 => ?_
  refine g_istore_nN (pc := 1) X (j := 1) (i := 1) (x := x1_1) (b := 0) (w := rv D a0) (rest := []) rfl (Nat.le_of_ble_eq_true rfl) [0] rfl (by decide) rv_cat rfl (dl_at t_X8_clear 1 rfl) ?_
  refine g_ls (ls2 := [(0, rv D a0), (1, iv x1_1)]) [1, 0] rfl ?_
  refine g_loop1 (fun (q : Int × Hp) => [(0, rv D a0), (1, iv q.1)]) (fun (q : Int × Hp) => q.2) (fun (q : Int × Hp) => r32 q.1 ∧ Ext h q.2) 31 (fun (y31 : Hp) => [(0, rv D a0)]) (fun (y31 : Hp) => y31) (fun (y31 : Hp) => Ext h y31) (x1_1, h) ⟨(r32_z r1_1), (Ext.refl _)⟩ ?_ ?_
  · rintro ⟨x1_2, h_2⟩ ⟨r1_2, E_2⟩
    try dsimp only
    unfold m_X8_clear_l2
    refine g_iload_n (pc := 2) X (j := 1) (i := 1) (q := 1) (x := x1_2) rfl rfl (dl_at t_X8_clear 2 rfl) ?_
    refine g_sipush (pc := 3) X (n := 128) rfl (dl_at t_X8_clear 3 rfl) ?_
    refine g_icmpge (pc := 6) X r1_2 (r32_c rfl) (off := 25) (tgt := 31) rfl (dl_at t_X8_clear 4 rfl) (fun _ => ?_) (fun _ => ?_)
    · refine g_ls (ls2 := [(0, rv D a0)]) [0] rfl ?_
      exact g_at fun Q hQ => hQ E_2
    refine g_aload_n (pc := 9) X (j := 0) (i := 0) (q := 0) (x := a0) rfl rfl (dl_at t_X8_clear 5 rfl) ?_
    have k10 := kx E_2 (by decide) hk
    refine r_getr (pc := 10) X fX8_0 k10 q866 (dl_at t_X8_clear 6 rfl) ?_
    refine g_iload_n (pc := 13) X (j := 1) (i := 1) (q := 1) (x := x1_2) rfl rfl (dl_at t_X8_clear 7 rfl) ?_
    refine g_sipush (pc := 14) X (n := 500) rfl (dl_at t_X8_clear 8 rfl) ?_
    refine g_gd fun k17 => ?_
    refine r_iast (pc := 17) X r1_2 (r32_c rfl) k17 (dl_at t_X8_clear 9 rfl) (fun h17 E17 => ?_)
    refine g_aload_n (pc := 18) X (j := 0) (i := 0) (q := 0) (x := a0) rfl rfl (dl_at t_X8_clear 10 rfl) ?_
    have k19 := kx E17 (by decide) k10
    refine r_getr (pc := 19) X fX8_1 k19 q867 (dl_at t_X8_clear 11 rfl) ?_
    refine g_iload_n (pc := 22) X (j := 1) (i := 1) (q := 1) (x := x1_2) rfl rfl (dl_at t_X8_clear 12 rfl) ?_
    refine g_iconst (pc := 23) X (n := 0) (dl_at t_X8_clear 13 rfl) ?_
    refine g_gd fun k24 => ?_
    refine r_zast (pc := 24) X r1_2 (Or.inl rfl) k24 (dl_at t_X8_clear 14 rfl) (fun h24 E24 => ?_)
    refine r_iincN (pc := 25) X (i := 1) (q := 1) (n := 1) (x := x1_2) (b := 0) (w := rv D a0) (rest := []) rfl r1_2 (r32_c rfl) (Nat.le_of_ble_eq_true rfl) [0] rfl (by decide) rv_cat rfl (dl_at t_X8_clear 15 rfl) fun x1_25 r1_25 => ?_
    refine g_goto (pc := 28) X (off := (-26)) (tgt := 2) rfl (dl_at t_X8_clear 16 rfl) ?_
    refine g_ls (ls2 := [(0, rv D a0), (1, iv x1_25)]) [1, 0] rfl ?_
    exact g_at fun Q hQ => hQ ⟨r1_25, (E_2.trans (E17.trans E24))⟩
  · rintro h_31 E_31
    try dsimp only [sE]
    refine g_iconst (pc := 31) X (n := 0) (dl_at t_X8_clear 17 rfl) ?_
    refine g_ltz (Or.inl rfl) fun x1_32 r1_32 => ?_
    refine g_istore_nN (pc := 32) X (j := 1) (i := 1) (x := x1_32) (b := 0) (w := rv D a0) (rest := []) rfl (Nat.le_of_ble_eq_true rfl) [0] rfl (by decide) rv_cat rfl (dl_at t_X8_clear 18 rfl) ?_
    refine g_ls (ls2 := [(0, rv D a0), (1, iv x1_32)]) [1, 0] rfl ?_
    refine g_loop0F (fun (q : Int × Hp) => [(0, rv D a0), (1, iv q.1)]) (fun (q : Int × Hp) => q.2) (fun (q : Int × Hp) => r32 q.1 ∧ Ext h_31 q.2) (x1_32, h_31) ⟨(r32_z r1_32), (Ext.refl _)⟩ ?_ (fun _ => rfl)
    · rintro ⟨x1_33, h_33⟩ ⟨r1_33, E_33⟩
      try dsimp only
      unfold m_X8_clear_l33
      refine g_iload_n (pc := 33) X (j := 1) (i := 1) (q := 1) (x := x1_33) rfl rfl (dl_at t_X8_clear 19 rfl) ?_
      refine g_aload_n (pc := 34) X (j := 0) (i := 0) (q := 0) (x := a0) rfl rfl (dl_at t_X8_clear 20 rfl) ?_
      have k35 := kx (E_31.trans E_33) (by decide) hk
      refine r_getr (pc := 35) X fX8_2 k35 q868 (dl_at t_X8_clear 21 rfl) ?_
      refine g_gd fun k38 => ?_
      refine g_alen (pc := 38) X k38 (dl_at t_X8_clear 22 rfl) fun g38 => ?_
      refine g_icmpge (pc := 39) X r1_33 g38 (off := 25) (tgt := 64) rfl (dl_at t_X8_clear 23 rfl) (fun _ => ?_) (fun _ => ?_)
      · refine g_aload_n (pc := 64) X (j := 0) (i := 0) (q := 0) (x := a0) rfl rfl (dl_at t_X8_clear 36 rfl) ?_
        refine g_iconst (pc := 65) X (n := 0) (dl_at t_X8_clear 37 rfl) ?_
        refine r_puti (pc := 66) X fX8_4 k35 q870 rfl (dl_at t_X8_clear 38 rfl) (r32_c rfl) (fun h66 E66 => ?_)
        exact g_at fun Q hQ => (g_vret (pc := 69) X (v := 0) rfl rfl (dl_at t_X8_clear 39 rfl)) _ Q rfl hQ
      refine g_aload_n (pc := 42) X (j := 0) (i := 0) (q := 0) (x := a0) rfl rfl (dl_at t_X8_clear 24 rfl) ?_
      refine r_getr (pc := 43) X fX8_2 k35 q868 (dl_at t_X8_clear 25 rfl) ?_
      refine g_iload_n (pc := 46) X (j := 1) (i := 1) (q := 1) (x := x1_33) rfl rfl (dl_at t_X8_clear 26 rfl) ?_
      refine g_sipush (pc := 47) X (n := 1000) rfl (dl_at t_X8_clear 27 rfl) ?_
      refine g_gd fun k50 => ?_
      refine r_iast (pc := 50) X r1_33 (r32_c rfl) k50 (dl_at t_X8_clear 28 rfl) (fun h50 E50 => ?_)
      refine g_aload_n (pc := 51) X (j := 0) (i := 0) (q := 0) (x := a0) rfl rfl (dl_at t_X8_clear 29 rfl) ?_
      have k52 := kx E50 (by decide) k35
      refine r_getr (pc := 52) X fX8_3 k52 q869 (dl_at t_X8_clear 30 rfl) ?_
      refine g_iload_n (pc := 55) X (j := 1) (i := 1) (q := 1) (x := x1_33) rfl rfl (dl_at t_X8_clear 31 rfl) ?_
      refine g_iconst (pc := 56) X (n := 0) (dl_at t_X8_clear 32 rfl) ?_
      refine g_gd fun k57 => ?_
      refine r_iast (pc := 57) X r1_33 (r32_c rfl) k57 (dl_at t_X8_clear 33 rfl) (fun h57 E57 => ?_)
      refine r_iincN (pc := 58) X (i := 1) (q := 1) (n := 1) (x := x1_33) (b := 0) (w := rv D a0) (rest := []) rfl r1_33 (r32_c rfl) (Nat.le_of_ble_eq_true rfl) [0] rfl (by decide) rv_cat rfl (dl_at t_X8_clear 34 rfl) fun x1_58 r1_58 => ?_
      refine g_goto (pc := 61) X (off := (-28)) (tgt := 33) rfl (dl_at t_X8_clear 35 rfl) ?_
      refine g_ls (ls2 := [(0, rv D a0), (1, iv x1_58)]) [1, 0] rfl ?_
      exact g_at fun Q hQ => hQ ⟨r1_58, (E_33.trans (E50.trans E57))⟩
def k_X2_isEnd : List (Nat × Instr × Nat) := [(0, .aload_n 0, 1), (1, .getfield 36, 3), (4, .ifCond .ne 7, 3), (7, .iconst 1, 1), (8, .goto 4, 3), (11, .iconst 0, 1), (12, .ireturn, 1)]
theorem t_X2_isEnd : ∀ q ∈ k_X2_isEnd, decode cX2_isEnd q.1 = .ok q.2 := dl_all (by decide +kernel)
noncomputable def m_X2_isEnd (a0 : Int) (h : Hp) : Option (Int) :=
  if (h a0 3) ≠ 0 then (some 0)
  else (some 1)
theorem s_X2_isEnd {l : Launch} [NoTr l] {D : SD} {a0 : Int} {h : Hp} (hk : h a0 (-2) = 32) {r : Int} (hm : m_X2_isEnd a0 h = some r) : Sim l D yX2_isEnd (Cond.code yX2_isEnd cX2_isEnd 1 (Option.some Jvm.ClassFile.FieldType.boolean)) 0 0 [rv D a0] h 3 ((0, r), h) := by
  refine Sim.of (fin := fun (v : Int) => ((0, v), h)) (lsE := [(0, rv D a0)]) hm rfl cwS_code (la_r la_n) (ll_r ll_n) ?_
  intro p e s m below meth c X hcw hmm hcc hnm hname
  unfold m_X2_isEnd
  refine g_aload_n (pc := 0) X (j := 0) (i := 0) (q := 0) (x := a0) rfl rfl (dl_at t_X2_isEnd 0 rfl) ?_
  refine r_geti (pc := 1) X fX2_3 hk q420 (dl_at t_X2_isEnd 1 rfl) fun g1 => ?_
  refine g_ifne (pc := 4) X g1 (off := 7) (tgt := 11) rfl (dl_at t_X2_isEnd 2 rfl) (fun _ => ?_) (fun _ => ?_)
  · refine g_iconst (pc := 11) X (n := 0) (dl_at t_X2_isEnd 5 rfl) ?_
    exact g_zret (pc := 12) X (Or.inl rfl) rfl rfl (dl_at t_X2_isEnd 6 rfl)
  refine g_iconst (pc := 7) X (n := 1) (dl_at t_X2_isEnd 3 rfl) ?_
  refine g_goto (pc := 8) X (off := 4) (tgt := 12) rfl (dl_at t_X2_isEnd 4 rfl) ?_
  exact g_zret (pc := 12) X (Or.inr rfl) rfl rfl (dl_at t_X2_isEnd 6 rfl)
def k_X2_isName : List (Nat × Instr × Nat) := [(0, .aload_n 0, 1), (1, .getfield 36, 3), (4, .iconst 1, 1), (5, .if_icmp .ne 14, 3), (8, .aload_n 0, 1), (9, .getfield 62, 3), (12, .aload_n 1, 1), (13, .invokevirtual 70, 3), (16, .if_icmp .eq 5, 3), (19, .iconst 0, 1), (20, .ireturn, 1), (21, .iconst 0, 1), (22, .istore_n 2, 1), (23, .iload_n 2, 1), (24, .aload_n 0, 1), (25, .getfield 62, 3), (28, .if_icmp .ge 30, 3), (31, .aload_n 0, 1), (32, .getfield 7, 3), (35, .aload_n 0, 1), (36, .getfield 59, 3), (39, .iload_n 2, 1), (40, .iadd, 1), (41, .baload, 1), (42, .aload_n 1, 1), (43, .iload_n 2, 1), (44, .invokevirtual 75, 3), (47, .if_icmp .eq 5, 3), (50, .iconst 0, 1), (51, .ireturn, 1), (52, .iinc 2 1, 3), (55, .goto (-32), 3), (58, .iconst 1, 1), (59, .ireturn, 1)]
theorem t_X2_isName : ∀ q ∈ k_X2_isName, decode cX2_isName q.1 = .ok q.2 := dl_all (by decide +kernel)
noncomputable def m_X2_isName_l23 (a0 a1 x2_23 : Int) (h : Hp) : Option ((Int) ⊕ ((Int))) :=
  if (h a0 6) ≤ x2_23 then (some (.inr 1))
  else (gd (h (h a0 0) (-2) % 16 = 2 ∧ (0 : Int) ≤ (w32 ((h a0 5) + x2_23)) ∧ (w32 ((h a0 5) + x2_23)) < h (h a0 0) (-1)) ((x_sat a1 x2_23).bind fun v44 =>
  if (h (h a0 0) (w32 ((h a0 5) + x2_23))) = v44 then (lt_ (w32 (x2_23 + 1)) fun x2_52 =>
  some (.inl x2_52))
  else (some (.inr 0))))
noncomputable def m_X2_isName (a0 a1 : Int) (h : Hp) : Option (Int) :=
  if (h a0 3) ≠ 1 then (some 0)
  else ((x_slen a1).bind fun v13 =>
  if (h a0 6) = v13 then (lt_ 0 fun x2_22 =>
  (lp (fun (q : Int) => m_X2_isName_l23 a0 a1 q h) x2_22).bind (fun (x : Int) => some x))
  else (some 0))
theorem s_X2_isName {l : Launch} [NoTr l] {D : SD} {a0 a1 : Int} {h : Hp} (hk : h a0 (-2) = 32) {r : Int} (hm : m_X2_isName a0 a1 h = some r) : Sim l D yX2_isName (Cond.code yX2_isName cX2_isName 3 (Option.some Jvm.ClassFile.FieldType.boolean)) 4 200 [rv D a0, rv D a1] h 3 ((0, r), h) := by
  refine Sim.of (fin := fun (v : Int) => ((0, v), h)) (lsE := [(0, rv D a0), (1, rv D a1)]) hm rfl cwS_code (la_r (la_r la_n)) (ll_r (ll_r ll_n)) ?_
  intro p e s m below meth c X hcw hmm hcc hnm hname
  unfold m_X2_isName
  refine g_aload_n (pc := 0) X (j := 0) (i := 0) (q := 0) (x := a0) rfl rfl (dl_at t_X2_isName 0 rfl) ?_
  refine r_geti (pc := 1) X fX2_3 hk q420 (dl_at t_X2_isName 1 rfl) fun g1 => ?_
  refine g_iconst (pc := 4) X (n := 1) (dl_at t_X2_isName 2 rfl) ?_
  refine g_icmpne (pc := 5) X g1 (r32_c rfl) (off := 14) (tgt := 19) rfl (dl_at t_X2_isName 3 rfl) (fun _ => ?_) (fun _ => ?_)
  · refine g_iconst (pc := 19) X (n := 0) (dl_at t_X2_isName 9 rfl) ?_
    exact g_zret (pc := 20) X (Or.inl rfl) rfl rfl (dl_at t_X2_isName 10 rfl)
  refine g_aload_n (pc := 8) X (j := 0) (i := 0) (q := 0) (x := a0) rfl rfl (dl_at t_X2_isName 4 rfl) ?_
  refine r_geti (pc := 9) X fX2_6 hk q428 (dl_at t_X2_isName 5 rfl) fun g9 => ?_
  refine g_aload_n (pc := 12) X (j := 1) (i := 1) (q := 1) (x := a1) rfl rfl (dl_at t_X2_isName 6 rfl) ?_
  refine r_slen (pc := 13) X q1767 (cat24 (st := [iv (h a0 6)]) (Nat.le_of_ble_eq_true rfl)) (Nat.le_of_ble_eq_true rfl) (Nat.le_of_ble_eq_true rfl) (dl_at t_X2_isName 7 rfl) fun v13 g13 => ?_
  refine g_icmpeq (pc := 16) X g9 g13 (off := 5) (tgt := 21) rfl (dl_at t_X2_isName 8 rfl) (fun _ => ?_) (fun _ => ?_)
  · refine g_iconst (pc := 21) X (n := 0) (dl_at t_X2_isName 11 rfl) ?_
    refine g_ltz (Or.inl rfl) fun x2_22 r2_22 => ?_
    refine g_istore_nN (pc := 22) X (j := 2) (i := 2) (x := x2_22) (b := 1) (w := rv D a1) (rest := [(0, rv D a0)]) rfl (Nat.le_of_ble_eq_true rfl) [1, 0] rfl (by decide) rv_cat rfl (dl_at t_X2_isName 12 rfl) ?_
    refine g_ls (ls2 := [(0, rv D a0), (1, rv D a1), (2, iv x2_22)]) [2, 1, 0] rfl ?_
    refine g_loop0F (fun (q : Int) => [(0, rv D a0), (1, rv D a1), (2, iv q)]) (fun (q : Int) => h) (fun (q : Int) => r32 q) x2_22 (r32_z r2_22) ?_ (fun _ => rfl)
    · rintro x2_23 r2_23
      try dsimp only
      unfold m_X2_isName_l23
      refine g_iload_n (pc := 23) X (j := 2) (i := 2) (q := 2) (x := x2_23) rfl rfl (dl_at t_X2_isName 13 rfl) ?_
      refine g_aload_n (pc := 24) X (j := 0) (i := 0) (q := 0) (x := a0) rfl rfl (dl_at t_X2_isName 14 rfl) ?_
      refine r_geti (pc := 25) X fX2_6 hk q428 (dl_at t_X2_isName 15 rfl) fun g25 => ?_
      refine g_icmpge (pc := 28) X r2_23 g25 (off := 30) (tgt := 58) rfl (dl_at t_X2_isName 16 rfl) (fun _ => ?_) (fun _ => ?_)
      · refine g_iconst (pc := 58) X (n := 1) (dl_at t_X2_isName 32 rfl) ?_
        exact g_at fun Q hQ => (g_zret (pc := 59) X (Or.inr rfl) rfl rfl (dl_at t_X2_isName 33 rfl)) _ Q rfl hQ
      refine g_aload_n (pc := 31) X (j := 0) (i := 0) (q := 0) (x := a0) rfl rfl (dl_at t_X2_isName 17 rfl) ?_
      refine r_getr (pc := 32) X fX2_0 hk q414 (dl_at t_X2_isName 18 rfl) ?_
      refine g_aload_n (pc := 35) X (j := 0) (i := 0) (q := 0) (x := a0) rfl rfl (dl_at t_X2_isName 19 rfl) ?_
      refine r_geti (pc := 36) X fX2_5 hk q425 (dl_at t_X2_isName 20 rfl) fun g36 => ?_
      refine g_iload_n (pc := 39) X (j := 2) (i := 2) (q := 2) (x := x2_23) rfl rfl (dl_at t_X2_isName 21 rfl) ?_
      refine g_iadd (pc := 40) X g36 r2_23 (dl_at t_X2_isName 22 rfl) ?_
      refine g_gd fun k41 => ?_
      refine g_bald (pc := 41) X (r32_w _) k41 (dl_at t_X2_isName 23 rfl) fun g41 => ?_
      refine g_aload_n (pc := 42) X (j := 1) (i := 1) (q := 1) (x := a1) rfl rfl (dl_at t_X2_isName 24 rfl) ?_
      refine g_iload_n (pc := 43) X (j := 2) (i := 2) (q := 2) (x := x2_23) rfl rfl (dl_at t_X2_isName 25 rfl) ?_
      refine r_sat (pc := 44) X r2_23 q1777 (cat24 (st := [iv (h (h a0 0) (w32 ((h a0 5) + x2_23)))]) (Nat.le_of_ble_eq_true rfl)) (Nat.le_of_ble_eq_true rfl) (Nat.le_of_ble_eq_true rfl) (dl_at t_X2_isName 26 rfl) fun v44 g44 => ?_
      refine g_icmpeq (pc := 47) X (r32_b g41) g44 (off := 5) (tgt := 52) rfl (dl_at t_X2_isName 27 rfl) (fun _ => ?_) (fun _ => ?_)
      · refine r_iincN (pc := 52) X (i := 2) (q := 2) (n := 1) (x := x2_23) (b := 1) (w := rv D a1) (rest := [(0, rv D a0)]) rfl r2_23 (r32_c rfl) (Nat.le_of_ble_eq_true rfl) [1, 0] rfl (by decide) rv_cat rfl (dl_at t_X2_isName 30 rfl) fun x2_52 r2_52 => ?_
        refine g_goto (pc := 55) X (off := (-32)) (tgt := 23) rfl (dl_at t_X2_isName 31 rfl) ?_
        refine g_ls (ls2 := [(0, rv D a0), (1, rv D a1), (2, iv x2_52)]) [2, 1, 0] rfl ?_
        exact g_at fun Q hQ => hQ r2_52
      refine g_iconst (pc := 50) X (n := 0) (dl_at t_X2_isName 28 rfl) ?_
      exact g_at fun Q hQ => (g_zret (pc := 51) X (Or.inl rfl) rfl rfl (dl_at t_X2_isName 29 rfl)) _ Q rfl hQ
  refine g_iconst (pc := 19) X (n := 0) (dl_at t_X2_isName 9 rfl) ?_
  exact g_zret (pc := 20) X (Or.inl rfl) rfl rfl (dl_at t_X2_isName 10 rfl)
def k_X2_broken : List (Nat × Instr × Nat) := [(0, .new 65, 3), (3, .dup, 1), (4, .aload_n 0, 1), (5, .getfield 33, 3), (8, .invokespecial 67, 3), (11, .areturn, 1)]
theorem t_X2_broken : ∀ q ∈ k_X2_broken, decode cX2_broken q.1 = .ok q.2 := dl_all (by decide +kernel)
noncomputable def m_X2_broken (a0 : Int) (h : Hp) : Option (Int × Hp) :=
  al h 432 7 fun a0_1 h0 =>
  (x_broken a0_1 (h0 a0 4) h0).bind fun h8 =>
  some (a0_1, h8)
theorem s_X2_broken {l : Launch} [NoTr l] {D : SD} {a0 : Int} {h : Hp} (hk : h a0 (-2) = 32) {r : Int × Hp} (hm : m_X2_broken a0 h = some r) : Sim l D yX2_broken (Cond.code yX2_broken cX2_broken 1 (Option.some (Jvm.ClassFile.FieldType.object "ScholarsPress$Broken"))) 9 337 [rv D a0] h 5 ((0, r.1), r.2) := by
  refine Sim.of (fin := fun (v : Int × Hp) => ((0, v.1), v.2)) (lsE := [(0, rv D a0)]) hm rfl cwS_code (la_r la_n) (ll_r ll_n) ?_
  intro p e s m below meth c X hcw hmm hcc hnm hname
  unfold m_X2_broken
  refine r_new (pc := 0) X kX26 q1826 (dl_at t_X2_broken 0 rfl) fun a0_1 h0 p0 k0 E0 => ?_
  refine g_dup (pc := 3) X rv_cat (dl_at t_X2_broken 1 rfl) ?_
  refine g_aload_n (pc := 4) X (j := 0) (i := 0) (q := 0) (x := a0) rfl rfl (dl_at t_X2_broken 2 rfl) ?_
  have k5 := kx E0 (by decide) hk
  refine r_geti (pc := 5) X fX2_4 k5 q422 (dl_at t_X2_broken 3 rfl) fun g5 => ?_
  refine r_callV (pc := 8) X (fun _ hv => sx_ScholarsPress_Broken_init_I_V k0 g5 hv) cw_code q1839 q391 (in_I X (As := [iv (h0 a0 4)]) (Int.ne_of_gt p0) rfl (Or.inr ⟨_, nw_in q1837 rfl⟩) q1838 q1839 ⟨by decide, by decide⟩ rfl (dl_at t_X2_broken 4 rfl)) (dl_at t_X2_broken 4 rfl) (cat24 (st := [rv D a0_1]) (Nat.le_of_ble_eq_true rfl)) (Nat.le_of_ble_eq_true rfl) (Nat.le_of_ble_eq_true rfl) fun h8 E8 => ?_
  exact g_aret (pc := 11) X (Or.inl ⟨_, rfl⟩) rfl rfl (dl_at t_X2_broken 5 rfl)
def k_X8_two : List (Nat × Instr × Nat) := [(0, .aload_n 0, 1), (1, .getfield 74, 3), (4, .iconst 3, 1), (5, .if_icmp .ne 11, 3), (8, .aload_n 0, 1), (9, .getfield 77, 3), (12, .iconst 1, 1), (13, .if_icmp .eq 8, 3), (16, .aload_n 0, 1), (17, .invokevirtual 60, 3), (20, .athrow, 1), (21, .aload_n 0, 1), (22, .getfield 80, 3), (25, .aload_n 0, 1), (26, .getfield 84, 3), (29, .baload, 1), (30, .ireturn, 1)]
theorem t_X8_two : ∀ q ∈ k_X8_two, decode cX8_two q.1 = .ok q.2 := dl_all (by decide +kernel)
noncomputable def m_X8_two (a0 : Int) (h : Hp) : Option ((Int × Int) × Hp) :=
  gd (h a0 (-2) = 32) (if (h a0 3) ≠ 3 then (bW (m_X2_broken a0 h) fun v17 h17 =>
  gd (0 < v17) (some ((1, v17), h17)))
  else (if (h a0 6) = 1 then (gd (h (h a0 0) (-2) % 16 = 2 ∧ (0 : Int) ≤ (h a0 5) ∧ (h a0 5) < h (h a0 0) (-1)) (some ((0, (h (h a0 0) (h a0 5))), h)))
  else (bW (m_X2_broken a0 h) fun v17_1 h17_1 =>
  gd (0 < v17_1) (some ((1, v17_1), h17_1)))))
theorem s_X8_two {l : Launch} [NoTr l] {D : SD} {a0 : Int} {h : Hp}  {r : (Int × Int) × Hp} (hm : m_X8_two a0 h = some r) : Sim l D yX8_two (Cond.code yX8_two cX8_two 1 (Option.some Jvm.ClassFile.FieldType.int)) 10 373 [rv D a0] h 1 r := by
  refine Sim.of (fin := fun (v : (Int × Int) × Hp) => v) (lsE := [(0, rv D a0)]) hm rfl cwS_code (la_r la_n) (ll_r ll_n) ?_
  intro p e s m below meth c X hcw hmm hcc hnm hname
  have hno := noh hcw hnm hmm hcc
  unfold m_X8_two
  refine g_aload_n (pc := 0) X (j := 0) (i := 0) (q := 0) (x := a0) rfl rfl (dl_at t_X8_two 0 rfl) ?_
  refine g_gd fun k1 => ?_
  refine r_getiN (pc := 1) X fX2_3 k1 (nw_in q419 rfl) (dl_at t_X8_two 1 rfl) fun g1 => ?_
  refine g_iconst (pc := 4) X (n := 3) (dl_at t_X8_two 2 rfl) ?_
  refine g_icmpne (pc := 5) X g1 (r32_c rfl) (off := 11) (tgt := 16) rfl (dl_at t_X8_two 3 rfl) (fun _ => ?_) (fun _ => ?_)
  · refine g_aload_n (pc := 16) X (j := 0) (i := 0) (q := 0) (x := a0) rfl rfl (dl_at t_X8_two 8 rfl) ?_
    refine r_callWr (pc := 17) X (fun _ hv => s_X2_broken k1 hv) cw_code q1825 q356 (in_Vk X (As := []) kX2 k1 (Or.inr ⟨_, nw_in q1822 rfl⟩) q1824 qs16 cw_code q1825 ⟨by decide, by decide⟩ rfl (dl_at t_X8_two 9 rfl)) (dl_at t_X8_two 9 rfl) (cat24 (st := []) (Nat.le_of_ble_eq_true rfl)) (Nat.le_of_ble_eq_true rfl) (Nat.le_of_ble_eq_true rfl) fun v17 h17 E17 => ?_
    refine g_gd fun p20 => ?_
    refine g_athrow (pc := 20) X (Int.ne_of_gt p20) (dl_at t_X8_two 10 rfl) ?_
    exact gt_at fun Q hQ => gt_out (Q := Q) X rfl p20 (hno _) _ Q rfl hQ
  refine g_aload_n (pc := 8) X (j := 0) (i := 0) (q := 0) (x := a0) rfl rfl (dl_at t_X8_two 4 rfl) ?_
  refine r_getiN (pc := 9) X fX2_6 k1 (nw_in q427 rfl) (dl_at t_X8_two 5 rfl) fun g9 => ?_
  refine g_iconst (pc := 12) X (n := 1) (dl_at t_X8_two 6 rfl) ?_
  refine g_icmpeq (pc := 13) X g9 (r32_c rfl) (off := 8) (tgt := 21) rfl (dl_at t_X8_two 7 rfl) (fun _ => ?_) (fun _ => ?_)
  · refine g_aload_n (pc := 21) X (j := 0) (i := 0) (q := 0) (x := a0) rfl rfl (dl_at t_X8_two 11 rfl) ?_
    refine r_getrN (pc := 22) X fX2_0 k1 (nw_in q415 rfl) (dl_at t_X8_two 12 rfl) ?_
    refine g_aload_n (pc := 25) X (j := 0) (i := 0) (q := 0) (x := a0) rfl rfl (dl_at t_X8_two 13 rfl) ?_
    refine r_getiN (pc := 26) X fX2_5 k1 (nw_in q424 rfl) (dl_at t_X8_two 14 rfl) fun g26 => ?_
    refine g_gd fun k29 => ?_
    refine g_bald (pc := 29) X g26 k29 (dl_at t_X8_two 15 rfl) fun g29 => ?_
    exact g_iret (pc := 30) X (r32_b g29) rfl rfl (dl_at t_X8_two 16 rfl)
  refine g_aload_n (pc := 16) X (j := 0) (i := 0) (q := 0) (x := a0) rfl rfl (dl_at t_X8_two 8 rfl) ?_
  refine r_callWr (pc := 17) X (fun _ hv => s_X2_broken k1 hv) cw_code q1825 q356 (in_Vk X (As := []) kX2 k1 (Or.inr ⟨_, nw_in q1822 rfl⟩) q1824 qs16 cw_code q1825 ⟨by decide, by decide⟩ rfl (dl_at t_X8_two 9 rfl)) (dl_at t_X8_two 9 rfl) (cat24 (st := []) (Nat.le_of_ble_eq_true rfl)) (Nat.le_of_ble_eq_true rfl) (Nat.le_of_ble_eq_true rfl) fun v17_1 h17_1 E17_1 => ?_
  refine g_gd fun p20_1 => ?_
  refine g_athrow (pc := 20) X (Int.ne_of_gt p20_1) (dl_at t_X8_two 10 rfl) ?_
  exact gt_at fun Q hQ => gt_out (Q := Q) X rfl p20_1 (hno _) _ Q rfl hQ
def k_X8_one : List (Nat × Instr × Nat) := [(0, .aload_n 0, 1), (1, .invokestatic 57, 3), (4, .istore_n 1, 1), (5, .aload_n 0, 1), (6, .invokevirtual 44, 3), (9, .iload_n 1, 1), (10, .ireturn, 1)]
theorem t_X8_one : ∀ q ∈ k_X8_one, decode cX8_one q.1 = .ok q.2 := dl_all (by decide +kernel)
noncomputable def m_X8_one (a0 : Int) (h : Hp) : Option ((Int × Int) × Hp) :=
  bT (m_X8_two a0 h) (fun v1 h1 =>
  gd (h1 a0 (-2) = 32) ((m_X2_next a0 h1).bind fun h6 =>
  some ((0, v1), h6))) (fun a_ h_ => some ((1, a_), h_))
theorem s_X8_one {l : Launch} [NoTr l] {D : SD} {a0 : Int} {h : Hp}  {r : (Int × Int) × Hp} (hm : m_X8_one a0 h = some r) : Sim l D yX8_one (Cond.code yX8_one cX8_one 2 (Option.some Jvm.ClassFile.FieldType.int)) 11 409 [rv D a0] h 1 r := by
  refine Sim.of (fin := fun (v : (Int × Int) × Hp) => v) (lsE := [(0, rv D a0)]) hm rfl cwS_code (la_r la_n) (ll_r ll_n) ?_
  intro p e s m below meth c X hcw hmm hcc hnm hname
  have hno := noh hcw hnm hmm hcc
  unfold m_X8_one
  refine g_aload_n (pc := 0) X (j := 0) (i := 0) (q := 0) (x := a0) rfl rfl (dl_at t_X8_one 0 rfl) ?_
  refine r_callTi (pc := 1) X (fun _ hv => s_X8_two hv) cw_code q1821 q362 (in_Sc X (As := [rv D a0]) (Or.inl q1819) q1820 q362 q1821 ⟨by decide, by decide⟩ rfl (dl_at t_X8_one 1 rfl)) (dl_at t_X8_one 1 rfl) (cat24 (st := []) (Nat.le_of_ble_eq_true rfl)) (Nat.le_of_ble_eq_true rfl) (Nat.le_of_ble_eq_true rfl) (fun v1 h1 g1 E1 => ?_) (fun _ _ ha _ => gt_at fun Q hQ => gt_out (Q := Q) X rfl ha (hno _) _ Q rfl hQ)
  refine g_istore_nN (pc := 4) X (j := 1) (i := 1) (x := v1) (b := 0) (w := rv D a0) (rest := []) rfl (Nat.le_of_ble_eq_true rfl) [0] rfl (by decide) rv_cat rfl (dl_at t_X8_one 2 rfl) ?_
  refine g_aload_n (pc := 5) X (j := 0) (i := 0) (q := 1) (x := a0) rfl rfl (dl_at t_X8_one 3 rfl) ?_
  refine g_gd fun k6 => ?_
  refine r_callV (pc := 6) X (fun _ hv => s_X2_next k6 hv) cw_code q1725 q356 (in_Vk X (As := []) kX2 k6 (Or.inr ⟨_, nw_in q1815 rfl⟩) q1724 qs8 cw_code q1725 ⟨by decide, by decide⟩ rfl (dl_at t_X8_one 4 rfl)) (dl_at t_X8_one 4 rfl) (cat24 (st := []) (Nat.le_of_ble_eq_true rfl)) (Nat.le_of_ble_eq_true rfl) (Nat.le_of_ble_eq_true rfl) fun h6 E6 => ?_
  refine g_iload_n (pc := 9) X (j := 1) (i := 1) (q := 0) (x := v1) rfl rfl (dl_at t_X8_one 5 rfl) ?_
  exact g_iret (pc := 10) X g1 rfl rfl (dl_at t_X8_one 6 rfl)
def k_X2_needNumber : List (Nat × Instr × Nat) := [(0, .aload_n 0, 1), (1, .getfield 36, 3), (4, .iconst 2, 1), (5, .if_icmp .ne 19, 3), (8, .aload_n 0, 1), (9, .getfield 57, 3), (12, .iload_n 1, 1), (13, .if_icmp .lt 11, 3), (16, .aload_n 0, 1), (17, .getfield 57, 3), (20, .iload_n 2, 1), (21, .if_icmp .le 8, 3), (24, .aload_n 0, 1), (25, .invokevirtual 85, 3), (28, .athrow, 1), (29, .aload_n 0, 1), (30, .getfield 57, 3), (33, .istore_n 3, 1), (34, .aload_n 0, 1), (35, .invokevirtual 20, 3), (38, .iload_n 3, 1), (39, .ireturn, 1)]
theorem t_X2_needNumber : ∀ q ∈ k_X2_needNumber, decode cX2_needNumber q.1 = .ok q.2 := dl_all (by decide +kernel)
noncomputable def m_X2_needNumber (a0 a1 a2 : Int) (h : Hp) : Option ((Int × Int) × Hp) :=
  if (h a0 3) ≠ 2 then (bW (m_X2_broken a0 h) fun v25 h25 =>
  gd (0 < v25) (some ((1, v25), h25)))
  else (if (h a0 7) < a1 then (bW (m_X2_broken a0 h) fun v25_1 h25_1 =>
  gd (0 < v25_1) (some ((1, v25_1), h25_1)))
  else (if (h a0 7) ≤ a2 then (lt_ (h a0 7) fun x3_33 =>
  (m_X2_next a0 h).bind fun h35 =>
  some ((0, x3_33), h35))
  else (bW (m_X2_broken a0 h) fun v25_2 h25_2 =>
  gd (0 < v25_2) (some ((1, v25_2), h25_2)))))
theorem s_X2_needNumber {l : Launch} [NoTr l] {D : SD} {a0 a1 a2 : Int} {h : Hp} (hk : h a0 (-2) = 32) (r1 : r32 a1) (r2 : r32 a2) {r : (Int × Int) × Hp} (hm : m_X2_needNumber a0 a1 a2 h = some r) : Sim l D yX2_needNumber (Cond.code yX2_needNumber cX2_needNumber 4 (Option.some Jvm.ClassFile.FieldType.int)) 10 373 [rv D a0, iv a1, iv a2] h 1 r := by
  refine Sim.of (fin := fun (v : (Int × Int) × Hp) => v) (lsE := [(0, rv D a0), (1, iv a1), (2, iv a2)]) hm rfl cwS_code (la_r (la_i (la_i la_n))) (ll_r (ll_i (ll_i ll_n))) ?_
  intro p e s m below meth c X hcw hmm hcc hnm hname
  have hno := noh hcw hnm hmm hcc
  unfold m_X2_needNumber
  refine g_aload_n (pc := 0) X (j := 0) (i := 0) (q := 0) (x := a0) rfl rfl (dl_at t_X2_needNumber 0 rfl) ?_
  refine r_geti (pc := 1) X fX2_3 hk q420 (dl_at t_X2_needNumber 1 rfl) fun g1 => ?_
  refine g_iconst (pc := 4) X (n := 2) (dl_at t_X2_needNumber 2 rfl) ?_
  refine g_icmpne (pc := 5) X g1 (r32_c rfl) (off := 19) (tgt := 24) rfl (dl_at t_X2_needNumber 3 rfl) (fun _ => ?_) (fun _ => ?_)
  · refine g_aload_n (pc := 24) X (j := 0) (i := 0) (q := 0) (x := a0) rfl rfl (dl_at t_X2_needNumber 12 rfl) ?_
    refine r_callWr (pc := 25) X (fun _ hv => s_X2_broken hk hv) cw_code q1825 q356 (in_Vk X (As := []) kX2 hk (Or.inl q1862) q1824 qs16 cw_code q1825 ⟨by decide, by decide⟩ rfl (dl_at t_X2_needNumber 13 rfl)) (dl_at t_X2_needNumber 13 rfl) (cat24 (st := []) (Nat.le_of_ble_eq_true rfl)) (Nat.le_of_ble_eq_true rfl) (Nat.le_of_ble_eq_true rfl) fun v25 h25 E25 => ?_
    refine g_gd fun p28 => ?_
    refine g_athrow (pc := 28) X (Int.ne_of_gt p28) (dl_at t_X2_needNumber 14 rfl) ?_
    exact gt_at fun Q hQ => gt_out (Q := Q) X rfl p28 (hno _) _ Q rfl hQ
  refine g_aload_n (pc := 8) X (j := 0) (i := 0) (q := 0) (x := a0) rfl rfl (dl_at t_X2_needNumber 4 rfl) ?_
  refine r_geti (pc := 9) X fX2_7 hk q430 (dl_at t_X2_needNumber 5 rfl) fun g9 => ?_
  refine g_iload_n (pc := 12) X (j := 1) (i := 1) (q := 1) (x := a1) rfl rfl (dl_at t_X2_needNumber 6 rfl) ?_
  refine g_icmplt (pc := 13) X g9 r1 (off := 11) (tgt := 24) rfl (dl_at t_X2_needNumber 7 rfl) (fun _ => ?_) (fun _ => ?_)
  · refine g_aload_n (pc := 24) X (j := 0) (i := 0) (q := 0) (x := a0) rfl rfl (dl_at t_X2_needNumber 12 rfl) ?_
    refine r_callWr (pc := 25) X (fun _ hv => s_X2_broken hk hv) cw_code q1825 q356 (in_Vk X (As := []) kX2 hk (Or.inl q1862) q1824 qs16 cw_code q1825 ⟨by decide, by decide⟩ rfl (dl_at t_X2_needNumber 13 rfl)) (dl_at t_X2_needNumber 13 rfl) (cat24 (st := []) (Nat.le_of_ble_eq_true rfl)) (Nat.le_of_ble_eq_true rfl) (Nat.le_of_ble_eq_true rfl) fun v25_1 h25_1 E25_1 => ?_
    refine g_gd fun p28_1 => ?_
    refine g_athrow (pc := 28) X (Int.ne_of_gt p28_1) (dl_at t_X2_needNumber 14 rfl) ?_
    exact gt_at fun Q hQ => gt_out (Q := Q) X rfl p28_1 (hno _) _ Q rfl hQ
  refine g_aload_n (pc := 16) X (j := 0) (i := 0) (q := 0) (x := a0) rfl rfl (dl_at t_X2_needNumber 8 rfl) ?_
  refine r_geti (pc := 17) X fX2_7 hk q430 (dl_at t_X2_needNumber 9 rfl) fun g17 => ?_
  refine g_iload_n (pc := 20) X (j := 2) (i := 2) (q := 2) (x := a2) rfl rfl (dl_at t_X2_needNumber 10 rfl) ?_
  refine g_icmple (pc := 21) X g17 r2 (off := 8) (tgt := 29) rfl (dl_at t_X2_needNumber 11 rfl) (fun _ => ?_) (fun _ => ?_)
  · refine g_aload_n (pc := 29) X (j := 0) (i := 0) (q := 0) (x := a0) rfl rfl (dl_at t_X2_needNumber 15 rfl) ?_
    refine r_geti (pc := 30) X fX2_7 hk q430 (dl_at t_X2_needNumber 16 rfl) fun g30 => ?_
    refine g_lti g30 fun x3_33 r3_33 => ?_
    refine g_istore_n (pc := 33) X (j := 3) (i := 3) (x := x3_33) (rest := [(0, rv D a0)]) rfl (Nat.le_of_ble_eq_true rfl) [0] rfl rfl (dl_at t_X2_needNumber 17 rfl) ?_
    refine g_aload_n (pc := 34) X (j := 0) (i := 0) (q := 1) (x := a0) rfl rfl (dl_at t_X2_needNumber 18 rfl) ?_
    refine r_callV (pc := 35) X (fun _ hv => s_X2_next hk hv) cw_code q1725 q356 (in_Vk X (As := []) kX2 hk (Or.inl q1722) q1724 qs8 cw_code q1725 ⟨by decide, by decide⟩ rfl (dl_at t_X2_needNumber 19 rfl)) (dl_at t_X2_needNumber 19 rfl) (cat24 (st := []) (Nat.le_of_ble_eq_true rfl)) (Nat.le_of_ble_eq_true rfl) (Nat.le_of_ble_eq_true rfl) fun h35 E35 => ?_
    refine g_iload_n (pc := 38) X (j := 3) (i := 3) (q := 0) (x := x3_33) rfl rfl (dl_at t_X2_needNumber 20 rfl) ?_
    exact g_iret (pc := 39) X r3_33 rfl rfl (dl_at t_X2_needNumber 21 rfl)
  refine g_aload_n (pc := 24) X (j := 0) (i := 0) (q := 0) (x := a0) rfl rfl (dl_at t_X2_needNumber 12 rfl) ?_
  refine r_callWr (pc := 25) X (fun _ hv => s_X2_broken hk hv) cw_code q1825 q356 (in_Vk X (As := []) kX2 hk (Or.inl q1862) q1824 qs16 cw_code q1825 ⟨by decide, by decide⟩ rfl (dl_at t_X2_needNumber 13 rfl)) (dl_at t_X2_needNumber 13 rfl) (cat24 (st := []) (Nat.le_of_ble_eq_true rfl)) (Nat.le_of_ble_eq_true rfl) (Nat.le_of_ble_eq_true rfl) fun v25_2 h25_2 E25_2 => ?_
  refine g_gd fun p28_2 => ?_
  refine g_athrow (pc := 28) X (Int.ne_of_gt p28_2) (dl_at t_X2_needNumber 14 rfl) ?_
  exact gt_at fun Q hQ => gt_out (Q := Q) X rfl p28_2 (hno _) _ Q rfl hQ
def k_X2_isByte : List (Nat × Instr × Nat) := [(0, .aload_n 0, 1), (1, .getfield 36, 3), (4, .iconst 4, 1), (5, .if_icmp .ne 15, 3), (8, .aload_n 0, 1), (9, .getfield 57, 3), (12, .iload_n 1, 1), (13, .if_icmp .ne 7, 3), (16, .iconst 1, 1), (17, .goto 4, 3), (20, .iconst 0, 1), (21, .ireturn, 1)]
theorem t_X2_isByte : ∀ q ∈ k_X2_isByte, decode cX2_isByte q.1 = .ok q.2 := dl_all (by decide +kernel)
noncomputable def m_X2_isByte (a0 a1 : Int) (h : Hp) : Option (Int) :=
  if (h a0 3) ≠ 4 then (some 0)
  else (if (h a0 7) ≠ a1 then (some 0)
  else (some 1))
theorem s_X2_isByte {l : Launch} [NoTr l] {D : SD} {a0 a1 : Int} {h : Hp} (hk : h a0 (-2) = 32) (r1 : r32 a1) {r : Int} (hm : m_X2_isByte a0 a1 h = some r) : Sim l D yX2_isByte (Cond.code yX2_isByte cX2_isByte 2 (Option.some Jvm.ClassFile.FieldType.boolean)) 0 0 [rv D a0, iv a1] h 3 ((0, r), h) := by
  refine Sim.of (fin := fun (v : Int) => ((0, v), h)) (lsE := [(0, rv D a0), (1, iv a1)]) hm rfl cwS_code (la_r (la_i la_n)) (ll_r (ll_i ll_n)) ?_
  intro p e s m below meth c X hcw hmm hcc hnm hname
  unfold m_X2_isByte
  refine g_aload_n (pc := 0) X (j := 0) (i := 0) (q := 0) (x := a0) rfl rfl (dl_at t_X2_isByte 0 rfl) ?_
  refine r_geti (pc := 1) X fX2_3 hk q420 (dl_at t_X2_isByte 1 rfl) fun g1 => ?_
  refine g_iconst (pc := 4) X (n := 4) (dl_at t_X2_isByte 2 rfl) ?_
  refine g_icmpne (pc := 5) X g1 (r32_c rfl) (off := 15) (tgt := 20) rfl (dl_at t_X2_isByte 3 rfl) (fun _ => ?_) (fun _ => ?_)
  · refine g_iconst (pc := 20) X (n := 0) (dl_at t_X2_isByte 10 rfl) ?_
    exact g_zret (pc := 21) X (Or.inl rfl) rfl rfl (dl_at t_X2_isByte 11 rfl)
  refine g_aload_n (pc := 8) X (j := 0) (i := 0) (q := 0) (x := a0) rfl rfl (dl_at t_X2_isByte 4 rfl) ?_
  refine r_geti (pc := 9) X fX2_7 hk q430 (dl_at t_X2_isByte 5 rfl) fun g9 => ?_
  refine g_iload_n (pc := 12) X (j := 1) (i := 1) (q := 1) (x := a1) rfl rfl (dl_at t_X2_isByte 6 rfl) ?_
  refine g_icmpne (pc := 13) X g9 r1 (off := 7) (tgt := 20) rfl (dl_at t_X2_isByte 7 rfl) (fun _ => ?_) (fun _ => ?_)
  · refine g_iconst (pc := 20) X (n := 0) (dl_at t_X2_isByte 10 rfl) ?_
    exact g_zret (pc := 21) X (Or.inl rfl) rfl rfl (dl_at t_X2_isByte 11 rfl)
  refine g_iconst (pc := 16) X (n := 1) (dl_at t_X2_isByte 8 rfl) ?_
  refine g_goto (pc := 17) X (off := 4) (tgt := 21) rfl (dl_at t_X2_isByte 9 rfl) ?_
  exact g_zret (pc := 21) X (Or.inr rfl) rfl rfl (dl_at t_X2_isByte 11 rfl)
def k_X2_take : List (Nat × Instr × Nat) := [(0, .aload_n 0, 1), (1, .iload_n 1, 1), (2, .invokevirtual 79, 3), (5, .istore_n 2, 1), (6, .iload_n 2, 1), (7, .ifCond .eq 7, 3), (10, .aload_n 0, 1), (11, .invokevirtual 20, 3), (14, .iload_n 2, 1), (15, .ireturn, 1)]
theorem t_X2_take : ∀ q ∈ k_X2_take, decode cX2_take q.1 = .ok q.2 := dl_all (by decide +kernel)
noncomputable def m_X2_take (a0 a1 : Int) (h : Hp) : Option (Int × Hp) :=
  (m_X2_isByte a0 a1 h).bind fun v2 =>
  if v2 = 0 then (some (v2, h))
  else ((m_X2_next a0 h).bind fun h11 =>
  some (v2, h11))
theorem s_X2_take {l : Launch} [NoTr l] {D : SD} {a0 a1 : Int} {h : Hp} (hk : h a0 (-2) = 32) (r1 : r32 a1) {r : Int × Hp} (hm : m_X2_take a0 a1 h = some r) : Sim l D yX2_take (Cond.code yX2_take cX2_take 3 (Option.some Jvm.ClassFile.FieldType.boolean)) 3 111 [rv D a0, iv a1] h 3 ((0, r.1), r.2) := by
  refine Sim.of (fin := fun (v : Int × Hp) => ((0, v.1), v.2)) (lsE := [(0, rv D a0), (1, iv a1)]) hm rfl cwS_code (la_r (la_i la_n)) (ll_r (ll_i ll_n)) ?_
  intro p e s m below meth c X hcw hmm hcc hnm hname
  unfold m_X2_take
  refine g_aload_n (pc := 0) X (j := 0) (i := 0) (q := 0) (x := a0) rfl rfl (dl_at t_X2_take 0 rfl) ?_
  refine g_iload_n (pc := 1) X (j := 1) (i := 1) (q := 1) (x := a1) rfl rfl (dl_at t_X2_take 1 rfl) ?_
  refine r_callRz (pc := 2) X (fun _ hv => s_X2_isByte hk r1 hv) cw_code q1871 q356 (in_Vk X (As := [iv a1]) kX2 hk (Or.inl q1868) q1870 qs19 cw_code q1871 ⟨by decide, by decide⟩ rfl (dl_at t_X2_take 2 rfl)) (dl_at t_X2_take 2 rfl) (cat24 (st := []) (Nat.le_of_ble_eq_true rfl)) (Nat.le_of_ble_eq_true rfl) (Nat.le_of_ble_eq_true rfl) fun v2 g2 => ?_
  refine g_istore_n (pc := 5) X (j := 2) (i := 2) (x := v2) (rest := [(0, rv D a0)]) rfl (Nat.le_of_ble_eq_true rfl) [0] rfl rfl (dl_at t_X2_take 3 rfl) ?_
  refine g_iload_n (pc := 6) X (j := 2) (i := 2) (q := 0) (x := v2) rfl rfl (dl_at t_X2_take 4 rfl) ?_
  refine g_ifeq (pc := 7) X (r32_z g2) (off := 7) (tgt := 14) rfl (dl_at t_X2_take 5 rfl) (fun _ => ?_) (fun _ => ?_)
  · refine g_iload_n (pc := 14) X (j := 2) (i := 2) (q := 0) (x := v2) rfl rfl (dl_at t_X2_take 8 rfl) ?_
    exact g_zret (pc := 15) X g2 rfl rfl (dl_at t_X2_take 9 rfl)
  refine g_aload_n (pc := 10) X (j := 0) (i := 0) (q := 1) (x := a0) rfl rfl (dl_at t_X2_take 6 rfl) ?_
  refine r_callV (pc := 11) X (fun _ hv => s_X2_next hk hv) cw_code q1725 q356 (in_Vk X (As := []) kX2 hk (Or.inl q1722) q1724 qs8 cw_code q1725 ⟨by decide, by decide⟩ rfl (dl_at t_X2_take 7 rfl)) (dl_at t_X2_take 7 rfl) (cat24 (st := []) (Nat.le_of_ble_eq_true rfl)) (Nat.le_of_ble_eq_true rfl) (Nat.le_of_ble_eq_true rfl) fun h11 E11 => ?_
  refine g_iload_n (pc := 14) X (j := 2) (i := 2) (q := 0) (x := v2) rfl rfl (dl_at t_X2_take 8 rfl) ?_
  exact g_zret (pc := 15) X g2 rfl rfl (dl_at t_X2_take 9 rfl)
def k_X2_need : List (Nat × Instr × Nat) := [(0, .aload_n 0, 1), (1, .iload_n 1, 1), (2, .invokevirtual 82, 3), (5, .ifCond .ne 8, 3), (8, .aload_n 0, 1), (9, .invokevirtual 85, 3), (12, .athrow, 1), (13, .return_, 1)]
theorem t_X2_need : ∀ q ∈ k_X2_need, decode cX2_need q.1 = .ok q.2 := dl_all (by decide +kernel)
noncomputable def m_X2_need (a0 a1 : Int) (h : Hp) : Option ((Int × Int) × Hp) :=
  bW (m_X2_take a0 a1 h) fun v2 h2 =>
  if v2 ≠ 0 then (some ((0, 0), h2))
  else (bW (m_X2_broken a0 h2) fun v9 h9 =>
  gd (0 < v9) (some ((1, v9), h9)))
theorem s_X2_need {l : Launch} [NoTr l] {D : SD} {a0 a1 : Int} {h : Hp} (hk : h a0 (-2) = 32) (r1 : r32 a1) {r : (Int × Int) × Hp} (hm : m_X2_need a0 a1 h = some r) : Sim l D yX2_need (Cond.code yX2_need cX2_need 2 (Option.none : Option Jvm.ClassFile.FieldType)) 10 373 [rv D a0, iv a1] h 0 r := by
  refine Sim.of (fin := fun (v : (Int × Int) × Hp) => v) (lsE := [(0, rv D a0), (1, iv a1)]) hm rfl cwS_code (la_r (la_i la_n)) (ll_r (ll_i ll_n)) ?_
  intro p e s m below meth c X hcw hmm hcc hnm hname
  have hno := noh hcw hnm hmm hcc
  unfold m_X2_need
  refine g_aload_n (pc := 0) X (j := 0) (i := 0) (q := 0) (x := a0) rfl rfl (dl_at t_X2_need 0 rfl) ?_
  refine g_iload_n (pc := 1) X (j := 1) (i := 1) (q := 1) (x := a1) rfl rfl (dl_at t_X2_need 1 rfl) ?_
  refine r_callWz (pc := 2) X (fun _ hv => s_X2_take hk r1 hv) cw_code q1867 q356 (in_Vk X (As := [iv a1]) kX2 hk (Or.inl q1877) q1866 qs18 cw_code q1867 ⟨by decide, by decide⟩ rfl (dl_at t_X2_need 2 rfl)) (dl_at t_X2_need 2 rfl) (cat24 (st := []) (Nat.le_of_ble_eq_true rfl)) (Nat.le_of_ble_eq_true rfl) (Nat.le_of_ble_eq_true rfl) fun v2 h2 g2 E2 => ?_
  refine g_ifne (pc := 5) X (r32_z g2) (off := 8) (tgt := 13) rfl (dl_at t_X2_need 3 rfl) (fun _ => ?_) (fun _ => ?_)
  · exact g_vret (pc := 13) X (v := 0) rfl rfl (dl_at t_X2_need 7 rfl)
  refine g_aload_n (pc := 8) X (j := 0) (i := 0) (q := 0) (x := a0) rfl rfl (dl_at t_X2_need 4 rfl) ?_
  have k9 := kx E2 (by decide) hk
  refine r_callWr (pc := 9) X (fun _ hv => s_X2_broken k9 hv) cw_code q1825 q356 (in_Vk X (As := []) kX2 k9 (Or.inl q1862) q1824 qs16 cw_code q1825 ⟨by decide, by decide⟩ rfl (dl_at t_X2_need 5 rfl)) (dl_at t_X2_need 5 rfl) (cat24 (st := []) (Nat.le_of_ble_eq_true rfl)) (Nat.le_of_ble_eq_true rfl) (Nat.le_of_ble_eq_true rfl) fun v9 h9 E9 => ?_
  refine g_gd fun p12 => ?_
  refine g_athrow (pc := 12) X (Int.ne_of_gt p12) (dl_at t_X2_need 6 rfl) ?_
  exact gt_at fun Q hQ => gt_out (Q := Q) X rfl p12 (hno _) _ Q rfl hQ
def k_X8_read : List (Nat × Instr × Nat) := [(0, .aload_n 0, 1), (1, .invokevirtual 25, 3), (4, .iconst 0, 1), (5, .istore_n 2, 1), (6, .iconst 0, 1), (7, .istore_n 3, 1), (8, .aload_n 1, 1), (9, .invokevirtual 32, 3), (12, .ifCond .ne 290, 3), (15, .aload_n 1, 1), (16, .ldc 38, 2), (18, .invokevirtual 40, 3), (21, .ifCond .eq 59, 3), (24, .aload_n 1, 1), (25, .invokevirtual 44, 3), (28, .aload_n 1, 1), (29, .invokestatic 47, 3), (32, .istore 4, 2), (34, .aload_n 0, 1), (35, .getfield 9, 3), (38, .iload 4, 2), (40, .aload_n 1, 1), (41, .iconst 0, 1), (42, .sipush 5000, 3), (45, .invokevirtual 51, 3), (48, .iastore, 1), (49, .aload_n 0, 1), (50, .getfield 15, 3), (53, .iload 4, 2), (55, .baload, 1), (56, .ifCond .ne 13, 3), (59, .aload_n 0, 1), (60, .dup, 1), (61, .getfield 28, 3), (64, .iconst 1, 1), (65, .iadd, 1), (66, .putfield 28, 3), (69, .aload_n 0, 1), (70, .getfield 15, 3), (73, .iload 4, 2), (75, .iconst 1, 1), (76, .bastore, 1), (77, .goto 216, 3), (80, .aload_n 1, 1), (81, .ldc 55, 2), (83, .invokevirtual 40, 3), (86, .ifCond .eq 112, 3), (89, .aload_n 1, 1), (90, .invokevirtual 44, 3), (93, .aload_n 1, 1), (94, .invokestatic 47, 3), (97, .istore 4, 2), (99, .sipush 128, 3), (102, .iload 4, 2), (104, .imul, 1), (105, .aload_n 1, 1), (106, .invokestatic 57, 3), (109, .iadd, 1), (110, .istore 5, 2), (112, .aload_n 0, 1), (113, .getfield 19, 3), (116, .iload 5, 2), (118, .iaload, 1), (119, .sipush 1000, 3), (122, .if_icmp .ne 15, 3), (125, .iload_n 2, 1), (126, .sipush 200, 3), (129, .if_icmp .ne 8, 3), (132, .aload_n 1, 1), (133, .invokevirtual 60, 3), (136, .athrow, 1), (137, .aload_n 1, 1), (138, .invokevirtual 44, 3), (141, .aload_n 1, 1), (142, .bipush 45, 2), (144, .invokevirtual 64, 3), (147, .istore 6, 2), (149, .aload_n 1, 1), (150, .iconst 0, 1), (151, .sipush 500, 3), (154, .invokevirtual 51, 3), (157, .istore 7, 2), (159, .aload_n 0, 1), (160, .getfield 19, 3), (163, .iload 5, 2), (165, .iaload, 1), (166, .sipush 1000, 3), (169, .if_icmp .ne 6, 3), (172, .iinc 2 1, 3), (175, .aload_n 0, 1), (176, .getfield 19, 3), (179, .iload 5, 2), (181, .iload 6, 2), (183, .ifCond .eq 9, 3), (186, .iload 7, 2), (188, .ineg, 1), (189, .goto 5, 3), (192, .iload 7, 2), (194, .iastore, 1), (195, .goto 98, 3), (198, .aload_n 1, 1), (199, .ldc 68, 2), (201, .invokevirtual 40, 3), (204, .ifCond .eq 84, 3), (207, .aload_n 1, 1), (208, .invokevirtual 44, 3), (211, .aload_n 1, 1), (212, .invokestatic 47, 3), (215, .istore 4, 2), (217, .sipush 128, 3), (220, .iload 4, 2), (222, .imul, 1), (223, .aload_n 1, 1), (224, .invokestatic 57, 3), (227, .iadd, 1), (228, .istore 5, 2), (230, .aload_n 0, 1), (231, .getfield 22, 3), (234, .iload 5, 2), (236, .iaload, 1), (237, .ifCond .ne 14, 3), (240, .iload_n 3, 1), (241, .bipush 60, 2), (243, .if_icmp .ne 8, 3), (246, .aload_n 1, 1), (247, .invokevirtual 60, 3), (250, .athrow, 1), (251, .aload_n 1, 1), (252, .invokevirtual 44, 3), (255, .aload_n 0, 1), (256, .getfield 22, 3), (259, .iload 5, 2), (261, .iaload, 1), (262, .ifCond .ne 6, 3), (265, .iinc 3 1, 3), (268, .aload_n 0, 1), (269, .getfield 22, 3), (272, .iload 5, 2), (274, .iconst 1, 1), (275, .aload_n 1, 1), (276, .iconst 0, 1), (277, .sipush 5000, 3), (280, .invokevirtual 51, 3), (283, .iadd, 1), (284, .iastore, 1), (285, .goto 8, 3), (288, .aload_n 1, 1), (289, .invokevirtual 60, 3), (292, .athrow, 1), (293, .aload_n 1, 1), (294, .bipush 59, 2), (296, .invokevirtual 70, 3), (299, .goto (-291), 3), (302, .aload_n 0, 1), (303, .dup, 1), (304, .getfield 28, 3), (307, .iload_n 2, 1), (308, .iload_n 3, 1), (309, .iadd, 1), (310, .iadd, 1), (311, .putfield 28, 3), (314, .return_, 1)]
theorem t_X8_read : ∀ q ∈ k_X8_read, decode cX8_read q.1 = .ok q.2 := dl_all (by decide +kernel)
noncomputable def m_X8_read_j293 (a1 x2_293 x3_293 : Int) (h_293 : Hp) : Option ((Int × Int × Hp) ⊕ (((Int × Int) × Hp))) :=
  bT (m_X2_need a1 59 h_293) (fun _ h296 =>
  some (.inl (x2_293, x3_293, h296))) (fun a_ h_ => some (.inr ((1, a_), h_)))
noncomputable def m_X8_read_j268 (a0 a1 x2_8 x5_228 x3_268 : Int) (h252 : Hp) : Option ((Int × Int × Hp) ⊕ (((Int × Int) × Hp))) :=
  bT (m_X2_needNumber a1 0 5000 h252) (fun v280 h280 =>
  pt h280 (h252 a0 3) x5_228 (w32 (1 + v280)) fun h284 =>
  m_X8_read_j293 a1 x2_8 x3_268 h284) (fun a_ h_ => some (.inr ((1, a_), h_)))
noncomputable def m_X8_read_j251 (x5_228 x3_8 a0 a1 x2_8 : Int) (h224 : Hp) : Option ((Int × Int × Hp) ⊕ (((Int × Int) × Hp))) :=
  (m_X2_next a1 h224).bind fun h252 =>
  gd (h252 (h252 a0 3) (-2) % 16 = 1 ∧ (0 : Int) ≤ x5_228 ∧ x5_228 < h252 (h252 a0 3) (-1)) (if (h252 (h252 a0 3) x5_228) ≠ 0 then (m_X8_read_j268 a0 a1 x2_8 x5_228 x3_8 h252)
  else (lt_ (w32 (x3_8 + 1)) fun x3_265 =>
  m_X8_read_j268 a0 a1 x2_8 x5_228 x3_265 h252))
noncomputable def m_X8_read_j194 (a1 x2_175 x3_8 x5_110 s0_194 s2_194 : Int) (h154 : Hp) : Option ((Int × Int × Hp) ⊕ (((Int × Int) × Hp))) :=
  gd (h154 s0_194 (-2) % 16 = 1 ∧ (0 : Int) ≤ x5_110 ∧ x5_110 < h154 s0_194 (-1)) (pt h154 s0_194 x5_110 s2_194 fun h194 =>
  m_X8_read_j293 a1 x2_175 x3_8 h194)
noncomputable def m_X8_read_j175 (v154 v144 x5_110 a0 a1 x3_8 x2_175 : Int) (h154 : Hp) : Option ((Int × Int × Hp) ⊕ (((Int × Int) × Hp))) :=
  if v144 = 0 then (m_X8_read_j194 a1 x2_175 x3_8 x5_110 (h154 a0 2) v154 h154)
  else (m_X8_read_j194 a1 x2_175 x3_8 x5_110 (h154 a0 2) (w32 (-v154)) h154)
noncomputable def m_X8_read_j137 (x5_110 x3_8 a0 a1 x2_8 : Int) (h106 : Hp) : Option ((Int × Int × Hp) ⊕ (((Int × Int) × Hp))) :=
  (m_X2_next a1 h106).bind fun h138 =>
  bW (m_X2_take a1 45 h138) fun v144 h144 =>
  bT (m_X2_needNumber a1 0 500 h144) (fun v154 h154 =>
  gd (h154 (h154 a0 2) (-2) % 16 = 1 ∧ (0 : Int) ≤ x5_110 ∧ x5_110 < h154 (h154 a0 2) (-1)) (if (h154 (h154 a0 2) x5_110) ≠ 1000 then (m_X8_read_j175 v154 v144 x5_110 a0 a1 x3_8 x2_8 h154)
  else (lt_ (w32 (x2_8 + 1)) fun x2_172 =>
  m_X8_read_j175 v154 v144 x5_110 a0 a1 x3_8 x2_172 h154))) (fun a_ h_ => some (.inr ((1, a_), h_)))
noncomputable def m_X8_read_j69 (v29 x3_8 a0 a1 x2_8 : Int) (h_69 : Hp) : Option ((Int × Int × Hp) ⊕ (((Int × Int) × Hp))) :=
  gd (h_69 (h_69 a0 1) (-2) % 16 = 3 ∧ (0 : Int) ≤ v29 ∧ v29 < h_69 (h_69 a0 1) (-1)) (pt h_69 (h_69 a0 1) v29 1 fun h76 =>
  m_X8_read_j293 a1 x2_8 x3_8 h76)
noncomputable def m_X8_read_l8 (a0 a1 x2_8 x3_8 : Int) (h_8 : Hp) : Option ((Int × Int × Hp) ⊕ (((Int × Int) × Hp))) :=
  gd (h_8 a1 (-2) = 32) ((m_X2_isEnd a1 h_8).bind fun v9 =>
  if v9 ≠ 0 then (pt h_8 a0 4 (w32 ((h_8 a0 4) + (w32 (x2_8 + x3_8)))) fun h311 =>
  some (.inr ((0, 0), h311)))
  else ((m_X2_isName a1 (-14) h_8).bind fun v18 =>
  if v18 = 0 then ((m_X2_isName a1 (-15) h_8).bind fun v83 =>
  if v83 = 0 then ((m_X2_isName a1 (-16) h_8).bind fun v201 =>
  if v201 = 0 then (bW (m_X2_broken a1 h_8) fun v289 h289 =>
  gd (0 < v289) (some (.inr ((1, v289), h289))))
  else ((m_X2_next a1 h_8).bind fun h208 =>
  bT (m_X8_one a1 h208) (fun v212 h212 =>
  bT (m_X8_two a1 h212) (fun v224 h224 =>
  lt_ (w32 ((w32 (128 * v212)) + v224)) fun x5_228 =>
  gd (h224 (h224 a0 3) (-2) % 16 = 1 ∧ (0 : Int) ≤ x5_228 ∧ x5_228 < h224 (h224 a0 3) (-1)) (if (h224 (h224 a0 3) x5_228) ≠ 0 then (m_X8_read_j251 x5_228 x3_8 a0 a1 x2_8 h224)
  else (if x3_8 ≠ 60 then (m_X8_read_j251 x5_228 x3_8 a0 a1 x2_8 h224)
  else (bW (m_X2_broken a1 h224) fun v247 h247 =>
  gd (0 < v247) (some (.inr ((1, v247), h247))))))) (fun a_ h_ => some (.inr ((1, a_), h_)))) (fun a_ h_ => some (.inr ((1, a_), h_)))))
  else ((m_X2_next a1 h_8).bind fun h90 =>
  bT (m_X8_one a1 h90) (fun v94 h94 =>
  bT (m_X8_two a1 h94) (fun v106 h106 =>
  lt_ (w32 ((w32 (128 * v94)) + v106)) fun x5_110 =>
  gd (h106 (h106 a0 2) (-2) % 16 = 1 ∧ (0 : Int) ≤ x5_110 ∧ x5_110 < h106 (h106 a0 2) (-1)) (if (h106 (h106 a0 2) x5_110) ≠ 1000 then (m_X8_read_j137 x5_110 x3_8 a0 a1 x2_8 h106)
  else (if x2_8 ≠ 200 then (m_X8_read_j137 x5_110 x3_8 a0 a1 x2_8 h106)
  else (bW (m_X2_broken a1 h106) fun v133 h133 =>
  gd (0 < v133) (some (.inr ((1, v133), h133))))))) (fun a_ h_ => some (.inr ((1, a_), h_)))) (fun a_ h_ => some (.inr ((1, a_), h_)))))
  else ((m_X2_next a1 h_8).bind fun h25 =>
  bT (m_X8_one a1 h25) (fun v29 h29 =>
  bT (m_X2_needNumber a1 0 5000 h29) (fun v45 h45 =>
  gd (h45 (h29 a0 0) (-2) % 16 = 1 ∧ (0 : Int) ≤ v29 ∧ v29 < h45 (h29 a0 0) (-1)) (pt h45 (h29 a0 0) v29 v45 fun h48 =>
  gd (h48 (h48 a0 1) (-2) % 16 = 3 ∧ (0 : Int) ≤ v29 ∧ v29 < h48 (h48 a0 1) (-1)) (if (h48 (h48 a0 1) v29) ≠ 0 then (m_X8_read_j69 v29 x3_8 a0 a1 x2_8 h48)
  else (pt h48 a0 4 (w32 ((h48 a0 4) + 1)) fun h66 =>
  m_X8_read_j69 v29 x3_8 a0 a1 x2_8 h66)))) (fun a_ h_ => some (.inr ((1, a_), h_)))) (fun a_ h_ => some (.inr ((1, a_), h_))))))
noncomputable def m_X8_read (a0 a1 : Int) (h : Hp) : Option ((Int × Int) × Hp) :=
  (m_X8_clear a0 h).bind fun h1 =>
  lt_ 0 fun x2_5 =>
  lt_ 0 fun x3_7 =>
  (lp (fun (q : Int × Int × Hp) => m_X8_read_l8 a0 a1 q.1 q.2.1 q.2.2) (x2_5, x3_7, h1)).bind (fun (x : (Int × Int) × Hp) => some x)
theorem s_X8_read {l : Launch} [NoTr l] {D : SD} {a0 a1 : Int} {h : Hp} (hk : h a0 (-2) = 128) {r : (Int × Int) × Hp} (hm : m_X8_read a0 a1 h = some r) : Sim l D yX8_read (Cond.code yX8_read cX8_read 8 (Option.none : Option Jvm.ClassFile.FieldType)) 12 446 [rv D a0, rv D a1] h 0 r := by
  refine Sim.of (fin := fun (v : (Int × Int) × Hp) => v) (lsE := [(0, rv D a0), (1, rv D a1)]) hm rfl cwS_code (la_r (la_r la_n)) (ll_r (ll_r ll_n)) ?_
  intro p e s m below meth c X hcw hmm hcc hnm hname
  have hno := noh hcw hnm hmm hcc
  unfold m_X8_read
  refine g_aload_n (pc := 0) X (j := 0) (i := 0) (q := 0) (x := a0) rfl rfl (dl_at t_X8_read 0 rfl) ?_
  refine r_callV (pc := 1) X (fun _ hv => s_X8_clear hk hv) cw_code q865 q362 (in_Vk X (As := []) kX8 hk (Or.inl q862) q864 qs2 cw_code q865 ⟨by decide, by decide⟩ rfl (dl_at t_X8_read 1 rfl)) (dl_at t_X8_read 1 rfl) (cat24 (st := []) (Nat.le_of_ble_eq_true rfl)) (Nat.le_of_ble_eq_true rfl) (Nat.le_of_ble_eq_true rfl) fun h1 E1 => ?_
  refine g_iconst (pc := 4) X (n := 0) (dl_at t_X8_read 2 rfl) ?_
  refine g_ltz (Or.inl rfl) fun x2_5 r2_5 => ?_
  refine g_istore_nN (pc := 5) X (j := 2) (i := 2) (x := x2_5) (b := 1) (w := rv D a1) (rest := [(0, rv D a0)]) rfl (Nat.le_of_ble_eq_true rfl) [1, 0] rfl (by decide) rv_cat rfl (dl_at t_X8_read 3 rfl) ?_
  refine g_iconst (pc := 6) X (n := 0) (dl_at t_X8_read 4 rfl) ?_
  refine g_ltz (Or.inl rfl) fun x3_7 r3_7 => ?_
  refine g_istore_nN (pc := 7) X (j := 3) (i := 3) (x := x3_7) (b := 2) (w := iv x2_5) (rest := [(1, rv D a1), (0, rv D a0)]) rfl (Nat.le_of_ble_eq_true rfl) [0, 1, 2] rfl (by decide) rfl rfl (dl_at t_X8_read 5 rfl) ?_
  refine g_ls (ls2 := [(0, rv D a0), (1, rv D a1), (2, iv x2_5), (3, iv x3_7)]) [3, 2, 1, 0] rfl ?_
  refine g_loop0F (fun (q : Int × Int × Hp) => [(0, rv D a0), (1, rv D a1), (2, iv q.1), (3, iv q.2.1)]) (fun (q : Int × Int × Hp) => q.2.2) (fun (q : Int × Int × Hp) => r32 q.1 ∧ r32 q.2.1 ∧ Ext h1 q.2.2) (x2_5, x3_7, h1) ⟨(r32_z r2_5), (r32_z r3_7), (Ext.refl _)⟩ ?_ (fun _ => rfl)
  · rintro ⟨x2_8, x3_8, h_8⟩ ⟨r2_8, r3_8, E_8⟩
    try dsimp only
    unfold m_X8_read_l8
    refine g_aload_n (pc := 8) X (j := 1) (i := 1) (q := 1) (x := a1) rfl rfl (dl_at t_X8_read 6 rfl) ?_
    refine g_gd fun k9 => ?_
    refine r_callRz (pc := 9) X (fun _ hv => s_X2_isEnd k9 hv) cw_code q1761 q356 (in_Vk X (As := []) kX2 k9 (Or.inr ⟨_, nw_in q1758 rfl⟩) q1760 qs14 cw_code q1761 ⟨by decide, by decide⟩ rfl (dl_at t_X8_read 7 rfl)) (dl_at t_X8_read 7 rfl) (cat24 (st := []) (Nat.le_of_ble_eq_true rfl)) (Nat.le_of_ble_eq_true rfl) (Nat.le_of_ble_eq_true rfl) fun v9 g9 => ?_
    refine g_ifne (pc := 12) X (r32_z g9) (off := 290) (tgt := 302) rfl (dl_at t_X8_read 8 rfl) (fun _ => ?_) (fun _ => ?_)
    · refine g_aload_n (pc := 302) X (j := 0) (i := 0) (q := 0) (x := a0) rfl rfl (dl_at t_X8_read 153 rfl) ?_
      refine g_dup (pc := 303) X rv_cat (dl_at t_X8_read 154 rfl) ?_
      have k304 := kx (E1.trans E_8) (by decide) hk
      refine r_geti (pc := 304) X fX8_4 k304 q870 (dl_at t_X8_read 155 rfl) fun g304 => ?_
      refine g_iload_n (pc := 307) X (j := 2) (i := 2) (q := 2) (x := x2_8) rfl rfl (dl_at t_X8_read 156 rfl) ?_
      refine g_iload_n (pc := 308) X (j := 3) (i := 3) (q := 3) (x := x3_8) rfl rfl (dl_at t_X8_read 157 rfl) ?_
      refine g_iadd (pc := 309) X r2_8 r3_8 (dl_at t_X8_read 158 rfl) ?_
      refine g_iadd (pc := 310) X g304 (r32_w _) (dl_at t_X8_read 159 rfl) ?_
      refine r_puti (pc := 311) X fX8_4 k304 q870 rfl (dl_at t_X8_read 160 rfl) (r32_w _) (fun h311 E311 => ?_)
      exact g_at fun Q hQ => (g_vret (pc := 314) X (v := 0) rfl rfl (dl_at t_X8_read 161 rfl)) _ Q rfl hQ
    refine g_aload_n (pc := 15) X (j := 1) (i := 1) (q := 1) (x := a1) rfl rfl (dl_at t_X8_read 9 rfl) ?_
    refine g_ldcS (pc := 16) X (index := 38) (id := (-14)) 12 rfl rfl (dl_at t_X8_read 10 rfl) ?_
    refine r_callRz (pc := 18) X (fun _ hv => s_X2_isName k9 hv) cw_code q1766 q356 (in_Vk X (As := [rv D (-14)]) kX2 k9 (Or.inr ⟨_, nw_in q1763 rfl⟩) q1765 qs15 cw_code q1766 ⟨by decide, by decide⟩ rfl (dl_at t_X8_read 11 rfl)) (dl_at t_X8_read 11 rfl) (cat24 (st := []) (Nat.le_of_ble_eq_true rfl)) (Nat.le_of_ble_eq_true rfl) (Nat.le_of_ble_eq_true rfl) fun v18 g18 => ?_
    refine g_join (γ := Int × Int × Hp) (fun q => r32 q.1 ∧ r32 q.2.1 ∧ Ext h_8 q.2.2) 293 (fun q => [(0, rv D a0), (1, rv D a1), (2, iv q.1), (3, iv q.2.1)]) (fun q => []) (fun q => q.2.2) (fun q => m_X8_read_j293 a1 q.1 q.2.1 q.2.2) ?_ ?_
    · rintro ⟨x2_293, x3_293, h_293⟩ ⟨r2_293, r3_293, E_293⟩
      try dsimp only
      unfold m_X8_read_j293
      refine g_aload_n (pc := 293) X (j := 1) (i := 1) (q := 1) (x := a1) rfl rfl (dl_at t_X8_read 149 rfl) ?_
      refine g_bipush (pc := 294) X (n := 59) rfl (dl_at t_X8_read 150 rfl) ?_
      have k296 := kx E_293 (by decide) k9
      refine r_callTv (pc := 296) X (fun _ hv => s_X2_need k296 (r32_c rfl) hv) cw_code q1876 q356 (in_Vk X (As := [iv 59]) kX2 k296 (Or.inr ⟨_, nw_in q1873 rfl⟩) q1875 qs20 cw_code q1876 ⟨by decide, by decide⟩ rfl (dl_at t_X8_read 151 rfl)) (dl_at t_X8_read 151 rfl) (cat24 (st := []) (Nat.le_of_ble_eq_true rfl)) (Nat.le_of_ble_eq_true rfl) (Nat.le_of_ble_eq_true rfl) (fun v296 h296 E296 => ?_) (fun _ _ ha _ => gt_at fun Q hQ => gt_out (Q := Q) X rfl ha (hno _) _ Q rfl hQ)
      refine g_goto (pc := 299) X (off := (-291)) (tgt := 8) rfl (dl_at t_X8_read 152 rfl) ?_
      exact g_at fun Q hQ => hQ ⟨r2_293, r3_293, (E_8.trans (E_293.trans E296))⟩
    intro J293
    refine g_ifeq (pc := 21) X (r32_z g18) (off := 59) (tgt := 80) rfl (dl_at t_X8_read 12 rfl) (fun _ => ?_) (fun _ => ?_)
    · refine g_aload_n (pc := 80) X (j := 1) (i := 1) (q := 1) (x := a1) rfl rfl (dl_at t_X8_read 43 rfl) ?_
      refine g_ldcS (pc := 81) X (index := 55) (id := (-15)) 13 rfl rfl (dl_at t_X8_read 44 rfl) ?_
      refine r_callRz (pc := 83) X (fun _ hv => s_X2_isName k9 hv) cw_code q1766 q356 (in_Vk X (As := [rv D (-15)]) kX2 k9 (Or.inr ⟨_, nw_in q1763 rfl⟩) q1765 qs15 cw_code q1766 ⟨by decide, by decide⟩ rfl (dl_at t_X8_read 45 rfl)) (dl_at t_X8_read 45 rfl) (cat24 (st := []) (Nat.le_of_ble_eq_true rfl)) (Nat.le_of_ble_eq_true rfl) (Nat.le_of_ble_eq_true rfl) fun v83 g83 => ?_
      refine g_ifeq (pc := 86) X (r32_z g83) (off := 112) (tgt := 198) rfl (dl_at t_X8_read 46 rfl) (fun _ => ?_) (fun _ => ?_)
      · refine g_aload_n (pc := 198) X (j := 1) (i := 1) (q := 1) (x := a1) rfl rfl (dl_at t_X8_read 100 rfl) ?_
        refine g_ldcS (pc := 199) X (index := 68) (id := (-16)) 14 rfl rfl (dl_at t_X8_read 101 rfl) ?_
        refine r_callRz (pc := 201) X (fun _ hv => s_X2_isName k9 hv) cw_code q1766 q356 (in_Vk X (As := [rv D (-16)]) kX2 k9 (Or.inr ⟨_, nw_in q1763 rfl⟩) q1765 qs15 cw_code q1766 ⟨by decide, by decide⟩ rfl (dl_at t_X8_read 102 rfl)) (dl_at t_X8_read 102 rfl) (cat24 (st := []) (Nat.le_of_ble_eq_true rfl)) (Nat.le_of_ble_eq_true rfl) (Nat.le_of_ble_eq_true rfl) fun v201 g201 => ?_
        refine g_ifeq (pc := 204) X (r32_z g201) (off := 84) (tgt := 288) rfl (dl_at t_X8_read 103 rfl) (fun _ => ?_) (fun _ => ?_)
        · refine g_aload_n (pc := 288) X (j := 1) (i := 1) (q := 1) (x := a1) rfl rfl (dl_at t_X8_read 146 rfl) ?_
          refine r_callWr (pc := 289) X (fun _ hv => s_X2_broken k9 hv) cw_code q1825 q356 (in_Vk X (As := []) kX2 k9 (Or.inr ⟨_, nw_in q1822 rfl⟩) q1824 qs16 cw_code q1825 ⟨by decide, by decide⟩ rfl (dl_at t_X8_read 147 rfl)) (dl_at t_X8_read 147 rfl) (cat24 (st := []) (Nat.le_of_ble_eq_true rfl)) (Nat.le_of_ble_eq_true rfl) (Nat.le_of_ble_eq_true rfl) fun v289 h289 E289 => ?_
          refine g_gd fun p292 => ?_
          refine g_athrow (pc := 292) X (Int.ne_of_gt p292) (dl_at t_X8_read 148 rfl) ?_
          exact gt_at fun Q hQ => gt_out (Q := Q) X rfl p292 (hno _) _ Q rfl hQ
        refine g_aload_n (pc := 207) X (j := 1) (i := 1) (q := 1) (x := a1) rfl rfl (dl_at t_X8_read 104 rfl) ?_
        refine r_callV (pc := 208) X (fun _ hv => s_X2_next k9 hv) cw_code q1725 q356 (in_Vk X (As := []) kX2 k9 (Or.inr ⟨_, nw_in q1815 rfl⟩) q1724 qs8 cw_code q1725 ⟨by decide, by decide⟩ rfl (dl_at t_X8_read 105 rfl)) (dl_at t_X8_read 105 rfl) (cat24 (st := []) (Nat.le_of_ble_eq_true rfl)) (Nat.le_of_ble_eq_true rfl) (Nat.le_of_ble_eq_true rfl) fun h208 E208 => ?_
        refine g_aload_n (pc := 211) X (j := 1) (i := 1) (q := 1) (x := a1) rfl rfl (dl_at t_X8_read 106 rfl) ?_
        refine r_callTi (pc := 212) X (fun _ hv => s_X8_one hv) cw_code q1818 q362 (in_Sc X (As := [rv D a1]) (Or.inl q1816) q1817 q362 q1818 ⟨by decide, by decide⟩ rfl (dl_at t_X8_read 107 rfl)) (dl_at t_X8_read 107 rfl) (cat24 (st := []) (Nat.le_of_ble_eq_true rfl)) (Nat.le_of_ble_eq_true rfl) (Nat.le_of_ble_eq_true rfl) (fun v212 h212 g212 E212 => ?_) (fun _ _ ha _ => gt_at fun Q hQ => gt_out (Q := Q) X rfl ha (hno _) _ Q rfl hQ)
        refine g_istoreN (pc := 215) X (i := 4) (x := v212) (b := 3) (w := iv x3_8) (rest := [(0, rv D a0), (1, rv D a1), (2, iv x2_8)]) (Nat.le_of_ble_eq_true rfl) [3, 0, 1, 2] rfl (by decide) rfl rfl (dl_at t_X8_read 108 rfl) ?_
        refine g_sipush (pc := 217) X (n := 128) rfl (dl_at t_X8_read 109 rfl) ?_
        refine g_iload (pc := 220) X (i := 4) (q := 0) (x := v212) rfl (dl_at t_X8_read 110 rfl) ?_
        refine g_imul (pc := 222) X (r32_c rfl) g212 (dl_at t_X8_read 111 rfl) ?_
        refine g_aload_n (pc := 223) X (j := 1) (i := 1) (q := 3) (x := a1) rfl rfl (dl_at t_X8_read 112 rfl) ?_
        refine r_callTi (pc := 224) X (fun _ hv => s_X8_two hv) cw_code q1821 q362 (in_Sc X (As := [rv D a1]) (Or.inl q1819) q1820 q362 q1821 ⟨by decide, by decide⟩ rfl (dl_at t_X8_read 113 rfl)) (dl_at t_X8_read 113 rfl) (cat24 (st := [iv (w32 (128 * v212))]) (Nat.le_of_ble_eq_true rfl)) (Nat.le_of_ble_eq_true rfl) (Nat.le_of_ble_eq_true rfl) (fun v224 h224 g224 E224 => ?_) (fun _ _ ha _ => gt_at fun Q hQ => gt_out (Q := Q) X rfl ha (hno _) _ Q rfl hQ)
        refine g_iadd (pc := 227) X (r32_w _) g224 (dl_at t_X8_read 114 rfl) ?_
        refine g_lti (r32_w _) fun x5_228 r5_228 => ?_
        refine g_istore (pc := 228) X (i := 5) (x := x5_228) (rest := [(3, iv x3_8), (0, rv D a0), (1, rv D a1), (2, iv x2_8)]) (Nat.le_of_ble_eq_true rfl) [1, 2, 3, 4] rfl rfl (dl_at t_X8_read 115 rfl) ?_
        refine g_aload_n (pc := 230) X (j := 0) (i := 0) (q := 2) (x := a0) rfl rfl (dl_at t_X8_read 116 rfl) ?_
        have k231 := kx (E1.trans (E_8.trans (E208.trans (E212.trans E224)))) (by decide) hk
        refine r_getr (pc := 231) X fX8_3 k231 q869 (dl_at t_X8_read 117 rfl) ?_
        refine g_iload (pc := 234) X (i := 5) (q := 0) (x := x5_228) rfl (dl_at t_X8_read 118 rfl) ?_
        refine g_gd fun k236 => ?_
        refine g_iald (pc := 236) X r5_228 k236 (dl_at t_X8_read 119 rfl) fun g236 => ?_
        refine g_join (γ := Unit) (fun q => True) 251 (fun q => [(0, rv D a0), (1, rv D a1), (2, iv x2_8), (3, iv x3_8), (5, iv x5_228)]) (fun q => []) (fun q => h224) (fun q => m_X8_read_j251 x5_228 x3_8 a0 a1 x2_8 h224) ?_ ?_
        · rintro _ _
          try dsimp only
          unfold m_X8_read_j251
          refine g_aload_n (pc := 251) X (j := 1) (i := 1) (q := 1) (x := a1) rfl rfl (dl_at t_X8_read 127 rfl) ?_
          have k252 := kx (E208.trans (E212.trans E224)) (by decide) k9
          refine r_callV (pc := 252) X (fun _ hv => s_X2_next k252 hv) cw_code q1725 q356 (in_Vk X (As := []) kX2 k252 (Or.inr ⟨_, nw_in q1815 rfl⟩) q1724 qs8 cw_code q1725 ⟨by decide, by decide⟩ rfl (dl_at t_X8_read 128 rfl)) (dl_at t_X8_read 128 rfl) (cat24 (st := []) (Nat.le_of_ble_eq_true rfl)) (Nat.le_of_ble_eq_true rfl) (Nat.le_of_ble_eq_true rfl) fun h252 E252 => ?_
          refine g_aload_n (pc := 255) X (j := 0) (i := 0) (q := 0) (x := a0) rfl rfl (dl_at t_X8_read 129 rfl) ?_
          have k256 := kx E252 (by decide) k231
          refine r_getr (pc := 256) X fX8_3 k256 q869 (dl_at t_X8_read 130 rfl) ?_
          refine g_iload (pc := 259) X (i := 5) (q := 4) (x := x5_228) rfl (dl_at t_X8_read 131 rfl) ?_
          refine g_gd fun k261 => ?_
          refine g_iald (pc := 261) X r5_228 k261 (dl_at t_X8_read 132 rfl) fun g261 => ?_
          refine g_join (γ := Int) (fun q => r32 q) 268 (fun q => [(0, rv D a0), (1, rv D a1), (2, iv x2_8), (3, iv q), (5, iv x5_228)]) (fun q => []) (fun q => h252) (fun q => m_X8_read_j268 a0 a1 x2_8 x5_228 q h252) ?_ ?_
          · rintro x3_268 r3_268
            try dsimp only
            unfold m_X8_read_j268
            refine g_aload_n (pc := 268) X (j := 0) (i := 0) (q := 0) (x := a0) rfl rfl (dl_at t_X8_read 135 rfl) ?_
            refine r_getr (pc := 269) X fX8_3 k256 q869 (dl_at t_X8_read 136 rfl) ?_
            refine g_iload (pc := 272) X (i := 5) (q := 4) (x := x5_228) rfl (dl_at t_X8_read 137 rfl) ?_
            refine g_iconst (pc := 274) X (n := 1) (dl_at t_X8_read 138 rfl) ?_
            refine g_aload_n (pc := 275) X (j := 1) (i := 1) (q := 1) (x := a1) rfl rfl (dl_at t_X8_read 139 rfl) ?_
            refine g_iconst (pc := 276) X (n := 0) (dl_at t_X8_read 140 rfl) ?_
            refine g_sipush (pc := 277) X (n := 5000) rfl (dl_at t_X8_read 141 rfl) ?_
            have k280 := kx E252 (by decide) k252
            refine r_callTi (pc := 280) X (fun _ hv => s_X2_needNumber k280 (r32_c rfl) (r32_c rfl) hv) cw_code q1861 q356 (in_Vk X (As := [iv 0, iv 5000]) kX2 k280 (Or.inr ⟨_, nw_in q1858 rfl⟩) q1860 qs17 cw_code q1861 ⟨by decide, by decide⟩ rfl (dl_at t_X8_read 142 rfl)) (dl_at t_X8_read 142 rfl) (cat24 (st := [iv 1, iv x5_228, rv D (h252 a0 3)]) (Nat.le_of_ble_eq_true rfl)) (Nat.le_of_ble_eq_true rfl) (Nat.le_of_ble_eq_true rfl) (fun v280 h280 g280 E280 => ?_) (fun _ _ ha _ => gt_at fun Q hQ => gt_out (Q := Q) X rfl ha (hno _) _ Q rfl hQ)
            refine g_iadd (pc := 283) X (r32_c rfl) g280 (dl_at t_X8_read 143 rfl) ?_
            have k284 := ka E280 (by decide) k261
            refine r_iast (pc := 284) X r5_228 (r32_w _) k284 (dl_at t_X8_read 144 rfl) (fun h284 E284 => ?_)
            refine g_goto (pc := 285) X (off := 8) (tgt := 293) rfl (dl_at t_X8_read 145 rfl) ?_
            refine g_ls (ls2 := [(0, rv D a0), (1, rv D a1), (2, iv x2_8), (3, iv x3_268)]) [0, 1, 2, 3] rfl ?_
            exact J293 (x2_8, x3_268, h284) ⟨r2_8, r3_268, (E208.trans (E212.trans (E224.trans (E252.trans (E280.trans E284)))))⟩
          intro J268
          refine g_ifne (pc := 262) X g261 (off := 6) (tgt := 268) rfl (dl_at t_X8_read 133 rfl) (fun _ => ?_) (fun _ => ?_)
          · exact J268 x3_8 r3_8
          refine r_iincN (pc := 265) X (i := 3) (q := 3) (n := 1) (x := x3_8) (b := 2) (w := iv x2_8) (rest := [(0, rv D a0), (1, rv D a1), (5, iv x5_228)]) rfl r3_8 (r32_c rfl) (Nat.le_of_ble_eq_true rfl) [2, 0, 1, 4] rfl (by decide) rfl rfl (dl_at t_X8_read 134 rfl) fun x3_265 r3_265 => ?_
          refine g_ls (ls2 := [(0, rv D a0), (1, rv D a1), (2, iv x2_8), (3, iv x3_265), (5, iv x5_228)]) [2, 3, 1, 0, 4] rfl ?_
          exact J268 x3_265 r3_265
        intro J251
        refine g_ifne (pc := 237) X g236 (off := 14) (tgt := 251) rfl (dl_at t_X8_read 120 rfl) (fun _ => ?_) (fun _ => ?_)
        · refine g_ls (ls2 := [(0, rv D a0), (1, rv D a1), (2, iv x2_8), (3, iv x3_8), (5, iv x5_228)]) [2, 3, 4, 1, 0] rfl ?_
          exact J251 () trivial
        refine g_iload_n (pc := 240) X (j := 3) (i := 3) (q := 1) (x := x3_8) rfl rfl (dl_at t_X8_read 121 rfl) ?_
        refine g_bipush (pc := 241) X (n := 60) rfl (dl_at t_X8_read 122 rfl) ?_
        refine g_icmpne (pc := 243) X r3_8 (r32_c rfl) (off := 8) (tgt := 251) rfl (dl_at t_X8_read 123 rfl) (fun _ => ?_) (fun _ => ?_)
        · refine g_ls (ls2 := [(0, rv D a0), (1, rv D a1), (2, iv x2_8), (3, iv x3_8), (5, iv x5_228)]) [2, 3, 4, 1, 0] rfl ?_
          exact J251 () trivial
        refine g_aload_n (pc := 246) X (j := 1) (i := 1) (q := 3) (x := a1) rfl rfl (dl_at t_X8_read 124 rfl) ?_
        have k247 := kx (E208.trans (E212.trans E224)) (by decide) k9
        refine r_callWr (pc := 247) X (fun _ hv => s_X2_broken k247 hv) cw_code q1825 q356 (in_Vk X (As := []) kX2 k247 (Or.inr ⟨_, nw_in q1822 rfl⟩) q1824 qs16 cw_code q1825 ⟨by decide, by decide⟩ rfl (dl_at t_X8_read 125 rfl)) (dl_at t_X8_read 125 rfl) (cat24 (st := []) (Nat.le_of_ble_eq_true rfl)) (Nat.le_of_ble_eq_true rfl) (Nat.le_of_ble_eq_true rfl) fun v247 h247 E247 => ?_
        refine g_gd fun p250 => ?_
        refine g_athrow (pc := 250) X (Int.ne_of_gt p250) (dl_at t_X8_read 126 rfl) ?_
        exact gt_at fun Q hQ => gt_out (Q := Q) X rfl p250 (hno _) _ Q rfl hQ
      refine g_aload_n (pc := 89) X (j := 1) (i := 1) (q := 1) (x := a1) rfl rfl (dl_at t_X8_read 47 rfl) ?_
      refine r_callV (pc := 90) X (fun _ hv => s_X2_next k9 hv) cw_code q1725 q356 (in_Vk X (As := []) kX2 k9 (Or.inr ⟨_, nw_in q1815 rfl⟩) q1724 qs8 cw_code q1725 ⟨by decide, by decide⟩ rfl (dl_at t_X8_read 48 rfl)) (dl_at t_X8_read 48 rfl) (cat24 (st := []) (Nat.le_of_ble_eq_true rfl)) (Nat.le_of_ble_eq_true rfl) (Nat.le_of_ble_eq_true rfl) fun h90 E90 => ?_
      refine g_aload_n (pc := 93) X (j := 1) (i := 1) (q := 1) (x := a1) rfl rfl (dl_at t_X8_read 49 rfl) ?_
      refine r_callTi (pc := 94) X (fun _ hv => s_X8_one hv) cw_code q1818 q362 (in_Sc X (As := [rv D a1]) (Or.inl q1816) q1817 q362 q1818 ⟨by decide, by decide⟩ rfl (dl_at t_X8_read 50 rfl)) (dl_at t_X8_read 50 rfl) (cat24 (st := []) (Nat.le_of_ble_eq_true rfl)) (Nat.le_of_ble_eq_true rfl) (Nat.le_of_ble_eq_true rfl) (fun v94 h94 g94 E94 => ?_) (fun _ _ ha _ => gt_at fun Q hQ => gt_out (Q := Q) X rfl ha (hno _) _ Q rfl hQ)
      refine g_istoreN (pc := 97) X (i := 4) (x := v94) (b := 3) (w := iv x3_8) (rest := [(0, rv D a0), (1, rv D a1), (2, iv x2_8)]) (Nat.le_of_ble_eq_true rfl) [3, 0, 1, 2] rfl (by decide) rfl rfl (dl_at t_X8_read 51 rfl) ?_
      refine g_sipush (pc := 99) X (n := 128) rfl (dl_at t_X8_read 52 rfl) ?_
      refine g_iload (pc := 102) X (i := 4) (q := 0) (x := v94) rfl (dl_at t_X8_read 53 rfl) ?_
      refine g_imul (pc := 104) X (r32_c rfl) g94 (dl_at t_X8_read 54 rfl) ?_
      refine g_aload_n (pc := 105) X (j := 1) (i := 1) (q := 3) (x := a1) rfl rfl (dl_at t_X8_read 55 rfl) ?_
      refine r_callTi (pc := 106) X (fun _ hv => s_X8_two hv) cw_code q1821 q362 (in_Sc X (As := [rv D a1]) (Or.inl q1819) q1820 q362 q1821 ⟨by decide, by decide⟩ rfl (dl_at t_X8_read 56 rfl)) (dl_at t_X8_read 56 rfl) (cat24 (st := [iv (w32 (128 * v94))]) (Nat.le_of_ble_eq_true rfl)) (Nat.le_of_ble_eq_true rfl) (Nat.le_of_ble_eq_true rfl) (fun v106 h106 g106 E106 => ?_) (fun _ _ ha _ => gt_at fun Q hQ => gt_out (Q := Q) X rfl ha (hno _) _ Q rfl hQ)
      refine g_iadd (pc := 109) X (r32_w _) g106 (dl_at t_X8_read 57 rfl) ?_
      refine g_lti (r32_w _) fun x5_110 r5_110 => ?_
      refine g_istore (pc := 110) X (i := 5) (x := x5_110) (rest := [(3, iv x3_8), (0, rv D a0), (1, rv D a1), (2, iv x2_8)]) (Nat.le_of_ble_eq_true rfl) [1, 2, 3, 4] rfl rfl (dl_at t_X8_read 58 rfl) ?_
      refine g_aload_n (pc := 112) X (j := 0) (i := 0) (q := 2) (x := a0) rfl rfl (dl_at t_X8_read 59 rfl) ?_
      have k113 := kx (E1.trans (E_8.trans (E90.trans (E94.trans E106)))) (by decide) hk
      refine r_getr (pc := 113) X fX8_2 k113 q868 (dl_at t_X8_read 60 rfl) ?_
      refine g_iload (pc := 116) X (i := 5) (q := 0) (x := x5_110) rfl (dl_at t_X8_read 61 rfl) ?_
      refine g_gd fun k118 => ?_
      refine g_iald (pc := 118) X r5_110 k118 (dl_at t_X8_read 62 rfl) fun g118 => ?_
      refine g_sipush (pc := 119) X (n := 1000) rfl (dl_at t_X8_read 63 rfl) ?_
      refine g_join (γ := Unit) (fun q => True) 137 (fun q => [(0, rv D a0), (1, rv D a1), (2, iv x2_8), (3, iv x3_8), (5, iv x5_110)]) (fun q => []) (fun q => h106) (fun q => m_X8_read_j137 x5_110 x3_8 a0 a1 x2_8 h106) ?_ ?_
      · rintro _ _
        try dsimp only
        unfold m_X8_read_j137
        refine g_aload_n (pc := 137) X (j := 1) (i := 1) (q := 1) (x := a1) rfl rfl (dl_at t_X8_read 71 rfl) ?_
        have k138 := kx (E90.trans (E94.trans E106)) (by decide) k9
        refine r_callV (pc := 138) X (fun _ hv => s_X2_next k138 hv) cw_code q1725 q356 (in_Vk X (As := []) kX2 k138 (Or.inr ⟨_, nw_in q1815 rfl⟩) q1724 qs8 cw_code q1725 ⟨by decide, by decide⟩ rfl (dl_at t_X8_read 72 rfl)) (dl_at t_X8_read 72 rfl) (cat24 (st := []) (Nat.le_of_ble_eq_true rfl)) (Nat.le_of_ble_eq_true rfl) (Nat.le_of_ble_eq_true rfl) fun h138 E138 => ?_
        refine g_aload_n (pc := 141) X (j := 1) (i := 1) (q := 1) (x := a1) rfl rfl (dl_at t_X8_read 73 rfl) ?_
        refine g_bipush (pc := 142) X (n := 45) rfl (dl_at t_X8_read 74 rfl) ?_
        have k144 := kx E138 (by decide) k138
        refine r_callWz (pc := 144) X (fun _ hv => s_X2_take k144 (r32_c rfl) hv) cw_code q1867 q356 (in_Vk X (As := [iv 45]) kX2 k144 (Or.inr ⟨_, nw_in q1864 rfl⟩) q1866 qs18 cw_code q1867 ⟨by decide, by decide⟩ rfl (dl_at t_X8_read 75 rfl)) (dl_at t_X8_read 75 rfl) (cat24 (st := []) (Nat.le_of_ble_eq_true rfl)) (Nat.le_of_ble_eq_true rfl) (Nat.le_of_ble_eq_true rfl) fun v144 h144 g144 E144 => ?_
        refine g_istoreN (pc := 147) X (i := 6) (x := v144) (b := 5) (w := iv x5_110) (rest := [(0, rv D a0), (1, rv D a1), (2, iv x2_8), (3, iv x3_8)]) (Nat.le_of_ble_eq_true rfl) [4, 0, 1, 2, 3] rfl (by decide) rfl rfl (dl_at t_X8_read 76 rfl) ?_
        refine g_aload_n (pc := 149) X (j := 1) (i := 1) (q := 3) (x := a1) rfl rfl (dl_at t_X8_read 77 rfl) ?_
        refine g_iconst (pc := 150) X (n := 0) (dl_at t_X8_read 78 rfl) ?_
        refine g_sipush (pc := 151) X (n := 500) rfl (dl_at t_X8_read 79 rfl) ?_
        have k154 := kx E144 (by decide) k144
        refine r_callTi (pc := 154) X (fun _ hv => s_X2_needNumber k154 (r32_c rfl) (r32_c rfl) hv) cw_code q1861 q356 (in_Vk X (As := [iv 0, iv 500]) kX2 k154 (Or.inr ⟨_, nw_in q1858 rfl⟩) q1860 qs17 cw_code q1861 ⟨by decide, by decide⟩ rfl (dl_at t_X8_read 80 rfl)) (dl_at t_X8_read 80 rfl) (cat24 (st := []) (Nat.le_of_ble_eq_true rfl)) (Nat.le_of_ble_eq_true rfl) (Nat.le_of_ble_eq_true rfl) (fun v154 h154 g154 E154 => ?_) (fun _ _ ha _ => gt_at fun Q hQ => gt_out (Q := Q) X rfl ha (hno _) _ Q rfl hQ)
        refine g_istoreN (pc := 157) X (i := 7) (x := v154) (b := 6) (w := iv v144) (rest := [(5, iv x5_110), (0, rv D a0), (1, rv D a1), (2, iv x2_8), (3, iv x3_8)]) (Nat.le_of_ble_eq_true rfl) [0, 1, 2, 3, 4, 5] rfl (by decide) rfl rfl (dl_at t_X8_read 81 rfl) ?_
        refine g_aload_n (pc := 159) X (j := 0) (i := 0) (q := 3) (x := a0) rfl rfl (dl_at t_X8_read 82 rfl) ?_
        have k160 := kx (E138.trans (E144.trans E154)) (by decide) k113
        refine r_getr (pc := 160) X fX8_2 k160 q868 (dl_at t_X8_read 83 rfl) ?_
        refine g_iload (pc := 163) X (i := 5) (q := 2) (x := x5_110) rfl (dl_at t_X8_read 84 rfl) ?_
        refine g_gd fun k165 => ?_
        refine g_iald (pc := 165) X r5_110 k165 (dl_at t_X8_read 85 rfl) fun g165 => ?_
        refine g_sipush (pc := 166) X (n := 1000) rfl (dl_at t_X8_read 86 rfl) ?_
        refine g_join (γ := Int) (fun q => r32 q) 175 (fun q => [(0, rv D a0), (1, rv D a1), (2, iv q), (3, iv x3_8), (5, iv x5_110), (6, iv v144), (7, iv v154)]) (fun q => []) (fun q => h154) (fun q => m_X8_read_j175 v154 v144 x5_110 a0 a1 x3_8 q h154) ?_ ?_
        · rintro x2_175 r2_175
          try dsimp only
          unfold m_X8_read_j175
          refine g_aload_n (pc := 175) X (j := 0) (i := 0) (q := 0) (x := a0) rfl rfl (dl_at t_X8_read 89 rfl) ?_
          refine r_getr (pc := 176) X fX8_2 k160 q868 (dl_at t_X8_read 90 rfl) ?_
          refine g_iload (pc := 179) X (i := 5) (q := 4) (x := x5_110) rfl (dl_at t_X8_read 91 rfl) ?_
          refine g_iload (pc := 181) X (i := 6) (q := 5) (x := v144) rfl (dl_at t_X8_read 92 rfl) ?_
          refine g_join (γ := Int × Int) (fun q => r32 q.2) 194 (fun q => [(0, rv D a0), (1, rv D a1), (2, iv x2_175), (3, iv x3_8)]) (fun q => [iv q.2, iv x5_110, rv D q.1]) (fun q => h154) (fun q => m_X8_read_j194 a1 x2_175 x3_8 x5_110 q.1 q.2 h154) ?_ ?_
          · rintro ⟨s0_194, s2_194⟩ rs2_194
            try dsimp only
            unfold m_X8_read_j194
            refine g_gd fun k194 => ?_
            refine r_iast (pc := 194) X r5_110 rs2_194 k194 (dl_at t_X8_read 98 rfl) (fun h194 E194 => ?_)
            refine g_goto (pc := 195) X (off := 98) (tgt := 293) rfl (dl_at t_X8_read 99 rfl) ?_
            exact J293 (x2_175, x3_8, h194) ⟨r2_175, r3_8, (E90.trans (E94.trans (E106.trans (E138.trans (E144.trans (E154.trans E194))))))⟩
          intro J194
          refine g_ifeq (pc := 183) X (r32_z g144) (off := 9) (tgt := 192) rfl (dl_at t_X8_read 93 rfl) (fun _ => ?_) (fun _ => ?_)
          · refine g_iload (pc := 192) X (i := 7) (q := 6) (x := v154) rfl (dl_at t_X8_read 97 rfl) ?_
            refine g_ls (ls2 := [(0, rv D a0), (1, rv D a1), (2, iv x2_175), (3, iv x3_8)]) [0, 1, 2, 3] rfl ?_
            exact J194 ((h154 a0 2), v154) g154
          refine g_iload (pc := 186) X (i := 7) (q := 6) (x := v154) rfl (dl_at t_X8_read 94 rfl) ?_
          refine g_ineg (pc := 188) X g154 (dl_at t_X8_read 95 rfl) ?_
          refine g_goto (pc := 189) X (off := 5) (tgt := 194) rfl (dl_at t_X8_read 96 rfl) ?_
          refine g_ls (ls2 := [(0, rv D a0), (1, rv D a1), (2, iv x2_175), (3, iv x3_8)]) [0, 1, 2, 3] rfl ?_
          exact J194 ((h154 a0 2), (w32 (-v154))) (r32_w _)
        intro J175
        refine g_icmpne (pc := 169) X g165 (r32_c rfl) (off := 6) (tgt := 175) rfl (dl_at t_X8_read 87 rfl) (fun _ => ?_) (fun _ => ?_)
        · refine g_ls (ls2 := [(0, rv D a0), (1, rv D a1), (2, iv x2_8), (3, iv x3_8), (5, iv x5_110), (6, iv v144), (7, iv v154)]) [3, 4, 5, 6, 2, 1, 0] rfl ?_
          exact J175 x2_8 r2_8
        refine r_iincN (pc := 172) X (i := 2) (q := 5) (n := 1) (x := x2_8) (b := 1) (w := rv D a1) (rest := [(7, iv v154), (6, iv v144), (5, iv x5_110), (0, rv D a0), (3, iv x3_8)]) rfl r2_8 (r32_c rfl) (Nat.le_of_ble_eq_true rfl) [4, 0, 1, 2, 3, 6] rfl (by decide) rv_cat rfl (dl_at t_X8_read 88 rfl) fun x2_172 r2_172 => ?_
        refine g_ls (ls2 := [(0, rv D a0), (1, rv D a1), (2, iv x2_172), (3, iv x3_8), (5, iv x5_110), (6, iv v144), (7, iv v154)]) [5, 1, 0, 6, 4, 3, 2] rfl ?_
        exact J175 x2_172 r2_172
      intro J137
      refine g_icmpne (pc := 122) X g118 (r32_c rfl) (off := 15) (tgt := 137) rfl (dl_at t_X8_read 64 rfl) (fun _ => ?_) (fun _ => ?_)
      · refine g_ls (ls2 := [(0, rv D a0), (1, rv D a1), (2, iv x2_8), (3, iv x3_8), (5, iv x5_110)]) [2, 3, 4, 1, 0] rfl ?_
        exact J137 () trivial
      refine g_iload_n (pc := 125) X (j := 2) (i := 2) (q := 4) (x := x2_8) rfl rfl (dl_at t_X8_read 65 rfl) ?_
      refine g_sipush (pc := 126) X (n := 200) rfl (dl_at t_X8_read 66 rfl) ?_
      refine g_icmpne (pc := 129) X r2_8 (r32_c rfl) (off := 8) (tgt := 137) rfl (dl_at t_X8_read 67 rfl) (fun _ => ?_) (fun _ => ?_)
      · refine g_ls (ls2 := [(0, rv D a0), (1, rv D a1), (2, iv x2_8), (3, iv x3_8), (5, iv x5_110)]) [2, 3, 4, 1, 0] rfl ?_
        exact J137 () trivial
      refine g_aload_n (pc := 132) X (j := 1) (i := 1) (q := 3) (x := a1) rfl rfl (dl_at t_X8_read 68 rfl) ?_
      have k133 := kx (E90.trans (E94.trans E106)) (by decide) k9
      refine r_callWr (pc := 133) X (fun _ hv => s_X2_broken k133 hv) cw_code q1825 q356 (in_Vk X (As := []) kX2 k133 (Or.inr ⟨_, nw_in q1822 rfl⟩) q1824 qs16 cw_code q1825 ⟨by decide, by decide⟩ rfl (dl_at t_X8_read 69 rfl)) (dl_at t_X8_read 69 rfl) (cat24 (st := []) (Nat.le_of_ble_eq_true rfl)) (Nat.le_of_ble_eq_true rfl) (Nat.le_of_ble_eq_true rfl) fun v133 h133 E133 => ?_
      refine g_gd fun p136 => ?_
      refine g_athrow (pc := 136) X (Int.ne_of_gt p136) (dl_at t_X8_read 70 rfl) ?_
      exact gt_at fun Q hQ => gt_out (Q := Q) X rfl p136 (hno _) _ Q rfl hQ
    refine g_aload_n (pc := 24) X (j := 1) (i := 1) (q := 1) (x := a1) rfl rfl (dl_at t_X8_read 13 rfl) ?_
    refine r_callV (pc := 25) X (fun _ hv => s_X2_next k9 hv) cw_code q1725 q356 (in_Vk X (As := []) kX2 k9 (Or.inr ⟨_, nw_in q1815 rfl⟩) q1724 qs8 cw_code q1725 ⟨by decide, by decide⟩ rfl (dl_at t_X8_read 14 rfl)) (dl_at t_X8_read 14 rfl) (cat24 (st := []) (Nat.le_of_ble_eq_true rfl)) (Nat.le_of_ble_eq_true rfl) (Nat.le_of_ble_eq_true rfl) fun h25 E25 => ?_
    refine g_aload_n (pc := 28) X (j := 1) (i := 1) (q := 1) (x := a1) rfl rfl (dl_at t_X8_read 15 rfl) ?_
    refine r_callTi (pc := 29) X (fun _ hv => s_X8_one hv) cw_code q1818 q362 (in_Sc X (As := [rv D a1]) (Or.inl q1816) q1817 q362 q1818 ⟨by decide, by decide⟩ rfl (dl_at t_X8_read 16 rfl)) (dl_at t_X8_read 16 rfl) (cat24 (st := []) (Nat.le_of_ble_eq_true rfl)) (Nat.le_of_ble_eq_true rfl) (Nat.le_of_ble_eq_true rfl) (fun v29 h29 g29 E29 => ?_) (fun _ _ ha _ => gt_at fun Q hQ => gt_out (Q := Q) X rfl ha (hno _) _ Q rfl hQ)
    refine g_istoreN (pc := 32) X (i := 4) (x := v29) (b := 3) (w := iv x3_8) (rest := [(0, rv D a0), (1, rv D a1), (2, iv x2_8)]) (Nat.le_of_ble_eq_true rfl) [3, 0, 1, 2] rfl (by decide) rfl rfl (dl_at t_X8_read 17 rfl) ?_
    refine g_aload_n (pc := 34) X (j := 0) (i := 0) (q := 2) (x := a0) rfl rfl (dl_at t_X8_read 18 rfl) ?_
    have k35 := kx (E1.trans (E_8.trans (E25.trans E29))) (by decide) hk
    refine r_getr (pc := 35) X fX8_0 k35 q866 (dl_at t_X8_read 19 rfl) ?_
    refine g_iload (pc := 38) X (i := 4) (q := 0) (x := v29) rfl (dl_at t_X8_read 20 rfl) ?_
    refine g_aload_n (pc := 40) X (j := 1) (i := 1) (q := 3) (x := a1) rfl rfl (dl_at t_X8_read 21 rfl) ?_
    refine g_iconst (pc := 41) X (n := 0) (dl_at t_X8_read 22 rfl) ?_
    refine g_sipush (pc := 42) X (n := 5000) rfl (dl_at t_X8_read 23 rfl) ?_
    have k45 := kx (E25.trans E29) (by decide) k9
    refine r_callTi (pc := 45) X (fun _ hv => s_X2_needNumber k45 (r32_c rfl) (r32_c rfl) hv) cw_code q1861 q356 (in_Vk X (As := [iv 0, iv 5000]) kX2 k45 (Or.inr ⟨_, nw_in q1858 rfl⟩) q1860 qs17 cw_code q1861 ⟨by decide, by decide⟩ rfl (dl_at t_X8_read 24 rfl)) (dl_at t_X8_read 24 rfl) (cat24 (st := [iv v29, rv D (h29 a0 0)]) (Nat.le_of_ble_eq_true rfl)) (Nat.le_of_ble_eq_true rfl) (Nat.le_of_ble_eq_true rfl) (fun v45 h45 g45 E45 => ?_) (fun _ _ ha _ => gt_at fun Q hQ => gt_out (Q := Q) X rfl ha (hno _) _ Q rfl hQ)
    refine g_gd fun k48 => ?_
    refine r_iast (pc := 48) X g29 g45 k48 (dl_at t_X8_read 25 rfl) (fun h48 E48 => ?_)
    refine g_aload_n (pc := 49) X (j := 0) (i := 0) (q := 2) (x := a0) rfl rfl (dl_at t_X8_read 26 rfl) ?_
    have k50 := kx (E45.trans E48) (by decide) k35
    refine r_getr (pc := 50) X fX8_1 k50 q867 (dl_at t_X8_read 27 rfl) ?_
    refine g_iload (pc := 53) X (i := 4) (q := 0) (x := v29) rfl (dl_at t_X8_read 28 rfl) ?_
    refine g_gd fun k55 => ?_
    refine g_zald (pc := 55) X g29 k55 (dl_at t_X8_read 29 rfl) fun g55 => ?_
    refine g_join (γ := Hp) (fun q => Ext h48 q) 69 (fun q => [(0, rv D a0), (1, rv D a1), (2, iv x2_8), (3, iv x3_8), (4, iv v29)]) (fun q => []) (fun q => q) (fun q => m_X8_read_j69 v29 x3_8 a0 a1 x2_8 q) ?_ ?_
    · rintro h_69 E_69
      try dsimp only
      unfold m_X8_read_j69
      refine g_aload_n (pc := 69) X (j := 0) (i := 0) (q := 0) (x := a0) rfl rfl (dl_at t_X8_read 37 rfl) ?_
      have k70 := kx E_69 (by decide) k50
      refine r_getr (pc := 70) X fX8_1 k70 q867 (dl_at t_X8_read 38 rfl) ?_
      refine g_iload (pc := 73) X (i := 4) (q := 4) (x := v29) rfl (dl_at t_X8_read 39 rfl) ?_
      refine g_iconst (pc := 75) X (n := 1) (dl_at t_X8_read 40 rfl) ?_
      refine g_gd fun k76 => ?_
      refine r_zast (pc := 76) X g29 (Or.inr rfl) k76 (dl_at t_X8_read 41 rfl) (fun h76 E76 => ?_)
      refine g_goto (pc := 77) X (off := 216) (tgt := 293) rfl (dl_at t_X8_read 42 rfl) ?_
      refine g_ls (ls2 := [(0, rv D a0), (1, rv D a1), (2, iv x2_8), (3, iv x3_8)]) [0, 1, 2, 3] rfl ?_
      exact J293 (x2_8, x3_8, h76) ⟨r2_8, r3_8, (E25.trans (E29.trans (E45.trans (E48.trans (E_69.trans E76)))))⟩
    intro J69
    refine g_ifne (pc := 56) X (r32_z g55) (off := 13) (tgt := 69) rfl (dl_at t_X8_read 30 rfl) (fun _ => ?_) (fun _ => ?_)
    · refine g_ls (ls2 := [(0, rv D a0), (1, rv D a1), (2, iv x2_8), (3, iv x3_8), (4, iv v29)]) [2, 3, 4, 1, 0] rfl ?_
      exact J69 h48 (Ext.refl _)
    refine g_aload_n (pc := 59) X (j := 0) (i := 0) (q := 2) (x := a0) rfl rfl (dl_at t_X8_read 31 rfl) ?_
    refine g_dup (pc := 60) X rv_cat (dl_at t_X8_read 32 rfl) ?_
    refine r_geti (pc := 61) X fX8_4 k50 q870 (dl_at t_X8_read 33 rfl) fun g61 => ?_
    refine g_iconst (pc := 64) X (n := 1) (dl_at t_X8_read 34 rfl) ?_
    refine g_iadd (pc := 65) X g61 (r32_c rfl) (dl_at t_X8_read 35 rfl) ?_
    refine r_puti (pc := 66) X fX8_4 k50 q870 rfl (dl_at t_X8_read 36 rfl) (r32_w _) (fun h66 E66 => ?_)
    refine g_ls (ls2 := [(0, rv D a0), (1, rv D a1), (2, iv x2_8), (3, iv x3_8), (4, iv v29)]) [2, 3, 4, 1, 0] rfl ?_
    exact J69 h66 E66
def k_X1_broken : List (Nat × Instr × Nat) := [(0, .aload_n 0, 1), (1, .aload_n 1, 1), (2, .getfield 137, 3), (5, .putfield 80, 3), (8, .new 140, 3), (11, .dup, 1), (12, .invokespecial 142, 3), (15, .areturn, 1)]
theorem t_X1_broken : ∀ q ∈ k_X1_broken, decode cX1_broken q.1 = .ok q.2 := dl_all (by decide +kernel)
noncomputable def m_X1_broken (a0 a1 : Int) (h : Hp) : Option (Int × Hp) :=
  gd (h a1 (-2) = 432) (pt h a0 14 (h a1 0) fun h5 =>
  al h5 512 6 fun a8 h8 =>
  (x_init0 a8 h8).bind fun h12 =>
  some (a8, h12))
theorem s_X1_broken {l : Launch} [NoTr l] {D : SD} {a0 a1 : Int} {h : Hp} (hk : h a0 (-2) = 16) {r : Int × Hp} (hm : m_X1_broken a0 a1 h = some r) : Sim l D yX1_broken (Cond.code yX1_broken cX1_broken 2 (Option.some (Jvm.ClassFile.FieldType.object "java/lang/UnsupportedOperationException"))) 9 336 [rv D a0, rv D a1] h 5 ((0, r.1), r.2) := by
  refine Sim.of (fin := fun (v : Int × Hp) => ((0, v.1), v.2)) (lsE := [(0, rv D a0), (1, rv D a1)]) hm rfl cwS_code (la_r (la_r la_n)) (ll_r (ll_r ll_n)) ?_
  intro p e s m below meth c X hcw hmm hcc hnm hname
  unfold m_X1_broken
  refine g_aload_n (pc := 0) X (j := 0) (i := 0) (q := 0) (x := a0) rfl rfl (dl_at t_X1_broken 0 rfl) ?_
  refine g_aload_n (pc := 1) X (j := 1) (i := 1) (q := 1) (x := a1) rfl rfl (dl_at t_X1_broken 1 rfl) ?_
  refine g_gd fun k2 => ?_
  refine r_getiN (pc := 2) X fX26_0 k2 (nw_in q1853 rfl) (dl_at t_X1_broken 2 rfl) fun g2 => ?_
  refine r_puti (pc := 5) X fX1_14 hk q1502 rfl (dl_at t_X1_broken 3 rfl) g2 (fun h5 E5 => ?_)
  refine r_new (pc := 8) X kJ10 q1882 (dl_at t_X1_broken 4 rfl) fun a8 h8 p8 k8 E8 => ?_
  refine g_dup (pc := 11) X rv_cat (dl_at t_X1_broken 5 rfl) ?_
  refine r_callV (pc := 12) X (fun _ hv => sx_UnsupportedOperationException_init__V k8 hv) cw_code q1893 q390 (in_I X (As := []) (Int.ne_of_gt p8) rfl (Or.inl q1891) q1892 q1893 ⟨by decide, by decide⟩ rfl (dl_at t_X1_broken 6 rfl)) (dl_at t_X1_broken 6 rfl) (cat24 (st := [rv D a8]) (Nat.le_of_ble_eq_true rfl)) (Nat.le_of_ble_eq_true rfl) (Nat.le_of_ble_eq_true rfl) fun h12 E12 => ?_
  exact g_aret (pc := 15) X (Or.inl ⟨_, rfl⟩) rfl rfl (dl_at t_X1_broken 7 rfl)
def k_X1_font : List (Nat × Instr × Nat) := [(0, .aload_n 0, 1), (1, .getfield 31, 3), (4, .aload_n 0, 1), (5, .invokevirtual 143, 3), (8, .invokevirtual 147, 3), (11, .aload_n 0, 1), (12, .getfield 67, 3), (15, .aload_n 0, 1), (16, .getfield 31, 3), (19, .invokevirtual 150, 3), (22, .goto 10, 3), (25, .astore_n 1, 1), (26, .aload_n 0, 1), (27, .aload_n 1, 1), (28, .invokevirtual 154, 3), (31, .athrow, 1), (32, .aload_n 0, 1), (33, .getfield 63, 3), (36, .astore_n 1, 1), (37, .aload_n 0, 1), (38, .aload_n 0, 1), (39, .getfield 67, 3), (42, .putfield 63, 3), (45, .aload_n 0, 1), (46, .aload_n 1, 1), (47, .putfield 67, 3), (50, .aload_n 0, 1), (51, .getfield 63, 3), (54, .getfield 158, 3), (57, .ireturn, 1)]
theorem t_X1_font : ∀ q ∈ k_X1_font, decode cX1_font q.1 = .ok q.2 := dl_all (by decide +kernel)
noncomputable def m_X1_font (a0 : Int) (h : Hp) : Option ((Int × Int) × Hp) :=
  bW (m_X1_take a0 h) fun v5 h5 =>
  gd (h5 (h a0 2) (-2) = 32) ((m_X2_begin (h a0 2) v5 h5).bind fun h8 =>
  gd (h8 (h8 a0 8) (-2) = 128) (bT (m_X8_read (h8 a0 8) (h8 a0 2) h8) (fun _ h19_1 =>
  lt_ (h19_1 a0 7) fun x1_36 =>
  pt h19_1 a0 7 (h19_1 a0 8) fun h42 =>
  pt h42 a0 8 x1_36 fun h47 =>
  gd (h47 (h47 a0 7) (-2) = 128) (some ((0, (h47 (h47 a0 7) 4)), h47))) (fun a19 h19 => if h19 a19 (-2) = 432 then (bW (m_X1_broken a0 a19 h19) fun v28 h28 =>
  gd (0 < v28) (some ((1, v28), h28)))
  else (none))))
theorem s_X1_font {l : Launch} [NoTr l] {D : SD} {a0 : Int} {h : Hp} (hk : h a0 (-2) = 16) {r : (Int × Int) × Hp} (hm : m_X1_font a0 h = some r) : Sim l D yX1_font (Cond.codeWith yX1_font cX1_font 2 (Option.some Jvm.ClassFile.FieldType.int) [((11 : Nat), (22 : Nat), (25 : Nat), (138 : Nat))]) 13 489 [rv D a0] h 1 r := by
  refine Sim.of (fin := fun (v : (Int × Int) × Hp) => v) (lsE := [(0, rv D a0)]) hm rfl cwS_with (la_r la_n) (ll_r ll_n) ?_
  intro p e s m below meth c X hcw hmm hcc hnm hname
  have htb := tabW hcw hnm hmm hcc
  unfold m_X1_font
  refine g_aload_n (pc := 0) X (j := 0) (i := 0) (q := 0) (x := a0) rfl rfl (dl_at t_X1_font 0 rfl) ?_
  refine r_getr (pc := 1) X fX1_2 hk q1490 (dl_at t_X1_font 1 rfl) ?_
  refine g_aload_n (pc := 4) X (j := 0) (i := 0) (q := 0) (x := a0) rfl rfl (dl_at t_X1_font 2 rfl) ?_
  refine r_callWi (pc := 5) X (fun _ hv => s_X1_take hk hv) cw_code q1717 q355 (in_Vk X (As := []) kX1 hk (Or.inl q1714) q1716 qs6 cw_code q1717 ⟨by decide, by decide⟩ rfl (dl_at t_X1_font 3 rfl)) (dl_at t_X1_font 3 rfl) (cat24 (st := [rv D (h a0 2)]) (Nat.le_of_ble_eq_true rfl)) (Nat.le_of_ble_eq_true rfl) (Nat.le_of_ble_eq_true rfl) fun v5 h5 g5 E5 => ?_
  refine g_gd fun k8 => ?_
  refine r_callV (pc := 8) X (fun _ hv => s_X2_begin k8 g5 hv) cw_code q1721 q356 (in_Vk X (As := [iv v5]) kX2 k8 (Or.inr ⟨_, nw_in q1718 rfl⟩) q1720 qs7 cw_code q1721 ⟨by decide, by decide⟩ rfl (dl_at t_X1_font 4 rfl)) (dl_at t_X1_font 4 rfl) (cat24 (st := []) (Nat.le_of_ble_eq_true rfl)) (Nat.le_of_ble_eq_true rfl) (Nat.le_of_ble_eq_true rfl) fun h8 E8 => ?_
  refine g_aload_n (pc := 11) X (j := 0) (i := 0) (q := 0) (x := a0) rfl rfl (dl_at t_X1_font 5 rfl) ?_
  have k12 := kx (E5.trans E8) (by decide) hk
  refine r_getr (pc := 12) X fX1_8 k12 q1496 (dl_at t_X1_font 6 rfl) ?_
  refine g_aload_n (pc := 15) X (j := 0) (i := 0) (q := 0) (x := a0) rfl rfl (dl_at t_X1_font 7 rfl) ?_
  refine r_getr (pc := 16) X fX1_2 k12 q1490 (dl_at t_X1_font 8 rfl) ?_
  refine g_gd fun k19 => ?_
  refine r_callTv (pc := 19) X (fun _ hv => s_X8_read k19 hv) cw_code q1757 q362 (in_Vk X (As := [rv D (h8 a0 2)]) kX8 k19 (Or.inr ⟨_, nw_in q1754 rfl⟩) q1756 qs13 cw_code q1757 ⟨by decide, by decide⟩ rfl (dl_at t_X1_font 9 rfl)) (dl_at t_X1_font 9 rfl) (cat24 (st := []) (Nat.le_of_ble_eq_true rfl)) (Nat.le_of_ble_eq_true rfl) (Nat.le_of_ble_eq_true rfl) (fun v19 h19_1 E19_1 => ?_) (fun a19 h19 p19 E19 => ?_)
  · refine g_goto (pc := 22) X (off := 10) (tgt := 32) rfl (dl_at t_X1_font 10 rfl) ?_
    refine g_aload_n (pc := 32) X (j := 0) (i := 0) (q := 0) (x := a0) rfl rfl (dl_at t_X1_font 16 rfl) ?_
    have k33 := kx E19_1 (by decide) k12
    refine r_getr (pc := 33) X fX1_7 k33 q1495 (dl_at t_X1_font 17 rfl) ?_
    refine g_ltr fun x1_36 => ?_
    refine g_astore_nN (pc := 36) X (j := 1) (i := 1) (x := x1_36) (b := 0) (w := rv D a0) (rest := []) rfl (Nat.le_of_ble_eq_true rfl) [0] rfl (by decide) rv_cat rfl (dl_at t_X1_font 18 rfl) ?_
    refine g_aload_n (pc := 37) X (j := 0) (i := 0) (q := 1) (x := a0) rfl rfl (dl_at t_X1_font 19 rfl) ?_
    refine g_aload_n (pc := 38) X (j := 0) (i := 0) (q := 1) (x := a0) rfl rfl (dl_at t_X1_font 20 rfl) ?_
    refine r_getr (pc := 39) X fX1_8 k33 q1496 (dl_at t_X1_font 21 rfl) ?_
    refine r_putr (pc := 42) X fX1_7 k33 q1495 rfl (dl_at t_X1_font 22 rfl)  (fun h42 E42 => ?_)
    refine g_aload_n (pc := 45) X (j := 0) (i := 0) (q := 1) (x := a0) rfl rfl (dl_at t_X1_font 23 rfl) ?_
    refine g_aload_n (pc := 46) X (j := 1) (i := 1) (q := 0) (x := x1_36) rfl rfl (dl_at t_X1_font 24 rfl) ?_
    have k47 := kx E42 (by decide) k33
    refine r_putr (pc := 47) X fX1_8 k47 q1496 rfl (dl_at t_X1_font 25 rfl)  (fun h47 E47 => ?_)
    refine g_aload_n (pc := 50) X (j := 0) (i := 0) (q := 1) (x := a0) rfl rfl (dl_at t_X1_font 26 rfl) ?_
    have k51 := kx E47 (by decide) k47
    refine r_getr (pc := 51) X fX1_7 k51 q1495 (dl_at t_X1_font 27 rfl) ?_
    refine g_gd fun k54 => ?_
    refine r_getiN (pc := 54) X fX8_4 k54 (nw_in q871 rfl) (dl_at t_X1_font 28 rfl) fun g54 => ?_
    exact g_iret (pc := 57) X g54 rfl rfl (dl_at t_X1_font 29 rfl)
  refine gt_case (fun k19_1 => ?_) (fun _ => ?_)
  · refine gt_catch (pc := 19) X kX26 k19_1 [((11, 22, 25, 138), "ScholarsPress$Broken", true)] (hp := 25) rfl (by decide +kernel) (List.forall_mem_cons.mpr ⟨⟨q1713, by decide⟩, fun _ h => absurd h List.not_mem_nil⟩) htb ?_
    refine g_astore_nN (pc := 25) X (j := 1) (i := 1) (x := a19) (b := 0) (w := rv D a0) (rest := []) rfl (Nat.le_of_ble_eq_true rfl) [0] rfl (by decide) rv_cat rfl (dl_at t_X1_font 11 rfl) ?_
    refine g_aload_n (pc := 26) X (j := 0) (i := 0) (q := 1) (x := a0) rfl rfl (dl_at t_X1_font 12 rfl) ?_
    refine g_aload_n (pc := 27) X (j := 1) (i := 1) (q := 0) (x := a19) rfl rfl (dl_at t_X1_font 13 rfl) ?_
    have k28 := kx E19 (by decide) k12
    refine r_callWr (pc := 28) X (fun _ hv => s_X1_broken k28 hv) cw_code q1881 q355 (in_Vk X (As := [rv D a19]) kX1 k28 (Or.inl q1878) q1880 qs21 cw_code q1881 ⟨by decide, by decide⟩ rfl (dl_at t_X1_font 14 rfl)) (dl_at t_X1_font 14 rfl) (cat24 (st := []) (Nat.le_of_ble_eq_true rfl)) (Nat.le_of_ble_eq_true rfl) (Nat.le_of_ble_eq_true rfl) fun v28 h28 E28 => ?_
    refine g_gd fun p31 => ?_
    refine g_athrow (pc := 31) X (Int.ne_of_gt p31) (dl_at t_X1_font 15 rfl) ?_
    exact gt_at fun Q hQ => gt_out (Q := Q) X rfl p31 (noc (pc := 31) htb rfl) _ Q rfl hQ
  exact gt_none
def k_X0_font : List (Nat × Instr × Nat) := [(0, .aload_n 1, 1), (1, .iconst 0, 1), (2, .aload_n 0, 1), (3, .invokevirtual 21, 3), (6, .i2l, 1), (7, .lastore, 1), (8, .goto 6, 3), (11, .astore_n 2, 1), (12, .iconst 1, 1), (13, .ireturn, 1), (14, .iconst 0, 1), (15, .ireturn, 1)]
theorem t_X0_font : ∀ q ∈ k_X0_font, decode cX0_font q.1 = .ok q.2 := dl_all (by decide +kernel)
noncomputable def m_X0_font (a0 a1 : Int) (h : Hp) : Option (Int × Hp) :=
  gd (h a0 (-2) = 16) (bT (m_X1_font a0 h) (fun v3 h3_1 =>
  gd (h3_1 a1 (-2) % 16 = 4 ∧ (0 : Int) ≤ 0 ∧ 0 < h3_1 a1 (-1)) (pt h3_1 a1 0 v3 fun h7 =>
  some (0, h7))) (fun a3 h3 => if h3 a3 (-2) = 432 then (some (1, h3))
  else (if h3 a3 (-2) = 512 then (some (1, h3))
  else (none))))
theorem s_X0_font {l : Launch} [NoTr l] {D : SD} {a0 a1 : Int} {h : Hp}  {r : Int × Hp} (hm : m_X0_font a0 a1 h = some r) : Sim l D yX0_font (Cond.codeWith yX0_font cX0_font 3 (Option.some Jvm.ClassFile.FieldType.int) [((0 : Nat), (8 : Nat), (11 : Nat), (25 : Nat))]) 14 526 [rv D a0, rv D a1] h 1 ((0, r.1), r.2) := by
  refine Sim.of (fin := fun (v : Int × Hp) => ((0, v.1), v.2)) (lsE := [(0, rv D a0), (1, rv D a1)]) hm rfl cwS_with (la_r (la_r la_n)) (ll_r (ll_r ll_n)) ?_
  intro p e s m below meth c X hcw hmm hcc hnm hname
  have htb := tabW hcw hnm hmm hcc
  unfold m_X0_font
  refine g_aload_n (pc := 0) X (j := 1) (i := 1) (q := 1) (x := a1) rfl rfl (dl_at t_X0_font 0 rfl) ?_
  refine g_iconst (pc := 1) X (n := 0) (dl_at t_X0_font 1 rfl) ?_
  refine g_aload_n (pc := 2) X (j := 0) (i := 0) (q := 0) (x := a0) rfl rfl (dl_at t_X0_font 2 rfl) ?_
  refine g_gd fun k3 => ?_
  refine r_callTi (pc := 3) X (fun _ hv => s_X1_font k3 hv) cw_with q1712 q355 (in_Vk X (As := []) kX1 k3 (Or.inl q1709) q1710 q1711 cw_with q1712 ⟨by decide, by decide⟩ rfl (dl_at t_X0_font 3 rfl)) (dl_at t_X0_font 3 rfl) (cat24 (st := [iv 0, rv D a1]) (Nat.le_of_ble_eq_true rfl)) (Nat.le_of_ble_eq_true rfl) (Nat.le_of_ble_eq_true rfl) (fun v3 h3_1 g3 E3_1 => ?_) (fun a3 h3 p3 E3 => ?_)
  · refine g_i2l (pc := 6) X g3 (dl_at t_X0_font 4 rfl) ?_
    refine g_gd fun k7 => ?_
    refine r_last (pc := 7) X (r32_c rfl) (r64_of g3) k7 (dl_at t_X0_font 5 rfl) (fun h7 E7 => ?_)
    refine g_goto (pc := 8) X (off := 6) (tgt := 14) rfl (dl_at t_X0_font 6 rfl) ?_
    refine g_iconst (pc := 14) X (n := 0) (dl_at t_X0_font 10 rfl) ?_
    exact g_iret (pc := 15) X (r32_c rfl) rfl rfl (dl_at t_X0_font 11 rfl)
  refine gt_case (fun k3_1 => ?_) (fun _ => ?_)
  · refine gt_catch (pc := 3) X kX26 k3_1 [((0, 8, 11, 25), "java/lang/UnsupportedOperationException", true)] (hp := 11) rfl (by decide +kernel) (List.forall_mem_cons.mpr ⟨⟨q1708, by decide⟩, fun _ h => absurd h List.not_mem_nil⟩) htb ?_
    refine g_astore_n (pc := 11) X (j := 2) (i := 2) (x := a3) (rest := []) rfl (Nat.le_of_ble_eq_true rfl) [] rfl rfl (dl_at t_X0_font 7 rfl) ?_
    refine g_iconst (pc := 12) X (n := 1) (dl_at t_X0_font 8 rfl) ?_
    exact g_iret (pc := 13) X (r32_c rfl) rfl rfl (dl_at t_X0_font 9 rfl)
  refine gt_case (fun k3_2 => ?_) (fun _ => ?_)
  · refine gt_catch (pc := 3) X kJ10 k3_2 [((0, 8, 11, 25), "java/lang/UnsupportedOperationException", true)] (hp := 11) rfl (by decide +kernel) (List.forall_mem_cons.mpr ⟨⟨q1708, by decide⟩, fun _ h => absurd h List.not_mem_nil⟩) htb ?_
    refine g_astore_n (pc := 11) X (j := 2) (i := 2) (x := a3) (rest := []) rfl (Nat.le_of_ble_eq_true rfl) [] rfl rfl (dl_at t_X0_font 7 rfl) ?_
    refine g_iconst (pc := 12) X (n := 1) (dl_at t_X0_font 8 rfl) ?_
    exact g_iret (pc := 13) X (r32_c rfl) rfl rfl (dl_at t_X0_font 9 rfl)
  exact gt_none
def k_X9_clear : List (Nat × Instr × Nat) := [(0, .aload_n 0, 1), (1, .iconst 2, 1), (2, .putfield 11, 3), (5, .aload_n 0, 1), (6, .iconst 3, 1), (7, .putfield 15, 3), (10, .aload_n 0, 1), (11, .getfield 22, 3), (14, .iconst 0, 1), (15, .iconst (-1), 1), (16, .iastore, 1), (17, .aload_n 0, 1), (18, .getfield 25, 3), (21, .iconst 0, 1), (22, .iconst (-1), 1), (23, .iastore, 1), (24, .aload_n 0, 1), (25, .getfield 28, 3), (28, .iconst 0, 1), (29, .iconst (-1), 1), (30, .iastore, 1), (31, .aload_n 0, 1), (32, .iconst 1, 1), (33, .putfield 63, 3), (36, .aload_n 0, 1), (37, .iconst 0, 1), (38, .putfield 66, 3), (41, .aload_n 0, 1), (42, .iconst 0, 1), (43, .putfield 69, 3), (46, .aload_n 0, 1), (47, .iconst 0, 1), (48, .putfield 72, 3), (51, .return_, 1)]
theorem t_X9_clear : ∀ q ∈ k_X9_clear, decode cX9_clear q.1 = .ok q.2 := dl_all (by decide +kernel)
noncomputable def m_X9_clear (a0 : Int) (h : Hp) : Option (Hp) :=
  pt h a0 0 2 fun h2 =>
  pt h2 a0 1 3 fun h7 =>
  gd (h7 (h7 a0 3) (-2) % 16 = 1 ∧ (0 : Int) ≤ 0 ∧ 0 < h7 (h7 a0 3) (-1)) (pt h7 (h7 a0 3) 0 (-1) fun h16 =>
  gd (h16 (h16 a0 4) (-2) % 16 = 1 ∧ (0 : Int) ≤ 0 ∧ 0 < h16 (h16 a0 4) (-1)) (pt h16 (h16 a0 4) 0 (-1) fun h23 =>
  gd (h23 (h23 a0 5) (-2) % 16 = 1 ∧ (0 : Int) ≤ 0 ∧ 0 < h23 (h23 a0 5) (-1)) (pt h23 (h23 a0 5) 0 (-1) fun h30 =>
  pt h30 a0 6 1 fun h33 =>
  pt h33 a0 9 0 fun h38 =>
  pt h38 a0 10 0 fun h43 =>
  pt h43 a0 14 0 fun h48 =>
  some h48)))
theorem s_X9_clear {l : Launch} [NoTr l] {D : SD} {a0 : Int} {h : Hp} (hk : h a0 (-2) = 144) {r : Hp} (hm : m_X9_clear a0 h = some r) : Sim l D yX9_clear (Cond.code yX9_clear cX9_clear 1 (Option.none : Option Jvm.ClassFile.FieldType)) 0 0 [rv D a0] h 0 ((0, 0), r) := by
  refine Sim.of (fin := fun (v : Hp) => ((0, 0), v)) (lsE := [(0, rv D a0)]) hm rfl cwS_code (la_r la_n) (ll_r ll_n) ?_
  intro p e s m below meth c X hcw hmm hcc hnm hname
  unfold m_X9_clear
  refine g_aload_n (pc := 0) X (j := 0) (i := 0) (q := 0) (x := a0) rfl rfl (dl_at t_X9_clear 0 rfl) ?_
  refine g_iconst (pc := 1) X (n := 2) (dl_at t_X9_clear 1 rfl) ?_
  refine r_puti (pc := 2) X fX9_0 hk q893 rfl (dl_at t_X9_clear 2 rfl) (r32_c rfl) (fun h2 E2 => ?_)
  refine g_aload_n (pc := 5) X (j := 0) (i := 0) (q := 0) (x := a0) rfl rfl (dl_at t_X9_clear 3 rfl) ?_
  refine g_iconst (pc := 6) X (n := 3) (dl_at t_X9_clear 4 rfl) ?_
  have k7 := kx E2 (by decide) hk
  refine r_puti (pc := 7) X fX9_1 k7 q894 rfl (dl_at t_X9_clear 5 rfl) (r32_c rfl) (fun h7 E7 => ?_)
  refine g_aload_n (pc := 10) X (j := 0) (i := 0) (q := 0) (x := a0) rfl rfl (dl_at t_X9_clear 6 rfl) ?_
  have k11 := kx E7 (by decide) k7
  refine r_getr (pc := 11) X fX9_3 k11 q896 (dl_at t_X9_clear 7 rfl) ?_
  refine g_iconst (pc := 14) X (n := 0) (dl_at t_X9_clear 8 rfl) ?_
  refine g_iconst (pc := 15) X (n := (-1)) (dl_at t_X9_clear 9 rfl) ?_
  refine g_gd fun k16 => ?_
  refine r_iast (pc := 16) X (r32_c rfl) (r32_c rfl) k16 (dl_at t_X9_clear 10 rfl) (fun h16 E16 => ?_)
  refine g_aload_n (pc := 17) X (j := 0) (i := 0) (q := 0) (x := a0) rfl rfl (dl_at t_X9_clear 11 rfl) ?_
  have k18 := kx E16 (by decide) k11
  refine r_getr (pc := 18) X fX9_4 k18 q897 (dl_at t_X9_clear 12 rfl) ?_
  refine g_iconst (pc := 21) X (n := 0) (dl_at t_X9_clear 13 rfl) ?_
  refine g_iconst (pc := 22) X (n := (-1)) (dl_at t_X9_clear 14 rfl) ?_
  refine g_gd fun k23 => ?_
  refine r_iast (pc := 23) X (r32_c rfl) (r32_c rfl) k23 (dl_at t_X9_clear 15 rfl) (fun h23 E23 => ?_)
  refine g_aload_n (pc := 24) X (j := 0) (i := 0) (q := 0) (x := a0) rfl rfl (dl_at t_X9_clear 16 rfl) ?_
  have k25 := kx E23 (by decide) k18
  refine r_getr (pc := 25) X fX9_5 k25 q898 (dl_at t_X9_clear 17 rfl) ?_
  refine g_iconst (pc := 28) X (n := 0) (dl_at t_X9_clear 18 rfl) ?_
  refine g_iconst (pc := 29) X (n := (-1)) (dl_at t_X9_clear 19 rfl) ?_
  refine g_gd fun k30 => ?_
  refine r_iast (pc := 30) X (r32_c rfl) (r32_c rfl) k30 (dl_at t_X9_clear 20 rfl) (fun h30 E30 => ?_)
  refine g_aload_n (pc := 31) X (j := 0) (i := 0) (q := 0) (x := a0) rfl rfl (dl_at t_X9_clear 21 rfl) ?_
  refine g_iconst (pc := 32) X (n := 1) (dl_at t_X9_clear 22 rfl) ?_
  have k33 := kx E30 (by decide) k25
  refine r_puti (pc := 33) X fX9_6 k33 q899 rfl (dl_at t_X9_clear 23 rfl) (r32_c rfl) (fun h33 E33 => ?_)
  refine g_aload_n (pc := 36) X (j := 0) (i := 0) (q := 0) (x := a0) rfl rfl (dl_at t_X9_clear 24 rfl) ?_
  refine g_iconst (pc := 37) X (n := 0) (dl_at t_X9_clear 25 rfl) ?_
  have k38 := kx E33 (by decide) k33
  refine r_puti (pc := 38) X fX9_9 k38 q902 rfl (dl_at t_X9_clear 26 rfl) (r32_c rfl) (fun h38 E38 => ?_)
  refine g_aload_n (pc := 41) X (j := 0) (i := 0) (q := 0) (x := a0) rfl rfl (dl_at t_X9_clear 27 rfl) ?_
  refine g_iconst (pc := 42) X (n := 0) (dl_at t_X9_clear 28 rfl) ?_
  have k43 := kx E38 (by decide) k38
  refine r_puti (pc := 43) X fX9_10 k43 q903 rfl (dl_at t_X9_clear 29 rfl) (r32_c rfl) (fun h43 E43 => ?_)
  refine g_aload_n (pc := 46) X (j := 0) (i := 0) (q := 0) (x := a0) rfl rfl (dl_at t_X9_clear 30 rfl) ?_
  refine g_iconst (pc := 47) X (n := 0) (dl_at t_X9_clear 31 rfl) ?_
  have k48 := kx E43 (by decide) k43
  refine r_puti (pc := 48) X fX9_14 k48 q908 rfl (dl_at t_X9_clear 32 rfl) (r32_c rfl) (fun h48 E48 => ?_)
  exact g_vret (pc := 51) X (v := 0) rfl rfl (dl_at t_X9_clear 33 rfl)
def k_X9_skip : List (Nat × Instr × Nat) := [(0, .iload_n 2, 1), (1, .istore 4, 2), (3, .iload 4, 2), (5, .iload_n 3, 1), (6, .if_icmp .ge 19, 3), (9, .aload_n 1, 1), (10, .iload 4, 2), (12, .baload, 1), (13, .invokestatic 102, 3), (16, .ifCond .eq 9, 3), (19, .iinc 4 1, 3), (22, .goto (-19), 3), (25, .iload 4, 2), (27, .ireturn, 1)]
theorem t_X9_skip : ∀ q ∈ k_X9_skip, decode cX9_skip q.1 = .ok q.2 := dl_all (by decide +kernel)
noncomputable def m_X9_skip_l3 (a1 a3 x4_3 : Int) (h : Hp) : Option ((Int) ⊕ ((Int))) :=
  if a3 ≤ x4_3 then (some (.inr x4_3))
  else (gd (h a1 (-2) % 16 = 2 ∧ (0 : Int) ≤ x4_3 ∧ x4_3 < h a1 (-1)) ((m_X1_isBlank (h a1 x4_3)).bind fun v13 =>
  if v13 = 0 then (some (.inr x4_3))
  else (lt_ (w32 (x4_3 + 1)) fun x4_19 =>
  some (.inl x4_19))))
noncomputable def m_X9_skip (a0 a1 a2 a3 : Int) (h : Hp) : Option (Int) :=
  (lp (fun (q : Int) => m_X9_skip_l3 a1 a3 q h) a2).bind (fun (x : Int) => some x)
theorem s_X9_skip {l : Launch} [NoTr l] {D : SD} {a0 a1 a2 a3 : Int} {h : Hp} (hk : h a0 (-2) = 144) (r2 : r32 a2) (r3 : r32 a3) {r : Int} (hm : m_X9_skip a0 a1 a2 a3 h = some r) : Sim l D yX9_skip (Cond.code yX9_skip cX9_skip 5 (Option.some Jvm.ClassFile.FieldType.int)) 1 36 [rv D a0, rv D a1, iv a2, iv a3] h 1 ((0, r), h) := by
  refine Sim.of (fin := fun (v : Int) => ((0, v), h)) (lsE := [(0, rv D a0), (1, rv D a1), (2, iv a2), (3, iv a3)]) hm rfl cwS_code (la_r (la_r (la_i (la_i la_n)))) (ll_r (ll_r (ll_i (ll_i ll_n)))) ?_
  intro p e s m below meth c X hcw hmm hcc hnm hname
  unfold m_X9_skip
  refine g_iload_n (pc := 0) X (j := 2) (i := 2) (q := 2) (x := a2) rfl rfl (dl_at t_X9_skip 0 rfl) ?_
  refine g_istoreN (pc := 1) X (i := 4) (x := a2) (b := 3) (w := iv a3) (rest := [(1, rv D a1)]) (Nat.le_of_ble_eq_true rfl) [3, 1] rfl (by decide) rfl rfl (dl_at t_X9_skip 1 rfl) ?_
  refine g_ls (ls2 := [(1, rv D a1), (3, iv a3), (4, iv a2)]) [2, 1, 0] rfl ?_
  refine g_loop0F (fun (q : Int) => [(1, rv D a1), (3, iv a3), (4, iv q)]) (fun (q : Int) => h) (fun (q : Int) => r32 q) a2 r2 ?_ (fun _ => rfl)
  · rintro x4_3 r4_3
    try dsimp only
    unfold m_X9_skip_l3
    refine g_iload (pc := 3) X (i := 4) (q := 2) (x := x4_3) rfl (dl_at t_X9_skip 2 rfl) ?_
    refine g_iload_n (pc := 5) X (j := 3) (i := 3) (q := 1) (x := a3) rfl rfl (dl_at t_X9_skip 3 rfl) ?_
    refine g_icmpge (pc := 6) X r4_3 r3 (off := 19) (tgt := 25) rfl (dl_at t_X9_skip 4 rfl) (fun _ => ?_) (fun _ => ?_)
    · refine g_iload (pc := 25) X (i := 4) (q := 2) (x := x4_3) rfl (dl_at t_X9_skip 12 rfl) ?_
      exact g_at fun Q hQ => (g_iret (pc := 27) X r4_3 rfl rfl (dl_at t_X9_skip 13 rfl)) _ Q rfl hQ
    refine g_aload_n (pc := 9) X (j := 1) (i := 1) (q := 0) (x := a1) rfl rfl (dl_at t_X9_skip 5 rfl) ?_
    refine g_iload (pc := 10) X (i := 4) (q := 2) (x := x4_3) rfl (dl_at t_X9_skip 6 rfl) ?_
    refine g_gd fun k12 => ?_
    refine g_bald (pc := 12) X r4_3 k12 (dl_at t_X9_skip 7 rfl) fun g12 => ?_
    refine r_callRz (pc := 13) X (fun _ hv => s_X1_isBlank (r32_b g12) hv) cw_code q1732 q355 (in_Sc X (As := [iv (h a1 x4_3)]) (Or.inr ⟨_, nw_in q1912 rfl⟩) q1731 q355 q1732 ⟨by decide, by decide⟩ rfl (dl_at t_X9_skip 8 rfl)) (dl_at t_X9_skip 8 rfl) (cat24 (st := []) (Nat.le_of_ble_eq_true rfl)) (Nat.le_of_ble_eq_true rfl) (Nat.le_of_ble_eq_true rfl) fun v13 g13 => ?_
    refine g_ifeq (pc := 16) X (r32_z g13) (off := 9) (tgt := 25) rfl (dl_at t_X9_skip 9 rfl) (fun _ => ?_) (fun _ => ?_)
    · refine g_iload (pc := 25) X (i := 4) (q := 2) (x := x4_3) rfl (dl_at t_X9_skip 12 rfl) ?_
      exact g_at fun Q hQ => (g_iret (pc := 27) X r4_3 rfl rfl (dl_at t_X9_skip 13 rfl)) _ Q rfl hQ
    refine r_iincN (pc := 19) X (i := 4) (q := 2) (n := 1) (x := x4_3) (b := 3) (w := iv a3) (rest := [(1, rv D a1)]) rfl r4_3 (r32_c rfl) (Nat.le_of_ble_eq_true rfl) [1, 0] rfl (by decide) rfl rfl (dl_at t_X9_skip 10 rfl) fun x4_19 r4_19 => ?_
    refine g_goto (pc := 22) X (off := (-19)) (tgt := 3) rfl (dl_at t_X9_skip 11 rfl) ?_
    refine g_ls (ls2 := [(1, rv D a1), (3, iv a3), (4, iv x4_19)]) [2, 1, 0] rfl ?_
    exact g_at fun Q hQ => hQ r4_19
def k_X9_wordEnd : List (Nat × Instr × Nat) := [(0, .iload_n 2, 1), (1, .istore 4, 2), (3, .iload 4, 2), (5, .iload_n 3, 1), (6, .if_icmp .ge 19, 3), (9, .aload_n 1, 1), (10, .iload 4, 2), (12, .baload, 1), (13, .invokestatic 102, 3), (16, .ifCond .ne 9, 3), (19, .iinc 4 1, 3), (22, .goto (-19), 3), (25, .iload 4, 2), (27, .ireturn, 1)]
theorem t_X9_wordEnd : ∀ q ∈ k_X9_wordEnd, decode cX9_wordEnd q.1 = .ok q.2 := dl_all (by decide +kernel)
noncomputable def m_X9_wordEnd_l3 (a1 a3 x4_3 : Int) (h : Hp) : Option ((Int) ⊕ ((Int))) :=
  if a3 ≤ x4_3 then (some (.inr x4_3))
  else (gd (h a1 (-2) % 16 = 2 ∧ (0 : Int) ≤ x4_3 ∧ x4_3 < h a1 (-1)) ((m_X1_isBlank (h a1 x4_3)).bind fun v13 =>
  if v13 ≠ 0 then (some (.inr x4_3))
  else (lt_ (w32 (x4_3 + 1)) fun x4_19 =>
  some (.inl x4_19))))
noncomputable def m_X9_wordEnd (a0 a1 a2 a3 : Int) (h : Hp) : Option (Int) :=
  (lp (fun (q : Int) => m_X9_wordEnd_l3 a1 a3 q h) a2).bind (fun (x : Int) => some x)
theorem s_X9_wordEnd {l : Launch} [NoTr l] {D : SD} {a0 a1 a2 a3 : Int} {h : Hp} (hk : h a0 (-2) = 144) (r2 : r32 a2) (r3 : r32 a3) {r : Int} (hm : m_X9_wordEnd a0 a1 a2 a3 h = some r) : Sim l D yX9_wordEnd (Cond.code yX9_wordEnd cX9_wordEnd 5 (Option.some Jvm.ClassFile.FieldType.int)) 1 36 [rv D a0, rv D a1, iv a2, iv a3] h 1 ((0, r), h) := by
  refine Sim.of (fin := fun (v : Int) => ((0, v), h)) (lsE := [(0, rv D a0), (1, rv D a1), (2, iv a2), (3, iv a3)]) hm rfl cwS_code (la_r (la_r (la_i (la_i la_n)))) (ll_r (ll_r (ll_i (ll_i ll_n)))) ?_
  intro p e s m below meth c X hcw hmm hcc hnm hname
  unfold m_X9_wordEnd
  refine g_iload_n (pc := 0) X (j := 2) (i := 2) (q := 2) (x := a2) rfl rfl (dl_at t_X9_wordEnd 0 rfl) ?_
  refine g_istoreN (pc := 1) X (i := 4) (x := a2) (b := 3) (w := iv a3) (rest := [(1, rv D a1)]) (Nat.le_of_ble_eq_true rfl) [3, 1] rfl (by decide) rfl rfl (dl_at t_X9_wordEnd 1 rfl) ?_
  refine g_ls (ls2 := [(1, rv D a1), (3, iv a3), (4, iv a2)]) [2, 1, 0] rfl ?_
  refine g_loop0F (fun (q : Int) => [(1, rv D a1), (3, iv a3), (4, iv q)]) (fun (q : Int) => h) (fun (q : Int) => r32 q) a2 r2 ?_ (fun _ => rfl)
  · rintro x4_3 r4_3
    try dsimp only
    unfold m_X9_wordEnd_l3
    refine g_iload (pc := 3) X (i := 4) (q := 2) (x := x4_3) rfl (dl_at t_X9_wordEnd 2 rfl) ?_
    refine g_iload_n (pc := 5) X (j := 3) (i := 3) (q := 1) (x := a3) rfl rfl (dl_at t_X9_wordEnd 3 rfl) ?_
    refine g_icmpge (pc := 6) X r4_3 r3 (off := 19) (tgt := 25) rfl (dl_at t_X9_wordEnd 4 rfl) (fun _ => ?_) (fun _ => ?_)
    · refine g_iload (pc := 25) X (i := 4) (q := 2) (x := x4_3) rfl (dl_at t_X9_wordEnd 12 rfl) ?_
      exact g_at fun Q hQ => (g_iret (pc := 27) X r4_3 rfl rfl (dl_at t_X9_wordEnd 13 rfl)) _ Q rfl hQ
    refine g_aload_n (pc := 9) X (j := 1) (i := 1) (q := 0) (x := a1) rfl rfl (dl_at t_X9_wordEnd 5 rfl) ?_
    refine g_iload (pc := 10) X (i := 4) (q := 2) (x := x4_3) rfl (dl_at t_X9_wordEnd 6 rfl) ?_
    refine g_gd fun k12 => ?_
    refine g_bald (pc := 12) X r4_3 k12 (dl_at t_X9_wordEnd 7 rfl) fun g12 => ?_
    refine r_callRz (pc := 13) X (fun _ hv => s_X1_isBlank (r32_b g12) hv) cw_code q1732 q355 (in_Sc X (As := [iv (h a1 x4_3)]) (Or.inr ⟨_, nw_in q1912 rfl⟩) q1731 q355 q1732 ⟨by decide, by decide⟩ rfl (dl_at t_X9_wordEnd 8 rfl)) (dl_at t_X9_wordEnd 8 rfl) (cat24 (st := []) (Nat.le_of_ble_eq_true rfl)) (Nat.le_of_ble_eq_true rfl) (Nat.le_of_ble_eq_true rfl) fun v13 g13 => ?_
    refine g_ifne (pc := 16) X (r32_z g13) (off := 9) (tgt := 25) rfl (dl_at t_X9_wordEnd 9 rfl) (fun _ => ?_) (fun _ => ?_)
    · refine g_iload (pc := 25) X (i := 4) (q := 2) (x := x4_3) rfl (dl_at t_X9_wordEnd 12 rfl) ?_
      exact g_at fun Q hQ => (g_iret (pc := 27) X r4_3 rfl rfl (dl_at t_X9_wordEnd 13 rfl)) _ Q rfl hQ
    refine r_iincN (pc := 19) X (i := 4) (q := 2) (n := 1) (x := x4_3) (b := 3) (w := iv a3) (rest := [(1, rv D a1)]) rfl r4_3 (r32_c rfl) (Nat.le_of_ble_eq_true rfl) [1, 0] rfl (by decide) rfl rfl (dl_at t_X9_wordEnd 10 rfl) fun x4_19 r4_19 => ?_
    refine g_goto (pc := 22) X (off := (-19)) (tgt := 3) rfl (dl_at t_X9_wordEnd 11 rfl) ?_
    refine g_ls (ls2 := [(1, rv D a1), (3, iv a3), (4, iv x4_19)]) [2, 1, 0] rfl ?_
    exact g_at fun Q hQ => hQ r4_19
def k_X9_isEnds : List (Nat × Instr × Nat) := [(0, .iload_n 3, 1), (1, .iload_n 2, 1), (2, .isub, 1), (3, .iconst 4, 1), (4, .if_icmp .ne 45, 3), (7, .aload_n 1, 1), (8, .iload_n 2, 1), (9, .baload, 1), (10, .bipush 101, 2), (12, .if_icmp .ne 37, 3), (15, .aload_n 1, 1), (16, .iload_n 2, 1), (17, .iconst 1, 1), (18, .iadd, 1), (19, .baload, 1), (20, .bipush 110, 2), (22, .if_icmp .ne 27, 3), (25, .aload_n 1, 1), (26, .iload_n 2, 1), (27, .iconst 2, 1), (28, .iadd, 1), (29, .baload, 1), (30, .bipush 100, 2), (32, .if_icmp .ne 17, 3), (35, .aload_n 1, 1), (36, .iload_n 2, 1), (37, .iconst 3, 1), (38, .iadd, 1), (39, .baload, 1), (40, .bipush 115, 2), (42, .if_icmp .ne 7, 3), (45, .iconst 1, 1), (46, .goto 4, 3), (49, .iconst 0, 1), (50, .ireturn, 1)]
theorem t_X9_isEnds : ∀ q ∈ k_X9_isEnds, decode cX9_isEnds q.1 = .ok q.2 := dl_all (by decide +kernel)
noncomputable def m_X9_isEnds (a0 a1 a2 a3 : Int) (h : Hp) : Option (Int) :=
  if (w32 (a3 - a2)) ≠ 4 then (some 0)
  else (gd (h a1 (-2) % 16 = 2 ∧ (0 : Int) ≤ a2 ∧ a2 < h a1 (-1)) (if (h a1 a2) ≠ 101 then (some 0)
  else (gd (h a1 (-2) % 16 = 2 ∧ (0 : Int) ≤ (w32 (a2 + 1)) ∧ (w32 (a2 + 1)) < h a1 (-1)) (if (h a1 (w32 (a2 + 1))) ≠ 110 then (some 0)
  else (gd (h a1 (-2) % 16 = 2 ∧ (0 : Int) ≤ (w32 (a2 + 2)) ∧ (w32 (a2 + 2)) < h a1 (-1)) (if (h a1 (w32 (a2 + 2))) ≠ 100 then (some 0)
  else (gd (h a1 (-2) % 16 = 2 ∧ (0 : Int) ≤ (w32 (a2 + 3)) ∧ (w32 (a2 + 3)) < h a1 (-1)) (if (h a1 (w32 (a2 + 3))) ≠ 115 then (some 0)
  else (some 1)))))))))
theorem s_X9_isEnds {l : Launch} [NoTr l] {D : SD} {a0 a1 a2 a3 : Int} {h : Hp} (hk : h a0 (-2) = 144) (r2 : r32 a2) (r3 : r32 a3) {r : Int} (hm : m_X9_isEnds a0 a1 a2 a3 h = some r) : Sim l D yX9_isEnds (Cond.code yX9_isEnds cX9_isEnds 4 (Option.some Jvm.ClassFile.FieldType.boolean)) 0 0 [rv D a0, rv D a1, iv a2, iv a3] h 3 ((0, r), h) := by
  refine Sim.of (fin := fun (v : Int) => ((0, v), h)) (lsE := [(0, rv D a0), (1, rv D a1), (2, iv a2), (3, iv a3)]) hm rfl cwS_code (la_r (la_r (la_i (la_i la_n)))) (ll_r (ll_r (ll_i (ll_i ll_n)))) ?_
  intro p e s m below meth c X hcw hmm hcc hnm hname
  unfold m_X9_isEnds
  refine g_iload_n (pc := 0) X (j := 3) (i := 3) (q := 3) (x := a3) rfl rfl (dl_at t_X9_isEnds 0 rfl) ?_
  refine g_iload_n (pc := 1) X (j := 2) (i := 2) (q := 2) (x := a2) rfl rfl (dl_at t_X9_isEnds 1 rfl) ?_
  refine g_isub (pc := 2) X r3 r2 (dl_at t_X9_isEnds 2 rfl) ?_
  refine g_iconst (pc := 3) X (n := 4) (dl_at t_X9_isEnds 3 rfl) ?_
  refine g_icmpne (pc := 4) X (r32_w _) (r32_c rfl) (off := 45) (tgt := 49) rfl (dl_at t_X9_isEnds 4 rfl) (fun _ => ?_) (fun _ => ?_)
  · refine g_iconst (pc := 49) X (n := 0) (dl_at t_X9_isEnds 33 rfl) ?_
    exact g_zret (pc := 50) X (Or.inl rfl) rfl rfl (dl_at t_X9_isEnds 34 rfl)
  refine g_aload_n (pc := 7) X (j := 1) (i := 1) (q := 1) (x := a1) rfl rfl (dl_at t_X9_isEnds 5 rfl) ?_
  refine g_iload_n (pc := 8) X (j := 2) (i := 2) (q := 2) (x := a2) rfl rfl (dl_at t_X9_isEnds 6 rfl) ?_
  refine g_gd fun k9 => ?_
  refine g_bald (pc := 9) X r2 k9 (dl_at t_X9_isEnds 7 rfl) fun g9 => ?_
  refine g_bipush (pc := 10) X (n := 101) rfl (dl_at t_X9_isEnds 8 rfl) ?_
  refine g_icmpne (pc := 12) X (r32_b g9) (r32_c rfl) (off := 37) (tgt := 49) rfl (dl_at t_X9_isEnds 9 rfl) (fun _ => ?_) (fun _ => ?_)
  · refine g_iconst (pc := 49) X (n := 0) (dl_at t_X9_isEnds 33 rfl) ?_
    exact g_zret (pc := 50) X (Or.inl rfl) rfl rfl (dl_at t_X9_isEnds 34 rfl)
  refine g_aload_n (pc := 15) X (j := 1) (i := 1) (q := 1) (x := a1) rfl rfl (dl_at t_X9_isEnds 10 rfl) ?_
  refine g_iload_n (pc := 16) X (j := 2) (i := 2) (q := 2) (x := a2) rfl rfl (dl_at t_X9_isEnds 11 rfl) ?_
  refine g_iconst (pc := 17) X (n := 1) (dl_at t_X9_isEnds 12 rfl) ?_
  refine g_iadd (pc := 18) X r2 (r32_c rfl) (dl_at t_X9_isEnds 13 rfl) ?_
  refine g_gd fun k19 => ?_
  refine g_bald (pc := 19) X (r32_w _) k19 (dl_at t_X9_isEnds 14 rfl) fun g19 => ?_
  refine g_bipush (pc := 20) X (n := 110) rfl (dl_at t_X9_isEnds 15 rfl) ?_
  refine g_icmpne (pc := 22) X (r32_b g19) (r32_c rfl) (off := 27) (tgt := 49) rfl (dl_at t_X9_isEnds 16 rfl) (fun _ => ?_) (fun _ => ?_)
  · refine g_iconst (pc := 49) X (n := 0) (dl_at t_X9_isEnds 33 rfl) ?_
    exact g_zret (pc := 50) X (Or.inl rfl) rfl rfl (dl_at t_X9_isEnds 34 rfl)
  refine g_aload_n (pc := 25) X (j := 1) (i := 1) (q := 1) (x := a1) rfl rfl (dl_at t_X9_isEnds 17 rfl) ?_
  refine g_iload_n (pc := 26) X (j := 2) (i := 2) (q := 2) (x := a2) rfl rfl (dl_at t_X9_isEnds 18 rfl) ?_
  refine g_iconst (pc := 27) X (n := 2) (dl_at t_X9_isEnds 19 rfl) ?_
  refine g_iadd (pc := 28) X r2 (r32_c rfl) (dl_at t_X9_isEnds 20 rfl) ?_
  refine g_gd fun k29 => ?_
  refine g_bald (pc := 29) X (r32_w _) k29 (dl_at t_X9_isEnds 21 rfl) fun g29 => ?_
  refine g_bipush (pc := 30) X (n := 100) rfl (dl_at t_X9_isEnds 22 rfl) ?_
  refine g_icmpne (pc := 32) X (r32_b g29) (r32_c rfl) (off := 17) (tgt := 49) rfl (dl_at t_X9_isEnds 23 rfl) (fun _ => ?_) (fun _ => ?_)
  · refine g_iconst (pc := 49) X (n := 0) (dl_at t_X9_isEnds 33 rfl) ?_
    exact g_zret (pc := 50) X (Or.inl rfl) rfl rfl (dl_at t_X9_isEnds 34 rfl)
  refine g_aload_n (pc := 35) X (j := 1) (i := 1) (q := 1) (x := a1) rfl rfl (dl_at t_X9_isEnds 24 rfl) ?_
  refine g_iload_n (pc := 36) X (j := 2) (i := 2) (q := 2) (x := a2) rfl rfl (dl_at t_X9_isEnds 25 rfl) ?_
  refine g_iconst (pc := 37) X (n := 3) (dl_at t_X9_isEnds 26 rfl) ?_
  refine g_iadd (pc := 38) X r2 (r32_c rfl) (dl_at t_X9_isEnds 27 rfl) ?_
  refine g_gd fun k39 => ?_
  refine g_bald (pc := 39) X (r32_w _) k39 (dl_at t_X9_isEnds 28 rfl) fun g39 => ?_
  refine g_bipush (pc := 40) X (n := 115) rfl (dl_at t_X9_isEnds 29 rfl) ?_
  refine g_icmpne (pc := 42) X (r32_b g39) (r32_c rfl) (off := 7) (tgt := 49) rfl (dl_at t_X9_isEnds 30 rfl) (fun _ => ?_) (fun _ => ?_)
  · refine g_iconst (pc := 49) X (n := 0) (dl_at t_X9_isEnds 33 rfl) ?_
    exact g_zret (pc := 50) X (Or.inl rfl) rfl rfl (dl_at t_X9_isEnds 34 rfl)
  refine g_iconst (pc := 45) X (n := 1) (dl_at t_X9_isEnds 31 rfl) ?_
  refine g_goto (pc := 46) X (off := 4) (tgt := 50) rfl (dl_at t_X9_isEnds 32 rfl) ?_
  exact g_zret (pc := 50) X (Or.inr rfl) rfl rfl (dl_at t_X9_isEnds 34 rfl)
def k_X9_isCount : List (Nat × Instr × Nat) := [(0, .iload_n 0, 1), (1, .bipush 49, 2), (3, .if_icmp .lt 13, 3), (6, .iload_n 0, 1), (7, .bipush 57, 2), (9, .if_icmp .gt 7, 3), (12, .iconst 1, 1), (13, .goto 4, 3), (16, .iconst 0, 1), (17, .ireturn, 1)]
theorem t_X9_isCount : ∀ q ∈ k_X9_isCount, decode cX9_isCount q.1 = .ok q.2 := dl_all (by decide +kernel)
noncomputable def m_X9_isCount (a0 : Int) : Option (Int) :=
  if a0 < 49 then (some 0)
  else (if 57 < a0 then (some 0)
  else (some 1))
theorem s_X9_isCount {l : Launch} [NoTr l] {D : SD} {a0 : Int} {h : Hp} (r0 : r32 a0) {r : Int} (hm : m_X9_isCount a0 = some r) : Sim l D yX9_isCount (Cond.code yX9_isCount cX9_isCount 1 (Option.some Jvm.ClassFile.FieldType.boolean)) 0 0 [iv a0] h 3 ((0, r), h) := by
  refine Sim.of (fin := fun (v : Int) => ((0, v), h)) (lsE := [(0, iv a0)]) hm rfl cwS_code (la_i la_n) (ll_i ll_n) ?_
  intro p e s m below meth c X hcw hmm hcc hnm hname
  unfold m_X9_isCount
  refine g_iload_n (pc := 0) X (j := 0) (i := 0) (q := 0) (x := a0) rfl rfl (dl_at t_X9_isCount 0 rfl) ?_
  refine g_bipush (pc := 1) X (n := 49) rfl (dl_at t_X9_isCount 1 rfl) ?_
  refine g_icmplt (pc := 3) X r0 (r32_c rfl) (off := 13) (tgt := 16) rfl (dl_at t_X9_isCount 2 rfl) (fun _ => ?_) (fun _ => ?_)
  · refine g_iconst (pc := 16) X (n := 0) (dl_at t_X9_isCount 8 rfl) ?_
    exact g_zret (pc := 17) X (Or.inl rfl) rfl rfl (dl_at t_X9_isCount 9 rfl)
  refine g_iload_n (pc := 6) X (j := 0) (i := 0) (q := 0) (x := a0) rfl rfl (dl_at t_X9_isCount 3 rfl) ?_
  refine g_bipush (pc := 7) X (n := 57) rfl (dl_at t_X9_isCount 4 rfl) ?_
  refine g_icmpgt (pc := 9) X r0 (r32_c rfl) (off := 7) (tgt := 16) rfl (dl_at t_X9_isCount 5 rfl) (fun _ => ?_) (fun _ => ?_)
  · refine g_iconst (pc := 16) X (n := 0) (dl_at t_X9_isCount 8 rfl) ?_
    exact g_zret (pc := 17) X (Or.inl rfl) rfl rfl (dl_at t_X9_isCount 9 rfl)
  refine g_iconst (pc := 12) X (n := 1) (dl_at t_X9_isCount 6 rfl) ?_
  refine g_goto (pc := 13) X (off := 4) (tgt := 17) rfl (dl_at t_X9_isCount 7 rfl) ?_
  exact g_zret (pc := 17) X (Or.inr rfl) rfl rfl (dl_at t_X9_isCount 9 rfl)
def k_X1_small : List (Nat × Instr × Nat) := [(0, .iload_n 0, 1), (1, .bipush 65, 2), (3, .if_icmp .lt 16, 3), (6, .iload_n 0, 1), (7, .bipush 90, 2), (9, .if_icmp .gt 10, 3), (12, .iload_n 0, 1), (13, .bipush 32, 2), (15, .iadd, 1), (16, .goto 4, 3), (19, .iload_n 0, 1), (20, .ireturn, 1)]
theorem t_X1_small : ∀ q ∈ k_X1_small, decode cX1_small q.1 = .ok q.2 := dl_all (by decide +kernel)
noncomputable def m_X1_small (a0 : Int) : Option (Int) :=
  if a0 < 65 then (some a0)
  else (if 90 < a0 then (some a0)
  else (some (w32 (a0 + 32))))
theorem s_X1_small {l : Launch} [NoTr l] {D : SD} {a0 : Int} {h : Hp} (r0 : r32 a0) {r : Int} (hm : m_X1_small a0 = some r) : Sim l D yX1_small (Cond.code yX1_small cX1_small 1 (Option.some Jvm.ClassFile.FieldType.int)) 0 0 [iv a0] h 1 ((0, r), h) := by
  refine Sim.of (fin := fun (v : Int) => ((0, v), h)) (lsE := [(0, iv a0)]) hm rfl cwS_code (la_i la_n) (ll_i ll_n) ?_
  intro p e s m below meth c X hcw hmm hcc hnm hname
  unfold m_X1_small
  refine g_iload_n (pc := 0) X (j := 0) (i := 0) (q := 0) (x := a0) rfl rfl (dl_at t_X1_small 0 rfl) ?_
  refine g_bipush (pc := 1) X (n := 65) rfl (dl_at t_X1_small 1 rfl) ?_
  refine g_icmplt (pc := 3) X r0 (r32_c rfl) (off := 16) (tgt := 19) rfl (dl_at t_X1_small 2 rfl) (fun _ => ?_) (fun _ => ?_)
  · refine g_iload_n (pc := 19) X (j := 0) (i := 0) (q := 0) (x := a0) rfl rfl (dl_at t_X1_small 10 rfl) ?_
    exact g_iret (pc := 20) X r0 rfl rfl (dl_at t_X1_small 11 rfl)
  refine g_iload_n (pc := 6) X (j := 0) (i := 0) (q := 0) (x := a0) rfl rfl (dl_at t_X1_small 3 rfl) ?_
  refine g_bipush (pc := 7) X (n := 90) rfl (dl_at t_X1_small 4 rfl) ?_
  refine g_icmpgt (pc := 9) X r0 (r32_c rfl) (off := 10) (tgt := 19) rfl (dl_at t_X1_small 5 rfl) (fun _ => ?_) (fun _ => ?_)
  · refine g_iload_n (pc := 19) X (j := 0) (i := 0) (q := 0) (x := a0) rfl rfl (dl_at t_X1_small 10 rfl) ?_
    exact g_iret (pc := 20) X r0 rfl rfl (dl_at t_X1_small 11 rfl)
  refine g_iload_n (pc := 12) X (j := 0) (i := 0) (q := 0) (x := a0) rfl rfl (dl_at t_X1_small 6 rfl) ?_
  refine g_bipush (pc := 13) X (n := 32) rfl (dl_at t_X1_small 7 rfl) ?_
  refine g_iadd (pc := 15) X r0 (r32_c rfl) (dl_at t_X1_small 8 rfl) ?_
  refine g_goto (pc := 16) X (off := 4) (tgt := 20) rfl (dl_at t_X1_small 9 rfl) ?_
  exact g_iret (pc := 20) X (r32_w _) rfl rfl (dl_at t_X1_small 11 rfl)
def k_X9_exceptionOf : List (Nat × Instr × Nat) := [(0, .iconst 0, 1), (1, .istore 4, 2), (3, .iload 4, 2), (5, .aload_n 0, 1), (6, .getfield 72, 3), (9, .if_icmp .ge 87, 3), (12, .aload_n 0, 1), (13, .getfield 45, 3), (16, .iload 4, 2), (18, .iaload, 1), (19, .iload_n 3, 1), (20, .if_icmp .ne 7, 3), (23, .iconst 1, 1), (24, .goto 4, 3), (27, .iconst 0, 1), (28, .istore 5, 2), (30, .iconst 0, 1), (31, .istore 6, 2), (33, .iload 6, 2), (35, .iload_n 3, 1), (36, .if_icmp .ge 46, 3), (39, .iload 5, 2), (41, .ifCond .eq 41, 3), (44, .aload_n 0, 1), (45, .getfield 38, 3), (48, .bipush 30, 2), (50, .iload 4, 2), (52, .imul, 1), (53, .iload 6, 2), (55, .iadd, 1), (56, .baload, 1), (57, .aload_n 1, 1), (58, .iload_n 2, 1), (59, .iload 6, 2), (61, .iadd, 1), (62, .baload, 1), (63, .invokestatic 111, 3), (66, .if_icmp .ne 7, 3), (69, .iconst 1, 1), (70, .goto 4, 3), (73, .iconst 0, 1), (74, .istore 5, 2), (76, .iinc 6 1, 3), (79, .goto (-46), 3), (82, .iload 5, 2), (84, .ifCond .eq 6, 3), (87, .iload 4, 2), (89, .ireturn, 1), (90, .iinc 4 1, 3), (93, .goto (-90), 3), (96, .iconst (-1), 1), (97, .ireturn, 1)]
theorem t_X9_exceptionOf : ∀ q ∈ k_X9_exceptionOf, decode cX9_exceptionOf q.1 = .ok q.2 := dl_all (by decide +kernel)
noncomputable def m_X9_exceptionOf_j74 (x6_33 s0_74 : Int) : Option ((Int × Int) ⊕ ((Int))) :=
  lt_ (w32 (x6_33 + 1)) fun x6_76 =>
  some (.inl (s0_74, x6_76))
noncomputable def m_X9_exceptionOf_l33 (a0 a1 a2 a3 x4_3 x5_33 x6_33 : Int) (h : Hp) : Option ((Int × Int) ⊕ ((Int))) :=
  if a3 ≤ x6_33 then (some (.inr x5_33))
  else (if x5_33 = 0 then (some (.inr x5_33))
  else (gd (h (h a0 11) (-2) % 16 = 2 ∧ (0 : Int) ≤ (w32 ((w32 (30 * x4_3)) + x6_33)) ∧ (w32 ((w32 (30 * x4_3)) + x6_33)) < h (h a0 11) (-1)) (gd (h a1 (-2) % 16 = 2 ∧ (0 : Int) ≤ (w32 (a2 + x6_33)) ∧ (w32 (a2 + x6_33)) < h a1 (-1)) ((m_X1_small (h a1 (w32 (a2 + x6_33)))).bind fun v63 =>
  if (h (h a0 11) (w32 ((w32 (30 * x4_3)) + x6_33))) ≠ v63 then (m_X9_exceptionOf_j74 x6_33 0)
  else (m_X9_exceptionOf_j74 x6_33 1)))))
noncomputable def m_X9_exceptionOf_j28 (a0 a1 a2 a3 x4_3 s0_28 : Int) (h : Hp) : Option ((Int) ⊕ ((Int))) :=
  lt_ 0 fun x6_31 =>
  (lp (fun (q : Int × Int) => m_X9_exceptionOf_l33 a0 a1 a2 a3 x4_3 q.1 q.2 h) (s0_28, x6_31)).bind (fun (y82 : Int) => if y82 = 0 then (lt_ (w32 (x4_3 + 1)) fun x4_90 =>
  some (.inl x4_90))
  else (some (.inr x4_3)))
noncomputable def m_X9_exceptionOf_l3 (a0 a1 a2 a3 x4_3 : Int) (h : Hp) : Option ((Int) ⊕ ((Int))) :=
  if (h a0 14) ≤ x4_3 then (some (.inr (-1)))
  else (gd (h (h a0 13) (-2) % 16 = 1 ∧ (0 : Int) ≤ x4_3 ∧ x4_3 < h (h a0 13) (-1)) (if (h (h a0 13) x4_3) ≠ a3 then (m_X9_exceptionOf_j28 a0 a1 a2 a3 x4_3 0 h)
  else (m_X9_exceptionOf_j28 a0 a1 a2 a3 x4_3 1 h)))
noncomputable def m_X9_exceptionOf (a0 a1 a2 a3 : Int) (h : Hp) : Option (Int) :=
  lt_ 0 fun x4_1 =>
  (lp (fun (q : Int) => m_X9_exceptionOf_l3 a0 a1 a2 a3 q h) x4_1).bind (fun (x : Int) => some x)
theorem s_X9_exceptionOf {l : Launch} [NoTr l] {D : SD} {a0 a1 a2 a3 : Int} {h : Hp} (hk : h a0 (-2) = 144) (r2 : r32 a2) (r3 : r32 a3) {r : Int} (hm : m_X9_exceptionOf a0 a1 a2 a3 h = some r) : Sim l D yX9_exceptionOf (Cond.code yX9_exceptionOf cX9_exceptionOf 7 (Option.some Jvm.ClassFile.FieldType.int)) 1 36 [rv D a0, rv D a1, iv a2, iv a3] h 1 ((0, r), h) := by
  refine Sim.of (fin := fun (v : Int) => ((0, v), h)) (lsE := [(0, rv D a0), (1, rv D a1), (2, iv a2), (3, iv a3)]) hm rfl cwS_code (la_r (la_r (la_i (la_i la_n)))) (ll_r (ll_r (ll_i (ll_i ll_n)))) ?_
  intro p e s m below meth c X hcw hmm hcc hnm hname
  unfold m_X9_exceptionOf
  refine g_iconst (pc := 0) X (n := 0) (dl_at t_X9_exceptionOf 0 rfl) ?_
  refine g_ltz (Or.inl rfl) fun x4_1 r4_1 => ?_
  refine g_istoreN (pc := 1) X (i := 4) (x := x4_1) (b := 3) (w := iv a3) (rest := [(0, rv D a0), (1, rv D a1), (2, iv a2)]) (Nat.le_of_ble_eq_true rfl) [3, 0, 1, 2] rfl (by decide) rfl rfl (dl_at t_X9_exceptionOf 1 rfl) ?_
  refine g_ls (ls2 := [(0, rv D a0), (1, rv D a1), (2, iv a2), (3, iv a3), (4, iv x4_1)]) [2, 3, 4, 1, 0] rfl ?_
  refine g_loop0F (fun (q : Int) => [(0, rv D a0), (1, rv D a1), (2, iv a2), (3, iv a3), (4, iv q)]) (fun (q : Int) => h) (fun (q : Int) => r32 q) x4_1 (r32_z r4_1) ?_ (fun _ => rfl)
  · rintro x4_3 r4_3
    try dsimp only
    unfold m_X9_exceptionOf_l3
    refine g_iload (pc := 3) X (i := 4) (q := 4) (x := x4_3) rfl (dl_at t_X9_exceptionOf 2 rfl) ?_
    refine g_aload_n (pc := 5) X (j := 0) (i := 0) (q := 0) (x := a0) rfl rfl (dl_at t_X9_exceptionOf 3 rfl) ?_
    refine r_geti (pc := 6) X fX9_14 hk q908 (dl_at t_X9_exceptionOf 4 rfl) fun g6 => ?_
    refine g_icmpge (pc := 9) X r4_3 g6 (off := 87) (tgt := 96) rfl (dl_at t_X9_exceptionOf 5 rfl) (fun _ => ?_) (fun _ => ?_)
    · refine g_iconst (pc := 96) X (n := (-1)) (dl_at t_X9_exceptionOf 50 rfl) ?_
      exact g_at fun Q hQ => (g_iret (pc := 97) X (r32_c rfl) rfl rfl (dl_at t_X9_exceptionOf 51 rfl)) _ Q rfl hQ
    refine g_aload_n (pc := 12) X (j := 0) (i := 0) (q := 0) (x := a0) rfl rfl (dl_at t_X9_exceptionOf 6 rfl) ?_
    refine r_getr (pc := 13) X fX9_13 hk q907 (dl_at t_X9_exceptionOf 7 rfl) ?_
    refine g_iload (pc := 16) X (i := 4) (q := 4) (x := x4_3) rfl (dl_at t_X9_exceptionOf 8 rfl) ?_
    refine g_gd fun k18 => ?_
    refine g_iald (pc := 18) X r4_3 k18 (dl_at t_X9_exceptionOf 9 rfl) fun g18 => ?_
    refine g_iload_n (pc := 19) X (j := 3) (i := 3) (q := 3) (x := a3) rfl rfl (dl_at t_X9_exceptionOf 10 rfl) ?_
    refine g_join (γ := Int) (fun q => (q = 0 ∨ q = 1)) 28 (fun q => [(0, rv D a0), (1, rv D a1), (2, iv a2), (3, iv a3), (4, iv x4_3)]) (fun q => [iv q]) (fun q => h) (fun q => m_X9_exceptionOf_j28 a0 a1 a2 a3 x4_3 q h) ?_ ?_
    · rintro s0_28 rs0_28
      try dsimp only
      unfold m_X9_exceptionOf_j28
      refine g_istoreN (pc := 28) X (i := 5) (x := s0_28) (b := 4) (w := iv x4_3) (rest := [(0, rv D a0), (1, rv D a1), (2, iv a2), (3, iv a3)]) (Nat.le_of_ble_eq_true rfl) [4, 0, 1, 2, 3] rfl (by decide) rfl rfl (dl_at t_X9_exceptionOf 15 rfl) ?_
      refine g_iconst (pc := 30) X (n := 0) (dl_at t_X9_exceptionOf 16 rfl) ?_
      refine g_ltz (Or.inl rfl) fun x6_31 r6_31 => ?_
      refine g_istoreN (pc := 31) X (i := 6) (x := x6_31) (b := 5) (w := iv s0_28) (rest := [(4, iv x4_3), (0, rv D a0), (1, rv D a1), (2, iv a2), (3, iv a3)]) (Nat.le_of_ble_eq_true rfl) [0, 1, 2, 3, 4, 5] rfl (by decide) rfl rfl (dl_at t_X9_exceptionOf 17 rfl) ?_
      refine g_ls (ls2 := [(0, rv D a0), (1, rv D a1), (2, iv a2), (3, iv a3), (4, iv x4_3), (5, iv s0_28), (6, iv x6_31)]) [3, 4, 5, 6, 2, 1, 0] rfl ?_
      refine g_loop1 (fun (q : Int × Int) => [(0, rv D a0), (1, rv D a1), (2, iv a2), (3, iv a3), (4, iv x4_3), (5, iv q.1), (6, iv q.2)]) (fun (q : Int × Int) => h) (fun (q : Int × Int) => (q.1 = 0 ∨ q.1 = 1) ∧ r32 q.2) 82 (fun (y82 : Int) => [(0, rv D a0), (1, rv D a1), (2, iv a2), (3, iv a3), (4, iv x4_3), (5, iv y82)]) (fun (y82 : Int) => h) (fun (y82 : Int) => (y82 = 0 ∨ y82 = 1)) (s0_28, x6_31) ⟨rs0_28, (r32_z r6_31)⟩ ?_ ?_
      · rintro ⟨x5_33, x6_33⟩ ⟨r5_33, r6_33⟩
        try dsimp only
        unfold m_X9_exceptionOf_l33
        refine g_iload (pc := 33) X (i := 6) (q := 6) (x := x6_33) rfl (dl_at t_X9_exceptionOf 18 rfl) ?_
        refine g_iload_n (pc := 35) X (j := 3) (i := 3) (q := 3) (x := a3) rfl rfl (dl_at t_X9_exceptionOf 19 rfl) ?_
        refine g_icmpge (pc := 36) X r6_33 r3 (off := 46) (tgt := 82) rfl (dl_at t_X9_exceptionOf 20 rfl) (fun _ => ?_) (fun _ => ?_)
        · refine g_ls (ls2 := [(0, rv D a0), (1, rv D a1), (2, iv a2), (3, iv a3), (4, iv x4_3), (5, iv x5_33)]) [0, 1, 2, 3, 4, 5] rfl ?_
          exact g_at fun Q hQ => hQ r5_33
        refine g_iload (pc := 39) X (i := 5) (q := 5) (x := x5_33) rfl (dl_at t_X9_exceptionOf 21 rfl) ?_
        refine g_ifeq (pc := 41) X (r32_z r5_33) (off := 41) (tgt := 82) rfl (dl_at t_X9_exceptionOf 22 rfl) (fun _ => ?_) (fun _ => ?_)
        · refine g_ls (ls2 := [(0, rv D a0), (1, rv D a1), (2, iv a2), (3, iv a3), (4, iv x4_3), (5, iv x5_33)]) [0, 1, 2, 3, 4, 5] rfl ?_
          exact g_at fun Q hQ => hQ r5_33
        refine g_aload_n (pc := 44) X (j := 0) (i := 0) (q := 0) (x := a0) rfl rfl (dl_at t_X9_exceptionOf 23 rfl) ?_
        refine r_getr (pc := 45) X fX9_11 hk q905 (dl_at t_X9_exceptionOf 24 rfl) ?_
        refine g_bipush (pc := 48) X (n := 30) rfl (dl_at t_X9_exceptionOf 25 rfl) ?_
        refine g_iload (pc := 50) X (i := 4) (q := 4) (x := x4_3) rfl (dl_at t_X9_exceptionOf 26 rfl) ?_
        refine g_imul (pc := 52) X (r32_c rfl) r4_3 (dl_at t_X9_exceptionOf 27 rfl) ?_
        refine g_iload (pc := 53) X (i := 6) (q := 6) (x := x6_33) rfl (dl_at t_X9_exceptionOf 28 rfl) ?_
        refine g_iadd (pc := 55) X (r32_w _) r6_33 (dl_at t_X9_exceptionOf 29 rfl) ?_
        refine g_gd fun k56 => ?_
        refine g_bald (pc := 56) X (r32_w _) k56 (dl_at t_X9_exceptionOf 30 rfl) fun g56 => ?_
        refine g_aload_n (pc := 57) X (j := 1) (i := 1) (q := 1) (x := a1) rfl rfl (dl_at t_X9_exceptionOf 31 rfl) ?_
        refine g_iload_n (pc := 58) X (j := 2) (i := 2) (q := 2) (x := a2) rfl rfl (dl_at t_X9_exceptionOf 32 rfl) ?_
        refine g_iload (pc := 59) X (i := 6) (q := 6) (x := x6_33) rfl (dl_at t_X9_exceptionOf 33 rfl) ?_
        refine g_iadd (pc := 61) X r2 r6_33 (dl_at t_X9_exceptionOf 34 rfl) ?_
        refine g_gd fun k62 => ?_
        refine g_bald (pc := 62) X (r32_w _) k62 (dl_at t_X9_exceptionOf 35 rfl) fun g62 => ?_
        refine r_callRi (pc := 63) X (fun _ hv => s_X1_small (r32_b g62) hv) cw_code q1937 q355 (in_Sc X (As := [iv (h a1 (w32 (a2 + x6_33)))]) (Or.inr ⟨_, nw_in q1935 rfl⟩) q1936 q355 q1937 ⟨by decide, by decide⟩ rfl (dl_at t_X9_exceptionOf 36 rfl)) (dl_at t_X9_exceptionOf 36 rfl) (cat24 (st := [iv (h (h a0 11) (w32 ((w32 (30 * x4_3)) + x6_33)))]) (Nat.le_of_ble_eq_true rfl)) (Nat.le_of_ble_eq_true rfl) (Nat.le_of_ble_eq_true rfl) fun v63 g63 => ?_
        refine g_join (γ := Int) (fun q => (q = 0 ∨ q = 1)) 74 (fun q => [(0, rv D a0), (1, rv D a1), (2, iv a2), (3, iv a3), (4, iv x4_3), (6, iv x6_33)]) (fun q => [iv q]) (fun q => h) (fun q => m_X9_exceptionOf_j74 x6_33 q) ?_ ?_
        · rintro s0_74 rs0_74
          try dsimp only
          unfold m_X9_exceptionOf_j74
          refine g_istoreN (pc := 74) X (i := 5) (x := s0_74) (b := 4) (w := iv x4_3) (rest := [(0, rv D a0), (1, rv D a1), (2, iv a2), (3, iv a3), (6, iv x6_33)]) (Nat.le_of_ble_eq_true rfl) [4, 0, 1, 2, 3, 5] rfl (by decide) rfl rfl (dl_at t_X9_exceptionOf 41 rfl) ?_
          refine r_iincN (pc := 76) X (i := 6) (q := 6) (n := 1) (x := x6_33) (b := 5) (w := iv s0_74) (rest := [(4, iv x4_3), (0, rv D a0), (1, rv D a1), (2, iv a2), (3, iv a3)]) rfl r6_33 (r32_c rfl) (Nat.le_of_ble_eq_true rfl) [0, 1, 2, 3, 4, 5] rfl (by decide) rfl rfl (dl_at t_X9_exceptionOf 42 rfl) fun x6_76 r6_76 => ?_
          refine g_goto (pc := 79) X (off := (-46)) (tgt := 33) rfl (dl_at t_X9_exceptionOf 43 rfl) ?_
          refine g_ls (ls2 := [(0, rv D a0), (1, rv D a1), (2, iv a2), (3, iv a3), (4, iv x4_3), (5, iv s0_74), (6, iv x6_76)]) [3, 4, 5, 6, 2, 1, 0] rfl ?_
          exact g_at fun Q hQ => hQ ⟨rs0_74, r6_76⟩
        intro J74
        refine g_icmpne (pc := 66) X (r32_b g56) g63 (off := 7) (tgt := 73) rfl (dl_at t_X9_exceptionOf 37 rfl) (fun _ => ?_) (fun _ => ?_)
        · refine g_iconst (pc := 73) X (n := 0) (dl_at t_X9_exceptionOf 40 rfl) ?_
          refine g_ls (ls2 := [(0, rv D a0), (1, rv D a1), (2, iv a2), (3, iv a3), (4, iv x4_3), (6, iv x6_33)]) [0, 1, 2, 3, 4, 6] rfl ?_
          exact J74 0 (Or.inl rfl)
        refine g_iconst (pc := 69) X (n := 1) (dl_at t_X9_exceptionOf 38 rfl) ?_
        refine g_goto (pc := 70) X (off := 4) (tgt := 74) rfl (dl_at t_X9_exceptionOf 39 rfl) ?_
        refine g_ls (ls2 := [(0, rv D a0), (1, rv D a1), (2, iv a2), (3, iv a3), (4, iv x4_3), (6, iv x6_33)]) [0, 1, 2, 3, 4, 6] rfl ?_
        exact J74 1 (Or.inr rfl)
      · rintro x5_82 r5_82
        try dsimp only [sE]
        refine g_iload (pc := 82) X (i := 5) (q := 5) (x := x5_82) rfl (dl_at t_X9_exceptionOf 44 rfl) ?_
        refine g_ifeq (pc := 84) X (r32_z r5_82) (off := 6) (tgt := 90) rfl (dl_at t_X9_exceptionOf 45 rfl) (fun _ => ?_) (fun _ => ?_)
        · refine r_iincN (pc := 90) X (i := 4) (q := 4) (n := 1) (x := x4_3) (b := 3) (w := iv a3) (rest := [(0, rv D a0), (1, rv D a1), (2, iv a2)]) rfl r4_3 (r32_c rfl) (Nat.le_of_ble_eq_true rfl) [3, 0, 1, 2] rfl (by decide) rfl rfl (dl_at t_X9_exceptionOf 48 rfl) fun x4_90 r4_90 => ?_
          refine g_goto (pc := 93) X (off := (-90)) (tgt := 3) rfl (dl_at t_X9_exceptionOf 49 rfl) ?_
          refine g_ls (ls2 := [(0, rv D a0), (1, rv D a1), (2, iv a2), (3, iv a3), (4, iv x4_90)]) [2, 3, 4, 1, 0] rfl ?_
          exact g_at fun Q hQ => hQ r4_90
        refine g_iload (pc := 87) X (i := 4) (q := 4) (x := x4_3) rfl (dl_at t_X9_exceptionOf 46 rfl) ?_
        exact g_at fun Q hQ => (g_iret (pc := 89) X r4_3 rfl rfl (dl_at t_X9_exceptionOf 47 rfl)) _ Q rfl hQ
    intro J28
    refine g_icmpne (pc := 20) X g18 r3 (off := 7) (tgt := 27) rfl (dl_at t_X9_exceptionOf 11 rfl) (fun _ => ?_) (fun _ => ?_)
    · refine g_iconst (pc := 27) X (n := 0) (dl_at t_X9_exceptionOf 14 rfl) ?_
      exact J28 0 (Or.inl rfl)
    refine g_iconst (pc := 23) X (n := 1) (dl_at t_X9_exceptionOf 12 rfl) ?_
    refine g_goto (pc := 24) X (off := 4) (tgt := 28) rfl (dl_at t_X9_exceptionOf 13 rfl) ?_
    exact J28 1 (Or.inr rfl)
def k_X9_exception : List (Nat × Instr × Nat) := [(0, .iconst 0, 1), (1, .istore 4, 2), (3, .iconst 0, 1), (4, .istore 5, 2), (6, .iload 5, 2), (8, .aload_n 0, 1), (9, .getfield 51, 3), (12, .arraylength, 1), (13, .if_icmp .ge 17, 3), (16, .aload_n 0, 1), (17, .getfield 51, 3), (20, .iload 5, 2), (22, .iconst 0, 1), (23, .bastore, 1), (24, .iinc 5 1, 3), (27, .goto (-21), 3), (30, .iload_n 2, 1), (31, .iconst 1, 1), (32, .iadd, 1), (33, .istore 5, 2), (35, .iload 5, 2), (37, .iload_n 3, 1), (38, .if_icmp .ge 87, 3), (41, .aload_n 1, 1), (42, .iload 5, 2), (44, .baload, 1), (45, .invokestatic 105, 3), (48, .ifCond .eq 27, 3), (51, .iload 4, 2), (53, .bipush 30, 2), (55, .if_icmp .ge 20, 3), (58, .aload_n 0, 1), (59, .getfield 48, 3), (62, .iload 4, 2), (64, .aload_n 1, 1), (65, .iload 5, 2), (67, .baload, 1), (68, .bastore, 1), (69, .iinc 4 1, 3), (72, .goto 47, 3), (75, .aload_n 1, 1), (76, .iload 5, 2), (78, .baload, 1), (79, .bipush 45, 2), (81, .if_icmp .ne 29, 3), (84, .iload 4, 2), (86, .ifCond .le 24, 3), (89, .aload_n 0, 1), (90, .getfield 51, 3), (93, .iload 4, 2), (95, .baload, 1), (96, .ifCond .ne 14, 3), (99, .aload_n 0, 1), (100, .getfield 51, 3), (103, .iload 4, 2), (105, .iconst 1, 1), (106, .bastore, 1), (107, .goto 12, 3), (110, .new 90, 3), (113, .dup, 1), (114, .iload_n 2, 1), (115, .invokespecial 92, 3), (118, .athrow, 1), (119, .iinc 5 1, 3), (122, .goto (-87), 3), (125, .iload 4, 2), (127, .ifCond .eq 13, 3), (130, .aload_n 0, 1), (131, .getfield 51, 3), (134, .iload 4, 2), (136, .baload, 1), (137, .ifCond .eq 12, 3), (140, .new 90, 3), (143, .dup, 1), (144, .iload_n 2, 1), (145, .invokespecial 92, 3), (148, .athrow, 1), (149, .aload_n 0, 1), (150, .aload_n 0, 1), (151, .getfield 48, 3), (154, .iconst 0, 1), (155, .iload 4, 2), (157, .invokevirtual 108, 3), (160, .istore 5, 2), (162, .iload 5, 2), (164, .ifCond .ge 37, 3), (167, .aload_n 0, 1), (168, .getfield 72, 3), (171, .bipush 60, 2), (173, .if_icmp .ne 12, 3), (176, .new 90, 3), (179, .dup, 1), (180, .iload_n 2, 1), (181, .invokespecial 92, 3), (184, .athrow, 1), (185, .aload_n 0, 1), (186, .getfield 72, 3), (189, .istore 5, 2), (191, .aload_n 0, 1), (192, .dup, 1), (193, .getfield 72, 3), (196, .iconst 1, 1), (197, .iadd, 1), (198, .putfield 72, 3), (201, .aload_n 0, 1), (202, .getfield 45, 3), (205, .iload 5, 2), (207, .iload 4, 2), (209, .iastore, 1), (210, .iconst 0, 1), (211, .istore 6, 2), (213, .iload 6, 2), (215, .iload 4, 2), (217, .if_icmp .ge 49, 3), (220, .aload_n 0, 1), (221, .getfield 38, 3), (224, .bipush 30, 2), (226, .iload 5, 2), (228, .imul, 1), (229, .iload 6, 2), (231, .iadd, 1), (232, .aload_n 0, 1), (233, .getfield 48, 3), (236, .iload 6, 2), (238, .baload, 1), (239, .bastore, 1), (240, .aload_n 0, 1), (241, .getfield 41, 3), (244, .bipush 31, 2), (246, .iload 5, 2), (248, .imul, 1), (249, .iload 6, 2), (251, .iadd, 1), (252, .aload_n 0, 1), (253, .getfield 51, 3), (256, .iload 6, 2), (258, .baload, 1), (259, .bastore, 1), (260, .iinc 6 1, 3), (263, .goto (-50), 3), (266, .return_, 1)]
theorem t_X9_exception : ∀ q ∈ k_X9_exception, decode cX9_exception q.1 = .ok q.2 := dl_all (by decide +kernel)
noncomputable def m_X9_exception_l6 (a0 x5_6 : Int) (h_6 : Hp) : Option ((Int × Hp) ⊕ ((Hp))) :=
  gd (1 ≤ h_6 (h_6 a0 16) (-2) % 16 ∧ h_6 (h_6 a0 16) (-2) % 16 ≤ 9) (if (h_6 (h_6 a0 16) (-1)) ≤ x5_6 then (some (.inr h_6))
  else (gd (h_6 (h_6 a0 16) (-2) % 16 = 3 ∧ (0 : Int) ≤ x5_6 ∧ x5_6 < h_6 (h_6 a0 16) (-1)) (pt h_6 (h_6 a0 16) x5_6 0 fun h23 =>
  lt_ (w32 (x5_6 + 1)) fun x5_24 =>
  some (.inl (x5_24, h23)))))
noncomputable def m_X9_exception_j119 (x5_35 x4_119 : Int) (h_119 : Hp) : Option ((Int × Int × Hp) ⊕ ((Int × Hp) ⊕ (((Int × Int) × Hp)))) :=
  lt_ (w32 (x5_35 + 1)) fun x5_119 =>
  some (.inl (x4_119, x5_119, h_119))
noncomputable def m_X9_exception_j75 (a0 a1 a2 x4_35 x5_35 : Int) (h_35 : Hp) : Option ((Int × Int × Hp) ⊕ ((Int × Hp) ⊕ (((Int × Int) × Hp)))) :=
  if (h_35 a1 x5_35) ≠ 45 then (al h_35 432 7 fun a110 h110 =>
  (x_broken a110 a2 h110).bind fun h115 =>
  some (.inr (.inr ((1, a110), h115))))
  else (if x4_35 ≤ 0 then (al h_35 432 7 fun a110_1 h110_1 =>
  (x_broken a110_1 a2 h110_1).bind fun h115_1 =>
  some (.inr (.inr ((1, a110_1), h115_1))))
  else (gd (h_35 (h_35 a0 16) (-2) % 16 = 3 ∧ (0 : Int) ≤ x4_35 ∧ x4_35 < h_35 (h_35 a0 16) (-1)) (if (h_35 (h_35 a0 16) x4_35) ≠ 0 then (al h_35 432 7 fun a110_2 h110_2 =>
  (x_broken a110_2 a2 h110_2).bind fun h115_2 =>
  some (.inr (.inr ((1, a110_2), h115_2))))
  else (pt h_35 (h_35 a0 16) x4_35 1 fun h106 =>
  m_X9_exception_j119 x5_35 x4_35 h106))))
noncomputable def m_X9_exception_l35 (a0 a1 a2 a3 x4_35 x5_35 : Int) (h_35 : Hp) : Option ((Int × Int × Hp) ⊕ ((Int × Hp) ⊕ (((Int × Int) × Hp)))) :=
  if a3 ≤ x5_35 then (some (.inr (.inl (x4_35, h_35))))
  else (gd (h_35 a1 (-2) % 16 = 2 ∧ (0 : Int) ≤ x5_35 ∧ x5_35 < h_35 a1 (-1)) ((m_X1_isSmall (h_35 a1 x5_35)).bind fun v45 =>
  if v45 = 0 then (m_X9_exception_j75 a0 a1 a2 x4_35 x5_35 h_35)
  else (if 30 ≤ x4_35 then (m_X9_exception_j75 a0 a1 a2 x4_35 x5_35 h_35)
  else (gd (h_35 (h_35 a0 15) (-2) % 16 = 2 ∧ (0 : Int) ≤ x4_35 ∧ x4_35 < h_35 (h_35 a0 15) (-1)) (pt h_35 (h_35 a0 15) x4_35 (h_35 a1 x5_35) fun h68 =>
  lt_ (w32 (x4_35 + 1)) fun x4_69 =>
  m_X9_exception_j119 x5_35 x4_69 h68)))))
noncomputable def m_X9_exception_l213 (a0 x4_125 x5_201 x6_213 : Int) (h_213 : Hp) : Option ((Int × Hp) ⊕ (((Int × Int) × Hp))) :=
  if x4_125 ≤ x6_213 then (some (.inr ((0, 0), h_213)))
  else (gd (h_213 (h_213 a0 15) (-2) % 16 = 2 ∧ (0 : Int) ≤ x6_213 ∧ x6_213 < h_213 (h_213 a0 15) (-1)) (gd (h_213 (h_213 a0 11) (-2) % 16 = 2 ∧ (0 : Int) ≤ (w32 ((w32 (30 * x5_201)) + x6_213)) ∧ (w32 ((w32 (30 * x5_201)) + x6_213)) < h_213 (h_213 a0 11) (-1)) (pt h_213 (h_213 a0 11) (w32 ((w32 (30 * x5_201)) + x6_213)) (h_213 (h_213 a0 15) x6_213) fun h239 =>
  gd (h239 (h239 a0 16) (-2) % 16 = 3 ∧ (0 : Int) ≤ x6_213 ∧ x6_213 < h239 (h239 a0 16) (-1)) (gd (h239 (h239 a0 12) (-2) % 16 = 3 ∧ (0 : Int) ≤ (w32 ((w32 (31 * x5_201)) + x6_213)) ∧ (w32 ((w32 (31 * x5_201)) + x6_213)) < h239 (h239 a0 12) (-1)) (pt h239 (h239 a0 12) (w32 ((w32 (31 * x5_201)) + x6_213)) (h239 (h239 a0 16) x6_213) fun h259 =>
  lt_ (w32 (x6_213 + 1)) fun x6_260 =>
  some (.inl (x6_260, h259)))))))
noncomputable def m_X9_exception_j201 (x4_125 a0 x5_201 : Int) (h_201 : Hp) : Option ((Int × Int) × Hp) :=
  gd (h_201 (h_201 a0 13) (-2) % 16 = 1 ∧ (0 : Int) ≤ x5_201 ∧ x5_201 < h_201 (h_201 a0 13) (-1)) (pt h_201 (h_201 a0 13) x5_201 x4_125 fun h209 =>
  lt_ 0 fun x6_211 =>
  (lp (fun (q : Int × Hp) => m_X9_exception_l213 a0 x4_125 x5_201 q.1 q.2) (x6_211, h209)).bind (fun (x : (Int × Int) × Hp) => some x))
noncomputable def m_X9_exception (a0 a1 a2 a3 : Int) (h : Hp) : Option ((Int × Int) × Hp) :=
  lt_ 0 fun x4_1 =>
  lt_ 0 fun x5_4 =>
  (lp (fun (q : Int × Hp) => m_X9_exception_l6 a0 q.1 q.2) (x5_4, h)).bind (fun (y30 : Hp) => lt_ (w32 (a2 + 1)) fun x5_33 =>
  (lp (fun (q : Int × Int × Hp) => m_X9_exception_l35 a0 a1 a2 a3 q.1 q.2.1 q.2.2) (x4_1, x5_33, y30)).bind (sE (fun (y125 : Int × Hp) => if y125.1 = 0 then (al y125.2 432 7 fun a140 h140 =>
  (x_broken a140 a2 h140).bind fun h145 =>
  some ((1, a140), h145))
  else (gd (y125.2 (y125.2 a0 16) (-2) % 16 = 3 ∧ (0 : Int) ≤ y125.1 ∧ y125.1 < y125.2 (y125.2 a0 16) (-1)) (if (y125.2 (y125.2 a0 16) y125.1) = 0 then ((m_X9_exceptionOf a0 (y125.2 a0 15) 0 y125.1 y125.2).bind fun v157 =>
  if 0 ≤ v157 then (m_X9_exception_j201 y125.1 a0 v157 y125.2)
  else (if (y125.2 a0 14) ≠ 60 then (lt_ (y125.2 a0 14) fun x5_189 =>
  pt y125.2 a0 14 (w32 ((y125.2 a0 14) + 1)) fun h198 =>
  m_X9_exception_j201 y125.1 a0 x5_189 h198)
  else (al y125.2 432 7 fun a176 h176 =>
  (x_broken a176 a2 h176).bind fun h181 =>
  some ((1, a176), h181))))
  else (al y125.2 432 7 fun a140_1 h140_1 =>
  (x_broken a140_1 a2 h140_1).bind fun h145_1 =>
  some ((1, a140_1), h145_1))))) (fun (x : (Int × Int) × Hp) => some x)))
theorem s_X9_exception {l : Launch} [NoTr l] {D : SD} {a0 a1 a2 a3 : Int} {h : Hp} (hk : h a0 (-2) = 144) (r2 : r32 a2) (r3 : r32 a3) {r : (Int × Int) × Hp} (hm : m_X9_exception a0 a1 a2 a3 h = some r) : Sim l D yX9_exception (Cond.code yX9_exception cX9_exception 7 (Option.none : Option Jvm.ClassFile.FieldType)) 9 337 [rv D a0, rv D a1, iv a2, iv a3] h 0 r := by
  refine Sim.of (fin := fun (v : (Int × Int) × Hp) => v) (lsE := [(0, rv D a0), (1, rv D a1), (2, iv a2), (3, iv a3)]) hm rfl cwS_code (la_r (la_r (la_i (la_i la_n)))) (ll_r (ll_r (ll_i (ll_i ll_n)))) ?_
  intro p e s m below meth c X hcw hmm hcc hnm hname
  have hno := noh hcw hnm hmm hcc
  unfold m_X9_exception
  refine g_iconst (pc := 0) X (n := 0) (dl_at t_X9_exception 0 rfl) ?_
  refine g_ltz (Or.inl rfl) fun x4_1 r4_1 => ?_
  refine g_istoreN (pc := 1) X (i := 4) (x := x4_1) (b := 3) (w := iv a3) (rest := [(0, rv D a0), (1, rv D a1), (2, iv a2)]) (Nat.le_of_ble_eq_true rfl) [3, 0, 1, 2] rfl (by decide) rfl rfl (dl_at t_X9_exception 1 rfl) ?_
  refine g_iconst (pc := 3) X (n := 0) (dl_at t_X9_exception 2 rfl) ?_
  refine g_ltz (Or.inl rfl) fun x5_4 r5_4 => ?_
  refine g_istoreN (pc := 4) X (i := 5) (x := x5_4) (b := 4) (w := iv x4_1) (rest := [(3, iv a3), (0, rv D a0), (1, rv D a1), (2, iv a2)]) (Nat.le_of_ble_eq_true rfl) [0, 1, 2, 3, 4] rfl (by decide) rfl rfl (dl_at t_X9_exception 3 rfl) ?_
  refine g_ls (ls2 := [(0, rv D a0), (1, rv D a1), (2, iv a2), (3, iv a3), (4, iv x4_1), (5, iv x5_4)]) [3, 4, 5, 2, 1, 0] rfl ?_
  refine g_loop1 (fun (q : Int × Hp) => [(0, rv D a0), (1, rv D a1), (2, iv a2), (3, iv a3), (4, iv x4_1), (5, iv q.1)]) (fun (q : Int × Hp) => q.2) (fun (q : Int × Hp) => r32 q.1 ∧ Ext h q.2) 30 (fun (y30 : Hp) => [(0, rv D a0), (1, rv D a1), (2, iv a2), (3, iv a3), (4, iv x4_1)]) (fun (y30 : Hp) => y30) (fun (y30 : Hp) => Ext h y30) (x5_4, h) ⟨(r32_z r5_4), (Ext.refl _)⟩ ?_ ?_
  · rintro ⟨x5_6, h_6⟩ ⟨r5_6, E_6⟩
    try dsimp only
    unfold m_X9_exception_l6
    refine g_iload (pc := 6) X (i := 5) (q := 5) (x := x5_6) rfl (dl_at t_X9_exception 4 rfl) ?_
    refine g_aload_n (pc := 8) X (j := 0) (i := 0) (q := 0) (x := a0) rfl rfl (dl_at t_X9_exception 5 rfl) ?_
    have k9 := kx E_6 (by decide) hk
    refine r_getr (pc := 9) X fX9_16 k9 q911 (dl_at t_X9_exception 6 rfl) ?_
    refine g_gd fun k12 => ?_
    refine g_alen (pc := 12) X k12 (dl_at t_X9_exception 7 rfl) fun g12 => ?_
    refine g_icmpge (pc := 13) X r5_6 g12 (off := 17) (tgt := 30) rfl (dl_at t_X9_exception 8 rfl) (fun _ => ?_) (fun _ => ?_)
    · refine g_ls (ls2 := [(0, rv D a0), (1, rv D a1), (2, iv a2), (3, iv a3), (4, iv x4_1)]) [0, 1, 2, 3, 4] rfl ?_
      exact g_at fun Q hQ => hQ E_6
    refine g_aload_n (pc := 16) X (j := 0) (i := 0) (q := 0) (x := a0) rfl rfl (dl_at t_X9_exception 9 rfl) ?_
    refine r_getr (pc := 17) X fX9_16 k9 q911 (dl_at t_X9_exception 10 rfl) ?_
    refine g_iload (pc := 20) X (i := 5) (q := 5) (x := x5_6) rfl (dl_at t_X9_exception 11 rfl) ?_
    refine g_iconst (pc := 22) X (n := 0) (dl_at t_X9_exception 12 rfl) ?_
    refine g_gd fun k23 => ?_
    refine r_zast (pc := 23) X r5_6 (Or.inl rfl) k23 (dl_at t_X9_exception 13 rfl) (fun h23 E23 => ?_)
    refine r_iincN (pc := 24) X (i := 5) (q := 5) (n := 1) (x := x5_6) (b := 4) (w := iv x4_1) (rest := [(0, rv D a0), (1, rv D a1), (2, iv a2), (3, iv a3)]) rfl r5_6 (r32_c rfl) (Nat.le_of_ble_eq_true rfl) [4, 0, 1, 2, 3] rfl (by decide) rfl rfl (dl_at t_X9_exception 14 rfl) fun x5_24 r5_24 => ?_
    refine g_goto (pc := 27) X (off := (-21)) (tgt := 6) rfl (dl_at t_X9_exception 15 rfl) ?_
    refine g_ls (ls2 := [(0, rv D a0), (1, rv D a1), (2, iv a2), (3, iv a3), (4, iv x4_1), (5, iv x5_24)]) [2, 3, 4, 5, 1, 0] rfl ?_
    exact g_at fun Q hQ => hQ ⟨r5_24, (E_6.trans E23)⟩
  · rintro h_30 E_30
    try dsimp only [sE]
    refine g_iload_n (pc := 30) X (j := 2) (i := 2) (q := 2) (x := a2) rfl rfl (dl_at t_X9_exception 16 rfl) ?_
    refine g_iconst (pc := 31) X (n := 1) (dl_at t_X9_exception 17 rfl) ?_
    refine g_iadd (pc := 32) X r2 (r32_c rfl) (dl_at t_X9_exception 18 rfl) ?_
    refine g_lti (r32_w _) fun x5_33 r5_33 => ?_
    refine g_istoreN (pc := 33) X (i := 5) (x := x5_33) (b := 4) (w := iv x4_1) (rest := [(0, rv D a0), (1, rv D a1), (2, iv a2), (3, iv a3)]) (Nat.le_of_ble_eq_true rfl) [4, 0, 1, 2, 3] rfl (by decide) rfl rfl (dl_at t_X9_exception 19 rfl) ?_
    refine g_ls (ls2 := [(0, rv D a0), (1, rv D a1), (2, iv a2), (3, iv a3), (4, iv x4_1), (5, iv x5_33)]) [2, 3, 4, 5, 1, 0] rfl ?_
    refine g_loop1F (fun (q : Int × Int × Hp) => [(0, rv D a0), (1, rv D a1), (2, iv a2), (3, iv a3), (4, iv q.1), (5, iv q.2.1)]) (fun (q : Int × Int × Hp) => q.2.2) (fun (q : Int × Int × Hp) => r32 q.1 ∧ r32 q.2.1 ∧ Ext h_30 q.2.2) 125 (fun (y125 : Int × Hp) => [(0, rv D a0), (2, iv a2), (4, iv y125.1)]) (fun (y125 : Int × Hp) => y125.2) (fun (y125 : Int × Hp) => r32 y125.1 ∧ Ext h_30 y125.2) (x4_1, x5_33, h_30) ⟨(r32_z r4_1), r5_33, (Ext.refl _)⟩ ?_ ?_ (fun _ => rfl)
    · rintro ⟨x4_35, x5_35, h_35⟩ ⟨r4_35, r5_35, E_35⟩
      try dsimp only
      unfold m_X9_exception_l35
      refine g_iload (pc := 35) X (i := 5) (q := 5) (x := x5_35) rfl (dl_at t_X9_exception 20 rfl) ?_
      refine g_iload_n (pc := 37) X (j := 3) (i := 3) (q := 3) (x := a3) rfl rfl (dl_at t_X9_exception 21 rfl) ?_
      refine g_icmpge (pc := 38) X r5_35 r3 (off := 87) (tgt := 125) rfl (dl_at t_X9_exception 22 rfl) (fun _ => ?_) (fun _ => ?_)
      · refine g_ls (ls2 := [(0, rv D a0), (2, iv a2), (4, iv x4_35)]) [0, 2, 4] rfl ?_
        exact g_at fun Q hQ => hQ ⟨r4_35, E_35⟩
      refine g_aload_n (pc := 41) X (j := 1) (i := 1) (q := 1) (x := a1) rfl rfl (dl_at t_X9_exception 23 rfl) ?_
      refine g_iload (pc := 42) X (i := 5) (q := 5) (x := x5_35) rfl (dl_at t_X9_exception 24 rfl) ?_
      refine g_gd fun k44 => ?_
      refine g_bald (pc := 44) X r5_35 k44 (dl_at t_X9_exception 25 rfl) fun g44 => ?_
      refine r_callRz (pc := 45) X (fun _ hv => s_X1_isSmall (r32_b g44) hv) cw_code q1735 q355 (in_Sc X (As := [iv (h_35 a1 x5_35)]) (Or.inr ⟨_, nw_in q1930 rfl⟩) q1734 q355 q1735 ⟨by decide, by decide⟩ rfl (dl_at t_X9_exception 26 rfl)) (dl_at t_X9_exception 26 rfl) (cat24 (st := []) (Nat.le_of_ble_eq_true rfl)) (Nat.le_of_ble_eq_true rfl) (Nat.le_of_ble_eq_true rfl) fun v45 g45 => ?_
      refine g_join (γ := Int × Hp) (fun q => r32 q.1 ∧ Ext h_35 q.2) 119 (fun q => [(0, rv D a0), (1, rv D a1), (2, iv a2), (3, iv a3), (4, iv q.1), (5, iv x5_35)]) (fun q => []) (fun q => q.2) (fun q => m_X9_exception_j119 x5_35 q.1 q.2) ?_ ?_
      · rintro ⟨x4_119, h_119⟩ ⟨r4_119, E_119⟩
        try dsimp only
        unfold m_X9_exception_j119
        refine r_iincN (pc := 119) X (i := 5) (q := 5) (n := 1) (x := x5_35) (b := 4) (w := iv x4_119) (rest := [(0, rv D a0), (1, rv D a1), (2, iv a2), (3, iv a3)]) rfl r5_35 (r32_c rfl) (Nat.le_of_ble_eq_true rfl) [4, 0, 1, 2, 3] rfl (by decide) rfl rfl (dl_at t_X9_exception 63 rfl) fun x5_119 r5_119 => ?_
        refine g_goto (pc := 122) X (off := (-87)) (tgt := 35) rfl (dl_at t_X9_exception 64 rfl) ?_
        refine g_ls (ls2 := [(0, rv D a0), (1, rv D a1), (2, iv a2), (3, iv a3), (4, iv x4_119), (5, iv x5_119)]) [2, 3, 4, 5, 1, 0] rfl ?_
        exact g_at fun Q hQ => hQ ⟨r4_119, r5_119, (E_35.trans E_119)⟩
      intro J119
      refine g_join (γ := Unit) (fun q => True) 75 (fun q => [(0, rv D a0), (1, rv D a1), (2, iv a2), (3, iv a3), (4, iv x4_35), (5, iv x5_35)]) (fun q => []) (fun q => h_35) (fun q => m_X9_exception_j75 a0 a1 a2 x4_35 x5_35 h_35) ?_ ?_
      · rintro _ _
        try dsimp only
        unfold m_X9_exception_j75
        refine g_aload_n (pc := 75) X (j := 1) (i := 1) (q := 1) (x := a1) rfl rfl (dl_at t_X9_exception 40 rfl) ?_
        refine g_iload (pc := 76) X (i := 5) (q := 5) (x := x5_35) rfl (dl_at t_X9_exception 41 rfl) ?_
        refine g_bald (pc := 78) X r5_35 k44 (dl_at t_X9_exception 42 rfl) fun g78 => ?_
        refine g_bipush (pc := 79) X (n := 45) rfl (dl_at t_X9_exception 43 rfl) ?_
        refine g_icmpne (pc := 81) X (r32_b g78) (r32_c rfl) (off := 29) (tgt := 110) rfl (dl_at t_X9_exception 44 rfl) (fun _ => ?_) (fun _ => ?_)
        · refine r_new (pc := 110) X kX26 q1924 (dl_at t_X9_exception 58 rfl) fun a110 h110 p110 k110 E110 => ?_
          refine g_dup (pc := 113) X rv_cat (dl_at t_X9_exception 59 rfl) ?_
          refine g_iload_n (pc := 114) X (j := 2) (i := 2) (q := 2) (x := a2) rfl rfl (dl_at t_X9_exception 60 rfl) ?_
          refine r_callV (pc := 115) X (fun _ hv => sx_ScholarsPress_Broken_init_I_V k110 r2 hv) cw_code q1839 q391 (in_I X (As := [iv a2]) (Int.ne_of_gt p110) rfl (Or.inr ⟨_, nw_in q1925 rfl⟩) q1838 q1839 ⟨by decide, by decide⟩ rfl (dl_at t_X9_exception 61 rfl)) (dl_at t_X9_exception 61 rfl) (cat24 (st := [rv D a110]) (Nat.le_of_ble_eq_true rfl)) (Nat.le_of_ble_eq_true rfl) (Nat.le_of_ble_eq_true rfl) fun h115 E115 => ?_
          refine g_athrow (pc := 118) X (Int.ne_of_gt p110) (dl_at t_X9_exception 62 rfl) ?_
          exact gt_at fun Q hQ => gt_out (Q := Q) X rfl p110 (hno _) _ Q rfl hQ
        refine g_iload (pc := 84) X (i := 4) (q := 4) (x := x4_35) rfl (dl_at t_X9_exception 45 rfl) ?_
        refine g_ifle (pc := 86) X r4_35 (off := 24) (tgt := 110) rfl (dl_at t_X9_exception 46 rfl) (fun _ => ?_) (fun _ => ?_)
        · refine r_new (pc := 110) X kX26 q1924 (dl_at t_X9_exception 58 rfl) fun a110_1 h110_1 p110_1 k110_1 E110_1 => ?_
          refine g_dup (pc := 113) X rv_cat (dl_at t_X9_exception 59 rfl) ?_
          refine g_iload_n (pc := 114) X (j := 2) (i := 2) (q := 2) (x := a2) rfl rfl (dl_at t_X9_exception 60 rfl) ?_
          refine r_callV (pc := 115) X (fun _ hv => sx_ScholarsPress_Broken_init_I_V k110_1 r2 hv) cw_code q1839 q391 (in_I X (As := [iv a2]) (Int.ne_of_gt p110_1) rfl (Or.inr ⟨_, nw_in q1925 rfl⟩) q1838 q1839 ⟨by decide, by decide⟩ rfl (dl_at t_X9_exception 61 rfl)) (dl_at t_X9_exception 61 rfl) (cat24 (st := [rv D a110_1]) (Nat.le_of_ble_eq_true rfl)) (Nat.le_of_ble_eq_true rfl) (Nat.le_of_ble_eq_true rfl) fun h115_1 E115_1 => ?_
          refine g_athrow (pc := 118) X (Int.ne_of_gt p110_1) (dl_at t_X9_exception 62 rfl) ?_
          exact gt_at fun Q hQ => gt_out (Q := Q) X rfl p110_1 (hno _) _ Q rfl hQ
        refine g_aload_n (pc := 89) X (j := 0) (i := 0) (q := 0) (x := a0) rfl rfl (dl_at t_X9_exception 47 rfl) ?_
        have k90 := kx (E_30.trans E_35) (by decide) hk
        refine r_getr (pc := 90) X fX9_16 k90 q911 (dl_at t_X9_exception 48 rfl) ?_
        refine g_iload (pc := 93) X (i := 4) (q := 4) (x := x4_35) rfl (dl_at t_X9_exception 49 rfl) ?_
        refine g_gd fun k95 => ?_
        refine g_zald (pc := 95) X r4_35 k95 (dl_at t_X9_exception 50 rfl) fun g95 => ?_
        refine g_ifne (pc := 96) X (r32_z g95) (off := 14) (tgt := 110) rfl (dl_at t_X9_exception 51 rfl) (fun _ => ?_) (fun _ => ?_)
        · refine r_new (pc := 110) X kX26 q1924 (dl_at t_X9_exception 58 rfl) fun a110_2 h110_2 p110_2 k110_2 E110_2 => ?_
          refine g_dup (pc := 113) X rv_cat (dl_at t_X9_exception 59 rfl) ?_
          refine g_iload_n (pc := 114) X (j := 2) (i := 2) (q := 2) (x := a2) rfl rfl (dl_at t_X9_exception 60 rfl) ?_
          refine r_callV (pc := 115) X (fun _ hv => sx_ScholarsPress_Broken_init_I_V k110_2 r2 hv) cw_code q1839 q391 (in_I X (As := [iv a2]) (Int.ne_of_gt p110_2) rfl (Or.inr ⟨_, nw_in q1925 rfl⟩) q1838 q1839 ⟨by decide, by decide⟩ rfl (dl_at t_X9_exception 61 rfl)) (dl_at t_X9_exception 61 rfl) (cat24 (st := [rv D a110_2]) (Nat.le_of_ble_eq_true rfl)) (Nat.le_of_ble_eq_true rfl) (Nat.le_of_ble_eq_true rfl) fun h115_2 E115_2 => ?_
          refine g_athrow (pc := 118) X (Int.ne_of_gt p110_2) (dl_at t_X9_exception 62 rfl) ?_
          exact gt_at fun Q hQ => gt_out (Q := Q) X rfl p110_2 (hno _) _ Q rfl hQ
        refine g_aload_n (pc := 99) X (j := 0) (i := 0) (q := 0) (x := a0) rfl rfl (dl_at t_X9_exception 52 rfl) ?_
        refine r_getr (pc := 100) X fX9_16 k90 q911 (dl_at t_X9_exception 53 rfl) ?_
        refine g_iload (pc := 103) X (i := 4) (q := 4) (x := x4_35) rfl (dl_at t_X9_exception 54 rfl) ?_
        refine g_iconst (pc := 105) X (n := 1) (dl_at t_X9_exception 55 rfl) ?_
        refine r_zast (pc := 106) X r4_35 (Or.inr rfl) k95 (dl_at t_X9_exception 56 rfl) (fun h106 E106 => ?_)
        refine g_goto (pc := 107) X (off := 12) (tgt := 119) rfl (dl_at t_X9_exception 57 rfl) ?_
        exact J119 (x4_35, h106) ⟨r4_35, E106⟩
      intro J75
      refine g_ifeq (pc := 48) X (r32_z g45) (off := 27) (tgt := 75) rfl (dl_at t_X9_exception 27 rfl) (fun _ => ?_) (fun _ => ?_)
      · exact J75 () trivial
      refine g_iload (pc := 51) X (i := 4) (q := 4) (x := x4_35) rfl (dl_at t_X9_exception 28 rfl) ?_
      refine g_bipush (pc := 53) X (n := 30) rfl (dl_at t_X9_exception 29 rfl) ?_
      refine g_icmpge (pc := 55) X r4_35 (r32_c rfl) (off := 20) (tgt := 75) rfl (dl_at t_X9_exception 30 rfl) (fun _ => ?_) (fun _ => ?_)
      · exact J75 () trivial
      refine g_aload_n (pc := 58) X (j := 0) (i := 0) (q := 0) (x := a0) rfl rfl (dl_at t_X9_exception 31 rfl) ?_
      have k59 := kx (E_30.trans E_35) (by decide) hk
      refine r_getr (pc := 59) X fX9_15 k59 q910 (dl_at t_X9_exception 32 rfl) ?_
      refine g_iload (pc := 62) X (i := 4) (q := 4) (x := x4_35) rfl (dl_at t_X9_exception 33 rfl) ?_
      refine g_aload_n (pc := 64) X (j := 1) (i := 1) (q := 1) (x := a1) rfl rfl (dl_at t_X9_exception 34 rfl) ?_
      refine g_iload (pc := 65) X (i := 5) (q := 5) (x := x5_35) rfl (dl_at t_X9_exception 35 rfl) ?_
      refine g_bald (pc := 67) X r5_35 k44 (dl_at t_X9_exception 36 rfl) fun g67 => ?_
      refine g_gd fun k68 => ?_
      refine r_bastB (pc := 68) X r4_35 g67 k68 (dl_at t_X9_exception 37 rfl) (fun h68 E68 => ?_)
      refine r_iincN (pc := 69) X (i := 4) (q := 4) (n := 1) (x := x4_35) (b := 3) (w := iv a3) (rest := [(0, rv D a0), (1, rv D a1), (2, iv a2), (5, iv x5_35)]) rfl r4_35 (r32_c rfl) (Nat.le_of_ble_eq_true rfl) [3, 0, 1, 2, 5] rfl (by decide) rfl rfl (dl_at t_X9_exception 38 rfl) fun x4_69 r4_69 => ?_
      refine g_goto (pc := 72) X (off := 47) (tgt := 119) rfl (dl_at t_X9_exception 39 rfl) ?_
      refine g_ls (ls2 := [(0, rv D a0), (1, rv D a1), (2, iv a2), (3, iv a3), (4, iv x4_69), (5, iv x5_35)]) [2, 3, 4, 1, 0, 5] rfl ?_
      exact J119 (x4_69, h68) ⟨r4_69, E68⟩
    · rintro ⟨x4_125, h_125⟩ ⟨r4_125, E_125⟩
      try dsimp only [sE]
      refine g_iload (pc := 125) X (i := 4) (q := 2) (x := x4_125) rfl (dl_at t_X9_exception 65 rfl) ?_
      refine g_ifeq (pc := 127) X r4_125 (off := 13) (tgt := 140) rfl (dl_at t_X9_exception 66 rfl) (fun _ => ?_) (fun _ => ?_)
      · refine r_new (pc := 140) X kX26 q1924 (dl_at t_X9_exception 72 rfl) fun a140 h140 p140 k140 E140 => ?_
        refine g_dup (pc := 143) X rv_cat (dl_at t_X9_exception 73 rfl) ?_
        refine g_iload_n (pc := 144) X (j := 2) (i := 2) (q := 1) (x := a2) rfl rfl (dl_at t_X9_exception 74 rfl) ?_
        refine r_callV (pc := 145) X (fun _ hv => sx_ScholarsPress_Broken_init_I_V k140 r2 hv) cw_code q1839 q391 (in_I X (As := [iv a2]) (Int.ne_of_gt p140) rfl (Or.inr ⟨_, nw_in q1925 rfl⟩) q1838 q1839 ⟨by decide, by decide⟩ rfl (dl_at t_X9_exception 75 rfl)) (dl_at t_X9_exception 75 rfl) (cat24 (st := [rv D a140]) (Nat.le_of_ble_eq_true rfl)) (Nat.le_of_ble_eq_true rfl) (Nat.le_of_ble_eq_true rfl) fun h145 E145 => ?_
        refine g_athrow (pc := 148) X (Int.ne_of_gt p140) (dl_at t_X9_exception 76 rfl) ?_
        exact gt_at fun Q hQ => gt_out (Q := Q) X rfl p140 (hno _) _ Q rfl hQ
      refine g_aload_n (pc := 130) X (j := 0) (i := 0) (q := 0) (x := a0) rfl rfl (dl_at t_X9_exception 67 rfl) ?_
      have k131 := kx (E_30.trans E_125) (by decide) hk
      refine r_getr (pc := 131) X fX9_16 k131 q911 (dl_at t_X9_exception 68 rfl) ?_
      refine g_iload (pc := 134) X (i := 4) (q := 2) (x := x4_125) rfl (dl_at t_X9_exception 69 rfl) ?_
      refine g_gd fun k136 => ?_
      refine g_zald (pc := 136) X r4_125 k136 (dl_at t_X9_exception 70 rfl) fun g136 => ?_
      refine g_ifeq (pc := 137) X (r32_z g136) (off := 12) (tgt := 149) rfl (dl_at t_X9_exception 71 rfl) (fun _ => ?_) (fun _ => ?_)
      · refine g_aload_n (pc := 149) X (j := 0) (i := 0) (q := 0) (x := a0) rfl rfl (dl_at t_X9_exception 77 rfl) ?_
        refine g_aload_n (pc := 150) X (j := 0) (i := 0) (q := 0) (x := a0) rfl rfl (dl_at t_X9_exception 78 rfl) ?_
        refine r_getr (pc := 151) X fX9_15 k131 q910 (dl_at t_X9_exception 79 rfl) ?_
        refine g_iconst (pc := 154) X (n := 0) (dl_at t_X9_exception 80 rfl) ?_
        refine g_iload (pc := 155) X (i := 4) (q := 2) (x := x4_125) rfl (dl_at t_X9_exception 81 rfl) ?_
        refine r_callRi (pc := 157) X (fun _ hv => s_X9_exceptionOf k131 (r32_c rfl) r4_125 hv) cw_code q1934 q363 (in_Vk X (As := [rv D (h_125 a0 15), iv 0, iv x4_125]) kX9 k131 (Or.inl q1931) q1933 qs27 cw_code q1934 ⟨by decide, by decide⟩ rfl (dl_at t_X9_exception 82 rfl)) (dl_at t_X9_exception 82 rfl) (cat24 (st := []) (Nat.le_of_ble_eq_true rfl)) (Nat.le_of_ble_eq_true rfl) (Nat.le_of_ble_eq_true rfl) fun v157 g157 => ?_
        refine g_istoreN (pc := 160) X (i := 5) (x := v157) (b := 4) (w := iv x4_125) (rest := [(0, rv D a0), (2, iv a2)]) (Nat.le_of_ble_eq_true rfl) [2, 0, 1] rfl (by decide) rfl rfl (dl_at t_X9_exception 83 rfl) ?_
        refine g_iload (pc := 162) X (i := 5) (q := 0) (x := v157) rfl (dl_at t_X9_exception 84 rfl) ?_
        refine g_join (γ := Int × Hp) (fun q => r32 q.1 ∧ Ext h_125 q.2) 201 (fun q => [(0, rv D a0), (4, iv x4_125), (5, iv q.1)]) (fun q => []) (fun q => q.2) (fun q => m_X9_exception_j201 x4_125 a0 q.1 q.2) ?_ ?_
        · rintro ⟨x5_201, h_201⟩ ⟨r5_201, E_201⟩
          try dsimp only
          unfold m_X9_exception_j201
          refine g_aload_n (pc := 201) X (j := 0) (i := 0) (q := 0) (x := a0) rfl rfl (dl_at t_X9_exception 104 rfl) ?_
          have k202 := kx E_201 (by decide) k131
          refine r_getr (pc := 202) X fX9_13 k202 q907 (dl_at t_X9_exception 105 rfl) ?_
          refine g_iload (pc := 205) X (i := 5) (q := 2) (x := x5_201) rfl (dl_at t_X9_exception 106 rfl) ?_
          refine g_iload (pc := 207) X (i := 4) (q := 1) (x := x4_125) rfl (dl_at t_X9_exception 107 rfl) ?_
          refine g_gd fun k209 => ?_
          refine r_iast (pc := 209) X r5_201 r4_125 k209 (dl_at t_X9_exception 108 rfl) (fun h209 E209 => ?_)
          refine g_iconst (pc := 210) X (n := 0) (dl_at t_X9_exception 109 rfl) ?_
          refine g_ltz (Or.inl rfl) fun x6_211 r6_211 => ?_
          refine g_istoreN (pc := 211) X (i := 6) (x := x6_211) (b := 5) (w := iv x5_201) (rest := [(0, rv D a0), (4, iv x4_125)]) (Nat.le_of_ble_eq_true rfl) [2, 0, 1] rfl (by decide) rfl rfl (dl_at t_X9_exception 110 rfl) ?_
          refine g_ls (ls2 := [(0, rv D a0), (4, iv x4_125), (5, iv x5_201), (6, iv x6_211)]) [2, 3, 1, 0] rfl ?_
          refine g_loop0F (fun (q : Int × Hp) => [(0, rv D a0), (4, iv x4_125), (5, iv x5_201), (6, iv q.1)]) (fun (q : Int × Hp) => q.2) (fun (q : Int × Hp) => r32 q.1 ∧ Ext h209 q.2) (x6_211, h209) ⟨(r32_z r6_211), (Ext.refl _)⟩ ?_ (fun _ => rfl)
          · rintro ⟨x6_213, h_213⟩ ⟨r6_213, E_213⟩
            try dsimp only
            unfold m_X9_exception_l213
            refine g_iload (pc := 213) X (i := 6) (q := 3) (x := x6_213) rfl (dl_at t_X9_exception 111 rfl) ?_
            refine g_iload (pc := 215) X (i := 4) (q := 1) (x := x4_125) rfl (dl_at t_X9_exception 112 rfl) ?_
            refine g_icmpge (pc := 217) X r6_213 r4_125 (off := 49) (tgt := 266) rfl (dl_at t_X9_exception 113 rfl) (fun _ => ?_) (fun _ => ?_)
            · exact g_at fun Q hQ => (g_vret (pc := 266) X (v := 0) rfl rfl (dl_at t_X9_exception 140 rfl)) _ Q rfl hQ
            refine g_aload_n (pc := 220) X (j := 0) (i := 0) (q := 0) (x := a0) rfl rfl (dl_at t_X9_exception 114 rfl) ?_
            have k221 := kx (E209.trans E_213) (by decide) k202
            refine r_getr (pc := 221) X fX9_11 k221 q905 (dl_at t_X9_exception 115 rfl) ?_
            refine g_bipush (pc := 224) X (n := 30) rfl (dl_at t_X9_exception 116 rfl) ?_
            refine g_iload (pc := 226) X (i := 5) (q := 2) (x := x5_201) rfl (dl_at t_X9_exception 117 rfl) ?_
            refine g_imul (pc := 228) X (r32_c rfl) r5_201 (dl_at t_X9_exception 118 rfl) ?_
            refine g_iload (pc := 229) X (i := 6) (q := 3) (x := x6_213) rfl (dl_at t_X9_exception 119 rfl) ?_
            refine g_iadd (pc := 231) X (r32_w _) r6_213 (dl_at t_X9_exception 120 rfl) ?_
            refine g_aload_n (pc := 232) X (j := 0) (i := 0) (q := 0) (x := a0) rfl rfl (dl_at t_X9_exception 121 rfl) ?_
            refine r_getr (pc := 233) X fX9_15 k221 q910 (dl_at t_X9_exception 122 rfl) ?_
            refine g_iload (pc := 236) X (i := 6) (q := 3) (x := x6_213) rfl (dl_at t_X9_exception 123 rfl) ?_
            refine g_gd fun k238 => ?_
            refine g_bald (pc := 238) X r6_213 k238 (dl_at t_X9_exception 124 rfl) fun g238 => ?_
            refine g_gd fun k239 => ?_
            refine r_bastB (pc := 239) X (r32_w _) g238 k239 (dl_at t_X9_exception 125 rfl) (fun h239 E239 => ?_)
            refine g_aload_n (pc := 240) X (j := 0) (i := 0) (q := 0) (x := a0) rfl rfl (dl_at t_X9_exception 126 rfl) ?_
            have k241 := kx E239 (by decide) k221
            refine r_getr (pc := 241) X fX9_12 k241 q906 (dl_at t_X9_exception 127 rfl) ?_
            refine g_bipush (pc := 244) X (n := 31) rfl (dl_at t_X9_exception 128 rfl) ?_
            refine g_iload (pc := 246) X (i := 5) (q := 2) (x := x5_201) rfl (dl_at t_X9_exception 129 rfl) ?_
            refine g_imul (pc := 248) X (r32_c rfl) r5_201 (dl_at t_X9_exception 130 rfl) ?_
            refine g_iload (pc := 249) X (i := 6) (q := 3) (x := x6_213) rfl (dl_at t_X9_exception 131 rfl) ?_
            refine g_iadd (pc := 251) X (r32_w _) r6_213 (dl_at t_X9_exception 132 rfl) ?_
            refine g_aload_n (pc := 252) X (j := 0) (i := 0) (q := 0) (x := a0) rfl rfl (dl_at t_X9_exception 133 rfl) ?_
            refine r_getr (pc := 253) X fX9_16 k241 q911 (dl_at t_X9_exception 134 rfl) ?_
            refine g_iload (pc := 256) X (i := 6) (q := 3) (x := x6_213) rfl (dl_at t_X9_exception 135 rfl) ?_
            refine g_gd fun k258 => ?_
            refine g_zald (pc := 258) X r6_213 k258 (dl_at t_X9_exception 136 rfl) fun g258 => ?_
            refine g_gd fun k259 => ?_
            refine r_zast (pc := 259) X (r32_w _) g258 k259 (dl_at t_X9_exception 137 rfl) (fun h259 E259 => ?_)
            refine r_iincN (pc := 260) X (i := 6) (q := 3) (n := 1) (x := x6_213) (b := 5) (w := iv x5_201) (rest := [(0, rv D a0), (4, iv x4_125)]) rfl r6_213 (r32_c rfl) (Nat.le_of_ble_eq_true rfl) [2, 0, 1] rfl (by decide) rfl rfl (dl_at t_X9_exception 138 rfl) fun x6_260 r6_260 => ?_
            refine g_goto (pc := 263) X (off := (-50)) (tgt := 213) rfl (dl_at t_X9_exception 139 rfl) ?_
            refine g_ls (ls2 := [(0, rv D a0), (4, iv x4_125), (5, iv x5_201), (6, iv x6_260)]) [2, 3, 1, 0] rfl ?_
            exact g_at fun Q hQ => hQ ⟨r6_260, (E_213.trans (E239.trans E259))⟩
        intro J201
        refine g_ifge (pc := 164) X g157 (off := 37) (tgt := 201) rfl (dl_at t_X9_exception 85 rfl) (fun _ => ?_) (fun _ => ?_)
        · refine g_ls (ls2 := [(0, rv D a0), (4, iv x4_125), (5, iv v157)]) [2, 1, 0] rfl ?_
          exact J201 (v157, h_125) ⟨g157, (Ext.refl _)⟩
        refine g_aload_n (pc := 167) X (j := 0) (i := 0) (q := 2) (x := a0) rfl rfl (dl_at t_X9_exception 86 rfl) ?_
        refine r_geti (pc := 168) X fX9_14 k131 q908 (dl_at t_X9_exception 87 rfl) fun g168 => ?_
        refine g_bipush (pc := 171) X (n := 60) rfl (dl_at t_X9_exception 88 rfl) ?_
        refine g_icmpne (pc := 173) X g168 (r32_c rfl) (off := 12) (tgt := 185) rfl (dl_at t_X9_exception 89 rfl) (fun _ => ?_) (fun _ => ?_)
        · refine g_aload_n (pc := 185) X (j := 0) (i := 0) (q := 2) (x := a0) rfl rfl (dl_at t_X9_exception 95 rfl) ?_
          refine r_geti (pc := 186) X fX9_14 k131 q908 (dl_at t_X9_exception 96 rfl) fun g186 => ?_
          refine g_lti g186 fun x5_189 r5_189 => ?_
          refine g_istoreN (pc := 189) X (i := 5) (x := x5_189) (b := 4) (w := iv x4_125) (rest := [(0, rv D a0)]) (Nat.le_of_ble_eq_true rfl) [1, 2] rfl (by decide) rfl rfl (dl_at t_X9_exception 97 rfl) ?_
          refine g_aload_n (pc := 191) X (j := 0) (i := 0) (q := 2) (x := a0) rfl rfl (dl_at t_X9_exception 98 rfl) ?_
          refine g_dup (pc := 192) X rv_cat (dl_at t_X9_exception 99 rfl) ?_
          refine r_geti (pc := 193) X fX9_14 k131 q908 (dl_at t_X9_exception 100 rfl) fun g193 => ?_
          refine g_iconst (pc := 196) X (n := 1) (dl_at t_X9_exception 101 rfl) ?_
          refine g_iadd (pc := 197) X g193 (r32_c rfl) (dl_at t_X9_exception 102 rfl) ?_
          refine r_puti (pc := 198) X fX9_14 k131 q908 rfl (dl_at t_X9_exception 103 rfl) (r32_w _) (fun h198 E198 => ?_)
          refine g_ls (ls2 := [(0, rv D a0), (4, iv x4_125), (5, iv x5_189)]) [2, 1, 0] rfl ?_
          exact J201 (x5_189, h198) ⟨r5_189, E198⟩
        refine r_new (pc := 176) X kX26 q1924 (dl_at t_X9_exception 90 rfl) fun a176 h176 p176 k176 E176 => ?_
        refine g_dup (pc := 179) X rv_cat (dl_at t_X9_exception 91 rfl) ?_
        refine g_iload_n (pc := 180) X (j := 2) (i := 2) (q := 3) (x := a2) rfl rfl (dl_at t_X9_exception 92 rfl) ?_
        refine r_callV (pc := 181) X (fun _ hv => sx_ScholarsPress_Broken_init_I_V k176 r2 hv) cw_code q1839 q391 (in_I X (As := [iv a2]) (Int.ne_of_gt p176) rfl (Or.inr ⟨_, nw_in q1925 rfl⟩) q1838 q1839 ⟨by decide, by decide⟩ rfl (dl_at t_X9_exception 93 rfl)) (dl_at t_X9_exception 93 rfl) (cat24 (st := [rv D a176]) (Nat.le_of_ble_eq_true rfl)) (Nat.le_of_ble_eq_true rfl) (Nat.le_of_ble_eq_true rfl) fun h181 E181 => ?_
        refine g_athrow (pc := 184) X (Int.ne_of_gt p176) (dl_at t_X9_exception 94 rfl) ?_
        exact gt_at fun Q hQ => gt_out (Q := Q) X rfl p176 (hno _) _ Q rfl hQ
      refine r_new (pc := 140) X kX26 q1924 (dl_at t_X9_exception 72 rfl) fun a140_1 h140_1 p140_1 k140_1 E140_1 => ?_
      refine g_dup (pc := 143) X rv_cat (dl_at t_X9_exception 73 rfl) ?_
      refine g_iload_n (pc := 144) X (j := 2) (i := 2) (q := 1) (x := a2) rfl rfl (dl_at t_X9_exception 74 rfl) ?_
      refine r_callV (pc := 145) X (fun _ hv => sx_ScholarsPress_Broken_init_I_V k140_1 r2 hv) cw_code q1839 q391 (in_I X (As := [iv a2]) (Int.ne_of_gt p140_1) rfl (Or.inr ⟨_, nw_in q1925 rfl⟩) q1838 q1839 ⟨by decide, by decide⟩ rfl (dl_at t_X9_exception 75 rfl)) (dl_at t_X9_exception 75 rfl) (cat24 (st := [rv D a140_1]) (Nat.le_of_ble_eq_true rfl)) (Nat.le_of_ble_eq_true rfl) (Nat.le_of_ble_eq_true rfl) fun h145_1 E145_1 => ?_
      refine g_athrow (pc := 148) X (Int.ne_of_gt p140_1) (dl_at t_X9_exception 76 rfl) ?_
      exact gt_at fun Q hQ => gt_out (Q := Q) X rfl p140_1 (hno _) _ Q rfl hQ
def k_X9_find : List (Nat × Instr × Nat) := [(0, .aload_n 0, 1), (1, .getfield 22, 3), (4, .iload_n 1, 1), (5, .iaload, 1), (6, .istore_n 3, 1), (7, .iload_n 3, 1), (8, .ifCond .lt 23, 3), (11, .aload_n 0, 1), (12, .getfield 18, 3), (15, .iload_n 3, 1), (16, .iaload, 1), (17, .iload_n 2, 1), (18, .if_icmp .eq 13, 3), (21, .aload_n 0, 1), (22, .getfield 25, 3), (25, .iload_n 3, 1), (26, .iaload, 1), (27, .istore_n 3, 1), (28, .goto (-21), 3), (31, .iload_n 3, 1), (32, .ireturn, 1)]
theorem t_X9_find : ∀ q ∈ k_X9_find, decode cX9_find q.1 = .ok q.2 := dl_all (by decide +kernel)
noncomputable def m_X9_find_l7 (a0 a2 x3_7 : Int) (h : Hp) : Option ((Int) ⊕ ((Int))) :=
  if x3_7 < 0 then (some (.inr x3_7))
  else (gd (h (h a0 2) (-2) % 16 = 1 ∧ (0 : Int) ≤ x3_7 ∧ x3_7 < h (h a0 2) (-1)) (if (h (h a0 2) x3_7) = a2 then (some (.inr x3_7))
  else (gd (h (h a0 4) (-2) % 16 = 1 ∧ (0 : Int) ≤ x3_7 ∧ x3_7 < h (h a0 4) (-1)) (lt_ (h (h a0 4) x3_7) fun x3_27 =>
  some (.inl x3_27)))))
noncomputable def m_X9_find (a0 a1 a2 : Int) (h : Hp) : Option (Int) :=
  gd (h (h a0 3) (-2) % 16 = 1 ∧ (0 : Int) ≤ a1 ∧ a1 < h (h a0 3) (-1)) (lt_ (h (h a0 3) a1) fun x3_6 =>
  (lp (fun (q : Int) => m_X9_find_l7 a0 a2 q h) x3_6).bind (fun (x : Int) => some x))
theorem s_X9_find {l : Launch} [NoTr l] {D : SD} {a0 a1 a2 : Int} {h : Hp} (hk : h a0 (-2) = 144) (r1 : r32 a1) (r2 : r32 a2) {r : Int} (hm : m_X9_find a0 a1 a2 h = some r) : Sim l D yX9_find (Cond.code yX9_find cX9_find 4 (Option.some Jvm.ClassFile.FieldType.int)) 0 0 [rv D a0, iv a1, iv a2] h 1 ((0, r), h) := by
  refine Sim.of (fin := fun (v : Int) => ((0, v), h)) (lsE := [(0, rv D a0), (1, iv a1), (2, iv a2)]) hm rfl cwS_code (la_r (la_i (la_i la_n))) (ll_r (ll_i (ll_i ll_n))) ?_
  intro p e s m below meth c X hcw hmm hcc hnm hname
  unfold m_X9_find
  refine g_aload_n (pc := 0) X (j := 0) (i := 0) (q := 0) (x := a0) rfl rfl (dl_at t_X9_find 0 rfl) ?_
  refine r_getr (pc := 1) X fX9_3 hk q896 (dl_at t_X9_find 1 rfl) ?_
  refine g_iload_n (pc := 4) X (j := 1) (i := 1) (q := 1) (x := a1) rfl rfl (dl_at t_X9_find 2 rfl) ?_
  refine g_gd fun k5 => ?_
  refine g_iald (pc := 5) X r1 k5 (dl_at t_X9_find 3 rfl) fun g5 => ?_
  refine g_lti g5 fun x3_6 r3_6 => ?_
  refine g_istore_nN (pc := 6) X (j := 3) (i := 3) (x := x3_6) (b := 2) (w := iv a2) (rest := [(0, rv D a0)]) rfl (Nat.le_of_ble_eq_true rfl) [2, 0] rfl (by decide) rfl rfl (dl_at t_X9_find 4 rfl) ?_
  refine g_ls (ls2 := [(0, rv D a0), (2, iv a2), (3, iv x3_6)]) [2, 1, 0] rfl ?_
  refine g_loop0F (fun (q : Int) => [(0, rv D a0), (2, iv a2), (3, iv q)]) (fun (q : Int) => h) (fun (q : Int) => r32 q) x3_6 r3_6 ?_ (fun _ => rfl)
  · rintro x3_7 r3_7
    try dsimp only
    unfold m_X9_find_l7
    refine g_iload_n (pc := 7) X (j := 3) (i := 3) (q := 2) (x := x3_7) rfl rfl (dl_at t_X9_find 5 rfl) ?_
    refine g_iflt (pc := 8) X r3_7 (off := 23) (tgt := 31) rfl (dl_at t_X9_find 6 rfl) (fun _ => ?_) (fun _ => ?_)
    · refine g_iload_n (pc := 31) X (j := 3) (i := 3) (q := 2) (x := x3_7) rfl rfl (dl_at t_X9_find 19 rfl) ?_
      exact g_at fun Q hQ => (g_iret (pc := 32) X r3_7 rfl rfl (dl_at t_X9_find 20 rfl)) _ Q rfl hQ
    refine g_aload_n (pc := 11) X (j := 0) (i := 0) (q := 0) (x := a0) rfl rfl (dl_at t_X9_find 7 rfl) ?_
    refine r_getr (pc := 12) X fX9_2 hk q895 (dl_at t_X9_find 8 rfl) ?_
    refine g_iload_n (pc := 15) X (j := 3) (i := 3) (q := 2) (x := x3_7) rfl rfl (dl_at t_X9_find 9 rfl) ?_
    refine g_gd fun k16 => ?_
    refine g_iald (pc := 16) X r3_7 k16 (dl_at t_X9_find 10 rfl) fun g16 => ?_
    refine g_iload_n (pc := 17) X (j := 2) (i := 2) (q := 1) (x := a2) rfl rfl (dl_at t_X9_find 11 rfl) ?_
    refine g_icmpeq (pc := 18) X g16 r2 (off := 13) (tgt := 31) rfl (dl_at t_X9_find 12 rfl) (fun _ => ?_) (fun _ => ?_)
    · refine g_iload_n (pc := 31) X (j := 3) (i := 3) (q := 2) (x := x3_7) rfl rfl (dl_at t_X9_find 19 rfl) ?_
      exact g_at fun Q hQ => (g_iret (pc := 32) X r3_7 rfl rfl (dl_at t_X9_find 20 rfl)) _ Q rfl hQ
    refine g_aload_n (pc := 21) X (j := 0) (i := 0) (q := 0) (x := a0) rfl rfl (dl_at t_X9_find 13 rfl) ?_
    refine r_getr (pc := 22) X fX9_4 hk q897 (dl_at t_X9_find 14 rfl) ?_
    refine g_iload_n (pc := 25) X (j := 3) (i := 3) (q := 2) (x := x3_7) rfl rfl (dl_at t_X9_find 15 rfl) ?_
    refine g_gd fun k26 => ?_
    refine g_iald (pc := 26) X r3_7 k26 (dl_at t_X9_find 16 rfl) fun g26 => ?_
    refine g_lti g26 fun x3_27 r3_27 => ?_
    refine g_istore_nN (pc := 27) X (j := 3) (i := 3) (x := x3_27) (b := 2) (w := iv a2) (rest := [(0, rv D a0)]) rfl (Nat.le_of_ble_eq_true rfl) [1, 0] rfl (by decide) rfl rfl (dl_at t_X9_find 17 rfl) ?_
    refine g_goto (pc := 28) X (off := (-21)) (tgt := 7) rfl (dl_at t_X9_find 18 rfl) ?_
    refine g_ls (ls2 := [(0, rv D a0), (2, iv a2), (3, iv x3_27)]) [2, 1, 0] rfl ?_
    exact g_at fun Q hQ => hQ r3_27
def k_X9_step : List (Nat × Instr × Nat) := [(0, .aload_n 0, 1), (1, .iload_n 1, 1), (2, .iload_n 2, 1), (3, .invokevirtual 122, 3), (6, .istore_n 3, 1), (7, .iload_n 3, 1), (8, .ifCond .lt 5, 3), (11, .iload_n 3, 1), (12, .ireturn, 1), (13, .aload_n 0, 1), (14, .getfield 18, 3), (17, .aload_n 0, 1), (18, .getfield 63, 3), (21, .iload_n 2, 1), (22, .iastore, 1), (23, .aload_n 0, 1), (24, .getfield 22, 3), (27, .aload_n 0, 1), (28, .getfield 63, 3), (31, .iconst (-1), 1), (32, .iastore, 1), (33, .aload_n 0, 1), (34, .getfield 25, 3), (37, .aload_n 0, 1), (38, .getfield 63, 3), (41, .aload_n 0, 1), (42, .getfield 22, 3), (45, .iload_n 1, 1), (46, .iaload, 1), (47, .iastore, 1), (48, .aload_n 0, 1), (49, .getfield 28, 3), (52, .aload_n 0, 1), (53, .getfield 63, 3), (56, .iconst (-1), 1), (57, .iastore, 1), (58, .aload_n 0, 1), (59, .getfield 22, 3), (62, .iload_n 1, 1), (63, .aload_n 0, 1), (64, .getfield 63, 3), (67, .iastore, 1), (68, .aload_n 0, 1), (69, .dup, 1), (70, .getfield 63, 3), (73, .iconst 1, 1), (74, .iadd, 1), (75, .putfield 63, 3), (78, .aload_n 0, 1), (79, .getfield 63, 3), (82, .iconst 1, 1), (83, .isub, 1), (84, .ireturn, 1)]
theorem t_X9_step : ∀ q ∈ k_X9_step, decode cX9_step q.1 = .ok q.2 := dl_all (by decide +kernel)
noncomputable def m_X9_step (a0 a1 a2 : Int) (h : Hp) : Option (Int × Hp) :=
  (m_X9_find a0 a1 a2 h).bind fun v3 =>
  if v3 < 0 then (gd (h (h a0 2) (-2) % 16 = 1 ∧ (0 : Int) ≤ (h a0 6) ∧ (h a0 6) < h (h a0 2) (-1)) (pt h (h a0 2) (h a0 6) a2 fun h22 =>
  gd (h22 (h22 a0 3) (-2) % 16 = 1 ∧ (0 : Int) ≤ (h22 a0 6) ∧ (h22 a0 6) < h22 (h22 a0 3) (-1)) (pt h22 (h22 a0 3) (h22 a0 6) (-1) fun h32 =>
  gd (h32 (h32 a0 3) (-2) % 16 = 1 ∧ (0 : Int) ≤ a1 ∧ a1 < h32 (h32 a0 3) (-1)) (gd (h32 (h32 a0 4) (-2) % 16 = 1 ∧ (0 : Int) ≤ (h32 a0 6) ∧ (h32 a0 6) < h32 (h32 a0 4) (-1)) (pt h32 (h32 a0 4) (h32 a0 6) (h32 (h32 a0 3) a1) fun h47 =>
  gd (h47 (h47 a0 5) (-2) % 16 = 1 ∧ (0 : Int) ≤ (h47 a0 6) ∧ (h47 a0 6) < h47 (h47 a0 5) (-1)) (pt h47 (h47 a0 5) (h47 a0 6) (-1) fun h57 =>
  gd (h57 (h57 a0 3) (-2) % 16 = 1 ∧ (0 : Int) ≤ a1 ∧ a1 < h57 (h57 a0 3) (-1)) (pt h57 (h57 a0 3) a1 (h57 a0 6) fun h67 =>
  pt h67 a0 6 (w32 ((h67 a0 6) + 1)) fun h75 =>
  some ((w32 ((h75 a0 6) - 1)), h75))))))))
  else (some (v3, h))
theorem s_X9_step {l : Launch} [NoTr l] {D : SD} {a0 a1 a2 : Int} {h : Hp} (hk : h a0 (-2) = 144) (r1 : r32 a1) (r2 : r32 a2) {r : Int × Hp} (hm : m_X9_step a0 a1 a2 h = some r) : Sim l D yX9_step (Cond.code yX9_step cX9_step 4 (Option.some Jvm.ClassFile.FieldType.int)) 1 39 [rv D a0, iv a1, iv a2] h 1 ((0, r.1), r.2) := by
  refine Sim.of (fin := fun (v : Int × Hp) => ((0, v.1), v.2)) (lsE := [(0, rv D a0), (1, iv a1), (2, iv a2)]) hm rfl cwS_code (la_r (la_i (la_i la_n))) (ll_r (ll_i (ll_i ll_n))) ?_
  intro p e s m below meth c X hcw hmm hcc hnm hname
  unfold m_X9_step
  refine g_aload_n (pc := 0) X (j := 0) (i := 0) (q := 0) (x := a0) rfl rfl (dl_at t_X9_step 0 rfl) ?_
  refine g_iload_n (pc := 1) X (j := 1) (i := 1) (q := 1) (x := a1) rfl rfl (dl_at t_X9_step 1 rfl) ?_
  refine g_iload_n (pc := 2) X (j := 2) (i := 2) (q := 2) (x := a2) rfl rfl (dl_at t_X9_step 2 rfl) ?_
  refine r_callRi (pc := 3) X (fun _ hv => s_X9_find hk r1 r2 hv) cw_code q1949 q363 (in_Vk X (As := [iv a1, iv a2]) kX9 hk (Or.inl q1946) q1948 qs30 cw_code q1949 ⟨by decide, by decide⟩ rfl (dl_at t_X9_step 3 rfl)) (dl_at t_X9_step 3 rfl) (cat24 (st := []) (Nat.le_of_ble_eq_true rfl)) (Nat.le_of_ble_eq_true rfl) (Nat.le_of_ble_eq_true rfl) fun v3 g3 => ?_
  refine g_istore_nN (pc := 6) X (j := 3) (i := 3) (x := v3) (b := 2) (w := iv a2) (rest := [(0, rv D a0), (1, iv a1)]) rfl (Nat.le_of_ble_eq_true rfl) [2, 0, 1] rfl (by decide) rfl rfl (dl_at t_X9_step 4 rfl) ?_
  refine g_iload_n (pc := 7) X (j := 3) (i := 3) (q := 0) (x := v3) rfl rfl (dl_at t_X9_step 5 rfl) ?_
  refine g_iflt (pc := 8) X g3 (off := 5) (tgt := 13) rfl (dl_at t_X9_step 6 rfl) (fun _ => ?_) (fun _ => ?_)
  · refine g_aload_n (pc := 13) X (j := 0) (i := 0) (q := 2) (x := a0) rfl rfl (dl_at t_X9_step 9 rfl) ?_
    refine r_getr (pc := 14) X fX9_2 hk q895 (dl_at t_X9_step 10 rfl) ?_
    refine g_aload_n (pc := 17) X (j := 0) (i := 0) (q := 2) (x := a0) rfl rfl (dl_at t_X9_step 11 rfl) ?_
    refine r_geti (pc := 18) X fX9_6 hk q899 (dl_at t_X9_step 12 rfl) fun g18 => ?_
    refine g_iload_n (pc := 21) X (j := 2) (i := 2) (q := 1) (x := a2) rfl rfl (dl_at t_X9_step 13 rfl) ?_
    refine g_gd fun k22 => ?_
    refine r_iast (pc := 22) X g18 r2 k22 (dl_at t_X9_step 14 rfl) (fun h22 E22 => ?_)
    refine g_aload_n (pc := 23) X (j := 0) (i := 0) (q := 2) (x := a0) rfl rfl (dl_at t_X9_step 15 rfl) ?_
    have k24 := kx E22 (by decide) hk
    refine r_getr (pc := 24) X fX9_3 k24 q896 (dl_at t_X9_step 16 rfl) ?_
    refine g_aload_n (pc := 27) X (j := 0) (i := 0) (q := 2) (x := a0) rfl rfl (dl_at t_X9_step 17 rfl) ?_
    refine r_geti (pc := 28) X fX9_6 k24 q899 (dl_at t_X9_step 18 rfl) fun g28 => ?_
    refine g_iconst (pc := 31) X (n := (-1)) (dl_at t_X9_step 19 rfl) ?_
    refine g_gd fun k32 => ?_
    refine r_iast (pc := 32) X g28 (r32_c rfl) k32 (dl_at t_X9_step 20 rfl) (fun h32 E32 => ?_)
    refine g_aload_n (pc := 33) X (j := 0) (i := 0) (q := 2) (x := a0) rfl rfl (dl_at t_X9_step 21 rfl) ?_
    have k34 := kx E32 (by decide) k24
    refine r_getr (pc := 34) X fX9_4 k34 q897 (dl_at t_X9_step 22 rfl) ?_
    refine g_aload_n (pc := 37) X (j := 0) (i := 0) (q := 2) (x := a0) rfl rfl (dl_at t_X9_step 23 rfl) ?_
    refine r_geti (pc := 38) X fX9_6 k34 q899 (dl_at t_X9_step 24 rfl) fun g38 => ?_
    refine g_aload_n (pc := 41) X (j := 0) (i := 0) (q := 2) (x := a0) rfl rfl (dl_at t_X9_step 25 rfl) ?_
    refine r_getr (pc := 42) X fX9_3 k34 q896 (dl_at t_X9_step 26 rfl) ?_
    refine g_iload_n (pc := 45) X (j := 1) (i := 1) (q := 3) (x := a1) rfl rfl (dl_at t_X9_step 27 rfl) ?_
    refine g_gd fun k46 => ?_
    refine g_iald (pc := 46) X r1 k46 (dl_at t_X9_step 28 rfl) fun g46 => ?_
    refine g_gd fun k47 => ?_
    refine r_iast (pc := 47) X g38 g46 k47 (dl_at t_X9_step 29 rfl) (fun h47 E47 => ?_)
    refine g_aload_n (pc := 48) X (j := 0) (i := 0) (q := 2) (x := a0) rfl rfl (dl_at t_X9_step 30 rfl) ?_
    have k49 := kx E47 (by decide) k34
    refine r_getr (pc := 49) X fX9_5 k49 q898 (dl_at t_X9_step 31 rfl) ?_
    refine g_aload_n (pc := 52) X (j := 0) (i := 0) (q := 2) (x := a0) rfl rfl (dl_at t_X9_step 32 rfl) ?_
    refine r_geti (pc := 53) X fX9_6 k49 q899 (dl_at t_X9_step 33 rfl) fun g53 => ?_
    refine g_iconst (pc := 56) X (n := (-1)) (dl_at t_X9_step 34 rfl) ?_
    refine g_gd fun k57 => ?_
    refine r_iast (pc := 57) X g53 (r32_c rfl) k57 (dl_at t_X9_step 35 rfl) (fun h57 E57 => ?_)
    refine g_aload_n (pc := 58) X (j := 0) (i := 0) (q := 2) (x := a0) rfl rfl (dl_at t_X9_step 36 rfl) ?_
    have k59 := kx E57 (by decide) k49
    refine r_getr (pc := 59) X fX9_3 k59 q896 (dl_at t_X9_step 37 rfl) ?_
    refine g_iload_n (pc := 62) X (j := 1) (i := 1) (q := 3) (x := a1) rfl rfl (dl_at t_X9_step 38 rfl) ?_
    refine g_aload_n (pc := 63) X (j := 0) (i := 0) (q := 2) (x := a0) rfl rfl (dl_at t_X9_step 39 rfl) ?_
    refine r_geti (pc := 64) X fX9_6 k59 q899 (dl_at t_X9_step 40 rfl) fun g64 => ?_
    refine g_gd fun k67 => ?_
    refine r_iast (pc := 67) X r1 g64 k67 (dl_at t_X9_step 41 rfl) (fun h67 E67 => ?_)
    refine g_aload_n (pc := 68) X (j := 0) (i := 0) (q := 2) (x := a0) rfl rfl (dl_at t_X9_step 42 rfl) ?_
    refine g_dup (pc := 69) X rv_cat (dl_at t_X9_step 43 rfl) ?_
    have k70 := kx E67 (by decide) k59
    refine r_geti (pc := 70) X fX9_6 k70 q899 (dl_at t_X9_step 44 rfl) fun g70 => ?_
    refine g_iconst (pc := 73) X (n := 1) (dl_at t_X9_step 45 rfl) ?_
    refine g_iadd (pc := 74) X g70 (r32_c rfl) (dl_at t_X9_step 46 rfl) ?_
    refine r_puti (pc := 75) X fX9_6 k70 q899 rfl (dl_at t_X9_step 47 rfl) (r32_w _) (fun h75 E75 => ?_)
    refine g_aload_n (pc := 78) X (j := 0) (i := 0) (q := 2) (x := a0) rfl rfl (dl_at t_X9_step 48 rfl) ?_
    have k79 := kx E75 (by decide) k70
    refine r_geti (pc := 79) X fX9_6 k79 q899 (dl_at t_X9_step 49 rfl) fun g79 => ?_
    refine g_iconst (pc := 82) X (n := 1) (dl_at t_X9_step 50 rfl) ?_
    refine g_isub (pc := 83) X g79 (r32_c rfl) (dl_at t_X9_step 51 rfl) ?_
    exact g_iret (pc := 84) X (r32_w _) rfl rfl (dl_at t_X9_step 52 rfl)
  refine g_iload_n (pc := 11) X (j := 3) (i := 3) (q := 0) (x := v3) rfl rfl (dl_at t_X9_step 7 rfl) ?_
  exact g_iret (pc := 12) X g3 rfl rfl (dl_at t_X9_step 8 rfl)
def k_X9_pattern : List (Nat × Instr × Nat) := [(0, .iload_n 2, 1), (1, .istore 4, 2), (3, .iload_n 3, 1), (4, .istore 5, 2), (6, .aload_n 1, 1), (7, .iload 4, 2), (9, .baload, 1), (10, .bipush 46, 2), (12, .if_icmp .ne 7, 3), (15, .iconst 1, 1), (16, .goto 4, 3), (19, .iconst 0, 1), (20, .istore 6, 2), (22, .iload 6, 2), (24, .ifCond .eq 6, 3), (27, .iinc 4 1, 3), (30, .iload 5, 2), (32, .iload 4, 2), (34, .if_icmp .le 18, 3), (37, .aload_n 1, 1), (38, .iload 5, 2), (40, .iconst 1, 1), (41, .isub, 1), (42, .baload, 1), (43, .bipush 46, 2), (45, .if_icmp .ne 7, 3), (48, .iconst 1, 1), (49, .goto 4, 3), (52, .iconst 0, 1), (53, .istore 7, 2), (55, .iload 7, 2), (57, .ifCond .eq 6, 3), (60, .iinc 5 (-1), 3), (63, .iload 6, 2), (65, .ifCond .eq 12, 3), (68, .aload_n 0, 1), (69, .iconst 0, 1), (70, .iconst 0, 1), (71, .invokevirtual 115, 3), (74, .goto 4, 3), (77, .iconst 0, 1), (78, .istore 8, 2), (80, .iconst 0, 1), (81, .istore 9, 2), (83, .iconst 0, 1), (84, .istore 10, 2), (86, .aload_n 0, 1), (87, .getfield 54, 3), (90, .iconst 0, 1), (91, .iconst 0, 1), (92, .bastore, 1), (93, .iload 4, 2), (95, .istore 11, 2), (97, .iload 11, 2), (99, .iload 5, 2), (101, .if_icmp .ge 117, 3), (104, .aload_n 1, 1), (105, .iload 11, 2), (107, .baload, 1), (108, .invokestatic 119, 3), (111, .ifCond .eq 29, 3), (114, .iload 10, 2), (116, .ifCond .ne 24, 3), (119, .aload_n 0, 1), (120, .getfield 54, 3), (123, .iload 9, 2), (125, .aload_n 1, 1), (126, .iload 11, 2), (128, .baload, 1), (129, .bipush 48, 2), (131, .isub, 1), (132, .i2b, 1), (133, .bastore, 1), (134, .iconst 1, 1), (135, .istore 10, 2), (137, .goto 75, 3), (140, .aload_n 1, 1), (141, .iload 11, 2), (143, .baload, 1), (144, .invokestatic 105, 3), (147, .ifCond .eq 56, 3), (150, .iload 9, 2), (152, .bipush 12, 2), (154, .if_icmp .ge 49, 3), (157, .aload_n 0, 1), (158, .getfield 63, 3), (161, .iconst 2, 1), (162, .iadd, 1), (163, .sipush 4216, 3), (166, .if_icmp .ge 37, 3), (169, .aload_n 0, 1), (170, .iload 8, 2), (172, .aload_n 1, 1), (173, .iload 11, 2), (175, .baload, 1), (176, .bipush 97, 2), (178, .isub, 1), (179, .iconst 1, 1), (180, .iadd, 1), (181, .invokevirtual 115, 3), (184, .istore 8, 2), (186, .iinc 9 1, 3), (189, .aload_n 0, 1), (190, .getfield 54, 3), (193, .iload 9, 2), (195, .iconst 0, 1), (196, .bastore, 1), (197, .iconst 0, 1), (198, .istore 10, 2), (200, .goto 12, 3), (203, .new 90, 3), (206, .dup, 1), (207, .iload_n 2, 1), (208, .invokespecial 92, 3), (211, .athrow, 1), (212, .iinc 11 1, 3), (215, .goto (-118), 3), (218, .iload 9, 2), (220, .ifCond .ne 12, 3), (223, .new 90, 3), (226, .dup, 1), (227, .iload_n 2, 1), (228, .invokespecial 92, 3), (231, .athrow, 1), (232, .iload 7, 2), (234, .ifCond .eq 12, 3), (237, .aload_n 0, 1), (238, .iload 8, 2), (240, .iconst 0, 1), (241, .invokevirtual 115, 3), (244, .istore 8, 2), (246, .aload_n 0, 1), (247, .getfield 28, 3), (250, .iload 8, 2), (252, .iaload, 1), (253, .ifCond .ge 69, 3), (256, .aload_n 0, 1), (257, .getfield 69, 3), (260, .sipush 300, 3), (263, .if_icmp .ne 12, 3), (266, .new 90, 3), (269, .dup, 1), (270, .iload_n 2, 1), (271, .invokespecial 92, 3), (274, .athrow, 1), (275, .aload_n 0, 1), (276, .getfield 28, 3), (279, .iload 8, 2), (281, .aload_n 0, 1), (282, .getfield 69, 3), (285, .iastore, 1), (286, .aload_n 0, 1), (287, .getfield 31, 3), (290, .aload_n 0, 1), (291, .getfield 69, 3), (294, .aload_n 0, 1), (295, .getfield 66, 3), (298, .iastore, 1), (299, .aload_n 0, 1), (300, .dup, 1), (301, .getfield 66, 3), (304, .iload 9, 2), (306, .iconst 1, 1), (307, .iadd, 1), (308, .iadd, 1), (309, .putfield 66, 3), (312, .aload_n 0, 1), (313, .dup, 1), (314, .getfield 69, 3), (317, .iconst 1, 1), (318, .iadd, 1), (319, .putfield 69, 3), (322, .iconst 0, 1), (323, .istore 11, 2), (325, .iload 11, 2), (327, .iload 9, 2), (329, .if_icmp .gt 36, 3), (332, .aload_n 0, 1), (333, .getfield 34, 3), (336, .aload_n 0, 1), (337, .getfield 31, 3), (340, .aload_n 0, 1), (341, .getfield 28, 3), (344, .iload 8, 2), (346, .iaload, 1), (347, .iaload, 1), (348, .iload 11, 2), (350, .iadd, 1), (351, .aload_n 0, 1), (352, .getfield 54, 3), (355, .iload 11, 2), (357, .baload, 1), (358, .bastore, 1), (359, .iinc 11 1, 3), (362, .goto (-37), 3), (365, .return_, 1)]
theorem t_X9_pattern : ∀ q ∈ k_X9_pattern, decode cX9_pattern q.1 = .ok q.2 := dl_all (by decide +kernel)
noncomputable def m_X9_pattern_j212 (x11_97 x8_212 x9_212 x10_212 : Int) (h_212 : Hp) : Option ((Int × Int × Int × Int × Hp) ⊕ ((Int × Int × Hp) ⊕ (((Int × Int) × Hp)))) :=
  lt_ (w32 (x11_97 + 1)) fun x11_212 =>
  some (.inl (x8_212, x9_212, x10_212, x11_212, h_212))
noncomputable def m_X9_pattern_j140 (a0 a1 a2 x8_97 x9_97 x11_97 : Int) (h_97 : Hp) : Option ((Int × Int × Int × Int × Hp) ⊕ ((Int × Int × Hp) ⊕ (((Int × Int) × Hp)))) :=
  (m_X1_isSmall (h_97 a1 x11_97)).bind fun v144 =>
  if v144 = 0 then (al h_97 432 7 fun a203 h203 =>
  (x_broken a203 a2 h203).bind fun h208 =>
  some (.inr (.inr ((1, a203), h208))))
  else (if 12 ≤ x9_97 then (al h_97 432 7 fun a203_1 h203_1 =>
  (x_broken a203_1 a2 h203_1).bind fun h208_1 =>
  some (.inr (.inr ((1, a203_1), h208_1))))
  else (if 4216 ≤ (w32 ((h_97 a0 6) + 2)) then (al h_97 432 7 fun a203_2 h203_2 =>
  (x_broken a203_2 a2 h203_2).bind fun h208_2 =>
  some (.inr (.inr ((1, a203_2), h208_2))))
  else (bW (m_X9_step a0 x8_97 (w32 ((w32 ((h_97 a1 x11_97) - 97)) + 1)) h_97) fun v181 h181 =>
  lt_ (w32 (x9_97 + 1)) fun x9_186 =>
  gd (h181 (h181 a0 17) (-2) % 16 = 2 ∧ (0 : Int) ≤ x9_186 ∧ x9_186 < h181 (h181 a0 17) (-1)) (pt h181 (h181 a0 17) x9_186 (w8 0) fun h196 =>
  lt_ 0 fun x10_198 =>
  m_X9_pattern_j212 x11_97 v181 x9_186 x10_198 h196))))
noncomputable def m_X9_pattern_l97 (a0 a1 a2 x5_63 x8_97 x9_97 x10_97 x11_97 : Int) (h_97 : Hp) : Option ((Int × Int × Int × Int × Hp) ⊕ ((Int × Int × Hp) ⊕ (((Int × Int) × Hp)))) :=
  if x5_63 ≤ x11_97 then (some (.inr (.inl (x8_97, x9_97, h_97))))
  else (gd (h_97 a1 (-2) % 16 = 2 ∧ (0 : Int) ≤ x11_97 ∧ x11_97 < h_97 a1 (-1)) ((m_X1_isDigit (h_97 a1 x11_97)).bind fun v108 =>
  if v108 = 0 then (m_X9_pattern_j140 a0 a1 a2 x8_97 x9_97 x11_97 h_97)
  else (if x10_97 ≠ 0 then (m_X9_pattern_j140 a0 a1 a2 x8_97 x9_97 x11_97 h_97)
  else (gd (h_97 (h_97 a0 17) (-2) % 16 = 2 ∧ (0 : Int) ≤ x9_97 ∧ x9_97 < h_97 (h_97 a0 17) (-1)) (pt h_97 (h_97 a0 17) x9_97 (w8 (w32 ((h_97 a1 x11_97) - 48))) fun h133 =>
  lt_ 1 fun x10_135 =>
  m_X9_pattern_j212 x11_97 x8_97 x9_97 x10_135 h133)))))
noncomputable def m_X9_pattern_l325 (a0 x8_246 x9_218 x11_325 : Int) (h_325 : Hp) : Option ((Int × Hp) ⊕ (((Int × Int) × Hp))) :=
  if x9_218 < x11_325 then (some (.inr ((0, 0), h_325)))
  else (gd (h_325 (h_325 a0 5) (-2) % 16 = 1 ∧ (0 : Int) ≤ x8_246 ∧ x8_246 < h_325 (h_325 a0 5) (-1)) (gd (h_325 (h_325 a0 7) (-2) % 16 = 1 ∧ (0 : Int) ≤ (h_325 (h_325 a0 5) x8_246) ∧ (h_325 (h_325 a0 5) x8_246) < h_325 (h_325 a0 7) (-1)) (gd (h_325 (h_325 a0 17) (-2) % 16 = 2 ∧ (0 : Int) ≤ x11_325 ∧ x11_325 < h_325 (h_325 a0 17) (-1)) (gd (h_325 (h_325 a0 8) (-2) % 16 = 2 ∧ (0 : Int) ≤ (w32 ((h_325 (h_325 a0 7) (h_325 (h_325 a0 5) x8_246)) + x11_325)) ∧ (w32 ((h_325 (h_325 a0 7) (h_325 (h_325 a0 5) x8_246)) + x11_325)) < h_325 (h_325 a0 8) (-1)) (pt h_325 (h_325 a0 8) (w32 ((h_325 (h_325 a0 7) (h_325 (h_325 a0 5) x8_246)) + x11_325)) (h_325 (h_325 a0 17) x11_325) fun h358 =>
  lt_ (w32 (x11_325 + 1)) fun x11_359 =>
  some (.inl (x11_359, h358)))))))
noncomputable def m_X9_pattern_j322 (a0 x8_246 x9_218 : Int) (h_322 : Hp) : Option ((Int × Int) × Hp) :=
  lt_ 0 fun x11_323 =>
  (lp (fun (q : Int × Hp) => m_X9_pattern_l325 a0 x8_246 x9_218 q.1 q.2) (x11_323, h_322)).bind (fun (x : (Int × Int) × Hp) => some x)
noncomputable def m_X9_pattern_j246 (a0 a2 x9_218 x8_246 : Int) (h_246 : Hp) : Option ((Int × Int) × Hp) :=
  gd (h_246 (h_246 a0 5) (-2) % 16 = 1 ∧ (0 : Int) ≤ x8_246 ∧ x8_246 < h_246 (h_246 a0 5) (-1)) (if 0 ≤ (h_246 (h_246 a0 5) x8_246) then (m_X9_pattern_j322 a0 x8_246 x9_218 h_246)
  else (if (h_246 a0 10) ≠ 300 then (pt h_246 (h_246 a0 5) x8_246 (h_246 a0 10) fun h285 =>
  gd (h285 (h285 a0 7) (-2) % 16 = 1 ∧ (0 : Int) ≤ (h285 a0 10) ∧ (h285 a0 10) < h285 (h285 a0 7) (-1)) (pt h285 (h285 a0 7) (h285 a0 10) (h285 a0 9) fun h298 =>
  pt h298 a0 9 (w32 ((h298 a0 9) + (w32 (x9_218 + 1)))) fun h309 =>
  pt h309 a0 10 (w32 ((h309 a0 10) + 1)) fun h319 =>
  m_X9_pattern_j322 a0 x8_246 x9_218 h319))
  else (al h_246 432 7 fun a266 h266 =>
  (x_broken a266 a2 h266).bind fun h271 =>
  some ((1, a266), h271))))
noncomputable def m_X9_pattern_j78 (a0 a1 a2 x4_30 x5_63 s0_53 s0_78 : Int) (h_78 : Hp) : Option ((Int × Int) × Hp) :=
  lt_ 0 fun x9_81 =>
  lt_ 0 fun x10_84 =>
  gd (h_78 (h_78 a0 17) (-2) % 16 = 2 ∧ (0 : Int) ≤ 0 ∧ 0 < h_78 (h_78 a0 17) (-1)) (pt h_78 (h_78 a0 17) 0 (w8 0) fun h92 =>
  (lp (fun (q : Int × Int × Int × Int × Hp) => m_X9_pattern_l97 a0 a1 a2 x5_63 q.1 q.2.1 q.2.2.1 q.2.2.2.1 q.2.2.2.2) (s0_78, x9_81, x10_84, x4_30, h92)).bind (sE (fun (y218 : Int × Int × Hp) => if y218.2.1 ≠ 0 then (if s0_53 = 0 then (m_X9_pattern_j246 a0 a2 y218.2.1 y218.1 y218.2.2)
  else (bW (m_X9_step a0 y218.1 0 y218.2.2) fun v241 h241 =>
  m_X9_pattern_j246 a0 a2 y218.2.1 v241 h241))
  else (al y218.2.2 432 7 fun a223 h223 =>
  (x_broken a223 a2 h223).bind fun h228 =>
  some ((1, a223), h228))) (fun (x : (Int × Int) × Hp) => some x)))
noncomputable def m_X9_pattern_j63 (s0_53 s0_20 a0 a1 a2 x4_30 x5_63 : Int) (h : Hp) : Option ((Int × Int) × Hp) :=
  if s0_20 = 0 then (m_X9_pattern_j78 a0 a1 a2 x4_30 x5_63 s0_53 0 h)
  else (bW (m_X9_step a0 0 0 h) fun v71 h71 =>
  m_X9_pattern_j78 a0 a1 a2 x4_30 x5_63 s0_53 v71 h71)
noncomputable def m_X9_pattern_j53 (a0 a1 a2 x4_30 a3 s0_20 s0_53 : Int) (h : Hp) : Option ((Int × Int) × Hp) :=
  if s0_53 = 0 then (m_X9_pattern_j63 s0_53 s0_20 a0 a1 a2 x4_30 a3 h)
  else (lt_ (w32 (a3 + (-1))) fun x5_60 =>
  m_X9_pattern_j63 s0_53 s0_20 a0 a1 a2 x4_30 x5_60 h)
noncomputable def m_X9_pattern_j52 (a0 a1 a2 x4_30 a3 s0_20 : Int) (h : Hp) : Option ((Int × Int) × Hp) :=
  m_X9_pattern_j53 a0 a1 a2 x4_30 a3 s0_20 0 h
noncomputable def m_X9_pattern_j30 (s0_20 a3 a0 a1 a2 x4_30 : Int) (h : Hp) : Option ((Int × Int) × Hp) :=
  if a3 ≤ x4_30 then (m_X9_pattern_j52 a0 a1 a2 x4_30 a3 s0_20 h)
  else (gd (h a1 (-2) % 16 = 2 ∧ (0 : Int) ≤ (w32 (a3 - 1)) ∧ (w32 (a3 - 1)) < h a1 (-1)) (if (h a1 (w32 (a3 - 1))) ≠ 46 then (m_X9_pattern_j52 a0 a1 a2 x4_30 a3 s0_20 h)
  else (m_X9_pattern_j53 a0 a1 a2 x4_30 a3 s0_20 1 h)))
noncomputable def m_X9_pattern_j20 (a3 a2 a0 a1 s0_20 : Int) (h : Hp) : Option ((Int × Int) × Hp) :=
  if s0_20 = 0 then (m_X9_pattern_j30 s0_20 a3 a0 a1 a2 a2 h)
  else (lt_ (w32 (a2 + 1)) fun x4_27 =>
  m_X9_pattern_j30 s0_20 a3 a0 a1 a2 x4_27 h)
noncomputable def m_X9_pattern (a0 a1 a2 a3 : Int) (h : Hp) : Option ((Int × Int) × Hp) :=
  gd (h a1 (-2) % 16 = 2 ∧ (0 : Int) ≤ a2 ∧ a2 < h a1 (-1)) (if (h a1 a2) ≠ 46 then (m_X9_pattern_j20 a3 a2 a0 a1 0 h)
  else (m_X9_pattern_j20 a3 a2 a0 a1 1 h))
theorem s_X9_pattern {l : Launch} [NoTr l] {D : SD} {a0 a1 a2 a3 : Int} {h : Hp} (hk : h a0 (-2) = 144) (r2 : r32 a2) (r3 : r32 a3) {r : (Int × Int) × Hp} (hm : m_X9_pattern a0 a1 a2 a3 h = some r) : Sim l D yX9_pattern (Cond.code yX9_pattern cX9_pattern 12 (Option.none : Option Jvm.ClassFile.FieldType)) 9 337 [rv D a0, rv D a1, iv a2, iv a3] h 0 r := by
  refine Sim.of (fin := fun (v : (Int × Int) × Hp) => v) (lsE := [(0, rv D a0), (1, rv D a1), (2, iv a2), (3, iv a3)]) hm rfl cwS_code (la_r (la_r (la_i (la_i la_n)))) (ll_r (ll_r (ll_i (ll_i ll_n)))) ?_
  intro p e s m below meth c X hcw hmm hcc hnm hname
  have hno := noh hcw hnm hmm hcc
  unfold m_X9_pattern
  refine g_iload_n (pc := 0) X (j := 2) (i := 2) (q := 2) (x := a2) rfl rfl (dl_at t_X9_pattern 0 rfl) ?_
  refine g_istoreN (pc := 1) X (i := 4) (x := a2) (b := 3) (w := iv a3) (rest := [(0, rv D a0), (1, rv D a1), (2, iv a2)]) (Nat.le_of_ble_eq_true rfl) [3, 0, 1, 2] rfl (by decide) rfl rfl (dl_at t_X9_pattern 1 rfl) ?_
  refine g_iload_n (pc := 3) X (j := 3) (i := 3) (q := 1) (x := a3) rfl rfl (dl_at t_X9_pattern 2 rfl) ?_
  refine g_istoreN (pc := 4) X (i := 5) (x := a3) (b := 4) (w := iv a2) (rest := [(0, rv D a0), (1, rv D a1), (2, iv a2)]) (Nat.le_of_ble_eq_true rfl) [0, 2, 3, 4] rfl (by decide) rfl rfl (dl_at t_X9_pattern 3 rfl) ?_
  refine g_aload_n (pc := 6) X (j := 1) (i := 1) (q := 3) (x := a1) rfl rfl (dl_at t_X9_pattern 4 rfl) ?_
  refine g_iload (pc := 7) X (i := 4) (q := 1) (x := a2) rfl (dl_at t_X9_pattern 5 rfl) ?_
  refine g_gd fun k9 => ?_
  refine g_bald (pc := 9) X r2 k9 (dl_at t_X9_pattern 6 rfl) fun g9 => ?_
  refine g_bipush (pc := 10) X (n := 46) rfl (dl_at t_X9_pattern 7 rfl) ?_
  refine g_join (γ := Int) (fun q => (q = 0 ∨ q = 1)) 20 (fun q => [(0, rv D a0), (1, rv D a1), (2, iv a2), (4, iv a2), (5, iv a3)]) (fun q => [iv q]) (fun q => h) (fun q => m_X9_pattern_j20 a3 a2 a0 a1 q h) ?_ ?_
  · rintro s0_20 rs0_20
    try dsimp only
    unfold m_X9_pattern_j20
    refine g_istoreN (pc := 20) X (i := 6) (x := s0_20) (b := 5) (w := iv a3) (rest := [(0, rv D a0), (1, rv D a1), (2, iv a2), (4, iv a2)]) (Nat.le_of_ble_eq_true rfl) [4, 0, 1, 2, 3] rfl (by decide) rfl rfl (dl_at t_X9_pattern 12 rfl) ?_
    refine g_iload (pc := 22) X (i := 6) (q := 0) (x := s0_20) rfl (dl_at t_X9_pattern 13 rfl) ?_
    refine g_join (γ := Int) (fun q => r32 q) 30 (fun q => [(0, rv D a0), (1, rv D a1), (2, iv a2), (4, iv q), (5, iv a3), (6, iv s0_20)]) (fun q => []) (fun q => h) (fun q => m_X9_pattern_j30 s0_20 a3 a0 a1 a2 q h) ?_ ?_
    · rintro x4_30 r4_30
      try dsimp only
      unfold m_X9_pattern_j30
      refine g_iload (pc := 30) X (i := 5) (q := 4) (x := a3) rfl (dl_at t_X9_pattern 16 rfl) ?_
      refine g_iload (pc := 32) X (i := 4) (q := 3) (x := x4_30) rfl (dl_at t_X9_pattern 17 rfl) ?_
      refine g_join (γ := Int) (fun q => (q = 0 ∨ q = 1)) 53 (fun q => [(0, rv D a0), (1, rv D a1), (2, iv a2), (4, iv x4_30), (5, iv a3), (6, iv s0_20)]) (fun q => [iv q]) (fun q => h) (fun q => m_X9_pattern_j53 a0 a1 a2 x4_30 a3 s0_20 q h) ?_ ?_
      · rintro s0_53 rs0_53
        try dsimp only
        unfold m_X9_pattern_j53
        refine g_istoreN (pc := 53) X (i := 7) (x := s0_53) (b := 6) (w := iv s0_20) (rest := [(0, rv D a0), (1, rv D a1), (2, iv a2), (4, iv x4_30), (5, iv a3)]) (Nat.le_of_ble_eq_true rfl) [5, 0, 1, 2, 3, 4] rfl (by decide) rfl rfl (dl_at t_X9_pattern 29 rfl) ?_
        refine g_iload (pc := 55) X (i := 7) (q := 0) (x := s0_53) rfl (dl_at t_X9_pattern 30 rfl) ?_
        refine g_join (γ := Int) (fun q => r32 q) 63 (fun q => [(0, rv D a0), (1, rv D a1), (2, iv a2), (4, iv x4_30), (5, iv q), (6, iv s0_20), (7, iv s0_53)]) (fun q => []) (fun q => h) (fun q => m_X9_pattern_j63 s0_53 s0_20 a0 a1 a2 x4_30 q h) ?_ ?_
        · rintro x5_63 r5_63
          try dsimp only
          unfold m_X9_pattern_j63
          refine g_iload (pc := 63) X (i := 6) (q := 5) (x := s0_20) rfl (dl_at t_X9_pattern 33 rfl) ?_
          refine g_join (γ := Int × Hp) (fun q => r32 q.1 ∧ Ext h q.2) 78 (fun q => [(0, rv D a0), (1, rv D a1), (2, iv a2), (4, iv x4_30), (5, iv x5_63), (7, iv s0_53)]) (fun q => [iv q.1]) (fun q => q.2) (fun q => m_X9_pattern_j78 a0 a1 a2 x4_30 x5_63 s0_53 q.1 q.2) ?_ ?_
          · rintro ⟨s0_78, h_78⟩ ⟨rs0_78, E_78⟩
            try dsimp only
            unfold m_X9_pattern_j78
            refine g_istoreN (pc := 78) X (i := 8) (x := s0_78) (b := 7) (w := iv s0_53) (rest := [(0, rv D a0), (1, rv D a1), (2, iv a2), (4, iv x4_30), (5, iv x5_63)]) (Nat.le_of_ble_eq_true rfl) [5, 0, 1, 2, 3, 4] rfl (by decide) rfl rfl (dl_at t_X9_pattern 41 rfl) ?_
            refine g_iconst (pc := 80) X (n := 0) (dl_at t_X9_pattern 42 rfl) ?_
            refine g_ltz (Or.inl rfl) fun x9_81 r9_81 => ?_
            refine g_istoreN (pc := 81) X (i := 9) (x := x9_81) (b := 8) (w := iv s0_78) (rest := [(7, iv s0_53), (0, rv D a0), (1, rv D a1), (2, iv a2), (4, iv x4_30), (5, iv x5_63)]) (Nat.le_of_ble_eq_true rfl) [0, 1, 2, 3, 4, 5, 6] rfl (by decide) rfl rfl (dl_at t_X9_pattern 43 rfl) ?_
            refine g_iconst (pc := 83) X (n := 0) (dl_at t_X9_pattern 44 rfl) ?_
            refine g_ltz (Or.inl rfl) fun x10_84 r10_84 => ?_
            refine g_istoreN (pc := 84) X (i := 10) (x := x10_84) (b := 9) (w := iv x9_81) (rest := [(8, iv s0_78), (7, iv s0_53), (0, rv D a0), (1, rv D a1), (2, iv a2), (4, iv x4_30), (5, iv x5_63)]) (Nat.le_of_ble_eq_true rfl) [0, 1, 2, 3, 4, 5, 6, 7] rfl (by decide) rfl rfl (dl_at t_X9_pattern 45 rfl) ?_
            refine g_aload_n (pc := 86) X (j := 0) (i := 0) (q := 4) (x := a0) rfl rfl (dl_at t_X9_pattern 46 rfl) ?_
            have k87 := kx E_78 (by decide) hk
            refine r_getr (pc := 87) X fX9_17 k87 q912 (dl_at t_X9_pattern 47 rfl) ?_
            refine g_iconst (pc := 90) X (n := 0) (dl_at t_X9_pattern 48 rfl) ?_
            refine g_iconst (pc := 91) X (n := 0) (dl_at t_X9_pattern 49 rfl) ?_
            refine g_gd fun k92 => ?_
            refine r_bast (pc := 92) X (r32_c rfl) (r32_c rfl) k92 (dl_at t_X9_pattern 50 rfl) (fun h92 E92 => ?_)
            refine g_iload (pc := 93) X (i := 4) (q := 7) (x := x4_30) rfl (dl_at t_X9_pattern 51 rfl) ?_
            refine g_istoreN (pc := 95) X (i := 11) (x := x4_30) (b := 10) (w := iv x10_84) (rest := [(9, iv x9_81), (8, iv s0_78), (7, iv s0_53), (0, rv D a0), (1, rv D a1), (2, iv a2), (5, iv x5_63)]) (Nat.le_of_ble_eq_true rfl) [0, 1, 2, 3, 4, 5, 6, 8] rfl (by decide) rfl rfl (dl_at t_X9_pattern 52 rfl) ?_
            refine g_ls (ls2 := [(0, rv D a0), (1, rv D a1), (2, iv a2), (5, iv x5_63), (7, iv s0_53), (8, iv s0_78), (9, iv x9_81), (10, iv x10_84), (11, iv x4_30)]) [5, 6, 7, 8, 4, 3, 2, 1, 0] rfl ?_
            refine g_loop1F (fun (q : Int × Int × Int × Int × Hp) => [(0, rv D a0), (1, rv D a1), (2, iv a2), (5, iv x5_63), (7, iv s0_53), (8, iv q.1), (9, iv q.2.1), (10, iv q.2.2.1), (11, iv q.2.2.2.1)]) (fun (q : Int × Int × Int × Int × Hp) => q.2.2.2.2) (fun (q : Int × Int × Int × Int × Hp) => r32 q.1 ∧ r32 q.2.1 ∧ (q.2.2.1 = 0 ∨ q.2.2.1 = 1) ∧ r32 q.2.2.2.1 ∧ Ext h92 q.2.2.2.2) 218 (fun (y218 : Int × Int × Hp) => [(0, rv D a0), (2, iv a2), (7, iv s0_53), (8, iv y218.1), (9, iv y218.2.1)]) (fun (y218 : Int × Int × Hp) => y218.2.2) (fun (y218 : Int × Int × Hp) => r32 y218.1 ∧ r32 y218.2.1 ∧ Ext h92 y218.2.2) (s0_78, x9_81, x10_84, x4_30, h92) ⟨rs0_78, (r32_z r9_81), r10_84, r4_30, (Ext.refl _)⟩ ?_ ?_ (fun _ => rfl)
            · rintro ⟨x8_97, x9_97, x10_97, x11_97, h_97⟩ ⟨r8_97, r9_97, r10_97, r11_97, E_97⟩
              try dsimp only
              unfold m_X9_pattern_l97
              refine g_iload (pc := 97) X (i := 11) (q := 8) (x := x11_97) rfl (dl_at t_X9_pattern 53 rfl) ?_
              refine g_iload (pc := 99) X (i := 5) (q := 3) (x := x5_63) rfl (dl_at t_X9_pattern 54 rfl) ?_
              refine g_icmpge (pc := 101) X r11_97 r5_63 (off := 117) (tgt := 218) rfl (dl_at t_X9_pattern 55 rfl) (fun _ => ?_) (fun _ => ?_)
              · refine g_ls (ls2 := [(0, rv D a0), (2, iv a2), (7, iv s0_53), (8, iv x8_97), (9, iv x9_97)]) [0, 2, 4, 5, 6] rfl ?_
                exact g_at fun Q hQ => hQ ⟨r8_97, r9_97, E_97⟩
              refine g_aload_n (pc := 104) X (j := 1) (i := 1) (q := 1) (x := a1) rfl rfl (dl_at t_X9_pattern 56 rfl) ?_
              refine g_iload (pc := 105) X (i := 11) (q := 8) (x := x11_97) rfl (dl_at t_X9_pattern 57 rfl) ?_
              refine g_gd fun k107 => ?_
              refine g_bald (pc := 107) X r11_97 k107 (dl_at t_X9_pattern 58 rfl) fun g107 => ?_
              refine r_callRz (pc := 108) X (fun _ hv => s_X1_isDigit (r32_b g107) hv) cw_code q1742 q355 (in_Sc X (As := [iv (h_97 a1 x11_97)]) (Or.inr ⟨_, nw_in q1950 rfl⟩) q1741 q355 q1742 ⟨by decide, by decide⟩ rfl (dl_at t_X9_pattern 59 rfl)) (dl_at t_X9_pattern 59 rfl) (cat24 (st := []) (Nat.le_of_ble_eq_true rfl)) (Nat.le_of_ble_eq_true rfl) (Nat.le_of_ble_eq_true rfl) fun v108 g108 => ?_
              refine g_join (γ := Int × Int × Int × Hp) (fun q => r32 q.1 ∧ r32 q.2.1 ∧ (q.2.2.1 = 0 ∨ q.2.2.1 = 1) ∧ Ext h_97 q.2.2.2) 212 (fun q => [(0, rv D a0), (1, rv D a1), (2, iv a2), (5, iv x5_63), (7, iv s0_53), (8, iv q.1), (9, iv q.2.1), (10, iv q.2.2.1), (11, iv x11_97)]) (fun q => []) (fun q => q.2.2.2) (fun q => m_X9_pattern_j212 x11_97 q.1 q.2.1 q.2.2.1 q.2.2.2) ?_ ?_
              · rintro ⟨x8_212, x9_212, x10_212, h_212⟩ ⟨r8_212, r9_212, r10_212, E_212⟩
                try dsimp only
                unfold m_X9_pattern_j212
                refine r_iincN (pc := 212) X (i := 11) (q := 8) (n := 1) (x := x11_97) (b := 10) (w := iv x10_212) (rest := [(0, rv D a0), (1, rv D a1), (2, iv a2), (5, iv x5_63), (7, iv s0_53), (8, iv x8_212), (9, iv x9_212)]) rfl r11_97 (r32_c rfl) (Nat.le_of_ble_eq_true rfl) [7, 0, 1, 2, 3, 4, 5, 6] rfl (by decide) rfl rfl (dl_at t_X9_pattern 115 rfl) fun x11_212 r11_212 => ?_
                refine g_goto (pc := 215) X (off := (-118)) (tgt := 97) rfl (dl_at t_X9_pattern 116 rfl) ?_
                refine g_ls (ls2 := [(0, rv D a0), (1, rv D a1), (2, iv a2), (5, iv x5_63), (7, iv s0_53), (8, iv x8_212), (9, iv x9_212), (10, iv x10_212), (11, iv x11_212)]) [2, 3, 4, 5, 6, 7, 8, 1, 0] rfl ?_
                exact g_at fun Q hQ => hQ ⟨r8_212, r9_212, r10_212, r11_212, (E_97.trans E_212)⟩
              intro J212
              refine g_join (γ := Unit) (fun q => True) 140 (fun q => [(0, rv D a0), (1, rv D a1), (2, iv a2), (5, iv x5_63), (7, iv s0_53), (8, iv x8_97), (9, iv x9_97), (11, iv x11_97)]) (fun q => []) (fun q => h_97) (fun q => m_X9_pattern_j140 a0 a1 a2 x8_97 x9_97 x11_97 h_97) ?_ ?_
              · rintro _ _
                try dsimp only
                unfold m_X9_pattern_j140
                refine g_aload_n (pc := 140) X (j := 1) (i := 1) (q := 1) (x := a1) rfl rfl (dl_at t_X9_pattern 76 rfl) ?_
                refine g_iload (pc := 141) X (i := 11) (q := 7) (x := x11_97) rfl (dl_at t_X9_pattern 77 rfl) ?_
                refine g_bald (pc := 143) X r11_97 k107 (dl_at t_X9_pattern 78 rfl) fun g143 => ?_
                refine r_callRz (pc := 144) X (fun _ hv => s_X1_isSmall (r32_b g143) hv) cw_code q1735 q355 (in_Sc X (As := [iv (h_97 a1 x11_97)]) (Or.inr ⟨_, nw_in q1930 rfl⟩) q1734 q355 q1735 ⟨by decide, by decide⟩ rfl (dl_at t_X9_pattern 79 rfl)) (dl_at t_X9_pattern 79 rfl) (cat24 (st := []) (Nat.le_of_ble_eq_true rfl)) (Nat.le_of_ble_eq_true rfl) (Nat.le_of_ble_eq_true rfl) fun v144 g144 => ?_
                refine g_ifeq (pc := 147) X (r32_z g144) (off := 56) (tgt := 203) rfl (dl_at t_X9_pattern 80 rfl) (fun _ => ?_) (fun _ => ?_)
                · refine r_new (pc := 203) X kX26 q1924 (dl_at t_X9_pattern 110 rfl) fun a203 h203 p203 k203 E203 => ?_
                  refine g_dup (pc := 206) X rv_cat (dl_at t_X9_pattern 111 rfl) ?_
                  refine g_iload_n (pc := 207) X (j := 2) (i := 2) (q := 2) (x := a2) rfl rfl (dl_at t_X9_pattern 112 rfl) ?_
                  refine r_callV (pc := 208) X (fun _ hv => sx_ScholarsPress_Broken_init_I_V k203 r2 hv) cw_code q1839 q391 (in_I X (As := [iv a2]) (Int.ne_of_gt p203) rfl (Or.inr ⟨_, nw_in q1925 rfl⟩) q1838 q1839 ⟨by decide, by decide⟩ rfl (dl_at t_X9_pattern 113 rfl)) (dl_at t_X9_pattern 113 rfl) (cat24 (st := [rv D a203]) (Nat.le_of_ble_eq_true rfl)) (Nat.le_of_ble_eq_true rfl) (Nat.le_of_ble_eq_true rfl) fun h208 E208 => ?_
                  refine g_athrow (pc := 211) X (Int.ne_of_gt p203) (dl_at t_X9_pattern 114 rfl) ?_
                  exact gt_at fun Q hQ => gt_out (Q := Q) X rfl p203 (hno _) _ Q rfl hQ
                refine g_iload (pc := 150) X (i := 9) (q := 6) (x := x9_97) rfl (dl_at t_X9_pattern 81 rfl) ?_
                refine g_bipush (pc := 152) X (n := 12) rfl (dl_at t_X9_pattern 82 rfl) ?_
                refine g_icmpge (pc := 154) X r9_97 (r32_c rfl) (off := 49) (tgt := 203) rfl (dl_at t_X9_pattern 83 rfl) (fun _ => ?_) (fun _ => ?_)
                · refine r_new (pc := 203) X kX26 q1924 (dl_at t_X9_pattern 110 rfl) fun a203_1 h203_1 p203_1 k203_1 E203_1 => ?_
                  refine g_dup (pc := 206) X rv_cat (dl_at t_X9_pattern 111 rfl) ?_
                  refine g_iload_n (pc := 207) X (j := 2) (i := 2) (q := 2) (x := a2) rfl rfl (dl_at t_X9_pattern 112 rfl) ?_
                  refine r_callV (pc := 208) X (fun _ hv => sx_ScholarsPress_Broken_init_I_V k203_1 r2 hv) cw_code q1839 q391 (in_I X (As := [iv a2]) (Int.ne_of_gt p203_1) rfl (Or.inr ⟨_, nw_in q1925 rfl⟩) q1838 q1839 ⟨by decide, by decide⟩ rfl (dl_at t_X9_pattern 113 rfl)) (dl_at t_X9_pattern 113 rfl) (cat24 (st := [rv D a203_1]) (Nat.le_of_ble_eq_true rfl)) (Nat.le_of_ble_eq_true rfl) (Nat.le_of_ble_eq_true rfl) fun h208_1 E208_1 => ?_
                  refine g_athrow (pc := 211) X (Int.ne_of_gt p203_1) (dl_at t_X9_pattern 114 rfl) ?_
                  exact gt_at fun Q hQ => gt_out (Q := Q) X rfl p203_1 (hno _) _ Q rfl hQ
                refine g_aload_n (pc := 157) X (j := 0) (i := 0) (q := 0) (x := a0) rfl rfl (dl_at t_X9_pattern 84 rfl) ?_
                have k158 := kx (E92.trans E_97) (by decide) k87
                refine r_geti (pc := 158) X fX9_6 k158 q899 (dl_at t_X9_pattern 85 rfl) fun g158 => ?_
                refine g_iconst (pc := 161) X (n := 2) (dl_at t_X9_pattern 86 rfl) ?_
                refine g_iadd (pc := 162) X g158 (r32_c rfl) (dl_at t_X9_pattern 87 rfl) ?_
                refine g_sipush (pc := 163) X (n := 4216) rfl (dl_at t_X9_pattern 88 rfl) ?_
                refine g_icmpge (pc := 166) X (r32_w _) (r32_c rfl) (off := 37) (tgt := 203) rfl (dl_at t_X9_pattern 89 rfl) (fun _ => ?_) (fun _ => ?_)
                · refine r_new (pc := 203) X kX26 q1924 (dl_at t_X9_pattern 110 rfl) fun a203_2 h203_2 p203_2 k203_2 E203_2 => ?_
                  refine g_dup (pc := 206) X rv_cat (dl_at t_X9_pattern 111 rfl) ?_
                  refine g_iload_n (pc := 207) X (j := 2) (i := 2) (q := 2) (x := a2) rfl rfl (dl_at t_X9_pattern 112 rfl) ?_
                  refine r_callV (pc := 208) X (fun _ hv => sx_ScholarsPress_Broken_init_I_V k203_2 r2 hv) cw_code q1839 q391 (in_I X (As := [iv a2]) (Int.ne_of_gt p203_2) rfl (Or.inr ⟨_, nw_in q1925 rfl⟩) q1838 q1839 ⟨by decide, by decide⟩ rfl (dl_at t_X9_pattern 113 rfl)) (dl_at t_X9_pattern 113 rfl) (cat24 (st := [rv D a203_2]) (Nat.le_of_ble_eq_true rfl)) (Nat.le_of_ble_eq_true rfl) (Nat.le_of_ble_eq_true rfl) fun h208_2 E208_2 => ?_
                  refine g_athrow (pc := 211) X (Int.ne_of_gt p203_2) (dl_at t_X9_pattern 114 rfl) ?_
                  exact gt_at fun Q hQ => gt_out (Q := Q) X rfl p203_2 (hno _) _ Q rfl hQ
                refine g_aload_n (pc := 169) X (j := 0) (i := 0) (q := 0) (x := a0) rfl rfl (dl_at t_X9_pattern 90 rfl) ?_
                refine g_iload (pc := 170) X (i := 8) (q := 5) (x := x8_97) rfl (dl_at t_X9_pattern 91 rfl) ?_
                refine g_aload_n (pc := 172) X (j := 1) (i := 1) (q := 1) (x := a1) rfl rfl (dl_at t_X9_pattern 92 rfl) ?_
                refine g_iload (pc := 173) X (i := 11) (q := 7) (x := x11_97) rfl (dl_at t_X9_pattern 93 rfl) ?_
                refine g_bald (pc := 175) X r11_97 k107 (dl_at t_X9_pattern 94 rfl) fun g175 => ?_
                refine g_bipush (pc := 176) X (n := 97) rfl (dl_at t_X9_pattern 95 rfl) ?_
                refine g_isub (pc := 178) X (r32_b g175) (r32_c rfl) (dl_at t_X9_pattern 96 rfl) ?_
                refine g_iconst (pc := 179) X (n := 1) (dl_at t_X9_pattern 97 rfl) ?_
                refine g_iadd (pc := 180) X (r32_w _) (r32_c rfl) (dl_at t_X9_pattern 98 rfl) ?_
                refine r_callWi (pc := 181) X (fun _ hv => s_X9_step k158 r8_97 (r32_w _) hv) cw_code q1945 q363 (in_Vk X (As := [iv x8_97, iv (w32 ((w32 ((h_97 a1 x11_97) - 97)) + 1))]) kX9 k158 (Or.inl q1942) q1944 qs29 cw_code q1945 ⟨by decide, by decide⟩ rfl (dl_at t_X9_pattern 99 rfl)) (dl_at t_X9_pattern 99 rfl) (cat24 (st := []) (Nat.le_of_ble_eq_true rfl)) (Nat.le_of_ble_eq_true rfl) (Nat.le_of_ble_eq_true rfl) fun v181 h181 g181 E181 => ?_
                refine g_istoreN (pc := 184) X (i := 8) (x := v181) (b := 7) (w := iv s0_53) (rest := [(0, rv D a0), (1, rv D a1), (2, iv a2), (5, iv x5_63), (9, iv x9_97), (11, iv x11_97)]) (Nat.le_of_ble_eq_true rfl) [4, 0, 1, 2, 3, 6, 7] rfl (by decide) rfl rfl (dl_at t_X9_pattern 100 rfl) ?_
                refine r_iincN (pc := 186) X (i := 9) (q := 6) (n := 1) (x := x9_97) (b := 8) (w := iv v181) (rest := [(7, iv s0_53), (0, rv D a0), (1, rv D a1), (2, iv a2), (5, iv x5_63), (11, iv x11_97)]) rfl r9_97 (r32_c rfl) (Nat.le_of_ble_eq_true rfl) [0, 1, 2, 3, 4, 5, 7] rfl (by decide) rfl rfl (dl_at t_X9_pattern 101 rfl) fun x9_186 r9_186 => ?_
                refine g_aload_n (pc := 189) X (j := 0) (i := 0) (q := 3) (x := a0) rfl rfl (dl_at t_X9_pattern 102 rfl) ?_
                have k190 := kx E181 (by decide) k158
                refine r_getr (pc := 190) X fX9_17 k190 q912 (dl_at t_X9_pattern 103 rfl) ?_
                refine g_iload (pc := 193) X (i := 9) (q := 0) (x := x9_186) rfl (dl_at t_X9_pattern 104 rfl) ?_
                refine g_iconst (pc := 195) X (n := 0) (dl_at t_X9_pattern 105 rfl) ?_
                refine g_gd fun k196 => ?_
                refine r_bast (pc := 196) X r9_186 (r32_c rfl) k196 (dl_at t_X9_pattern 106 rfl) (fun h196 E196 => ?_)
                refine g_iconst (pc := 197) X (n := 0) (dl_at t_X9_pattern 107 rfl) ?_
                refine g_ltz (Or.inl rfl) fun x10_198 r10_198 => ?_
                refine g_istoreN (pc := 198) X (i := 10) (x := x10_198) (b := 9) (w := iv x9_186) (rest := [(8, iv v181), (7, iv s0_53), (0, rv D a0), (1, rv D a1), (2, iv a2), (5, iv x5_63), (11, iv x11_97)]) (Nat.le_of_ble_eq_true rfl) [0, 1, 2, 3, 4, 5, 6, 7] rfl (by decide) rfl rfl (dl_at t_X9_pattern 108 rfl) ?_
                refine g_goto (pc := 200) X (off := 12) (tgt := 212) rfl (dl_at t_X9_pattern 109 rfl) ?_
                refine g_ls (ls2 := [(0, rv D a0), (1, rv D a1), (2, iv a2), (5, iv x5_63), (7, iv s0_53), (8, iv v181), (9, iv x9_186), (10, iv x10_198), (11, iv x11_97)]) [4, 5, 6, 7, 3, 2, 1, 0, 8] rfl ?_
                exact J212 (v181, x9_186, x10_198, h196) ⟨g181, r9_186, r10_198, (E181.trans E196)⟩
              intro J140
              refine g_ifeq (pc := 111) X (r32_z g108) (off := 29) (tgt := 140) rfl (dl_at t_X9_pattern 60 rfl) (fun _ => ?_) (fun _ => ?_)
              · refine g_ls (ls2 := [(0, rv D a0), (1, rv D a1), (2, iv a2), (5, iv x5_63), (7, iv s0_53), (8, iv x8_97), (9, iv x9_97), (11, iv x11_97)]) [0, 1, 2, 3, 4, 5, 6, 8] rfl ?_
                exact J140 () trivial
              refine g_iload (pc := 114) X (i := 10) (q := 7) (x := x10_97) rfl (dl_at t_X9_pattern 61 rfl) ?_
              refine g_ifne (pc := 116) X (r32_z r10_97) (off := 24) (tgt := 140) rfl (dl_at t_X9_pattern 62 rfl) (fun _ => ?_) (fun _ => ?_)
              · refine g_ls (ls2 := [(0, rv D a0), (1, rv D a1), (2, iv a2), (5, iv x5_63), (7, iv s0_53), (8, iv x8_97), (9, iv x9_97), (11, iv x11_97)]) [0, 1, 2, 3, 4, 5, 6, 8] rfl ?_
                exact J140 () trivial
              refine g_aload_n (pc := 119) X (j := 0) (i := 0) (q := 0) (x := a0) rfl rfl (dl_at t_X9_pattern 63 rfl) ?_
              have k120 := kx (E92.trans E_97) (by decide) k87
              refine r_getr (pc := 120) X fX9_17 k120 q912 (dl_at t_X9_pattern 64 rfl) ?_
              refine g_iload (pc := 123) X (i := 9) (q := 6) (x := x9_97) rfl (dl_at t_X9_pattern 65 rfl) ?_
              refine g_aload_n (pc := 125) X (j := 1) (i := 1) (q := 1) (x := a1) rfl rfl (dl_at t_X9_pattern 66 rfl) ?_
              refine g_iload (pc := 126) X (i := 11) (q := 8) (x := x11_97) rfl (dl_at t_X9_pattern 67 rfl) ?_
              refine g_bald (pc := 128) X r11_97 k107 (dl_at t_X9_pattern 68 rfl) fun g128 => ?_
              refine g_bipush (pc := 129) X (n := 48) rfl (dl_at t_X9_pattern 69 rfl) ?_
              refine g_isub (pc := 131) X (r32_b g128) (r32_c rfl) (dl_at t_X9_pattern 70 rfl) ?_
              refine g_i2b (pc := 132) X (r32_w _) (dl_at t_X9_pattern 71 rfl) ?_
              refine g_gd fun k133 => ?_
              refine r_bastB (pc := 133) X r9_97 (b_w8 _) k133 (dl_at t_X9_pattern 72 rfl) (fun h133 E133 => ?_)
              refine g_iconst (pc := 134) X (n := 1) (dl_at t_X9_pattern 73 rfl) ?_
              refine g_ltz (Or.inr rfl) fun x10_135 r10_135 => ?_
              refine g_istoreN (pc := 135) X (i := 10) (x := x10_135) (b := 9) (w := iv x9_97) (rest := [(0, rv D a0), (1, rv D a1), (2, iv a2), (5, iv x5_63), (7, iv s0_53), (8, iv x8_97), (11, iv x11_97)]) (Nat.le_of_ble_eq_true rfl) [6, 0, 1, 2, 3, 4, 5, 8] rfl (by decide) rfl rfl (dl_at t_X9_pattern 74 rfl) ?_
              refine g_goto (pc := 137) X (off := 75) (tgt := 212) rfl (dl_at t_X9_pattern 75 rfl) ?_
              refine g_ls (ls2 := [(0, rv D a0), (1, rv D a1), (2, iv a2), (5, iv x5_63), (7, iv s0_53), (8, iv x8_97), (9, iv x9_97), (10, iv x10_135), (11, iv x11_97)]) [2, 3, 4, 5, 6, 7, 1, 0, 8] rfl ?_
              exact J212 (x8_97, x9_97, x10_135, h133) ⟨r8_97, r9_97, r10_135, E133⟩
            · rintro ⟨x8_218, x9_218, h_218⟩ ⟨r8_218, r9_218, E_218⟩
              try dsimp only [sE]
              refine g_iload (pc := 218) X (i := 9) (q := 4) (x := x9_218) rfl (dl_at t_X9_pattern 117 rfl) ?_
              refine g_ifne (pc := 220) X r9_218 (off := 12) (tgt := 232) rfl (dl_at t_X9_pattern 118 rfl) (fun _ => ?_) (fun _ => ?_)
              · refine g_iload (pc := 232) X (i := 7) (q := 2) (x := s0_53) rfl (dl_at t_X9_pattern 124 rfl) ?_
                refine g_join (γ := Int × Hp) (fun q => r32 q.1 ∧ Ext h_218 q.2) 246 (fun q => [(0, rv D a0), (2, iv a2), (8, iv q.1), (9, iv x9_218)]) (fun q => []) (fun q => q.2) (fun q => m_X9_pattern_j246 a0 a2 x9_218 q.1 q.2) ?_ ?_
                · rintro ⟨x8_246, h_246⟩ ⟨r8_246, E_246⟩
                  try dsimp only
                  unfold m_X9_pattern_j246
                  refine g_aload_n (pc := 246) X (j := 0) (i := 0) (q := 0) (x := a0) rfl rfl (dl_at t_X9_pattern 131 rfl) ?_
                  have k247 := kx (E92.trans (E_218.trans E_246)) (by decide) k87
                  refine r_getr (pc := 247) X fX9_5 k247 q898 (dl_at t_X9_pattern 132 rfl) ?_
                  refine g_iload (pc := 250) X (i := 8) (q := 2) (x := x8_246) rfl (dl_at t_X9_pattern 133 rfl) ?_
                  refine g_gd fun k252 => ?_
                  refine g_iald (pc := 252) X r8_246 k252 (dl_at t_X9_pattern 134 rfl) fun g252 => ?_
                  refine g_join (γ := Hp) (fun q => Ext h_246 q) 322 (fun q => [(0, rv D a0), (8, iv x8_246), (9, iv x9_218)]) (fun q => []) (fun q => q) (fun q => m_X9_pattern_j322 a0 x8_246 x9_218 q) ?_ ?_
                  · rintro h_322 E_322
                    try dsimp only
                    unfold m_X9_pattern_j322
                    refine g_iconst (pc := 322) X (n := 0) (dl_at t_X9_pattern 172 rfl) ?_
                    refine g_ltz (Or.inl rfl) fun x11_323 r11_323 => ?_
                    refine g_istore (pc := 323) X (i := 11) (x := x11_323) (rest := [(0, rv D a0), (8, iv x8_246), (9, iv x9_218)]) (Nat.le_of_ble_eq_true rfl) [0, 1, 2] rfl rfl (dl_at t_X9_pattern 173 rfl) ?_
                    refine g_ls (ls2 := [(0, rv D a0), (8, iv x8_246), (9, iv x9_218), (11, iv x11_323)]) [1, 2, 3, 0] rfl ?_
                    refine g_loop0F (fun (q : Int × Hp) => [(0, rv D a0), (8, iv x8_246), (9, iv x9_218), (11, iv q.1)]) (fun (q : Int × Hp) => q.2) (fun (q : Int × Hp) => r32 q.1 ∧ Ext h_322 q.2) (x11_323, h_322) ⟨(r32_z r11_323), (Ext.refl _)⟩ ?_ (fun _ => rfl)
                    · rintro ⟨x11_325, h_325⟩ ⟨r11_325, E_325⟩
                      try dsimp only
                      unfold m_X9_pattern_l325
                      refine g_iload (pc := 325) X (i := 11) (q := 3) (x := x11_325) rfl (dl_at t_X9_pattern 174 rfl) ?_
                      refine g_iload (pc := 327) X (i := 9) (q := 2) (x := x9_218) rfl (dl_at t_X9_pattern 175 rfl) ?_
                      refine g_icmpgt (pc := 329) X r11_325 r9_218 (off := 36) (tgt := 365) rfl (dl_at t_X9_pattern 176 rfl) (fun _ => ?_) (fun _ => ?_)
                      · exact g_at fun Q hQ => (g_vret (pc := 365) X (v := 0) rfl rfl (dl_at t_X9_pattern 195 rfl)) _ Q rfl hQ
                      refine g_aload_n (pc := 332) X (j := 0) (i := 0) (q := 0) (x := a0) rfl rfl (dl_at t_X9_pattern 177 rfl) ?_
                      have k333 := kx (E_322.trans E_325) (by decide) k247
                      refine r_getr (pc := 333) X fX9_8 k333 q901 (dl_at t_X9_pattern 178 rfl) ?_
                      refine g_aload_n (pc := 336) X (j := 0) (i := 0) (q := 0) (x := a0) rfl rfl (dl_at t_X9_pattern 179 rfl) ?_
                      refine r_getr (pc := 337) X fX9_7 k333 q900 (dl_at t_X9_pattern 180 rfl) ?_
                      refine g_aload_n (pc := 340) X (j := 0) (i := 0) (q := 0) (x := a0) rfl rfl (dl_at t_X9_pattern 181 rfl) ?_
                      refine r_getr (pc := 341) X fX9_5 k333 q898 (dl_at t_X9_pattern 182 rfl) ?_
                      refine g_iload (pc := 344) X (i := 8) (q := 1) (x := x8_246) rfl (dl_at t_X9_pattern 183 rfl) ?_
                      refine g_gd fun k346 => ?_
                      refine g_iald (pc := 346) X r8_246 k346 (dl_at t_X9_pattern 184 rfl) fun g346 => ?_
                      refine g_gd fun k347 => ?_
                      refine g_iald (pc := 347) X g346 k347 (dl_at t_X9_pattern 185 rfl) fun g347 => ?_
                      refine g_iload (pc := 348) X (i := 11) (q := 3) (x := x11_325) rfl (dl_at t_X9_pattern 186 rfl) ?_
                      refine g_iadd (pc := 350) X g347 r11_325 (dl_at t_X9_pattern 187 rfl) ?_
                      refine g_aload_n (pc := 351) X (j := 0) (i := 0) (q := 0) (x := a0) rfl rfl (dl_at t_X9_pattern 188 rfl) ?_
                      refine r_getr (pc := 352) X fX9_17 k333 q912 (dl_at t_X9_pattern 189 rfl) ?_
                      refine g_iload (pc := 355) X (i := 11) (q := 3) (x := x11_325) rfl (dl_at t_X9_pattern 190 rfl) ?_
                      refine g_gd fun k357 => ?_
                      refine g_bald (pc := 357) X r11_325 k357 (dl_at t_X9_pattern 191 rfl) fun g357 => ?_
                      refine g_gd fun k358 => ?_
                      refine r_bastB (pc := 358) X (r32_w _) g357 k358 (dl_at t_X9_pattern 192 rfl) (fun h358 E358 => ?_)
                      refine r_iinc (pc := 359) X (i := 11) (q := 3) (n := 1) (x := x11_325) (rest := [(0, rv D a0), (8, iv x8_246), (9, iv x9_218)]) rfl r11_325 (r32_c rfl) (Nat.le_of_ble_eq_true rfl) [0, 1, 2] rfl rfl (dl_at t_X9_pattern 193 rfl) fun x11_359 r11_359 => ?_
                      refine g_goto (pc := 362) X (off := (-37)) (tgt := 325) rfl (dl_at t_X9_pattern 194 rfl) ?_
                      refine g_ls (ls2 := [(0, rv D a0), (8, iv x8_246), (9, iv x9_218), (11, iv x11_359)]) [1, 2, 3, 0] rfl ?_
                      exact g_at fun Q hQ => hQ ⟨r11_359, (E_325.trans E358)⟩
                  intro J322
                  refine g_ifge (pc := 253) X g252 (off := 69) (tgt := 322) rfl (dl_at t_X9_pattern 135 rfl) (fun _ => ?_) (fun _ => ?_)
                  · refine g_ls (ls2 := [(0, rv D a0), (8, iv x8_246), (9, iv x9_218)]) [0, 2, 3] rfl ?_
                    exact J322 h_246 (Ext.refl _)
                  refine g_aload_n (pc := 256) X (j := 0) (i := 0) (q := 0) (x := a0) rfl rfl (dl_at t_X9_pattern 136 rfl) ?_
                  refine r_geti (pc := 257) X fX9_10 k247 q903 (dl_at t_X9_pattern 137 rfl) fun g257 => ?_
                  refine g_sipush (pc := 260) X (n := 300) rfl (dl_at t_X9_pattern 138 rfl) ?_
                  refine g_icmpne (pc := 263) X g257 (r32_c rfl) (off := 12) (tgt := 275) rfl (dl_at t_X9_pattern 139 rfl) (fun _ => ?_) (fun _ => ?_)
                  · refine g_aload_n (pc := 275) X (j := 0) (i := 0) (q := 0) (x := a0) rfl rfl (dl_at t_X9_pattern 145 rfl) ?_
                    refine r_getr (pc := 276) X fX9_5 k247 q898 (dl_at t_X9_pattern 146 rfl) ?_
                    refine g_iload (pc := 279) X (i := 8) (q := 2) (x := x8_246) rfl (dl_at t_X9_pattern 147 rfl) ?_
                    refine g_aload_n (pc := 281) X (j := 0) (i := 0) (q := 0) (x := a0) rfl rfl (dl_at t_X9_pattern 148 rfl) ?_
                    refine r_geti (pc := 282) X fX9_10 k247 q903 (dl_at t_X9_pattern 149 rfl) fun g282 => ?_
                    refine r_iast (pc := 285) X r8_246 g282 k252 (dl_at t_X9_pattern 150 rfl) (fun h285 E285 => ?_)
                    refine g_aload_n (pc := 286) X (j := 0) (i := 0) (q := 0) (x := a0) rfl rfl (dl_at t_X9_pattern 151 rfl) ?_
                    have k287 := kx E285 (by decide) k247
                    refine r_getr (pc := 287) X fX9_7 k287 q900 (dl_at t_X9_pattern 152 rfl) ?_
                    refine g_aload_n (pc := 290) X (j := 0) (i := 0) (q := 0) (x := a0) rfl rfl (dl_at t_X9_pattern 153 rfl) ?_
                    refine r_geti (pc := 291) X fX9_10 k287 q903 (dl_at t_X9_pattern 154 rfl) fun g291 => ?_
                    refine g_aload_n (pc := 294) X (j := 0) (i := 0) (q := 0) (x := a0) rfl rfl (dl_at t_X9_pattern 155 rfl) ?_
                    refine r_geti (pc := 295) X fX9_9 k287 q902 (dl_at t_X9_pattern 156 rfl) fun g295 => ?_
                    refine g_gd fun k298 => ?_
                    refine r_iast (pc := 298) X g291 g295 k298 (dl_at t_X9_pattern 157 rfl) (fun h298 E298 => ?_)
                    refine g_aload_n (pc := 299) X (j := 0) (i := 0) (q := 0) (x := a0) rfl rfl (dl_at t_X9_pattern 158 rfl) ?_
                    refine g_dup (pc := 300) X rv_cat (dl_at t_X9_pattern 159 rfl) ?_
                    have k301 := kx E298 (by decide) k287
                    refine r_geti (pc := 301) X fX9_9 k301 q902 (dl_at t_X9_pattern 160 rfl) fun g301 => ?_
                    refine g_iload (pc := 304) X (i := 9) (q := 3) (x := x9_218) rfl (dl_at t_X9_pattern 161 rfl) ?_
                    refine g_iconst (pc := 306) X (n := 1) (dl_at t_X9_pattern 162 rfl) ?_
                    refine g_iadd (pc := 307) X r9_218 (r32_c rfl) (dl_at t_X9_pattern 163 rfl) ?_
                    refine g_iadd (pc := 308) X g301 (r32_w _) (dl_at t_X9_pattern 164 rfl) ?_
                    refine r_puti (pc := 309) X fX9_9 k301 q902 rfl (dl_at t_X9_pattern 165 rfl) (r32_w _) (fun h309 E309 => ?_)
                    refine g_aload_n (pc := 312) X (j := 0) (i := 0) (q := 0) (x := a0) rfl rfl (dl_at t_X9_pattern 166 rfl) ?_
                    refine g_dup (pc := 313) X rv_cat (dl_at t_X9_pattern 167 rfl) ?_
                    have k314 := kx E309 (by decide) k301
                    refine r_geti (pc := 314) X fX9_10 k314 q903 (dl_at t_X9_pattern 168 rfl) fun g314 => ?_
                    refine g_iconst (pc := 317) X (n := 1) (dl_at t_X9_pattern 169 rfl) ?_
                    refine g_iadd (pc := 318) X g314 (r32_c rfl) (dl_at t_X9_pattern 170 rfl) ?_
                    refine r_puti (pc := 319) X fX9_10 k314 q903 rfl (dl_at t_X9_pattern 171 rfl) (r32_w _) (fun h319 E319 => ?_)
                    refine g_ls (ls2 := [(0, rv D a0), (8, iv x8_246), (9, iv x9_218)]) [0, 2, 3] rfl ?_
                    exact J322 h319 (E285.trans (E298.trans (E309.trans E319)))
                  refine r_new (pc := 266) X kX26 q1924 (dl_at t_X9_pattern 140 rfl) fun a266 h266 p266 k266 E266 => ?_
                  refine g_dup (pc := 269) X rv_cat (dl_at t_X9_pattern 141 rfl) ?_
                  refine g_iload_n (pc := 270) X (j := 2) (i := 2) (q := 1) (x := a2) rfl rfl (dl_at t_X9_pattern 142 rfl) ?_
                  refine r_callV (pc := 271) X (fun _ hv => sx_ScholarsPress_Broken_init_I_V k266 r2 hv) cw_code q1839 q391 (in_I X (As := [iv a2]) (Int.ne_of_gt p266) rfl (Or.inr ⟨_, nw_in q1925 rfl⟩) q1838 q1839 ⟨by decide, by decide⟩ rfl (dl_at t_X9_pattern 143 rfl)) (dl_at t_X9_pattern 143 rfl) (cat24 (st := [rv D a266]) (Nat.le_of_ble_eq_true rfl)) (Nat.le_of_ble_eq_true rfl) (Nat.le_of_ble_eq_true rfl) fun h271 E271 => ?_
                  refine g_athrow (pc := 274) X (Int.ne_of_gt p266) (dl_at t_X9_pattern 144 rfl) ?_
                  exact gt_at fun Q hQ => gt_out (Q := Q) X rfl p266 (hno _) _ Q rfl hQ
                intro J246
                refine g_ifeq (pc := 234) X (r32_z rs0_53) (off := 12) (tgt := 246) rfl (dl_at t_X9_pattern 125 rfl) (fun _ => ?_) (fun _ => ?_)
                · refine g_ls (ls2 := [(0, rv D a0), (2, iv a2), (8, iv x8_218), (9, iv x9_218)]) [0, 1, 3, 4] rfl ?_
                  exact J246 (x8_218, h_218) ⟨r8_218, (Ext.refl _)⟩
                refine g_aload_n (pc := 237) X (j := 0) (i := 0) (q := 0) (x := a0) rfl rfl (dl_at t_X9_pattern 126 rfl) ?_
                refine g_iload (pc := 238) X (i := 8) (q := 3) (x := x8_218) rfl (dl_at t_X9_pattern 127 rfl) ?_
                refine g_iconst (pc := 240) X (n := 0) (dl_at t_X9_pattern 128 rfl) ?_
                have k241 := kx (E92.trans E_218) (by decide) k87
                refine r_callWi (pc := 241) X (fun _ hv => s_X9_step k241 r8_218 (r32_c rfl) hv) cw_code q1945 q363 (in_Vk X (As := [iv x8_218, iv 0]) kX9 k241 (Or.inl q1942) q1944 qs29 cw_code q1945 ⟨by decide, by decide⟩ rfl (dl_at t_X9_pattern 129 rfl)) (dl_at t_X9_pattern 129 rfl) (cat24 (st := []) (Nat.le_of_ble_eq_true rfl)) (Nat.le_of_ble_eq_true rfl) (Nat.le_of_ble_eq_true rfl) fun v241 h241 g241 E241 => ?_
                refine g_istore (pc := 244) X (i := 8) (x := v241) (rest := [(0, rv D a0), (2, iv a2), (9, iv x9_218)]) (Nat.le_of_ble_eq_true rfl) [0, 1, 4] rfl rfl (dl_at t_X9_pattern 130 rfl) ?_
                refine g_ls (ls2 := [(0, rv D a0), (2, iv a2), (8, iv v241), (9, iv x9_218)]) [1, 2, 0, 3] rfl ?_
                exact J246 (v241, h241) ⟨g241, E241⟩
              refine r_new (pc := 223) X kX26 q1924 (dl_at t_X9_pattern 119 rfl) fun a223 h223 p223 k223 E223 => ?_
              refine g_dup (pc := 226) X rv_cat (dl_at t_X9_pattern 120 rfl) ?_
              refine g_iload_n (pc := 227) X (j := 2) (i := 2) (q := 1) (x := a2) rfl rfl (dl_at t_X9_pattern 121 rfl) ?_
              refine r_callV (pc := 228) X (fun _ hv => sx_ScholarsPress_Broken_init_I_V k223 r2 hv) cw_code q1839 q391 (in_I X (As := [iv a2]) (Int.ne_of_gt p223) rfl (Or.inr ⟨_, nw_in q1925 rfl⟩) q1838 q1839 ⟨by decide, by decide⟩ rfl (dl_at t_X9_pattern 122 rfl)) (dl_at t_X9_pattern 122 rfl) (cat24 (st := [rv D a223]) (Nat.le_of_ble_eq_true rfl)) (Nat.le_of_ble_eq_true rfl) (Nat.le_of_ble_eq_true rfl) fun h228 E228 => ?_
              refine g_athrow (pc := 231) X (Int.ne_of_gt p223) (dl_at t_X9_pattern 123 rfl) ?_
              exact gt_at fun Q hQ => gt_out (Q := Q) X rfl p223 (hno _) _ Q rfl hQ
          intro J78
          refine g_ifeq (pc := 65) X (r32_z rs0_20) (off := 12) (tgt := 77) rfl (dl_at t_X9_pattern 34 rfl) (fun _ => ?_) (fun _ => ?_)
          · refine g_iconst (pc := 77) X (n := 0) (dl_at t_X9_pattern 40 rfl) ?_
            refine g_ls (ls2 := [(0, rv D a0), (1, rv D a1), (2, iv a2), (4, iv x4_30), (5, iv x5_63), (7, iv s0_53)]) [0, 1, 2, 3, 4, 6] rfl ?_
            exact J78 (0, h) ⟨(r32_c rfl), (Ext.refl _)⟩
          refine g_aload_n (pc := 68) X (j := 0) (i := 0) (q := 0) (x := a0) rfl rfl (dl_at t_X9_pattern 35 rfl) ?_
          refine g_iconst (pc := 69) X (n := 0) (dl_at t_X9_pattern 36 rfl) ?_
          refine g_iconst (pc := 70) X (n := 0) (dl_at t_X9_pattern 37 rfl) ?_
          refine r_callWi (pc := 71) X (fun _ hv => s_X9_step hk (r32_c rfl) (r32_c rfl) hv) cw_code q1945 q363 (in_Vk X (As := [iv 0, iv 0]) kX9 hk (Or.inl q1942) q1944 qs29 cw_code q1945 ⟨by decide, by decide⟩ rfl (dl_at t_X9_pattern 38 rfl)) (dl_at t_X9_pattern 38 rfl) (cat24 (st := []) (Nat.le_of_ble_eq_true rfl)) (Nat.le_of_ble_eq_true rfl) (Nat.le_of_ble_eq_true rfl) fun v71 h71 g71 E71 => ?_
          refine g_goto (pc := 74) X (off := 4) (tgt := 78) rfl (dl_at t_X9_pattern 39 rfl) ?_
          refine g_ls (ls2 := [(0, rv D a0), (1, rv D a1), (2, iv a2), (4, iv x4_30), (5, iv x5_63), (7, iv s0_53)]) [0, 1, 2, 3, 4, 6] rfl ?_
          exact J78 (v71, h71) ⟨g71, E71⟩
        intro J63
        refine g_ifeq (pc := 57) X (r32_z rs0_53) (off := 6) (tgt := 63) rfl (dl_at t_X9_pattern 31 rfl) (fun _ => ?_) (fun _ => ?_)
        · refine g_ls (ls2 := [(0, rv D a0), (1, rv D a1), (2, iv a2), (4, iv x4_30), (5, iv a3), (6, iv s0_20), (7, iv s0_53)]) [2, 3, 4, 5, 6, 1, 0] rfl ?_
          exact J63 a3 r3
        refine r_iincN (pc := 60) X (i := 5) (q := 6) (n := (-1)) (x := a3) (b := 4) (w := iv x4_30) (rest := [(7, iv s0_53), (6, iv s0_20), (0, rv D a0), (1, rv D a1), (2, iv a2)]) rfl r3 (r32_c rfl) (Nat.le_of_ble_eq_true rfl) [5, 0, 1, 2, 3, 4] rfl (by decide) rfl rfl (dl_at t_X9_pattern 32 rfl) fun x5_60 r5_60 => ?_
        refine g_ls (ls2 := [(0, rv D a0), (1, rv D a1), (2, iv a2), (4, iv x4_30), (5, iv x5_60), (6, iv s0_20), (7, iv s0_53)]) [4, 5, 6, 1, 0, 3, 2] rfl ?_
        exact J63 x5_60 r5_60
      intro J53
      refine g_join (γ := Unit) (fun q => True) 52 (fun q => [(0, rv D a0), (1, rv D a1), (2, iv a2), (4, iv x4_30), (5, iv a3), (6, iv s0_20)]) (fun q => []) (fun q => h) (fun q => m_X9_pattern_j52 a0 a1 a2 x4_30 a3 s0_20 h) ?_ ?_
      · rintro _ _
        try dsimp only
        unfold m_X9_pattern_j52
        refine g_iconst (pc := 52) X (n := 0) (dl_at t_X9_pattern 28 rfl) ?_
        exact J53 0 (Or.inl rfl)
      intro J52
      refine g_icmple (pc := 34) X r3 r4_30 (off := 18) (tgt := 52) rfl (dl_at t_X9_pattern 18 rfl) (fun _ => ?_) (fun _ => ?_)
      · exact J52 () trivial
      refine g_aload_n (pc := 37) X (j := 1) (i := 1) (q := 1) (x := a1) rfl rfl (dl_at t_X9_pattern 19 rfl) ?_
      refine g_iload (pc := 38) X (i := 5) (q := 4) (x := a3) rfl (dl_at t_X9_pattern 20 rfl) ?_
      refine g_iconst (pc := 40) X (n := 1) (dl_at t_X9_pattern 21 rfl) ?_
      refine g_isub (pc := 41) X r3 (r32_c rfl) (dl_at t_X9_pattern 22 rfl) ?_
      refine g_gd fun k42 => ?_
      refine g_bald (pc := 42) X (r32_w _) k42 (dl_at t_X9_pattern 23 rfl) fun g42 => ?_
      refine g_bipush (pc := 43) X (n := 46) rfl (dl_at t_X9_pattern 24 rfl) ?_
      refine g_icmpne (pc := 45) X (r32_b g42) (r32_c rfl) (off := 7) (tgt := 52) rfl (dl_at t_X9_pattern 25 rfl) (fun _ => ?_) (fun _ => ?_)
      · exact J52 () trivial
      refine g_iconst (pc := 48) X (n := 1) (dl_at t_X9_pattern 26 rfl) ?_
      refine g_goto (pc := 49) X (off := 4) (tgt := 53) rfl (dl_at t_X9_pattern 27 rfl) ?_
      exact J53 1 (Or.inr rfl)
    intro J30
    refine g_ifeq (pc := 24) X (r32_z rs0_20) (off := 6) (tgt := 30) rfl (dl_at t_X9_pattern 14 rfl) (fun _ => ?_) (fun _ => ?_)
    · refine g_ls (ls2 := [(0, rv D a0), (1, rv D a1), (2, iv a2), (4, iv a2), (5, iv a3), (6, iv s0_20)]) [2, 3, 4, 5, 1, 0] rfl ?_
      exact J30 a2 r2
    refine r_iinc (pc := 27) X (i := 4) (q := 5) (n := 1) (x := a2) (rest := [(6, iv s0_20), (5, iv a3), (0, rv D a0), (1, rv D a1), (2, iv a2)]) rfl r2 (r32_c rfl) (Nat.le_of_ble_eq_true rfl) [0, 1, 2, 3, 4] rfl rfl (dl_at t_X9_pattern 15 rfl) fun x4_27 r4_27 => ?_
    refine g_ls (ls2 := [(0, rv D a0), (1, rv D a1), (2, iv a2), (4, iv x4_27), (5, iv a3), (6, iv s0_20)]) [3, 4, 5, 0, 2, 1] rfl ?_
    exact J30 x4_27 r4_27
  intro J20
  refine g_icmpne (pc := 12) X (r32_b g9) (r32_c rfl) (off := 7) (tgt := 19) rfl (dl_at t_X9_pattern 8 rfl) (fun _ => ?_) (fun _ => ?_)
  · refine g_iconst (pc := 19) X (n := 0) (dl_at t_X9_pattern 11 rfl) ?_
    refine g_ls (ls2 := [(0, rv D a0), (1, rv D a1), (2, iv a2), (4, iv a2), (5, iv a3)]) [2, 3, 4, 1, 0] rfl ?_
    exact J20 0 (Or.inl rfl)
  refine g_iconst (pc := 15) X (n := 1) (dl_at t_X9_pattern 9 rfl) ?_
  refine g_goto (pc := 16) X (off := 4) (tgt := 20) rfl (dl_at t_X9_pattern 10 rfl) ?_
  refine g_ls (ls2 := [(0, rv D a0), (1, rv D a1), (2, iv a2), (4, iv a2), (5, iv a3)]) [2, 3, 4, 1, 0] rfl ?_
  exact J20 1 (Or.inr rfl)
def k_X9_read : List (Nat × Instr × Nat) := [(0, .aload_n 0, 1), (1, .invokevirtual 60, 3), (4, .aload_n 0, 1), (5, .aload_n 1, 1), (6, .iconst 0, 1), (7, .iload_n 2, 1), (8, .invokevirtual 75, 3), (11, .istore_n 3, 1), (12, .iload_n 3, 1), (13, .iload_n 2, 1), (14, .if_icmp .ge 147, 3), (17, .aload_n 0, 1), (18, .aload_n 1, 1), (19, .iload_n 3, 1), (20, .iload_n 2, 1), (21, .invokevirtual 79, 3), (24, .istore 4, 2), (26, .aload_n 0, 1), (27, .aload_n 1, 1), (28, .iload_n 3, 1), (29, .iload 4, 2), (31, .invokevirtual 82, 3), (34, .ifCond .eq 88, 3), (37, .aload_n 0, 1), (38, .aload_n 1, 1), (39, .iload 4, 2), (41, .iload_n 2, 1), (42, .invokevirtual 75, 3), (45, .istore_n 3, 1), (46, .aload_n 0, 1), (47, .aload_n 1, 1), (48, .iload_n 3, 1), (49, .iload_n 2, 1), (50, .invokevirtual 79, 3), (53, .istore 4, 2), (55, .iload_n 3, 1), (56, .iload_n 2, 1), (57, .if_icmp .eq 31, 3), (60, .iload 4, 2), (62, .iload_n 3, 1), (63, .isub, 1), (64, .iconst 2, 1), (65, .if_icmp .ne 23, 3), (68, .aload_n 1, 1), (69, .iload_n 3, 1), (70, .baload, 1), (71, .invokestatic 86, 3), (74, .ifCond .eq 14, 3), (77, .aload_n 1, 1), (78, .iload_n 3, 1), (79, .iconst 1, 1), (80, .iadd, 1), (81, .baload, 1), (82, .invokestatic 86, 3), (85, .ifCond .ne 12, 3), (88, .new 90, 3), (91, .dup, 1), (92, .iload_n 3, 1), (93, .invokespecial 92, 3), (96, .athrow, 1), (97, .aload_n 0, 1), (98, .aload_n 1, 1), (99, .iload_n 3, 1), (100, .baload, 1), (101, .bipush 48, 2), (103, .isub, 1), (104, .putfield 11, 3), (107, .aload_n 0, 1), (108, .aload_n 1, 1), (109, .iload_n 3, 1), (110, .iconst 1, 1), (111, .iadd, 1), (112, .baload, 1), (113, .bipush 48, 2), (115, .isub, 1), (116, .putfield 15, 3), (119, .goto 30, 3), (122, .aload_n 1, 1), (123, .iload_n 3, 1), (124, .baload, 1), (125, .bipush 61, 2), (127, .if_icmp .ne 14, 3), (130, .aload_n 0, 1), (131, .aload_n 1, 1), (132, .iload_n 3, 1), (133, .iload 4, 2), (135, .invokevirtual 95, 3), (138, .goto 11, 3), (141, .aload_n 0, 1), (142, .aload_n 1, 1), (143, .iload_n 3, 1), (144, .iload 4, 2), (146, .invokevirtual 99, 3), (149, .aload_n 0, 1), (150, .aload_n 1, 1), (151, .iload 4, 2), (153, .iload_n 2, 1), (154, .invokevirtual 75, 3), (157, .istore_n 3, 1), (158, .goto (-146), 3), (161, .return_, 1)]
theorem t_X9_read : ∀ q ∈ k_X9_read, decode cX9_read q.1 = .ok q.2 := dl_all (by decide +kernel)
noncomputable def m_X9_read_j149 (a0 a1 a2 x4_149 : Int) (h_149 : Hp) : Option ((Int × Hp) ⊕ (((Int × Int) × Hp))) :=
  (m_X9_skip a0 a1 x4_149 a2 h_149).bind fun v154 =>
  some (.inl (v154, h_149))
noncomputable def m_X9_read_l12 (a0 a1 a2 x3_12 : Int) (h_12 : Hp) : Option ((Int × Hp) ⊕ (((Int × Int) × Hp))) :=
  if a2 ≤ x3_12 then (some (.inr ((0, 0), h_12)))
  else ((m_X9_wordEnd a0 a1 x3_12 a2 h_12).bind fun v21 =>
  (m_X9_isEnds a0 a1 x3_12 v21 h_12).bind fun v31 =>
  if v31 = 0 then (gd (h_12 a1 (-2) % 16 = 2 ∧ (0 : Int) ≤ x3_12 ∧ x3_12 < h_12 a1 (-1)) (if (h_12 a1 x3_12) ≠ 61 then (bT (m_X9_pattern a0 a1 x3_12 v21 h_12) (fun _ h146 =>
  m_X9_read_j149 a0 a1 a2 v21 h146) (fun a_ h_ => some (.inr ((1, a_), h_))))
  else (bT (m_X9_exception a0 a1 x3_12 v21 h_12) (fun _ h135 =>
  m_X9_read_j149 a0 a1 a2 v21 h135) (fun a_ h_ => some (.inr ((1, a_), h_))))))
  else ((m_X9_skip a0 a1 v21 a2 h_12).bind fun v42 =>
  (m_X9_wordEnd a0 a1 v42 a2 h_12).bind fun v50 =>
  if v42 = a2 then (al h_12 432 7 fun a88 h88 =>
  (x_broken a88 v42 h88).bind fun h93 =>
  some (.inr ((1, a88), h93)))
  else (if (w32 (v50 - v42)) ≠ 2 then (al h_12 432 7 fun a88_1 h88_1 =>
  (x_broken a88_1 v42 h88_1).bind fun h93_1 =>
  some (.inr ((1, a88_1), h93_1)))
  else (gd (h_12 a1 (-2) % 16 = 2 ∧ (0 : Int) ≤ v42 ∧ v42 < h_12 a1 (-1)) ((m_X9_isCount (h_12 a1 v42)).bind fun v71 =>
  if v71 = 0 then (al h_12 432 7 fun a88_2 h88_2 =>
  (x_broken a88_2 v42 h88_2).bind fun h93_2 =>
  some (.inr ((1, a88_2), h93_2)))
  else (gd (h_12 a1 (-2) % 16 = 2 ∧ (0 : Int) ≤ (w32 (v42 + 1)) ∧ (w32 (v42 + 1)) < h_12 a1 (-1)) ((m_X9_isCount (h_12 a1 (w32 (v42 + 1)))).bind fun v82 =>
  if v82 ≠ 0 then (pt h_12 a0 0 (w32 ((h_12 a1 v42) - 48)) fun h104 =>
  pt h104 a0 1 (w32 ((h104 a1 (w32 (v42 + 1))) - 48)) fun h116 =>
  m_X9_read_j149 a0 a1 a2 v50 h116)
  else (al h_12 432 7 fun a88_3 h88_3 =>
  (x_broken a88_3 v42 h88_3).bind fun h93_3 =>
  some (.inr ((1, a88_3), h93_3))))))))))
noncomputable def m_X9_read (a0 a1 a2 : Int) (h : Hp) : Option ((Int × Int) × Hp) :=
  (m_X9_clear a0 h).bind fun h1 =>
  (m_X9_skip a0 a1 0 a2 h1).bind fun v8 =>
  (lp (fun (q : Int × Hp) => m_X9_read_l12 a0 a1 a2 q.1 q.2) (v8, h1)).bind (fun (x : (Int × Int) × Hp) => some x)
theorem s_X9_read {l : Launch} [NoTr l] {D : SD} {a0 a1 a2 : Int} {h : Hp} (hk : h a0 (-2) = 144) (r2 : r32 a2) {r : (Int × Int) × Hp} (hm : m_X9_read a0 a1 a2 h = some r) : Sim l D yX9_read (Cond.code yX9_read cX9_read 5 (Option.none : Option Jvm.ClassFile.FieldType)) 10 384 [rv D a0, rv D a1, iv a2] h 0 r := by
  refine Sim.of (fin := fun (v : (Int × Int) × Hp) => v) (lsE := [(0, rv D a0), (1, rv D a1), (2, iv a2)]) hm rfl cwS_code (la_r (la_r (la_i la_n))) (ll_r (ll_r (ll_i ll_n))) ?_
  intro p e s m below meth c X hcw hmm hcc hnm hname
  have hno := noh hcw hnm hmm hcc
  unfold m_X9_read
  refine g_aload_n (pc := 0) X (j := 0) (i := 0) (q := 0) (x := a0) rfl rfl (dl_at t_X9_read 0 rfl) ?_
  refine r_callV (pc := 1) X (fun _ hv => s_X9_clear hk hv) cw_code q892 q363 (in_Vk X (As := []) kX9 hk (Or.inl q889) q891 qs3 cw_code q892 ⟨by decide, by decide⟩ rfl (dl_at t_X9_read 1 rfl)) (dl_at t_X9_read 1 rfl) (cat24 (st := []) (Nat.le_of_ble_eq_true rfl)) (Nat.le_of_ble_eq_true rfl) (Nat.le_of_ble_eq_true rfl) fun h1 E1 => ?_
  refine g_aload_n (pc := 4) X (j := 0) (i := 0) (q := 0) (x := a0) rfl rfl (dl_at t_X9_read 2 rfl) ?_
  refine g_aload_n (pc := 5) X (j := 1) (i := 1) (q := 1) (x := a1) rfl rfl (dl_at t_X9_read 3 rfl) ?_
  refine g_iconst (pc := 6) X (n := 0) (dl_at t_X9_read 4 rfl) ?_
  refine g_iload_n (pc := 7) X (j := 2) (i := 2) (q := 2) (x := a2) rfl rfl (dl_at t_X9_read 5 rfl) ?_
  have k8 := kx E1 (by decide) hk
  refine r_callRi (pc := 8) X (fun _ hv => s_X9_skip k8 (r32_c rfl) r2 hv) cw_code q1911 q363 (in_Vk X (As := [rv D a1, iv 0, iv a2]) kX9 k8 (Or.inl q1908) q1910 qs23 cw_code q1911 ⟨by decide, by decide⟩ rfl (dl_at t_X9_read 6 rfl)) (dl_at t_X9_read 6 rfl) (cat24 (st := []) (Nat.le_of_ble_eq_true rfl)) (Nat.le_of_ble_eq_true rfl) (Nat.le_of_ble_eq_true rfl) fun v8 g8 => ?_
  refine g_istore_nN (pc := 11) X (j := 3) (i := 3) (x := v8) (b := 2) (w := iv a2) (rest := [(0, rv D a0), (1, rv D a1)]) rfl (Nat.le_of_ble_eq_true rfl) [2, 0, 1] rfl (by decide) rfl rfl (dl_at t_X9_read 7 rfl) ?_
  refine g_ls (ls2 := [(0, rv D a0), (1, rv D a1), (2, iv a2), (3, iv v8)]) [2, 3, 1, 0] rfl ?_
  refine g_loop0F (fun (q : Int × Hp) => [(0, rv D a0), (1, rv D a1), (2, iv a2), (3, iv q.1)]) (fun (q : Int × Hp) => q.2) (fun (q : Int × Hp) => r32 q.1 ∧ Ext h1 q.2) (v8, h1) ⟨g8, (Ext.refl _)⟩ ?_ (fun _ => rfl)
  · rintro ⟨x3_12, h_12⟩ ⟨r3_12, E_12⟩
    try dsimp only
    unfold m_X9_read_l12
    refine g_iload_n (pc := 12) X (j := 3) (i := 3) (q := 3) (x := x3_12) rfl rfl (dl_at t_X9_read 8 rfl) ?_
    refine g_iload_n (pc := 13) X (j := 2) (i := 2) (q := 2) (x := a2) rfl rfl (dl_at t_X9_read 9 rfl) ?_
    refine g_icmpge (pc := 14) X r3_12 r2 (off := 147) (tgt := 161) rfl (dl_at t_X9_read 10 rfl) (fun _ => ?_) (fun _ => ?_)
    · exact g_at fun Q hQ => (g_vret (pc := 161) X (v := 0) rfl rfl (dl_at t_X9_read 100 rfl)) _ Q rfl hQ
    refine g_aload_n (pc := 17) X (j := 0) (i := 0) (q := 0) (x := a0) rfl rfl (dl_at t_X9_read 11 rfl) ?_
    refine g_aload_n (pc := 18) X (j := 1) (i := 1) (q := 1) (x := a1) rfl rfl (dl_at t_X9_read 12 rfl) ?_
    refine g_iload_n (pc := 19) X (j := 3) (i := 3) (q := 3) (x := x3_12) rfl rfl (dl_at t_X9_read 13 rfl) ?_
    refine g_iload_n (pc := 20) X (j := 2) (i := 2) (q := 2) (x := a2) rfl rfl (dl_at t_X9_read 14 rfl) ?_
    have k21 := kx E_12 (by decide) k8
    refine r_callRi (pc := 21) X (fun _ hv => s_X9_wordEnd k21 r3_12 r2 hv) cw_code q1916 q363 (in_Vk X (As := [rv D a1, iv x3_12, iv a2]) kX9 k21 (Or.inl q1913) q1915 qs24 cw_code q1916 ⟨by decide, by decide⟩ rfl (dl_at t_X9_read 15 rfl)) (dl_at t_X9_read 15 rfl) (cat24 (st := []) (Nat.le_of_ble_eq_true rfl)) (Nat.le_of_ble_eq_true rfl) (Nat.le_of_ble_eq_true rfl) fun v21 g21 => ?_
    refine g_istoreN (pc := 24) X (i := 4) (x := v21) (b := 3) (w := iv x3_12) (rest := [(0, rv D a0), (1, rv D a1), (2, iv a2)]) (Nat.le_of_ble_eq_true rfl) [3, 0, 1, 2] rfl (by decide) rfl rfl (dl_at t_X9_read 16 rfl) ?_
    refine g_aload_n (pc := 26) X (j := 0) (i := 0) (q := 2) (x := a0) rfl rfl (dl_at t_X9_read 17 rfl) ?_
    refine g_aload_n (pc := 27) X (j := 1) (i := 1) (q := 3) (x := a1) rfl rfl (dl_at t_X9_read 18 rfl) ?_
    refine g_iload_n (pc := 28) X (j := 3) (i := 3) (q := 1) (x := x3_12) rfl rfl (dl_at t_X9_read 19 rfl) ?_
    refine g_iload (pc := 29) X (i := 4) (q := 0) (x := v21) rfl (dl_at t_X9_read 20 rfl) ?_
    refine r_callRz (pc := 31) X (fun _ hv => s_X9_isEnds k21 r3_12 g21 hv) cw_code q1920 q363 (in_Vk X (As := [rv D a1, iv x3_12, iv v21]) kX9 k21 (Or.inl q1917) q1919 qs25 cw_code q1920 ⟨by decide, by decide⟩ rfl (dl_at t_X9_read 21 rfl)) (dl_at t_X9_read 21 rfl) (cat24 (st := []) (Nat.le_of_ble_eq_true rfl)) (Nat.le_of_ble_eq_true rfl) (Nat.le_of_ble_eq_true rfl) fun v31 g31 => ?_
    refine g_join (γ := Int × Hp) (fun q => r32 q.1 ∧ Ext h_12 q.2) 149 (fun q => [(0, rv D a0), (1, rv D a1), (2, iv a2), (4, iv q.1)]) (fun q => []) (fun q => q.2) (fun q => m_X9_read_j149 a0 a1 a2 q.1 q.2) ?_ ?_
    · rintro ⟨x4_149, h_149⟩ ⟨r4_149, E_149⟩
      try dsimp only
      unfold m_X9_read_j149
      refine g_aload_n (pc := 149) X (j := 0) (i := 0) (q := 0) (x := a0) rfl rfl (dl_at t_X9_read 93 rfl) ?_
      refine g_aload_n (pc := 150) X (j := 1) (i := 1) (q := 1) (x := a1) rfl rfl (dl_at t_X9_read 94 rfl) ?_
      refine g_iload (pc := 151) X (i := 4) (q := 3) (x := x4_149) rfl (dl_at t_X9_read 95 rfl) ?_
      refine g_iload_n (pc := 153) X (j := 2) (i := 2) (q := 2) (x := a2) rfl rfl (dl_at t_X9_read 96 rfl) ?_
      have k154 := kx E_149 (by decide) k21
      refine r_callRi (pc := 154) X (fun _ hv => s_X9_skip k154 r4_149 r2 hv) cw_code q1911 q363 (in_Vk X (As := [rv D a1, iv x4_149, iv a2]) kX9 k154 (Or.inl q1908) q1910 qs23 cw_code q1911 ⟨by decide, by decide⟩ rfl (dl_at t_X9_read 97 rfl)) (dl_at t_X9_read 97 rfl) (cat24 (st := []) (Nat.le_of_ble_eq_true rfl)) (Nat.le_of_ble_eq_true rfl) (Nat.le_of_ble_eq_true rfl) fun v154 g154 => ?_
      refine g_istore_nN (pc := 157) X (j := 3) (i := 3) (x := v154) (b := 2) (w := iv a2) (rest := [(0, rv D a0), (1, rv D a1)]) rfl (Nat.le_of_ble_eq_true rfl) [2, 0, 1] rfl (by decide) rfl rfl (dl_at t_X9_read 98 rfl) ?_
      refine g_goto (pc := 158) X (off := (-146)) (tgt := 12) rfl (dl_at t_X9_read 99 rfl) ?_
      refine g_ls (ls2 := [(0, rv D a0), (1, rv D a1), (2, iv a2), (3, iv v154)]) [2, 3, 1, 0] rfl ?_
      exact g_at fun Q hQ => hQ ⟨g154, (E_12.trans E_149)⟩
    intro J149
    refine g_ifeq (pc := 34) X (r32_z g31) (off := 88) (tgt := 122) rfl (dl_at t_X9_read 22 rfl) (fun _ => ?_) (fun _ => ?_)
    · refine g_aload_n (pc := 122) X (j := 1) (i := 1) (q := 3) (x := a1) rfl rfl (dl_at t_X9_read 77 rfl) ?_
      refine g_iload_n (pc := 123) X (j := 3) (i := 3) (q := 1) (x := x3_12) rfl rfl (dl_at t_X9_read 78 rfl) ?_
      refine g_gd fun k124 => ?_
      refine g_bald (pc := 124) X r3_12 k124 (dl_at t_X9_read 79 rfl) fun g124 => ?_
      refine g_bipush (pc := 125) X (n := 61) rfl (dl_at t_X9_read 80 rfl) ?_
      refine g_icmpne (pc := 127) X (r32_b g124) (r32_c rfl) (off := 14) (tgt := 141) rfl (dl_at t_X9_read 81 rfl) (fun _ => ?_) (fun _ => ?_)
      · refine g_aload_n (pc := 141) X (j := 0) (i := 0) (q := 2) (x := a0) rfl rfl (dl_at t_X9_read 88 rfl) ?_
        refine g_aload_n (pc := 142) X (j := 1) (i := 1) (q := 3) (x := a1) rfl rfl (dl_at t_X9_read 89 rfl) ?_
        refine g_iload_n (pc := 143) X (j := 3) (i := 3) (q := 1) (x := x3_12) rfl rfl (dl_at t_X9_read 90 rfl) ?_
        refine g_iload (pc := 144) X (i := 4) (q := 0) (x := v21) rfl (dl_at t_X9_read 91 rfl) ?_
        refine r_callTv (pc := 146) X (fun _ hv => s_X9_pattern k21 r3_12 g21 hv) cw_code q1941 q363 (in_Vk X (As := [rv D a1, iv x3_12, iv v21]) kX9 k21 (Or.inl q1938) q1940 qs28 cw_code q1941 ⟨by decide, by decide⟩ rfl (dl_at t_X9_read 92 rfl)) (dl_at t_X9_read 92 rfl) (cat24 (st := []) (Nat.le_of_ble_eq_true rfl)) (Nat.le_of_ble_eq_true rfl) (Nat.le_of_ble_eq_true rfl) (fun v146 h146 E146 => ?_) (fun _ _ ha _ => gt_at fun Q hQ => gt_out (Q := Q) X rfl ha (hno _) _ Q rfl hQ)
        refine g_ls (ls2 := [(0, rv D a0), (1, rv D a1), (2, iv a2), (4, iv v21)]) [2, 3, 4, 0] rfl ?_
        exact J149 (v21, h146) ⟨g21, E146⟩
      refine g_aload_n (pc := 130) X (j := 0) (i := 0) (q := 2) (x := a0) rfl rfl (dl_at t_X9_read 82 rfl) ?_
      refine g_aload_n (pc := 131) X (j := 1) (i := 1) (q := 3) (x := a1) rfl rfl (dl_at t_X9_read 83 rfl) ?_
      refine g_iload_n (pc := 132) X (j := 3) (i := 3) (q := 1) (x := x3_12) rfl rfl (dl_at t_X9_read 84 rfl) ?_
      refine g_iload (pc := 133) X (i := 4) (q := 0) (x := v21) rfl (dl_at t_X9_read 85 rfl) ?_
      refine r_callTv (pc := 135) X (fun _ hv => s_X9_exception k21 r3_12 g21 hv) cw_code q1929 q363 (in_Vk X (As := [rv D a1, iv x3_12, iv v21]) kX9 k21 (Or.inl q1926) q1928 qs26 cw_code q1929 ⟨by decide, by decide⟩ rfl (dl_at t_X9_read 86 rfl)) (dl_at t_X9_read 86 rfl) (cat24 (st := []) (Nat.le_of_ble_eq_true rfl)) (Nat.le_of_ble_eq_true rfl) (Nat.le_of_ble_eq_true rfl) (fun v135 h135 E135 => ?_) (fun _ _ ha _ => gt_at fun Q hQ => gt_out (Q := Q) X rfl ha (hno _) _ Q rfl hQ)
      refine g_goto (pc := 138) X (off := 11) (tgt := 149) rfl (dl_at t_X9_read 87 rfl) ?_
      refine g_ls (ls2 := [(0, rv D a0), (1, rv D a1), (2, iv a2), (4, iv v21)]) [2, 3, 4, 0] rfl ?_
      exact J149 (v21, h135) ⟨g21, E135⟩
    refine g_aload_n (pc := 37) X (j := 0) (i := 0) (q := 2) (x := a0) rfl rfl (dl_at t_X9_read 23 rfl) ?_
    refine g_aload_n (pc := 38) X (j := 1) (i := 1) (q := 3) (x := a1) rfl rfl (dl_at t_X9_read 24 rfl) ?_
    refine g_iload (pc := 39) X (i := 4) (q := 0) (x := v21) rfl (dl_at t_X9_read 25 rfl) ?_
    refine g_iload_n (pc := 41) X (j := 2) (i := 2) (q := 4) (x := a2) rfl rfl (dl_at t_X9_read 26 rfl) ?_
    refine r_callRi (pc := 42) X (fun _ hv => s_X9_skip k21 g21 r2 hv) cw_code q1911 q363 (in_Vk X (As := [rv D a1, iv v21, iv a2]) kX9 k21 (Or.inl q1908) q1910 qs23 cw_code q1911 ⟨by decide, by decide⟩ rfl (dl_at t_X9_read 27 rfl)) (dl_at t_X9_read 27 rfl) (cat24 (st := []) (Nat.le_of_ble_eq_true rfl)) (Nat.le_of_ble_eq_true rfl) (Nat.le_of_ble_eq_true rfl) fun v42 g42 => ?_
    refine g_istore_nN (pc := 45) X (j := 3) (i := 3) (x := v42) (b := 2) (w := iv a2) (rest := [(0, rv D a0), (1, rv D a1)]) rfl (Nat.le_of_ble_eq_true rfl) [4, 2, 3] rfl (by decide) rfl rfl (dl_at t_X9_read 28 rfl) ?_
    refine g_aload_n (pc := 46) X (j := 0) (i := 0) (q := 2) (x := a0) rfl rfl (dl_at t_X9_read 29 rfl) ?_
    refine g_aload_n (pc := 47) X (j := 1) (i := 1) (q := 3) (x := a1) rfl rfl (dl_at t_X9_read 30 rfl) ?_
    refine g_iload_n (pc := 48) X (j := 3) (i := 3) (q := 0) (x := v42) rfl rfl (dl_at t_X9_read 31 rfl) ?_
    refine g_iload_n (pc := 49) X (j := 2) (i := 2) (q := 1) (x := a2) rfl rfl (dl_at t_X9_read 32 rfl) ?_
    refine r_callRi (pc := 50) X (fun _ hv => s_X9_wordEnd k21 g42 r2 hv) cw_code q1916 q363 (in_Vk X (As := [rv D a1, iv v42, iv a2]) kX9 k21 (Or.inl q1913) q1915 qs24 cw_code q1916 ⟨by decide, by decide⟩ rfl (dl_at t_X9_read 33 rfl)) (dl_at t_X9_read 33 rfl) (cat24 (st := []) (Nat.le_of_ble_eq_true rfl)) (Nat.le_of_ble_eq_true rfl) (Nat.le_of_ble_eq_true rfl) fun v50 g50 => ?_
    refine g_istoreN (pc := 53) X (i := 4) (x := v50) (b := 3) (w := iv v42) (rest := [(2, iv a2), (0, rv D a0), (1, rv D a1)]) (Nat.le_of_ble_eq_true rfl) [0, 1, 2, 3] rfl (by decide) rfl rfl (dl_at t_X9_read 34 rfl) ?_
    refine g_iload_n (pc := 55) X (j := 3) (i := 3) (q := 1) (x := v42) rfl rfl (dl_at t_X9_read 35 rfl) ?_
    refine g_iload_n (pc := 56) X (j := 2) (i := 2) (q := 2) (x := a2) rfl rfl (dl_at t_X9_read 36 rfl) ?_
    refine g_icmpeq (pc := 57) X g42 r2 (off := 31) (tgt := 88) rfl (dl_at t_X9_read 37 rfl) (fun _ => ?_) (fun _ => ?_)
    · refine r_new (pc := 88) X kX26 q1924 (dl_at t_X9_read 55 rfl) fun a88 h88 p88 k88 E88 => ?_
      refine g_dup (pc := 91) X rv_cat (dl_at t_X9_read 56 rfl) ?_
      refine g_iload_n (pc := 92) X (j := 3) (i := 3) (q := 1) (x := v42) rfl rfl (dl_at t_X9_read 57 rfl) ?_
      refine r_callV (pc := 93) X (fun _ hv => sx_ScholarsPress_Broken_init_I_V k88 g42 hv) cw_code q1839 q391 (in_I X (As := [iv v42]) (Int.ne_of_gt p88) rfl (Or.inr ⟨_, nw_in q1925 rfl⟩) q1838 q1839 ⟨by decide, by decide⟩ rfl (dl_at t_X9_read 58 rfl)) (dl_at t_X9_read 58 rfl) (cat24 (st := [rv D a88]) (Nat.le_of_ble_eq_true rfl)) (Nat.le_of_ble_eq_true rfl) (Nat.le_of_ble_eq_true rfl) fun h93 E93 => ?_
      refine g_athrow (pc := 96) X (Int.ne_of_gt p88) (dl_at t_X9_read 59 rfl) ?_
      exact gt_at fun Q hQ => gt_out (Q := Q) X rfl p88 (hno _) _ Q rfl hQ
    refine g_iload (pc := 60) X (i := 4) (q := 0) (x := v50) rfl (dl_at t_X9_read 38 rfl) ?_
    refine g_iload_n (pc := 62) X (j := 3) (i := 3) (q := 1) (x := v42) rfl rfl (dl_at t_X9_read 39 rfl) ?_
    refine g_isub (pc := 63) X g50 g42 (dl_at t_X9_read 40 rfl) ?_
    refine g_iconst (pc := 64) X (n := 2) (dl_at t_X9_read 41 rfl) ?_
    refine g_icmpne (pc := 65) X (r32_w _) (r32_c rfl) (off := 23) (tgt := 88) rfl (dl_at t_X9_read 42 rfl) (fun _ => ?_) (fun _ => ?_)
    · refine r_new (pc := 88) X kX26 q1924 (dl_at t_X9_read 55 rfl) fun a88_1 h88_1 p88_1 k88_1 E88_1 => ?_
      refine g_dup (pc := 91) X rv_cat (dl_at t_X9_read 56 rfl) ?_
      refine g_iload_n (pc := 92) X (j := 3) (i := 3) (q := 1) (x := v42) rfl rfl (dl_at t_X9_read 57 rfl) ?_
      refine r_callV (pc := 93) X (fun _ hv => sx_ScholarsPress_Broken_init_I_V k88_1 g42 hv) cw_code q1839 q391 (in_I X (As := [iv v42]) (Int.ne_of_gt p88_1) rfl (Or.inr ⟨_, nw_in q1925 rfl⟩) q1838 q1839 ⟨by decide, by decide⟩ rfl (dl_at t_X9_read 58 rfl)) (dl_at t_X9_read 58 rfl) (cat24 (st := [rv D a88_1]) (Nat.le_of_ble_eq_true rfl)) (Nat.le_of_ble_eq_true rfl) (Nat.le_of_ble_eq_true rfl) fun h93_1 E93_1 => ?_
      refine g_athrow (pc := 96) X (Int.ne_of_gt p88_1) (dl_at t_X9_read 59 rfl) ?_
      exact gt_at fun Q hQ => gt_out (Q := Q) X rfl p88_1 (hno _) _ Q rfl hQ
    refine g_aload_n (pc := 68) X (j := 1) (i := 1) (q := 4) (x := a1) rfl rfl (dl_at t_X9_read 43 rfl) ?_
    refine g_iload_n (pc := 69) X (j := 3) (i := 3) (q := 1) (x := v42) rfl rfl (dl_at t_X9_read 44 rfl) ?_
    refine g_gd fun k70 => ?_
    refine g_bald (pc := 70) X g42 k70 (dl_at t_X9_read 45 rfl) fun g70 => ?_
    refine r_callRz (pc := 71) X (fun _ hv => s_X9_isCount (r32_b g70) hv) cw_code q1923 q363 (in_Sc X (As := [iv (h_12 a1 v42)]) (Or.inl q1921) q1922 q363 q1923 ⟨by decide, by decide⟩ rfl (dl_at t_X9_read 46 rfl)) (dl_at t_X9_read 46 rfl) (cat24 (st := []) (Nat.le_of_ble_eq_true rfl)) (Nat.le_of_ble_eq_true rfl) (Nat.le_of_ble_eq_true rfl) fun v71 g71 => ?_
    refine g_ifeq (pc := 74) X (r32_z g71) (off := 14) (tgt := 88) rfl (dl_at t_X9_read 47 rfl) (fun _ => ?_) (fun _ => ?_)
    · refine r_new (pc := 88) X kX26 q1924 (dl_at t_X9_read 55 rfl) fun a88_2 h88_2 p88_2 k88_2 E88_2 => ?_
      refine g_dup (pc := 91) X rv_cat (dl_at t_X9_read 56 rfl) ?_
      refine g_iload_n (pc := 92) X (j := 3) (i := 3) (q := 1) (x := v42) rfl rfl (dl_at t_X9_read 57 rfl) ?_
      refine r_callV (pc := 93) X (fun _ hv => sx_ScholarsPress_Broken_init_I_V k88_2 g42 hv) cw_code q1839 q391 (in_I X (As := [iv v42]) (Int.ne_of_gt p88_2) rfl (Or.inr ⟨_, nw_in q1925 rfl⟩) q1838 q1839 ⟨by decide, by decide⟩ rfl (dl_at t_X9_read 58 rfl)) (dl_at t_X9_read 58 rfl) (cat24 (st := [rv D a88_2]) (Nat.le_of_ble_eq_true rfl)) (Nat.le_of_ble_eq_true rfl) (Nat.le_of_ble_eq_true rfl) fun h93_2 E93_2 => ?_
      refine g_athrow (pc := 96) X (Int.ne_of_gt p88_2) (dl_at t_X9_read 59 rfl) ?_
      exact gt_at fun Q hQ => gt_out (Q := Q) X rfl p88_2 (hno _) _ Q rfl hQ
    refine g_aload_n (pc := 77) X (j := 1) (i := 1) (q := 4) (x := a1) rfl rfl (dl_at t_X9_read 48 rfl) ?_
    refine g_iload_n (pc := 78) X (j := 3) (i := 3) (q := 1) (x := v42) rfl rfl (dl_at t_X9_read 49 rfl) ?_
    refine g_iconst (pc := 79) X (n := 1) (dl_at t_X9_read 50 rfl) ?_
    refine g_iadd (pc := 80) X g42 (r32_c rfl) (dl_at t_X9_read 51 rfl) ?_
    refine g_gd fun k81 => ?_
    refine g_bald (pc := 81) X (r32_w _) k81 (dl_at t_X9_read 52 rfl) fun g81 => ?_
    refine r_callRz (pc := 82) X (fun _ hv => s_X9_isCount (r32_b g81) hv) cw_code q1923 q363 (in_Sc X (As := [iv (h_12 a1 (w32 (v42 + 1)))]) (Or.inl q1921) q1922 q363 q1923 ⟨by decide, by decide⟩ rfl (dl_at t_X9_read 53 rfl)) (dl_at t_X9_read 53 rfl) (cat24 (st := []) (Nat.le_of_ble_eq_true rfl)) (Nat.le_of_ble_eq_true rfl) (Nat.le_of_ble_eq_true rfl) fun v82 g82 => ?_
    refine g_ifne (pc := 85) X (r32_z g82) (off := 12) (tgt := 97) rfl (dl_at t_X9_read 54 rfl) (fun _ => ?_) (fun _ => ?_)
    · refine g_aload_n (pc := 97) X (j := 0) (i := 0) (q := 3) (x := a0) rfl rfl (dl_at t_X9_read 60 rfl) ?_
      refine g_aload_n (pc := 98) X (j := 1) (i := 1) (q := 4) (x := a1) rfl rfl (dl_at t_X9_read 61 rfl) ?_
      refine g_iload_n (pc := 99) X (j := 3) (i := 3) (q := 1) (x := v42) rfl rfl (dl_at t_X9_read 62 rfl) ?_
      refine g_bald (pc := 100) X g42 k70 (dl_at t_X9_read 63 rfl) fun g100 => ?_
      refine g_bipush (pc := 101) X (n := 48) rfl (dl_at t_X9_read 64 rfl) ?_
      refine g_isub (pc := 103) X (r32_b g100) (r32_c rfl) (dl_at t_X9_read 65 rfl) ?_
      refine r_puti (pc := 104) X fX9_0 k21 q893 rfl (dl_at t_X9_read 66 rfl) (r32_w _) (fun h104 E104 => ?_)
      refine g_aload_n (pc := 107) X (j := 0) (i := 0) (q := 3) (x := a0) rfl rfl (dl_at t_X9_read 67 rfl) ?_
      refine g_aload_n (pc := 108) X (j := 1) (i := 1) (q := 4) (x := a1) rfl rfl (dl_at t_X9_read 68 rfl) ?_
      refine g_iload_n (pc := 109) X (j := 3) (i := 3) (q := 1) (x := v42) rfl rfl (dl_at t_X9_read 69 rfl) ?_
      refine g_iconst (pc := 110) X (n := 1) (dl_at t_X9_read 70 rfl) ?_
      refine g_iadd (pc := 111) X g42 (r32_c rfl) (dl_at t_X9_read 71 rfl) ?_
      have k112 := ka E104 (by decide) k81
      refine g_bald (pc := 112) X (r32_w _) k112 (dl_at t_X9_read 72 rfl) fun g112 => ?_
      refine g_bipush (pc := 113) X (n := 48) rfl (dl_at t_X9_read 73 rfl) ?_
      refine g_isub (pc := 115) X (r32_b g112) (r32_c rfl) (dl_at t_X9_read 74 rfl) ?_
      have k116 := kx E104 (by decide) k21
      refine r_puti (pc := 116) X fX9_1 k116 q894 rfl (dl_at t_X9_read 75 rfl) (r32_w _) (fun h116 E116 => ?_)
      refine g_goto (pc := 119) X (off := 30) (tgt := 149) rfl (dl_at t_X9_read 76 rfl) ?_
      refine g_ls (ls2 := [(0, rv D a0), (1, rv D a1), (2, iv a2), (4, iv v50)]) [3, 4, 2, 0] rfl ?_
      exact J149 (v50, h116) ⟨g50, (E104.trans E116)⟩
    refine r_new (pc := 88) X kX26 q1924 (dl_at t_X9_read 55 rfl) fun a88_3 h88_3 p88_3 k88_3 E88_3 => ?_
    refine g_dup (pc := 91) X rv_cat (dl_at t_X9_read 56 rfl) ?_
    refine g_iload_n (pc := 92) X (j := 3) (i := 3) (q := 1) (x := v42) rfl rfl (dl_at t_X9_read 57 rfl) ?_
    refine r_callV (pc := 93) X (fun _ hv => sx_ScholarsPress_Broken_init_I_V k88_3 g42 hv) cw_code q1839 q391 (in_I X (As := [iv v42]) (Int.ne_of_gt p88_3) rfl (Or.inr ⟨_, nw_in q1925 rfl⟩) q1838 q1839 ⟨by decide, by decide⟩ rfl (dl_at t_X9_read 58 rfl)) (dl_at t_X9_read 58 rfl) (cat24 (st := [rv D a88_3]) (Nat.le_of_ble_eq_true rfl)) (Nat.le_of_ble_eq_true rfl) (Nat.le_of_ble_eq_true rfl) fun h93_3 E93_3 => ?_
    refine g_athrow (pc := 96) X (Int.ne_of_gt p88_3) (dl_at t_X9_read 59 rfl) ?_
    exact gt_at fun Q hQ => gt_out (Q := Q) X rfl p88_3 (hno _) _ Q rfl hQ
def k_X1_hyphens : List (Nat × Instr × Nat) := [(0, .aload_n 0, 1), (1, .invokevirtual 143, 3), (4, .istore_n 1, 1), (5, .aload_n 0, 1), (6, .getfield 77, 3), (9, .aload_n 0, 1), (10, .getfield 22, 3), (13, .iload_n 1, 1), (14, .invokevirtual 161, 3), (17, .goto 10, 3), (20, .astore_n 2, 1), (21, .aload_n 0, 1), (22, .aload_n 2, 1), (23, .invokevirtual 154, 3), (26, .athrow, 1), (27, .aload_n 0, 1), (28, .getfield 73, 3), (31, .astore_n 2, 1), (32, .aload_n 0, 1), (33, .aload_n 0, 1), (34, .getfield 77, 3), (37, .putfield 73, 3), (40, .aload_n 0, 1), (41, .aload_n 2, 1), (42, .putfield 77, 3), (45, .aload_n 0, 1), (46, .getfield 73, 3), (49, .getfield 164, 3), (52, .aload_n 0, 1), (53, .getfield 73, 3), (56, .getfield 166, 3), (59, .iadd, 1), (60, .ireturn, 1)]
theorem t_X1_hyphens : ∀ q ∈ k_X1_hyphens, decode cX1_hyphens q.1 = .ok q.2 := dl_all (by decide +kernel)
noncomputable def m_X1_hyphens (a0 : Int) (h : Hp) : Option ((Int × Int) × Hp) :=
  bW (m_X1_take a0 h) fun v1 h1 =>
  gd (h1 (h1 a0 10) (-2) = 144) (bT (m_X9_read (h1 a0 10) (h1 a0 0) v1 h1) (fun _ h14_1 =>
  lt_ (h14_1 a0 9) fun x2_31 =>
  pt h14_1 a0 9 (h14_1 a0 10) fun h37 =>
  pt h37 a0 10 x2_31 fun h42 =>
  gd (h42 (h42 a0 9) (-2) = 144) (some ((0, (w32 ((h42 (h42 a0 9) 10) + (h42 (h42 a0 9) 14)))), h42))) (fun a14 h14 => if h14 a14 (-2) = 432 then (bW (m_X1_broken a0 a14 h14) fun v23 h23 =>
  gd (0 < v23) (some ((1, v23), h23)))
  else (none)))
theorem s_X1_hyphens {l : Launch} [NoTr l] {D : SD} {a0 : Int} {h : Hp} (hk : h a0 (-2) = 16) {r : (Int × Int) × Hp} (hm : m_X1_hyphens a0 h = some r) : Sim l D yX1_hyphens (Cond.codeWith yX1_hyphens cX1_hyphens 3 (Option.some Jvm.ClassFile.FieldType.int) [((5 : Nat), (17 : Nat), (20 : Nat), (138 : Nat))]) 11 424 [rv D a0] h 1 r := by
  refine Sim.of (fin := fun (v : (Int × Int) × Hp) => v) (lsE := [(0, rv D a0)]) hm rfl cwS_with (la_r la_n) (ll_r ll_n) ?_
  intro p e s m below meth c X hcw hmm hcc hnm hname
  have htb := tabW hcw hnm hmm hcc
  unfold m_X1_hyphens
  refine g_aload_n (pc := 0) X (j := 0) (i := 0) (q := 0) (x := a0) rfl rfl (dl_at t_X1_hyphens 0 rfl) ?_
  refine r_callWi (pc := 1) X (fun _ hv => s_X1_take hk hv) cw_code q1717 q355 (in_Vk X (As := []) kX1 hk (Or.inl q1714) q1716 qs6 cw_code q1717 ⟨by decide, by decide⟩ rfl (dl_at t_X1_hyphens 1 rfl)) (dl_at t_X1_hyphens 1 rfl) (cat24 (st := []) (Nat.le_of_ble_eq_true rfl)) (Nat.le_of_ble_eq_true rfl) (Nat.le_of_ble_eq_true rfl) fun v1 h1 g1 E1 => ?_
  refine g_istore_nN (pc := 4) X (j := 1) (i := 1) (x := v1) (b := 0) (w := rv D a0) (rest := []) rfl (Nat.le_of_ble_eq_true rfl) [0] rfl (by decide) rv_cat rfl (dl_at t_X1_hyphens 2 rfl) ?_
  refine g_aload_n (pc := 5) X (j := 0) (i := 0) (q := 1) (x := a0) rfl rfl (dl_at t_X1_hyphens 3 rfl) ?_
  have k6 := kx E1 (by decide) hk
  refine r_getr (pc := 6) X fX1_10 k6 q1498 (dl_at t_X1_hyphens 4 rfl) ?_
  refine g_aload_n (pc := 9) X (j := 0) (i := 0) (q := 1) (x := a0) rfl rfl (dl_at t_X1_hyphens 5 rfl) ?_
  refine r_getr (pc := 10) X fX1_0 k6 q1488 (dl_at t_X1_hyphens 6 rfl) ?_
  refine g_iload_n (pc := 13) X (j := 1) (i := 1) (q := 0) (x := v1) rfl rfl (dl_at t_X1_hyphens 7 rfl) ?_
  refine g_gd fun k14 => ?_
  refine r_callTv (pc := 14) X (fun _ hv => s_X9_read k14 g1 hv) cw_code q1907 q363 (in_Vk X (As := [rv D (h1 a0 0), iv v1]) kX9 k14 (Or.inr ⟨_, nw_in q1904 rfl⟩) q1906 qs22 cw_code q1907 ⟨by decide, by decide⟩ rfl (dl_at t_X1_hyphens 8 rfl)) (dl_at t_X1_hyphens 8 rfl) (cat24 (st := []) (Nat.le_of_ble_eq_true rfl)) (Nat.le_of_ble_eq_true rfl) (Nat.le_of_ble_eq_true rfl) (fun v14 h14_1 E14_1 => ?_) (fun a14 h14 p14 E14 => ?_)
  · refine g_goto (pc := 17) X (off := 10) (tgt := 27) rfl (dl_at t_X1_hyphens 9 rfl) ?_
    refine g_aload_n (pc := 27) X (j := 0) (i := 0) (q := 1) (x := a0) rfl rfl (dl_at t_X1_hyphens 15 rfl) ?_
    have k28 := kx E14_1 (by decide) k6
    refine r_getr (pc := 28) X fX1_9 k28 q1497 (dl_at t_X1_hyphens 16 rfl) ?_
    refine g_ltr fun x2_31 => ?_
    refine g_astore_n (pc := 31) X (j := 2) (i := 2) (x := x2_31) (rest := [(0, rv D a0)]) rfl (Nat.le_of_ble_eq_true rfl) [1] rfl rfl (dl_at t_X1_hyphens 17 rfl) ?_
    refine g_aload_n (pc := 32) X (j := 0) (i := 0) (q := 1) (x := a0) rfl rfl (dl_at t_X1_hyphens 18 rfl) ?_
    refine g_aload_n (pc := 33) X (j := 0) (i := 0) (q := 1) (x := a0) rfl rfl (dl_at t_X1_hyphens 19 rfl) ?_
    refine r_getr (pc := 34) X fX1_10 k28 q1498 (dl_at t_X1_hyphens 20 rfl) ?_
    refine r_putr (pc := 37) X fX1_9 k28 q1497 rfl (dl_at t_X1_hyphens 21 rfl)  (fun h37 E37 => ?_)
    refine g_aload_n (pc := 40) X (j := 0) (i := 0) (q := 1) (x := a0) rfl rfl (dl_at t_X1_hyphens 22 rfl) ?_
    refine g_aload_n (pc := 41) X (j := 2) (i := 2) (q := 0) (x := x2_31) rfl rfl (dl_at t_X1_hyphens 23 rfl) ?_
    have k42 := kx E37 (by decide) k28
    refine r_putr (pc := 42) X fX1_10 k42 q1498 rfl (dl_at t_X1_hyphens 24 rfl)  (fun h42 E42 => ?_)
    refine g_aload_n (pc := 45) X (j := 0) (i := 0) (q := 1) (x := a0) rfl rfl (dl_at t_X1_hyphens 25 rfl) ?_
    have k46 := kx E42 (by decide) k42
    refine r_getr (pc := 46) X fX1_9 k46 q1497 (dl_at t_X1_hyphens 26 rfl) ?_
    refine g_gd fun k49 => ?_
    refine r_getiN (pc := 49) X fX9_10 k49 (nw_in q904 rfl) (dl_at t_X1_hyphens 27 rfl) fun g49 => ?_
    refine g_aload_n (pc := 52) X (j := 0) (i := 0) (q := 1) (x := a0) rfl rfl (dl_at t_X1_hyphens 28 rfl) ?_
    refine r_getr (pc := 53) X fX1_9 k46 q1497 (dl_at t_X1_hyphens 29 rfl) ?_
    refine r_getiN (pc := 56) X fX9_14 k49 (nw_in q909 rfl) (dl_at t_X1_hyphens 30 rfl) fun g56 => ?_
    refine g_iadd (pc := 59) X g49 g56 (dl_at t_X1_hyphens 31 rfl) ?_
    exact g_iret (pc := 60) X (r32_w _) rfl rfl (dl_at t_X1_hyphens 32 rfl)
  refine gt_case (fun k14_1 => ?_) (fun _ => ?_)
  · refine gt_catch (pc := 14) X kX26 k14_1 [((5, 17, 20, 138), "ScholarsPress$Broken", true)] (hp := 20) rfl (by decide +kernel) (List.forall_mem_cons.mpr ⟨⟨q1713, by decide⟩, fun _ h => absurd h List.not_mem_nil⟩) htb ?_
    refine g_astore_n (pc := 20) X (j := 2) (i := 2) (x := a14) (rest := [(0, rv D a0)]) rfl (Nat.le_of_ble_eq_true rfl) [1] rfl rfl (dl_at t_X1_hyphens 10 rfl) ?_
    refine g_aload_n (pc := 21) X (j := 0) (i := 0) (q := 1) (x := a0) rfl rfl (dl_at t_X1_hyphens 11 rfl) ?_
    refine g_aload_n (pc := 22) X (j := 2) (i := 2) (q := 0) (x := a14) rfl rfl (dl_at t_X1_hyphens 12 rfl) ?_
    have k23 := kx E14 (by decide) k6
    refine r_callWr (pc := 23) X (fun _ hv => s_X1_broken k23 hv) cw_code q1881 q355 (in_Vk X (As := [rv D a14]) kX1 k23 (Or.inl q1878) q1880 qs21 cw_code q1881 ⟨by decide, by decide⟩ rfl (dl_at t_X1_hyphens 13 rfl)) (dl_at t_X1_hyphens 13 rfl) (cat24 (st := []) (Nat.le_of_ble_eq_true rfl)) (Nat.le_of_ble_eq_true rfl) (Nat.le_of_ble_eq_true rfl) fun v23 h23 E23 => ?_
    refine g_gd fun p26 => ?_
    refine g_athrow (pc := 26) X (Int.ne_of_gt p26) (dl_at t_X1_hyphens 14 rfl) ?_
    exact gt_at fun Q hQ => gt_out (Q := Q) X rfl p26 (noc (pc := 26) htb rfl) _ Q rfl hQ
  exact gt_none
def k_X0_hyphens : List (Nat × Instr × Nat) := [(0, .aload_n 1, 1), (1, .iconst 0, 1), (2, .aload_n 0, 1), (3, .invokevirtual 27, 3), (6, .i2l, 1), (7, .lastore, 1), (8, .goto 6, 3), (11, .astore_n 2, 1), (12, .iconst 1, 1), (13, .ireturn, 1), (14, .iconst 0, 1), (15, .ireturn, 1)]
theorem t_X0_hyphens : ∀ q ∈ k_X0_hyphens, decode cX0_hyphens q.1 = .ok q.2 := dl_all (by decide +kernel)
noncomputable def m_X0_hyphens (a0 a1 : Int) (h : Hp) : Option (Int × Hp) :=
  gd (h a0 (-2) = 16) (bT (m_X1_hyphens a0 h) (fun v3 h3_1 =>
  gd (h3_1 a1 (-2) % 16 = 4 ∧ (0 : Int) ≤ 0 ∧ 0 < h3_1 a1 (-1)) (pt h3_1 a1 0 v3 fun h7 =>
  some (0, h7))) (fun a3 h3 => if h3 a3 (-2) = 432 then (some (1, h3))
  else (if h3 a3 (-2) = 512 then (some (1, h3))
  else (none))))
theorem s_X0_hyphens {l : Launch} [NoTr l] {D : SD} {a0 a1 : Int} {h : Hp}  {r : Int × Hp} (hm : m_X0_hyphens a0 a1 h = some r) : Sim l D yX0_hyphens (Cond.codeWith yX0_hyphens cX0_hyphens 3 (Option.some Jvm.ClassFile.FieldType.int) [((0 : Nat), (8 : Nat), (11 : Nat), (25 : Nat))]) 12 462 [rv D a0, rv D a1] h 1 ((0, r.1), r.2) := by
  refine Sim.of (fin := fun (v : Int × Hp) => ((0, v.1), v.2)) (lsE := [(0, rv D a0), (1, rv D a1)]) hm rfl cwS_with (la_r (la_r la_n)) (ll_r (ll_r ll_n)) ?_
  intro p e s m below meth c X hcw hmm hcc hnm hname
  have htb := tabW hcw hnm hmm hcc
  unfold m_X0_hyphens
  refine g_aload_n (pc := 0) X (j := 1) (i := 1) (q := 1) (x := a1) rfl rfl (dl_at t_X0_hyphens 0 rfl) ?_
  refine g_iconst (pc := 1) X (n := 0) (dl_at t_X0_hyphens 1 rfl) ?_
  refine g_aload_n (pc := 2) X (j := 0) (i := 0) (q := 0) (x := a0) rfl rfl (dl_at t_X0_hyphens 2 rfl) ?_
  refine g_gd fun k3 => ?_
  refine r_callTi (pc := 3) X (fun _ hv => s_X1_hyphens k3 hv) cw_with q1903 q355 (in_Vk X (As := []) kX1 k3 (Or.inl q1900) q1901 q1902 cw_with q1903 ⟨by decide, by decide⟩ rfl (dl_at t_X0_hyphens 3 rfl)) (dl_at t_X0_hyphens 3 rfl) (cat24 (st := [iv 0, rv D a1]) (Nat.le_of_ble_eq_true rfl)) (Nat.le_of_ble_eq_true rfl) (Nat.le_of_ble_eq_true rfl) (fun v3 h3_1 g3 E3_1 => ?_) (fun a3 h3 p3 E3 => ?_)
  · refine g_i2l (pc := 6) X g3 (dl_at t_X0_hyphens 4 rfl) ?_
    refine g_gd fun k7 => ?_
    refine r_last (pc := 7) X (r32_c rfl) (r64_of g3) k7 (dl_at t_X0_hyphens 5 rfl) (fun h7 E7 => ?_)
    refine g_goto (pc := 8) X (off := 6) (tgt := 14) rfl (dl_at t_X0_hyphens 6 rfl) ?_
    refine g_iconst (pc := 14) X (n := 0) (dl_at t_X0_hyphens 10 rfl) ?_
    exact g_iret (pc := 15) X (r32_c rfl) rfl rfl (dl_at t_X0_hyphens 11 rfl)
  refine gt_case (fun k3_1 => ?_) (fun _ => ?_)
  · refine gt_catch (pc := 3) X kX26 k3_1 [((0, 8, 11, 25), "java/lang/UnsupportedOperationException", true)] (hp := 11) rfl (by decide +kernel) (List.forall_mem_cons.mpr ⟨⟨q1708, by decide⟩, fun _ h => absurd h List.not_mem_nil⟩) htb ?_
    refine g_astore_n (pc := 11) X (j := 2) (i := 2) (x := a3) (rest := []) rfl (Nat.le_of_ble_eq_true rfl) [] rfl rfl (dl_at t_X0_hyphens 7 rfl) ?_
    refine g_iconst (pc := 12) X (n := 1) (dl_at t_X0_hyphens 8 rfl) ?_
    exact g_iret (pc := 13) X (r32_c rfl) rfl rfl (dl_at t_X0_hyphens 9 rfl)
  refine gt_case (fun k3_2 => ?_) (fun _ => ?_)
  · refine gt_catch (pc := 3) X kJ10 k3_2 [((0, 8, 11, 25), "java/lang/UnsupportedOperationException", true)] (hp := 11) rfl (by decide +kernel) (List.forall_mem_cons.mpr ⟨⟨q1708, by decide⟩, fun _ h => absurd h List.not_mem_nil⟩) htb ?_
    refine g_astore_n (pc := 11) X (j := 2) (i := 2) (x := a3) (rest := []) rfl (Nat.le_of_ble_eq_true rfl) [] rfl rfl (dl_at t_X0_hyphens 7 rfl) ?_
    refine g_iconst (pc := 12) X (n := 1) (dl_at t_X0_hyphens 8 rfl) ?_
    exact g_iret (pc := 13) X (r32_c rfl) rfl rfl (dl_at t_X0_hyphens 9 rfl)
  exact gt_none
def k_X4_clear : List (Nat × Instr × Nat) := [(0, .aload_n 0, 1), (1, .iconst 0, 1), (2, .putfield 28, 3), (5, .aload_n 0, 1), (6, .iconst 0, 1), (7, .putfield 32, 3), (10, .iconst 0, 1), (11, .istore_n 1, 1), (12, .iload_n 1, 1), (13, .aload_n 0, 1), (14, .getfield 15, 3), (17, .arraylength, 1), (18, .if_icmp .ge 16, 3), (21, .aload_n 0, 1), (22, .getfield 15, 3), (25, .iload_n 1, 1), (26, .iconst (-1), 1), (27, .iastore, 1), (28, .iinc 1 1, 3), (31, .goto (-19), 3), (34, .return_, 1)]
theorem t_X4_clear : ∀ q ∈ k_X4_clear, decode cX4_clear q.1 = .ok q.2 := dl_all (by decide +kernel)
noncomputable def m_X4_clear_l12 (a0 x1_12 : Int) (h_12 : Hp) : Option ((Int × Hp) ⊕ ((Hp))) :=
  gd (1 ≤ h_12 (h_12 a0 4) (-2) % 16 ∧ h_12 (h_12 a0 4) (-2) % 16 ≤ 9) (if (h_12 (h_12 a0 4) (-1)) ≤ x1_12 then (some (.inr h_12))
  else (gd (h_12 (h_12 a0 4) (-2) % 16 = 1 ∧ (0 : Int) ≤ x1_12 ∧ x1_12 < h_12 (h_12 a0 4) (-1)) (pt h_12 (h_12 a0 4) x1_12 (-1) fun h27 =>
  lt_ (w32 (x1_12 + 1)) fun x1_28 =>
  some (.inl (x1_28, h27)))))
noncomputable def m_X4_clear (a0 : Int) (h : Hp) : Option (Hp) :=
  pt h a0 1 0 fun h2 =>
  pt h2 a0 3 0 fun h7 =>
  lt_ 0 fun x1_11 =>
  (lp (fun (q : Int × Hp) => m_X4_clear_l12 a0 q.1 q.2) (x1_11, h7)).bind (fun (x : Hp) => some x)
theorem s_X4_clear {l : Launch} [NoTr l] {D : SD} {a0 : Int} {h : Hp} (hk : h a0 (-2) = 64) {r : Hp} (hm : m_X4_clear a0 h = some r) : Sim l D yX4_clear (Cond.code yX4_clear cX4_clear 2 (Option.none : Option Jvm.ClassFile.FieldType)) 0 0 [rv D a0] h 0 ((0, 0), r) := by
  refine Sim.of (fin := fun (v : Hp) => ((0, 0), v)) (lsE := [(0, rv D a0)]) hm rfl cwS_code (la_r la_n) (ll_r ll_n) ?_
  intro p e s m below meth c X hcw hmm hcc hnm hname
  unfold m_X4_clear
  refine g_aload_n (pc := 0) X (j := 0) (i := 0) (q := 0) (x := a0) rfl rfl (dl_at t_X4_clear 0 rfl) ?_
  refine g_iconst (pc := 1) X (n := 0) (dl_at t_X4_clear 1 rfl) ?_
  refine r_puti (pc := 2) X fX4_1 hk q469 rfl (dl_at t_X4_clear 2 rfl) (r32_c rfl) (fun h2 E2 => ?_)
  refine g_aload_n (pc := 5) X (j := 0) (i := 0) (q := 0) (x := a0) rfl rfl (dl_at t_X4_clear 3 rfl) ?_
  refine g_iconst (pc := 6) X (n := 0) (dl_at t_X4_clear 4 rfl) ?_
  have k7 := kx E2 (by decide) hk
  refine r_puti (pc := 7) X fX4_3 k7 q472 rfl (dl_at t_X4_clear 5 rfl) (r32_c rfl) (fun h7 E7 => ?_)
  refine g_iconst (pc := 10) X (n := 0) (dl_at t_X4_clear 6 rfl) ?_
  refine g_ltz (Or.inl rfl) fun x1_11 r1_11 => ?_
  refine g_istore_nN (pc := 11) X (j := 1) (i := 1) (x := x1_11) (b := 0) (w := rv D a0) (rest := []) rfl (Nat.le_of_ble_eq_true rfl) [0] rfl (by decide) rv_cat rfl (dl_at t_X4_clear 7 rfl) ?_
  refine g_ls (ls2 := [(0, rv D a0), (1, iv x1_11)]) [1, 0] rfl ?_
  refine g_loop0F (fun (q : Int × Hp) => [(0, rv D a0), (1, iv q.1)]) (fun (q : Int × Hp) => q.2) (fun (q : Int × Hp) => r32 q.1 ∧ Ext h7 q.2) (x1_11, h7) ⟨(r32_z r1_11), (Ext.refl _)⟩ ?_ (fun _ => rfl)
  · rintro ⟨x1_12, h_12⟩ ⟨r1_12, E_12⟩
    try dsimp only
    unfold m_X4_clear_l12
    refine g_iload_n (pc := 12) X (j := 1) (i := 1) (q := 1) (x := x1_12) rfl rfl (dl_at t_X4_clear 8 rfl) ?_
    refine g_aload_n (pc := 13) X (j := 0) (i := 0) (q := 0) (x := a0) rfl rfl (dl_at t_X4_clear 9 rfl) ?_
    have k14 := kx (E7.trans E_12) (by decide) k7
    refine r_getr (pc := 14) X fX4_4 k14 q477 (dl_at t_X4_clear 10 rfl) ?_
    refine g_gd fun k17 => ?_
    refine g_alen (pc := 17) X k17 (dl_at t_X4_clear 11 rfl) fun g17 => ?_
    refine g_icmpge (pc := 18) X r1_12 g17 (off := 16) (tgt := 34) rfl (dl_at t_X4_clear 12 rfl) (fun _ => ?_) (fun _ => ?_)
    · exact g_at fun Q hQ => (g_vret (pc := 34) X (v := 0) rfl rfl (dl_at t_X4_clear 20 rfl)) _ Q rfl hQ
    refine g_aload_n (pc := 21) X (j := 0) (i := 0) (q := 0) (x := a0) rfl rfl (dl_at t_X4_clear 13 rfl) ?_
    refine r_getr (pc := 22) X fX4_4 k14 q477 (dl_at t_X4_clear 14 rfl) ?_
    refine g_iload_n (pc := 25) X (j := 1) (i := 1) (q := 1) (x := x1_12) rfl rfl (dl_at t_X4_clear 15 rfl) ?_
    refine g_iconst (pc := 26) X (n := (-1)) (dl_at t_X4_clear 16 rfl) ?_
    refine g_gd fun k27 => ?_
    refine r_iast (pc := 27) X r1_12 (r32_c rfl) k27 (dl_at t_X4_clear 17 rfl) (fun h27 E27 => ?_)
    refine r_iincN (pc := 28) X (i := 1) (q := 1) (n := 1) (x := x1_12) (b := 0) (w := rv D a0) (rest := []) rfl r1_12 (r32_c rfl) (Nat.le_of_ble_eq_true rfl) [0] rfl (by decide) rv_cat rfl (dl_at t_X4_clear 18 rfl) fun x1_28 r1_28 => ?_
    refine g_goto (pc := 31) X (off := (-19)) (tgt := 12) rfl (dl_at t_X4_clear 19 rfl) ?_
    refine g_ls (ls2 := [(0, rv D a0), (1, iv x1_28)]) [1, 0] rfl ?_
    exact g_at fun Q hQ => hQ ⟨r1_28, (E_12.trans E27)⟩
def k_X3_clear : List (Nat × Instr × Nat) := [(0, .aload_n 0, 1), (1, .getfield 16, 3), (4, .invokevirtual 80, 3), (7, .aload_n 0, 1), (8, .getfield 20, 3), (11, .invokevirtual 80, 3), (14, .aload_n 0, 1), (15, .getfield 26, 3), (18, .iconst 0, 1), (19, .putfield 81, 3), (22, .aload_n 0, 1), (23, .iconst 0, 1), (24, .putfield 85, 3), (27, .aload_n 0, 1), (28, .iconst 0, 1), (29, .putfield 88, 3), (32, .aload_n 0, 1), (33, .iconst 0, 1), (34, .putfield 91, 3), (37, .aload_n 0, 1), (38, .iconst 0, 1), (39, .putfield 94, 3), (42, .aload_n 0, 1), (43, .iconst 0, 1), (44, .putfield 97, 3), (47, .aload_n 0, 1), (48, .ldc 100, 2), (50, .putfield 101, 3), (53, .aload_n 0, 1), (54, .ldc 104, 2), (56, .putfield 105, 3), (59, .aload_n 0, 1), (60, .iconst 1, 1), (61, .putfield 108, 3), (64, .aload_n 0, 1), (65, .sipush 10000, 3), (68, .putfield 111, 3), (71, .aload_n 0, 1), (72, .sipush 6000, 3), (75, .putfield 114, 3), (78, .aload_n 0, 1), (79, .iconst 0, 1), (80, .putfield 117, 3), (83, .return_, 1)]
theorem t_X3_clear : ∀ q ∈ k_X3_clear, decode cX3_clear q.1 = .ok q.2 := dl_all (by decide +kernel)
noncomputable def m_X3_clear (a0 : Int) (h : Hp) : Option (Hp) :=
  gd (h (h a0 0) (-2) = 64) ((m_X4_clear (h a0 0) h).bind fun h4 =>
  gd (h4 (h4 a0 1) (-2) = 64) ((m_X4_clear (h4 a0 1) h4).bind fun h11 =>
  gd (h11 (h11 a0 2) (-2) = 80) (pt h11 (h11 a0 2) 1 0 fun h19 =>
  pt h19 a0 6 0 fun h24 =>
  pt h24 a0 11 0 fun h29 =>
  pt h29 a0 15 0 fun h34 =>
  pt h34 a0 20 0 fun h39 =>
  pt h39 a0 22 0 fun h44 =>
  pt h44 a0 23 300000 fun h50 =>
  pt h50 a0 24 400000 fun h56 =>
  pt h56 a0 25 1 fun h61 =>
  pt h61 a0 26 10000 fun h68 =>
  pt h68 a0 27 6000 fun h75 =>
  pt h75 a0 28 0 fun h80 =>
  some h80)))
theorem s_X3_clear {l : Launch} [NoTr l] {D : SD} {a0 : Int} {h : Hp} (hk : h a0 (-2) = 48) {r : Hp} (hm : m_X3_clear a0 h = some r) : Sim l D yX3_clear (Cond.code yX3_clear cX3_clear 1 (Option.none : Option Jvm.ClassFile.FieldType)) 1 37 [rv D a0] h 0 ((0, 0), r) := by
  refine Sim.of (fin := fun (v : Hp) => ((0, 0), v)) (lsE := [(0, rv D a0)]) hm rfl cwS_code (la_r la_n) (ll_r ll_n) ?_
  intro p e s m below meth c X hcw hmm hcc hnm hname
  unfold m_X3_clear
  refine g_aload_n (pc := 0) X (j := 0) (i := 0) (q := 0) (x := a0) rfl rfl (dl_at t_X3_clear 0 rfl) ?_
  refine r_getr (pc := 1) X fX3_0 hk q522 (dl_at t_X3_clear 1 rfl) ?_
  refine g_gd fun k4 => ?_
  refine r_callV (pc := 4) X (fun _ hv => s_X4_clear k4 hv) cw_code q466 q358 (in_Vk X (As := []) kX4 k4 (Or.inr ⟨_, nw_in q519 rfl⟩) q465 qs0 cw_code q466 ⟨by decide, by decide⟩ rfl (dl_at t_X3_clear 2 rfl)) (dl_at t_X3_clear 2 rfl) (cat24 (st := []) (Nat.le_of_ble_eq_true rfl)) (Nat.le_of_ble_eq_true rfl) (Nat.le_of_ble_eq_true rfl) fun h4 E4 => ?_
  refine g_aload_n (pc := 7) X (j := 0) (i := 0) (q := 0) (x := a0) rfl rfl (dl_at t_X3_clear 3 rfl) ?_
  have k8 := kx E4 (by decide) hk
  refine r_getr (pc := 8) X fX3_1 k8 q524 (dl_at t_X3_clear 4 rfl) ?_
  refine g_gd fun k11 => ?_
  refine r_callV (pc := 11) X (fun _ hv => s_X4_clear k11 hv) cw_code q466 q358 (in_Vk X (As := []) kX4 k11 (Or.inr ⟨_, nw_in q519 rfl⟩) q465 qs0 cw_code q466 ⟨by decide, by decide⟩ rfl (dl_at t_X3_clear 5 rfl)) (dl_at t_X3_clear 5 rfl) (cat24 (st := []) (Nat.le_of_ble_eq_true rfl)) (Nat.le_of_ble_eq_true rfl) (Nat.le_of_ble_eq_true rfl) fun h11 E11 => ?_
  refine g_aload_n (pc := 14) X (j := 0) (i := 0) (q := 0) (x := a0) rfl rfl (dl_at t_X3_clear 6 rfl) ?_
  have k15 := kx E11 (by decide) k8
  refine r_getr (pc := 15) X fX3_2 k15 q525 (dl_at t_X3_clear 7 rfl) ?_
  refine g_iconst (pc := 18) X (n := 0) (dl_at t_X3_clear 8 rfl) ?_
  refine g_gd fun k19 => ?_
  refine r_putiN (pc := 19) X fX5_1 k19 (nw_in q505 rfl) rfl (dl_at t_X3_clear 9 rfl) (r32_c rfl) (fun h19 E19 => ?_)
  refine g_aload_n (pc := 22) X (j := 0) (i := 0) (q := 0) (x := a0) rfl rfl (dl_at t_X3_clear 10 rfl) ?_
  refine g_iconst (pc := 23) X (n := 0) (dl_at t_X3_clear 11 rfl) ?_
  have k24 := kx E19 (by decide) k15
  refine r_puti (pc := 24) X fX3_6 k24 q533 rfl (dl_at t_X3_clear 12 rfl) (r32_c rfl) (fun h24 E24 => ?_)
  refine g_aload_n (pc := 27) X (j := 0) (i := 0) (q := 0) (x := a0) rfl rfl (dl_at t_X3_clear 13 rfl) ?_
  refine g_iconst (pc := 28) X (n := 0) (dl_at t_X3_clear 14 rfl) ?_
  have k29 := kx E24 (by decide) k24
  refine r_puti (pc := 29) X fX3_11 k29 q542 rfl (dl_at t_X3_clear 15 rfl) (r32_c rfl) (fun h29 E29 => ?_)
  refine g_aload_n (pc := 32) X (j := 0) (i := 0) (q := 0) (x := a0) rfl rfl (dl_at t_X3_clear 16 rfl) ?_
  refine g_iconst (pc := 33) X (n := 0) (dl_at t_X3_clear 17 rfl) ?_
  have k34 := kx E29 (by decide) k29
  refine r_puti (pc := 34) X fX3_15 k34 q549 rfl (dl_at t_X3_clear 18 rfl) (r32_c rfl) (fun h34 E34 => ?_)
  refine g_aload_n (pc := 37) X (j := 0) (i := 0) (q := 0) (x := a0) rfl rfl (dl_at t_X3_clear 19 rfl) ?_
  refine g_iconst (pc := 38) X (n := 0) (dl_at t_X3_clear 20 rfl) ?_
  have k39 := kx E34 (by decide) k34
  refine r_puti (pc := 39) X fX3_20 k39 q560 rfl (dl_at t_X3_clear 21 rfl) (r32_c rfl) (fun h39 E39 => ?_)
  refine g_aload_n (pc := 42) X (j := 0) (i := 0) (q := 0) (x := a0) rfl rfl (dl_at t_X3_clear 22 rfl) ?_
  refine g_iconst (pc := 43) X (n := 0) (dl_at t_X3_clear 23 rfl) ?_
  have k44 := kx E39 (by decide) k39
  refine r_puti (pc := 44) X fX3_22 k44 q563 rfl (dl_at t_X3_clear 24 rfl) (r32_c rfl) (fun h44 E44 => ?_)
  refine g_aload_n (pc := 47) X (j := 0) (i := 0) (q := 0) (x := a0) rfl rfl (dl_at t_X3_clear 25 rfl) ?_
  refine g_ldc (pc := 48) X (index := 100) (n := 300000) q520 (dl_at t_X3_clear 26 rfl) ?_
  have k50 := kx E44 (by decide) k44
  refine r_puti (pc := 50) X fX3_23 k50 q564 rfl (dl_at t_X3_clear 27 rfl) (r32_c rfl) (fun h50 E50 => ?_)
  refine g_aload_n (pc := 53) X (j := 0) (i := 0) (q := 0) (x := a0) rfl rfl (dl_at t_X3_clear 28 rfl) ?_
  refine g_ldc (pc := 54) X (index := 104) (n := 400000) q521 (dl_at t_X3_clear 29 rfl) ?_
  have k56 := kx E50 (by decide) k50
  refine r_puti (pc := 56) X fX3_24 k56 q566 rfl (dl_at t_X3_clear 30 rfl) (r32_c rfl) (fun h56 E56 => ?_)
  refine g_aload_n (pc := 59) X (j := 0) (i := 0) (q := 0) (x := a0) rfl rfl (dl_at t_X3_clear 31 rfl) ?_
  refine g_iconst (pc := 60) X (n := 1) (dl_at t_X3_clear 32 rfl) ?_
  have k61 := kx E56 (by decide) k56
  refine r_puti (pc := 61) X fX3_25 k61 q568 rfl (dl_at t_X3_clear 33 rfl) (r32_c rfl) (fun h61 E61 => ?_)
  refine g_aload_n (pc := 64) X (j := 0) (i := 0) (q := 0) (x := a0) rfl rfl (dl_at t_X3_clear 34 rfl) ?_
  refine g_sipush (pc := 65) X (n := 10000) rfl (dl_at t_X3_clear 35 rfl) ?_
  have k68 := kx E61 (by decide) k61
  refine r_puti (pc := 68) X fX3_26 k68 q570 rfl (dl_at t_X3_clear 36 rfl) (r32_c rfl) (fun h68 E68 => ?_)
  refine g_aload_n (pc := 71) X (j := 0) (i := 0) (q := 0) (x := a0) rfl rfl (dl_at t_X3_clear 37 rfl) ?_
  refine g_sipush (pc := 72) X (n := 6000) rfl (dl_at t_X3_clear 38 rfl) ?_
  have k75 := kx E68 (by decide) k68
  refine r_puti (pc := 75) X fX3_27 k75 q572 rfl (dl_at t_X3_clear 39 rfl) (r32_c rfl) (fun h75 E75 => ?_)
  refine g_aload_n (pc := 78) X (j := 0) (i := 0) (q := 0) (x := a0) rfl rfl (dl_at t_X3_clear 40 rfl) ?_
  refine g_iconst (pc := 79) X (n := 0) (dl_at t_X3_clear 41 rfl) ?_
  have k80 := kx E75 (by decide) k75
  refine r_puti (pc := 80) X fX3_28 k80 q574 rfl (dl_at t_X3_clear 42 rfl) (r32_c rfl) (fun h80 E80 => ?_)
  exact g_vret (pc := 83) X (v := 0) rfl rfl (dl_at t_X3_clear 43 rfl)
def k_X2_needKind : List (Nat × Instr × Nat) := [(0, .aload_n 0, 1), (1, .getfield 36, 3), (4, .iload_n 1, 1), (5, .if_icmp .eq 8, 3), (8, .aload_n 0, 1), (9, .invokevirtual 85, 3), (12, .athrow, 1), (13, .return_, 1)]
theorem t_X2_needKind : ∀ q ∈ k_X2_needKind, decode cX2_needKind q.1 = .ok q.2 := dl_all (by decide +kernel)
noncomputable def m_X2_needKind (a0 a1 : Int) (h : Hp) : Option ((Int × Int) × Hp) :=
  if (h a0 3) = a1 then (some ((0, 0), h))
  else (bW (m_X2_broken a0 h) fun v9 h9 =>
  gd (0 < v9) (some ((1, v9), h9)))
theorem s_X2_needKind {l : Launch} [NoTr l] {D : SD} {a0 a1 : Int} {h : Hp} (hk : h a0 (-2) = 32) (r1 : r32 a1) {r : (Int × Int) × Hp} (hm : m_X2_needKind a0 a1 h = some r) : Sim l D yX2_needKind (Cond.code yX2_needKind cX2_needKind 2 (Option.none : Option Jvm.ClassFile.FieldType)) 10 373 [rv D a0, iv a1] h 0 r := by
  refine Sim.of (fin := fun (v : (Int × Int) × Hp) => v) (lsE := [(0, rv D a0), (1, iv a1)]) hm rfl cwS_code (la_r (la_i la_n)) (ll_r (ll_i ll_n)) ?_
  intro p e s m below meth c X hcw hmm hcc hnm hname
  have hno := noh hcw hnm hmm hcc
  unfold m_X2_needKind
  refine g_aload_n (pc := 0) X (j := 0) (i := 0) (q := 0) (x := a0) rfl rfl (dl_at t_X2_needKind 0 rfl) ?_
  refine r_geti (pc := 1) X fX2_3 hk q420 (dl_at t_X2_needKind 1 rfl) fun g1 => ?_
  refine g_iload_n (pc := 4) X (j := 1) (i := 1) (q := 1) (x := a1) rfl rfl (dl_at t_X2_needKind 2 rfl) ?_
  refine g_icmpeq (pc := 5) X g1 r1 (off := 8) (tgt := 13) rfl (dl_at t_X2_needKind 3 rfl) (fun _ => ?_) (fun _ => ?_)
  · exact g_vret (pc := 13) X (v := 0) rfl rfl (dl_at t_X2_needKind 7 rfl)
  refine g_aload_n (pc := 8) X (j := 0) (i := 0) (q := 0) (x := a0) rfl rfl (dl_at t_X2_needKind 4 rfl) ?_
  refine r_callWr (pc := 9) X (fun _ hv => s_X2_broken hk hv) cw_code q1825 q356 (in_Vk X (As := []) kX2 hk (Or.inl q1862) q1824 qs16 cw_code q1825 ⟨by decide, by decide⟩ rfl (dl_at t_X2_needKind 5 rfl)) (dl_at t_X2_needKind 5 rfl) (cat24 (st := []) (Nat.le_of_ble_eq_true rfl)) (Nat.le_of_ble_eq_true rfl) (Nat.le_of_ble_eq_true rfl) fun v9 h9 E9 => ?_
  refine g_gd fun p12 => ?_
  refine g_athrow (pc := 12) X (Int.ne_of_gt p12) (dl_at t_X2_needKind 6 rfl) ?_
  exact gt_at fun Q hQ => gt_out (Q := Q) X rfl p12 (hno _) _ Q rfl hQ
def k_X3_pageProperty : List (Nat × Instr × Nat) := [(0, .aload_n 0, 1), (1, .ldc 168, 2), (3, .invokevirtual 128, 3), (6, .ifCond .eq 7, 3), (9, .iconst 0, 1), (10, .goto 69, 3), (13, .aload_n 0, 1), (14, .ldc 169, 2), (16, .invokevirtual 128, 3), (19, .ifCond .eq 7, 3), (22, .iconst 1, 1), (23, .goto 56, 3), (26, .aload_n 0, 1), (27, .ldc 170, 2), (29, .invokevirtual 128, 3), (32, .ifCond .eq 7, 3), (35, .iconst 2, 1), (36, .goto 43, 3), (39, .aload_n 0, 1), (40, .ldc 171, 2), (42, .invokevirtual 128, 3), (45, .ifCond .eq 7, 3), (48, .iconst 3, 1), (49, .goto 30, 3), (52, .aload_n 0, 1), (53, .ldc 172, 2), (55, .invokevirtual 128, 3), (58, .ifCond .eq 7, 3), (61, .iconst 4, 1), (62, .goto 17, 3), (65, .aload_n 0, 1), (66, .ldc 173, 2), (68, .invokevirtual 128, 3), (71, .ifCond .eq 7, 3), (74, .iconst 5, 1), (75, .goto 4, 3), (78, .iconst (-1), 1), (79, .ireturn, 1)]
theorem t_X3_pageProperty : ∀ q ∈ k_X3_pageProperty, decode cX3_pageProperty q.1 = .ok q.2 := dl_all (by decide +kernel)
noncomputable def m_X3_pageProperty (a0 : Int) (h : Hp) : Option (Int) :=
  gd (h a0 (-2) = 32) ((m_X2_isName a0 (-23) h).bind fun v3 =>
  if v3 = 0 then ((m_X2_isName a0 (-24) h).bind fun v16 =>
  if v16 = 0 then ((m_X2_isName a0 (-25) h).bind fun v29 =>
  if v29 = 0 then ((m_X2_isName a0 (-26) h).bind fun v42 =>
  if v42 = 0 then ((m_X2_isName a0 (-27) h).bind fun v55 =>
  if v55 = 0 then ((m_X2_isName a0 (-28) h).bind fun v68 =>
  if v68 = 0 then (some (-1))
  else (some 5))
  else (some 4))
  else (some 3))
  else (some 2))
  else (some 1))
  else (some 0))
theorem s_X3_pageProperty {l : Launch} [NoTr l] {D : SD} {a0 : Int} {h : Hp}  {r : Int} (hm : m_X3_pageProperty a0 h = some r) : Sim l D yX3_pageProperty (Cond.code yX3_pageProperty cX3_pageProperty 1 (Option.some Jvm.ClassFile.FieldType.int)) 5 238 [rv D a0] h 1 ((0, r), h) := by
  refine Sim.of (fin := fun (v : Int) => ((0, v), h)) (lsE := [(0, rv D a0)]) hm rfl cwS_code (la_r la_n) (ll_r ll_n) ?_
  intro p e s m below meth c X hcw hmm hcc hnm hname
  unfold m_X3_pageProperty
  refine g_aload_n (pc := 0) X (j := 0) (i := 0) (q := 0) (x := a0) rfl rfl (dl_at t_X3_pageProperty 0 rfl) ?_
  refine g_ldcS (pc := 1) X (index := 168) (id := (-23)) 21 rfl rfl (dl_at t_X3_pageProperty 1 rfl) ?_
  refine g_gd fun k3 => ?_
  refine r_callRz (pc := 3) X (fun _ hv => s_X2_isName k3 hv) cw_code q1766 q356 (in_Vk X (As := [rv D (-23)]) kX2 k3 (Or.inr ⟨_, nw_in q1964 rfl⟩) q1765 qs15 cw_code q1766 ⟨by decide, by decide⟩ rfl (dl_at t_X3_pageProperty 2 rfl)) (dl_at t_X3_pageProperty 2 rfl) (cat24 (st := []) (Nat.le_of_ble_eq_true rfl)) (Nat.le_of_ble_eq_true rfl) (Nat.le_of_ble_eq_true rfl) fun v3 g3 => ?_
  refine g_ifeq (pc := 6) X (r32_z g3) (off := 7) (tgt := 13) rfl (dl_at t_X3_pageProperty 3 rfl) (fun _ => ?_) (fun _ => ?_)
  · refine g_aload_n (pc := 13) X (j := 0) (i := 0) (q := 0) (x := a0) rfl rfl (dl_at t_X3_pageProperty 6 rfl) ?_
    refine g_ldcS (pc := 14) X (index := 169) (id := (-24)) 22 rfl rfl (dl_at t_X3_pageProperty 7 rfl) ?_
    refine r_callRz (pc := 16) X (fun _ hv => s_X2_isName k3 hv) cw_code q1766 q356 (in_Vk X (As := [rv D (-24)]) kX2 k3 (Or.inr ⟨_, nw_in q1964 rfl⟩) q1765 qs15 cw_code q1766 ⟨by decide, by decide⟩ rfl (dl_at t_X3_pageProperty 8 rfl)) (dl_at t_X3_pageProperty 8 rfl) (cat24 (st := []) (Nat.le_of_ble_eq_true rfl)) (Nat.le_of_ble_eq_true rfl) (Nat.le_of_ble_eq_true rfl) fun v16 g16 => ?_
    refine g_ifeq (pc := 19) X (r32_z g16) (off := 7) (tgt := 26) rfl (dl_at t_X3_pageProperty 9 rfl) (fun _ => ?_) (fun _ => ?_)
    · refine g_aload_n (pc := 26) X (j := 0) (i := 0) (q := 0) (x := a0) rfl rfl (dl_at t_X3_pageProperty 12 rfl) ?_
      refine g_ldcS (pc := 27) X (index := 170) (id := (-25)) 23 rfl rfl (dl_at t_X3_pageProperty 13 rfl) ?_
      refine r_callRz (pc := 29) X (fun _ hv => s_X2_isName k3 hv) cw_code q1766 q356 (in_Vk X (As := [rv D (-25)]) kX2 k3 (Or.inr ⟨_, nw_in q1964 rfl⟩) q1765 qs15 cw_code q1766 ⟨by decide, by decide⟩ rfl (dl_at t_X3_pageProperty 14 rfl)) (dl_at t_X3_pageProperty 14 rfl) (cat24 (st := []) (Nat.le_of_ble_eq_true rfl)) (Nat.le_of_ble_eq_true rfl) (Nat.le_of_ble_eq_true rfl) fun v29 g29 => ?_
      refine g_ifeq (pc := 32) X (r32_z g29) (off := 7) (tgt := 39) rfl (dl_at t_X3_pageProperty 15 rfl) (fun _ => ?_) (fun _ => ?_)
      · refine g_aload_n (pc := 39) X (j := 0) (i := 0) (q := 0) (x := a0) rfl rfl (dl_at t_X3_pageProperty 18 rfl) ?_
        refine g_ldcS (pc := 40) X (index := 171) (id := (-26)) 24 rfl rfl (dl_at t_X3_pageProperty 19 rfl) ?_
        refine r_callRz (pc := 42) X (fun _ hv => s_X2_isName k3 hv) cw_code q1766 q356 (in_Vk X (As := [rv D (-26)]) kX2 k3 (Or.inr ⟨_, nw_in q1964 rfl⟩) q1765 qs15 cw_code q1766 ⟨by decide, by decide⟩ rfl (dl_at t_X3_pageProperty 20 rfl)) (dl_at t_X3_pageProperty 20 rfl) (cat24 (st := []) (Nat.le_of_ble_eq_true rfl)) (Nat.le_of_ble_eq_true rfl) (Nat.le_of_ble_eq_true rfl) fun v42 g42 => ?_
        refine g_ifeq (pc := 45) X (r32_z g42) (off := 7) (tgt := 52) rfl (dl_at t_X3_pageProperty 21 rfl) (fun _ => ?_) (fun _ => ?_)
        · refine g_aload_n (pc := 52) X (j := 0) (i := 0) (q := 0) (x := a0) rfl rfl (dl_at t_X3_pageProperty 24 rfl) ?_
          refine g_ldcS (pc := 53) X (index := 172) (id := (-27)) 25 rfl rfl (dl_at t_X3_pageProperty 25 rfl) ?_
          refine r_callRz (pc := 55) X (fun _ hv => s_X2_isName k3 hv) cw_code q1766 q356 (in_Vk X (As := [rv D (-27)]) kX2 k3 (Or.inr ⟨_, nw_in q1964 rfl⟩) q1765 qs15 cw_code q1766 ⟨by decide, by decide⟩ rfl (dl_at t_X3_pageProperty 26 rfl)) (dl_at t_X3_pageProperty 26 rfl) (cat24 (st := []) (Nat.le_of_ble_eq_true rfl)) (Nat.le_of_ble_eq_true rfl) (Nat.le_of_ble_eq_true rfl) fun v55 g55 => ?_
          refine g_ifeq (pc := 58) X (r32_z g55) (off := 7) (tgt := 65) rfl (dl_at t_X3_pageProperty 27 rfl) (fun _ => ?_) (fun _ => ?_)
          · refine g_aload_n (pc := 65) X (j := 0) (i := 0) (q := 0) (x := a0) rfl rfl (dl_at t_X3_pageProperty 30 rfl) ?_
            refine g_ldcS (pc := 66) X (index := 173) (id := (-28)) 26 rfl rfl (dl_at t_X3_pageProperty 31 rfl) ?_
            refine r_callRz (pc := 68) X (fun _ hv => s_X2_isName k3 hv) cw_code q1766 q356 (in_Vk X (As := [rv D (-28)]) kX2 k3 (Or.inr ⟨_, nw_in q1964 rfl⟩) q1765 qs15 cw_code q1766 ⟨by decide, by decide⟩ rfl (dl_at t_X3_pageProperty 32 rfl)) (dl_at t_X3_pageProperty 32 rfl) (cat24 (st := []) (Nat.le_of_ble_eq_true rfl)) (Nat.le_of_ble_eq_true rfl) (Nat.le_of_ble_eq_true rfl) fun v68 g68 => ?_
            refine g_ifeq (pc := 71) X (r32_z g68) (off := 7) (tgt := 78) rfl (dl_at t_X3_pageProperty 33 rfl) (fun _ => ?_) (fun _ => ?_)
            · refine g_iconst (pc := 78) X (n := (-1)) (dl_at t_X3_pageProperty 36 rfl) ?_
              exact g_iret (pc := 79) X (r32_c rfl) rfl rfl (dl_at t_X3_pageProperty 37 rfl)
            refine g_iconst (pc := 74) X (n := 5) (dl_at t_X3_pageProperty 34 rfl) ?_
            refine g_goto (pc := 75) X (off := 4) (tgt := 79) rfl (dl_at t_X3_pageProperty 35 rfl) ?_
            exact g_iret (pc := 79) X (r32_c rfl) rfl rfl (dl_at t_X3_pageProperty 37 rfl)
          refine g_iconst (pc := 61) X (n := 4) (dl_at t_X3_pageProperty 28 rfl) ?_
          refine g_goto (pc := 62) X (off := 17) (tgt := 79) rfl (dl_at t_X3_pageProperty 29 rfl) ?_
          exact g_iret (pc := 79) X (r32_c rfl) rfl rfl (dl_at t_X3_pageProperty 37 rfl)
        refine g_iconst (pc := 48) X (n := 3) (dl_at t_X3_pageProperty 22 rfl) ?_
        refine g_goto (pc := 49) X (off := 30) (tgt := 79) rfl (dl_at t_X3_pageProperty 23 rfl) ?_
        exact g_iret (pc := 79) X (r32_c rfl) rfl rfl (dl_at t_X3_pageProperty 37 rfl)
      refine g_iconst (pc := 35) X (n := 2) (dl_at t_X3_pageProperty 16 rfl) ?_
      refine g_goto (pc := 36) X (off := 43) (tgt := 79) rfl (dl_at t_X3_pageProperty 17 rfl) ?_
      exact g_iret (pc := 79) X (r32_c rfl) rfl rfl (dl_at t_X3_pageProperty 37 rfl)
    refine g_iconst (pc := 22) X (n := 1) (dl_at t_X3_pageProperty 10 rfl) ?_
    refine g_goto (pc := 23) X (off := 56) (tgt := 79) rfl (dl_at t_X3_pageProperty 11 rfl) ?_
    exact g_iret (pc := 79) X (r32_c rfl) rfl rfl (dl_at t_X3_pageProperty 37 rfl)
  refine g_iconst (pc := 9) X (n := 0) (dl_at t_X3_pageProperty 4 rfl) ?_
  refine g_goto (pc := 10) X (off := 69) (tgt := 79) rfl (dl_at t_X3_pageProperty 5 rfl) ?_
  exact g_iret (pc := 79) X (r32_c rfl) rfl rfl (dl_at t_X3_pageProperty 37 rfl)
def k_X3_page : List (Nat × Instr × Nat) := [(0, .aload_n 1, 1), (1, .bipush 123, 2), (3, .invokevirtual 140, 3), (6, .aload_n 1, 1), (7, .bipush 125, 2), (9, .invokevirtual 143, 3), (12, .ifCond .ne 210, 3), (15, .aload_n 1, 1), (16, .iconst 1, 1), (17, .invokevirtual 147, 3), (20, .aload_n 1, 1), (21, .invokestatic 150, 3), (24, .istore_n 2, 1), (25, .iload_n 2, 1), (26, .ifCond .ge 8, 3), (29, .aload_n 1, 1), (30, .invokevirtual 154, 3), (33, .athrow, 1), (34, .aload_n 1, 1), (35, .invokevirtual 132, 3), (38, .aload_n 1, 1), (39, .bipush 58, 2), (41, .invokevirtual 140, 3), (44, .iload_n 2, 1), (80, .aload_n 0, 1), (81, .aload_n 1, 1), (82, .sipush 10000, 3), (85, .ldc 158, 2), (87, .invokevirtual 159, 3), (90, .putfield 101, 3), (93, .goto 120, 3), (96, .aload_n 0, 1), (97, .aload_n 1, 1), (98, .sipush 10000, 3), (101, .ldc 158, 2), (103, .invokevirtual 159, 3), (106, .putfield 105, 3), (109, .goto 104, 3), (112, .aload_n 0, 1), (113, .aload_n 1, 1), (114, .iconst 1, 1), (115, .iconst 4, 1), (116, .invokevirtual 159, 3), (119, .putfield 108, 3), (122, .goto 91, 3), (125, .aload_n 0, 1), (126, .aload_n 1, 1), (127, .iconst 0, 1), (128, .ldc 163, 2), (130, .invokevirtual 159, 3), (133, .putfield 111, 3), (136, .goto 77, 3), (139, .aload_n 0, 1), (140, .aload_n 1, 1), (141, .iconst 0, 1), (142, .ldc 163, 2), (144, .invokevirtual 159, 3), (147, .putfield 114, 3), (150, .goto 63, 3), (153, .aload_n 0, 1), (154, .aload_n 1, 1), (155, .ldc 164, 2), (157, .invokevirtual 128, 3), (160, .ifCond .eq 7, 3), (163, .iconst 0, 1), (164, .goto 30, 3), (167, .aload_n 1, 1), (168, .ldc 126, 2), (170, .invokevirtual 128, 3), (173, .ifCond .eq 7, 3), (176, .iconst 1, 1), (177, .goto 17, 3), (180, .aload_n 1, 1), (181, .ldc 166, 2), (183, .invokevirtual 128, 3), (186, .ifCond .eq 7, 3), (189, .iconst 2, 1), (190, .goto 4, 3), (193, .iconst (-1), 1), (194, .putfield 117, 3), (197, .aload_n 0, 1), (198, .getfield 117, 3), (201, .ifCond .ge 8, 3), (204, .aload_n 1, 1), (205, .invokevirtual 154, 3), (208, .athrow, 1), (209, .aload_n 1, 1), (210, .invokevirtual 132, 3), (213, .aload_n 1, 1), (214, .bipush 59, 2), (216, .invokevirtual 140, 3), (219, .goto (-213), 3), (222, .return_, 1)]
theorem t_X3_page : ∀ q ∈ k_X3_page, decode cX3_page q.1 = .ok q.2 := dl_all (by decide +kernel)
theorem dS_X3_page_45 : decode cX3_page 45 = .ok (.tableswitch 108 0 4 #[35, 51, 67, 80, 94], 35) := by decide +kernel
noncomputable def m_X3_page_j213 (a1 : Int) (h_213 : Hp) : Option ((Hp) ⊕ (((Int × Int) × Hp))) :=
  bT (m_X2_need a1 59 h_213) (fun _ h216 =>
  some (.inl h216)) (fun a_ h_ => some (.inr ((1, a_), h_)))
noncomputable def m_X3_page_j194 (a1 a0 s1_194 : Int) (h41 : Hp) : Option ((Hp) ⊕ (((Int × Int) × Hp))) :=
  pt h41 a0 28 s1_194 fun h194 =>
  if 0 ≤ (h194 a0 28) then ((m_X2_next a1 h194).bind fun h210 =>
  m_X3_page_j213 a1 h210)
  else (bW (m_X2_broken a1 h194) fun v205 h205 =>
  gd (0 < v205) (some (.inr ((1, v205), h205))))
noncomputable def m_X3_page_l6 (a0 a1 : Int) (h_6 : Hp) : Option ((Hp) ⊕ (((Int × Int) × Hp))) :=
  bW (m_X2_take a1 125 h_6) fun v9 h9 =>
  if v9 ≠ 0 then (some (.inr ((0, 0), h9)))
  else (bT (m_X2_needKind a1 1 h9) (fun _ h17 =>
  (m_X3_pageProperty a1 h17).bind fun v21 =>
  if 0 ≤ v21 then ((m_X2_next a1 h17).bind fun h35 =>
  bT (m_X2_need a1 58 h35) (fun _ h41 =>
  if v21 = 0 then (bT (m_X2_needNumber a1 10000 1000000 h41) (fun v87 h87 =>
  pt h87 a0 23 v87 fun h90 =>
  m_X3_page_j213 a1 h90) (fun a_ h_ => some (.inr ((1, a_), h_))))
  else (if v21 = 1 then (bT (m_X2_needNumber a1 10000 1000000 h41) (fun v103 h103 =>
  pt h103 a0 24 v103 fun h106 =>
  m_X3_page_j213 a1 h106) (fun a_ h_ => some (.inr ((1, a_), h_))))
  else (if v21 = 2 then (bT (m_X2_needNumber a1 1 4 h41) (fun v116 h116 =>
  pt h116 a0 25 v116 fun h119 =>
  m_X3_page_j213 a1 h119) (fun a_ h_ => some (.inr ((1, a_), h_))))
  else (if v21 = 3 then (bT (m_X2_needNumber a1 0 100000 h41) (fun v130 h130 =>
  pt h130 a0 26 v130 fun h133 =>
  m_X3_page_j213 a1 h133) (fun a_ h_ => some (.inr ((1, a_), h_))))
  else (if v21 = 4 then (bT (m_X2_needNumber a1 0 100000 h41) (fun v144 h144 =>
  pt h144 a0 27 v144 fun h147 =>
  m_X3_page_j213 a1 h147) (fun a_ h_ => some (.inr ((1, a_), h_))))
  else ((m_X2_isName a1 (-21) h41).bind fun v157 =>
  if v157 = 0 then ((m_X2_isName a1 (-20) h41).bind fun v170 =>
  if v170 = 0 then ((m_X2_isName a1 (-22) h41).bind fun v183 =>
  if v183 = 0 then (m_X3_page_j194 a1 a0 (-1) h41)
  else (m_X3_page_j194 a1 a0 2 h41))
  else (m_X3_page_j194 a1 a0 1 h41))
  else (m_X3_page_j194 a1 a0 0 h41))))))) (fun a_ h_ => some (.inr ((1, a_), h_))))
  else (bW (m_X2_broken a1 h17) fun v30 h30 =>
  gd (0 < v30) (some (.inr ((1, v30), h30))))) (fun a_ h_ => some (.inr ((1, a_), h_))))
noncomputable def m_X3_page (a0 a1 : Int) (h : Hp) : Option ((Int × Int) × Hp) :=
  gd (h a1 (-2) = 32) (bT (m_X2_need a1 123 h) (fun _ h3 =>
  (lp (fun (q : Hp) => m_X3_page_l6 a0 a1 q) h3).bind (fun (x : (Int × Int) × Hp) => some x)) (fun a_ h_ => some ((1, a_), h_)))
theorem s_X3_page {l : Launch} [NoTr l] {D : SD} {a0 a1 : Int} {h : Hp} (hk : h a0 (-2) = 48) {r : (Int × Int) × Hp} (hm : m_X3_page a0 a1 h = some r) : Sim l D yX3_page (Cond.code yX3_page cX3_page 3 (Option.none : Option Jvm.ClassFile.FieldType)) 11 412 [rv D a0, rv D a1] h 0 r := by
  refine Sim.of (fin := fun (v : (Int × Int) × Hp) => v) (lsE := [(0, rv D a0), (1, rv D a1)]) hm rfl cwS_code (la_r (la_r la_n)) (ll_r (ll_r ll_n)) ?_
  intro p e s m below meth c X hcw hmm hcc hnm hname
  have hno := noh hcw hnm hmm hcc
  unfold m_X3_page
  refine g_aload_n (pc := 0) X (j := 1) (i := 1) (q := 1) (x := a1) rfl rfl (dl_at t_X3_page 0 rfl) ?_
  refine g_bipush (pc := 1) X (n := 123) rfl (dl_at t_X3_page 1 rfl) ?_
  refine g_gd fun k3 => ?_
  refine r_callTv (pc := 3) X (fun _ hv => s_X2_need k3 (r32_c rfl) hv) cw_code q1876 q356 (in_Vk X (As := [iv 123]) kX2 k3 (Or.inr ⟨_, nw_in q1970 rfl⟩) q1875 qs20 cw_code q1876 ⟨by decide, by decide⟩ rfl (dl_at t_X3_page 2 rfl)) (dl_at t_X3_page 2 rfl) (cat24 (st := []) (Nat.le_of_ble_eq_true rfl)) (Nat.le_of_ble_eq_true rfl) (Nat.le_of_ble_eq_true rfl) (fun v3 h3 E3 => ?_) (fun _ _ ha _ => gt_at fun Q hQ => gt_out (Q := Q) X rfl ha (hno _) _ Q rfl hQ)
  refine g_loop0F (fun (q : Hp) => [(0, rv D a0), (1, rv D a1)]) (fun (q : Hp) => q) (fun (q : Hp) => Ext h3 q) h3 (Ext.refl _) ?_ (fun _ => rfl)
  · rintro h_6 E_6
    try dsimp only
    unfold m_X3_page_l6
    refine g_aload_n (pc := 6) X (j := 1) (i := 1) (q := 1) (x := a1) rfl rfl (dl_at t_X3_page 3 rfl) ?_
    refine g_bipush (pc := 7) X (n := 125) rfl (dl_at t_X3_page 4 rfl) ?_
    have k9 := kx (E3.trans E_6) (by decide) k3
    refine r_callWz (pc := 9) X (fun _ hv => s_X2_take k9 (r32_c rfl) hv) cw_code q1867 q356 (in_Vk X (As := [iv 125]) kX2 k9 (Or.inr ⟨_, nw_in q1971 rfl⟩) q1866 qs18 cw_code q1867 ⟨by decide, by decide⟩ rfl (dl_at t_X3_page 5 rfl)) (dl_at t_X3_page 5 rfl) (cat24 (st := []) (Nat.le_of_ble_eq_true rfl)) (Nat.le_of_ble_eq_true rfl) (Nat.le_of_ble_eq_true rfl) fun v9 h9 g9 E9 => ?_
    refine g_ifne (pc := 12) X (r32_z g9) (off := 210) (tgt := 222) rfl (dl_at t_X3_page 6 rfl) (fun _ => ?_) (fun _ => ?_)
    · exact g_at fun Q hQ => (g_vret (pc := 222) X (v := 0) rfl rfl (dl_at t_X3_page 92 rfl)) _ Q rfl hQ
    refine g_aload_n (pc := 15) X (j := 1) (i := 1) (q := 1) (x := a1) rfl rfl (dl_at t_X3_page 7 rfl) ?_
    refine g_iconst (pc := 16) X (n := 1) (dl_at t_X3_page 8 rfl) ?_
    have k17 := kx E9 (by decide) k9
    refine r_callTv (pc := 17) X (fun _ hv => s_X2_needKind k17 (r32_c rfl) hv) cw_code q1975 q356 (in_Vk X (As := [iv 1]) kX2 k17 (Or.inr ⟨_, nw_in q1972 rfl⟩) q1974 qs33 cw_code q1975 ⟨by decide, by decide⟩ rfl (dl_at t_X3_page 9 rfl)) (dl_at t_X3_page 9 rfl) (cat24 (st := []) (Nat.le_of_ble_eq_true rfl)) (Nat.le_of_ble_eq_true rfl) (Nat.le_of_ble_eq_true rfl) (fun v17 h17 E17 => ?_) (fun _ _ ha _ => gt_at fun Q hQ => gt_out (Q := Q) X rfl ha (hno _) _ Q rfl hQ)
    refine g_aload_n (pc := 20) X (j := 1) (i := 1) (q := 1) (x := a1) rfl rfl (dl_at t_X3_page 10 rfl) ?_
    refine r_callRi (pc := 21) X (fun _ hv => s_X3_pageProperty hv) cw_code q1978 q357 (in_Sc X (As := [rv D a1]) (Or.inl q1976) q1977 q357 q1978 ⟨by decide, by decide⟩ rfl (dl_at t_X3_page 11 rfl)) (dl_at t_X3_page 11 rfl) (cat24 (st := []) (Nat.le_of_ble_eq_true rfl)) (Nat.le_of_ble_eq_true rfl) (Nat.le_of_ble_eq_true rfl) fun v21 g21 => ?_
    refine g_istore_nN (pc := 24) X (j := 2) (i := 2) (x := v21) (b := 1) (w := rv D a1) (rest := [(0, rv D a0)]) rfl (Nat.le_of_ble_eq_true rfl) [1, 0] rfl (by decide) rv_cat rfl (dl_at t_X3_page 12 rfl) ?_
    refine g_iload_n (pc := 25) X (j := 2) (i := 2) (q := 0) (x := v21) rfl rfl (dl_at t_X3_page 13 rfl) ?_
    refine g_ifge (pc := 26) X g21 (off := 8) (tgt := 34) rfl (dl_at t_X3_page 14 rfl) (fun _ => ?_) (fun _ => ?_)
    · refine g_aload_n (pc := 34) X (j := 1) (i := 1) (q := 1) (x := a1) rfl rfl (dl_at t_X3_page 18 rfl) ?_
      have k35 := kx E17 (by decide) k17
      refine r_callV (pc := 35) X (fun _ hv => s_X2_next k35 hv) cw_code q1725 q356 (in_Vk X (As := []) kX2 k35 (Or.inr ⟨_, nw_in q1965 rfl⟩) q1724 qs8 cw_code q1725 ⟨by decide, by decide⟩ rfl (dl_at t_X3_page 19 rfl)) (dl_at t_X3_page 19 rfl) (cat24 (st := []) (Nat.le_of_ble_eq_true rfl)) (Nat.le_of_ble_eq_true rfl) (Nat.le_of_ble_eq_true rfl) fun h35 E35 => ?_
      refine g_aload_n (pc := 38) X (j := 1) (i := 1) (q := 1) (x := a1) rfl rfl (dl_at t_X3_page 20 rfl) ?_
      refine g_bipush (pc := 39) X (n := 58) rfl (dl_at t_X3_page 21 rfl) ?_
      have k41 := kx E35 (by decide) k35
      refine r_callTv (pc := 41) X (fun _ hv => s_X2_need k41 (r32_c rfl) hv) cw_code q1876 q356 (in_Vk X (As := [iv 58]) kX2 k41 (Or.inr ⟨_, nw_in q1970 rfl⟩) q1875 qs20 cw_code q1876 ⟨by decide, by decide⟩ rfl (dl_at t_X3_page 22 rfl)) (dl_at t_X3_page 22 rfl) (cat24 (st := []) (Nat.le_of_ble_eq_true rfl)) (Nat.le_of_ble_eq_true rfl) (Nat.le_of_ble_eq_true rfl) (fun v41 h41 E41 => ?_) (fun _ _ ha _ => gt_at fun Q hQ => gt_out (Q := Q) X rfl ha (hno _) _ Q rfl hQ)
      refine g_iload_n (pc := 44) X (j := 2) (i := 2) (q := 0) (x := v21) rfl rfl (dl_at t_X3_page 23 rfl) ?_
      refine g_join (γ := Hp) (fun q => Ext h41 q) 213 (fun q => [(0, rv D a0), (1, rv D a1)]) (fun q => []) (fun q => q) (fun q => m_X3_page_j213 a1 q) ?_ ?_
      · rintro h_213 E_213
        try dsimp only
        unfold m_X3_page_j213
        refine g_aload_n (pc := 213) X (j := 1) (i := 1) (q := 1) (x := a1) rfl rfl (dl_at t_X3_page 88 rfl) ?_
        refine g_bipush (pc := 214) X (n := 59) rfl (dl_at t_X3_page 89 rfl) ?_
        have k216 := kx (E41.trans E_213) (by decide) k41
        refine r_callTv (pc := 216) X (fun _ hv => s_X2_need k216 (r32_c rfl) hv) cw_code q1876 q356 (in_Vk X (As := [iv 59]) kX2 k216 (Or.inr ⟨_, nw_in q1970 rfl⟩) q1875 qs20 cw_code q1876 ⟨by decide, by decide⟩ rfl (dl_at t_X3_page 90 rfl)) (dl_at t_X3_page 90 rfl) (cat24 (st := []) (Nat.le_of_ble_eq_true rfl)) (Nat.le_of_ble_eq_true rfl) (Nat.le_of_ble_eq_true rfl) (fun v216 h216 E216 => ?_) (fun _ _ ha _ => gt_at fun Q hQ => gt_out (Q := Q) X rfl ha (hno _) _ Q rfl hQ)
        refine g_goto (pc := 219) X (off := (-213)) (tgt := 6) rfl (dl_at t_X3_page 91 rfl) ?_
        exact g_at fun Q hQ => hQ (E_6.trans (E9.trans (E17.trans (E35.trans (E41.trans (E_213.trans E216))))))
      intro J213
      refine g_case (fun w45 => ?_) (fun nw45 => ?_)
      · refine g_tabIn (pc := 45) X (off := 35) (tgt := 80) g21 w45 (by decide) (by decide) rfl rfl dS_X3_page_45 ?_
        refine g_aload_n (pc := 80) X (j := 0) (i := 0) (q := 2) (x := a0) rfl rfl (dl_at t_X3_page 24 rfl) ?_
        refine g_aload_n (pc := 81) X (j := 1) (i := 1) (q := 1) (x := a1) rfl rfl (dl_at t_X3_page 25 rfl) ?_
        refine g_sipush (pc := 82) X (n := 10000) rfl (dl_at t_X3_page 26 rfl) ?_
        refine g_ldc (pc := 85) X (index := 158) (n := 1000000) q1986 (dl_at t_X3_page 27 rfl) ?_
        have k87 := kx E41 (by decide) k41
        refine r_callTi (pc := 87) X (fun _ hv => s_X2_needNumber k87 (r32_c rfl) (r32_c rfl) hv) cw_code q1861 q356 (in_Vk X (As := [iv 10000, iv 1000000]) kX2 k87 (Or.inr ⟨_, nw_in q1987 rfl⟩) q1860 qs17 cw_code q1861 ⟨by decide, by decide⟩ rfl (dl_at t_X3_page 28 rfl)) (dl_at t_X3_page 28 rfl) (cat24 (st := [rv D a0]) (Nat.le_of_ble_eq_true rfl)) (Nat.le_of_ble_eq_true rfl) (Nat.le_of_ble_eq_true rfl) (fun v87 h87 g87 E87 => ?_) (fun _ _ ha _ => gt_at fun Q hQ => gt_out (Q := Q) X rfl ha (hno _) _ Q rfl hQ)
        have k90 := kx (E3.trans (E_6.trans (E9.trans (E17.trans (E35.trans (E41.trans E87)))))) (by decide) hk
        refine r_puti (pc := 90) X fX3_23 k90 q564 rfl (dl_at t_X3_page 29 rfl) g87 (fun h90 E90 => ?_)
        refine g_goto (pc := 93) X (off := 120) (tgt := 213) rfl (dl_at t_X3_page 30 rfl) ?_
        refine g_ls (ls2 := [(0, rv D a0), (1, rv D a1)]) [2, 1] rfl ?_
        exact J213 h90 (E87.trans E90)
      refine g_case (fun w45_1 => ?_) (fun nw45_1 => ?_)
      · refine g_tabIn (pc := 45) X (off := 51) (tgt := 96) g21 w45_1 (by decide) (by decide) rfl rfl dS_X3_page_45 ?_
        refine g_aload_n (pc := 96) X (j := 0) (i := 0) (q := 2) (x := a0) rfl rfl (dl_at t_X3_page 31 rfl) ?_
        refine g_aload_n (pc := 97) X (j := 1) (i := 1) (q := 1) (x := a1) rfl rfl (dl_at t_X3_page 32 rfl) ?_
        refine g_sipush (pc := 98) X (n := 10000) rfl (dl_at t_X3_page 33 rfl) ?_
        refine g_ldc (pc := 101) X (index := 158) (n := 1000000) q1986 (dl_at t_X3_page 34 rfl) ?_
        have k103 := kx E41 (by decide) k41
        refine r_callTi (pc := 103) X (fun _ hv => s_X2_needNumber k103 (r32_c rfl) (r32_c rfl) hv) cw_code q1861 q356 (in_Vk X (As := [iv 10000, iv 1000000]) kX2 k103 (Or.inr ⟨_, nw_in q1987 rfl⟩) q1860 qs17 cw_code q1861 ⟨by decide, by decide⟩ rfl (dl_at t_X3_page 35 rfl)) (dl_at t_X3_page 35 rfl) (cat24 (st := [rv D a0]) (Nat.le_of_ble_eq_true rfl)) (Nat.le_of_ble_eq_true rfl) (Nat.le_of_ble_eq_true rfl) (fun v103 h103 g103 E103 => ?_) (fun _ _ ha _ => gt_at fun Q hQ => gt_out (Q := Q) X rfl ha (hno _) _ Q rfl hQ)
        have k106 := kx (E3.trans (E_6.trans (E9.trans (E17.trans (E35.trans (E41.trans E103)))))) (by decide) hk
        refine r_puti (pc := 106) X fX3_24 k106 q566 rfl (dl_at t_X3_page 36 rfl) g103 (fun h106 E106 => ?_)
        refine g_goto (pc := 109) X (off := 104) (tgt := 213) rfl (dl_at t_X3_page 37 rfl) ?_
        refine g_ls (ls2 := [(0, rv D a0), (1, rv D a1)]) [2, 1] rfl ?_
        exact J213 h106 (E103.trans E106)
      refine g_case (fun w45_2 => ?_) (fun nw45_2 => ?_)
      · refine g_tabIn (pc := 45) X (off := 67) (tgt := 112) g21 w45_2 (by decide) (by decide) rfl rfl dS_X3_page_45 ?_
        refine g_aload_n (pc := 112) X (j := 0) (i := 0) (q := 2) (x := a0) rfl rfl (dl_at t_X3_page 38 rfl) ?_
        refine g_aload_n (pc := 113) X (j := 1) (i := 1) (q := 1) (x := a1) rfl rfl (dl_at t_X3_page 39 rfl) ?_
        refine g_iconst (pc := 114) X (n := 1) (dl_at t_X3_page 40 rfl) ?_
        refine g_iconst (pc := 115) X (n := 4) (dl_at t_X3_page 41 rfl) ?_
        have k116 := kx E41 (by decide) k41
        refine r_callTi (pc := 116) X (fun _ hv => s_X2_needNumber k116 (r32_c rfl) (r32_c rfl) hv) cw_code q1861 q356 (in_Vk X (As := [iv 1, iv 4]) kX2 k116 (Or.inr ⟨_, nw_in q1987 rfl⟩) q1860 qs17 cw_code q1861 ⟨by decide, by decide⟩ rfl (dl_at t_X3_page 42 rfl)) (dl_at t_X3_page 42 rfl) (cat24 (st := [rv D a0]) (Nat.le_of_ble_eq_true rfl)) (Nat.le_of_ble_eq_true rfl) (Nat.le_of_ble_eq_true rfl) (fun v116 h116 g116 E116 => ?_) (fun _ _ ha _ => gt_at fun Q hQ => gt_out (Q := Q) X rfl ha (hno _) _ Q rfl hQ)
        have k119 := kx (E3.trans (E_6.trans (E9.trans (E17.trans (E35.trans (E41.trans E116)))))) (by decide) hk
        refine r_puti (pc := 119) X fX3_25 k119 q568 rfl (dl_at t_X3_page 43 rfl) g116 (fun h119 E119 => ?_)
        refine g_goto (pc := 122) X (off := 91) (tgt := 213) rfl (dl_at t_X3_page 44 rfl) ?_
        refine g_ls (ls2 := [(0, rv D a0), (1, rv D a1)]) [2, 1] rfl ?_
        exact J213 h119 (E116.trans E119)
      refine g_case (fun w45_3 => ?_) (fun nw45_3 => ?_)
      · refine g_tabIn (pc := 45) X (off := 80) (tgt := 125) g21 w45_3 (by decide) (by decide) rfl rfl dS_X3_page_45 ?_
        refine g_aload_n (pc := 125) X (j := 0) (i := 0) (q := 2) (x := a0) rfl rfl (dl_at t_X3_page 45 rfl) ?_
        refine g_aload_n (pc := 126) X (j := 1) (i := 1) (q := 1) (x := a1) rfl rfl (dl_at t_X3_page 46 rfl) ?_
        refine g_iconst (pc := 127) X (n := 0) (dl_at t_X3_page 47 rfl) ?_
        refine g_ldc (pc := 128) X (index := 163) (n := 100000) q1988 (dl_at t_X3_page 48 rfl) ?_
        have k130 := kx E41 (by decide) k41
        refine r_callTi (pc := 130) X (fun _ hv => s_X2_needNumber k130 (r32_c rfl) (r32_c rfl) hv) cw_code q1861 q356 (in_Vk X (As := [iv 0, iv 100000]) kX2 k130 (Or.inr ⟨_, nw_in q1987 rfl⟩) q1860 qs17 cw_code q1861 ⟨by decide, by decide⟩ rfl (dl_at t_X3_page 49 rfl)) (dl_at t_X3_page 49 rfl) (cat24 (st := [rv D a0]) (Nat.le_of_ble_eq_true rfl)) (Nat.le_of_ble_eq_true rfl) (Nat.le_of_ble_eq_true rfl) (fun v130 h130 g130 E130 => ?_) (fun _ _ ha _ => gt_at fun Q hQ => gt_out (Q := Q) X rfl ha (hno _) _ Q rfl hQ)
        have k133 := kx (E3.trans (E_6.trans (E9.trans (E17.trans (E35.trans (E41.trans E130)))))) (by decide) hk
        refine r_puti (pc := 133) X fX3_26 k133 q570 rfl (dl_at t_X3_page 50 rfl) g130 (fun h133 E133 => ?_)
        refine g_goto (pc := 136) X (off := 77) (tgt := 213) rfl (dl_at t_X3_page 51 rfl) ?_
        refine g_ls (ls2 := [(0, rv D a0), (1, rv D a1)]) [2, 1] rfl ?_
        exact J213 h133 (E130.trans E133)
      refine g_case (fun w45_4 => ?_) (fun nw45_4 => ?_)
      · refine g_tabIn (pc := 45) X (off := 94) (tgt := 139) g21 w45_4 (by decide) (by decide) rfl rfl dS_X3_page_45 ?_
        refine g_aload_n (pc := 139) X (j := 0) (i := 0) (q := 2) (x := a0) rfl rfl (dl_at t_X3_page 52 rfl) ?_
        refine g_aload_n (pc := 140) X (j := 1) (i := 1) (q := 1) (x := a1) rfl rfl (dl_at t_X3_page 53 rfl) ?_
        refine g_iconst (pc := 141) X (n := 0) (dl_at t_X3_page 54 rfl) ?_
        refine g_ldc (pc := 142) X (index := 163) (n := 100000) q1988 (dl_at t_X3_page 55 rfl) ?_
        have k144 := kx E41 (by decide) k41
        refine r_callTi (pc := 144) X (fun _ hv => s_X2_needNumber k144 (r32_c rfl) (r32_c rfl) hv) cw_code q1861 q356 (in_Vk X (As := [iv 0, iv 100000]) kX2 k144 (Or.inr ⟨_, nw_in q1987 rfl⟩) q1860 qs17 cw_code q1861 ⟨by decide, by decide⟩ rfl (dl_at t_X3_page 56 rfl)) (dl_at t_X3_page 56 rfl) (cat24 (st := [rv D a0]) (Nat.le_of_ble_eq_true rfl)) (Nat.le_of_ble_eq_true rfl) (Nat.le_of_ble_eq_true rfl) (fun v144 h144 g144 E144 => ?_) (fun _ _ ha _ => gt_at fun Q hQ => gt_out (Q := Q) X rfl ha (hno _) _ Q rfl hQ)
        have k147 := kx (E3.trans (E_6.trans (E9.trans (E17.trans (E35.trans (E41.trans E144)))))) (by decide) hk
        refine r_puti (pc := 147) X fX3_27 k147 q572 rfl (dl_at t_X3_page 57 rfl) g144 (fun h147 E147 => ?_)
        refine g_goto (pc := 150) X (off := 63) (tgt := 213) rfl (dl_at t_X3_page 58 rfl) ?_
        refine g_ls (ls2 := [(0, rv D a0), (1, rv D a1)]) [2, 1] rfl ?_
        exact J213 h147 (E144.trans E147)
      have w45_5 : ¬ v21 ∈ ([0, 1, 2, 3, 4] : List Int) := by simp only [List.mem_cons, List.not_mem_nil, or_false, not_or] at *; simp only [*, not_false_eq_true, and_self]
      refine g_tabElse (pc := 45) X (tgt := 153) [0, 1, 2, 3, 4] g21 w45_5 rfl rfl dS_X3_page_45 ?_
      refine g_aload_n (pc := 153) X (j := 0) (i := 0) (q := 2) (x := a0) rfl rfl (dl_at t_X3_page 59 rfl) ?_
      refine g_aload_n (pc := 154) X (j := 1) (i := 1) (q := 1) (x := a1) rfl rfl (dl_at t_X3_page 60 rfl) ?_
      refine g_ldcS (pc := 155) X (index := 164) (id := (-21)) 19 rfl rfl (dl_at t_X3_page 61 rfl) ?_
      have k157 := kx E41 (by decide) k41
      refine r_callRz (pc := 157) X (fun _ hv => s_X2_isName k157 hv) cw_code q1766 q356 (in_Vk X (As := [rv D (-21)]) kX2 k157 (Or.inr ⟨_, nw_in q1964 rfl⟩) q1765 qs15 cw_code q1766 ⟨by decide, by decide⟩ rfl (dl_at t_X3_page 62 rfl)) (dl_at t_X3_page 62 rfl) (cat24 (st := [rv D a0]) (Nat.le_of_ble_eq_true rfl)) (Nat.le_of_ble_eq_true rfl) (Nat.le_of_ble_eq_true rfl) fun v157 g157 => ?_
      refine g_join (γ := Int) (fun q => r32 q) 194 (fun q => [(0, rv D a0), (1, rv D a1)]) (fun q => [iv q, rv D a0]) (fun q => h41) (fun q => m_X3_page_j194 a1 a0 q h41) ?_ ?_
      · rintro s1_194 rs1_194
        try dsimp only
        unfold m_X3_page_j194
        have k194 := kx (E3.trans (E_6.trans (E9.trans (E17.trans (E35.trans E41))))) (by decide) hk
        refine r_puti (pc := 194) X fX3_28 k194 q574 rfl (dl_at t_X3_page 79 rfl) rs1_194 (fun h194 E194 => ?_)
        refine g_aload_n (pc := 197) X (j := 0) (i := 0) (q := 0) (x := a0) rfl rfl (dl_at t_X3_page 80 rfl) ?_
        have k198 := kx E194 (by decide) k194
        refine r_geti (pc := 198) X fX3_28 k198 q574 (dl_at t_X3_page 81 rfl) fun g198 => ?_
        refine g_ifge (pc := 201) X g198 (off := 8) (tgt := 209) rfl (dl_at t_X3_page 82 rfl) (fun _ => ?_) (fun _ => ?_)
        · refine g_aload_n (pc := 209) X (j := 1) (i := 1) (q := 1) (x := a1) rfl rfl (dl_at t_X3_page 86 rfl) ?_
          have k210 := kx E194 (by decide) k157
          refine r_callV (pc := 210) X (fun _ hv => s_X2_next k210 hv) cw_code q1725 q356 (in_Vk X (As := []) kX2 k210 (Or.inr ⟨_, nw_in q1965 rfl⟩) q1724 qs8 cw_code q1725 ⟨by decide, by decide⟩ rfl (dl_at t_X3_page 87 rfl)) (dl_at t_X3_page 87 rfl) (cat24 (st := []) (Nat.le_of_ble_eq_true rfl)) (Nat.le_of_ble_eq_true rfl) (Nat.le_of_ble_eq_true rfl) fun h210 E210 => ?_
          exact J213 h210 (E194.trans E210)
        refine g_aload_n (pc := 204) X (j := 1) (i := 1) (q := 1) (x := a1) rfl rfl (dl_at t_X3_page 83 rfl) ?_
        have k205 := kx E194 (by decide) k157
        refine r_callWr (pc := 205) X (fun _ hv => s_X2_broken k205 hv) cw_code q1825 q356 (in_Vk X (As := []) kX2 k205 (Or.inr ⟨_, nw_in q1985 rfl⟩) q1824 qs16 cw_code q1825 ⟨by decide, by decide⟩ rfl (dl_at t_X3_page 84 rfl)) (dl_at t_X3_page 84 rfl) (cat24 (st := []) (Nat.le_of_ble_eq_true rfl)) (Nat.le_of_ble_eq_true rfl) (Nat.le_of_ble_eq_true rfl) fun v205 h205 E205 => ?_
        refine g_gd fun p208 => ?_
        refine g_athrow (pc := 208) X (Int.ne_of_gt p208) (dl_at t_X3_page 85 rfl) ?_
        exact gt_at fun Q hQ => gt_out (Q := Q) X rfl p208 (hno _) _ Q rfl hQ
      intro J194
      refine g_ifeq (pc := 160) X (r32_z g157) (off := 7) (tgt := 167) rfl (dl_at t_X3_page 63 rfl) (fun _ => ?_) (fun _ => ?_)
      · refine g_aload_n (pc := 167) X (j := 1) (i := 1) (q := 1) (x := a1) rfl rfl (dl_at t_X3_page 66 rfl) ?_
        refine g_ldcS (pc := 168) X (index := 126) (id := (-20)) 18 rfl rfl (dl_at t_X3_page 67 rfl) ?_
        refine r_callRz (pc := 170) X (fun _ hv => s_X2_isName k157 hv) cw_code q1766 q356 (in_Vk X (As := [rv D (-20)]) kX2 k157 (Or.inr ⟨_, nw_in q1964 rfl⟩) q1765 qs15 cw_code q1766 ⟨by decide, by decide⟩ rfl (dl_at t_X3_page 68 rfl)) (dl_at t_X3_page 68 rfl) (cat24 (st := [rv D a0]) (Nat.le_of_ble_eq_true rfl)) (Nat.le_of_ble_eq_true rfl) (Nat.le_of_ble_eq_true rfl) fun v170 g170 => ?_
        refine g_ifeq (pc := 173) X (r32_z g170) (off := 7) (tgt := 180) rfl (dl_at t_X3_page 69 rfl) (fun _ => ?_) (fun _ => ?_)
        · refine g_aload_n (pc := 180) X (j := 1) (i := 1) (q := 1) (x := a1) rfl rfl (dl_at t_X3_page 72 rfl) ?_
          refine g_ldcS (pc := 181) X (index := 166) (id := (-22)) 20 rfl rfl (dl_at t_X3_page 73 rfl) ?_
          refine r_callRz (pc := 183) X (fun _ hv => s_X2_isName k157 hv) cw_code q1766 q356 (in_Vk X (As := [rv D (-22)]) kX2 k157 (Or.inr ⟨_, nw_in q1964 rfl⟩) q1765 qs15 cw_code q1766 ⟨by decide, by decide⟩ rfl (dl_at t_X3_page 74 rfl)) (dl_at t_X3_page 74 rfl) (cat24 (st := [rv D a0]) (Nat.le_of_ble_eq_true rfl)) (Nat.le_of_ble_eq_true rfl) (Nat.le_of_ble_eq_true rfl) fun v183 g183 => ?_
          refine g_ifeq (pc := 186) X (r32_z g183) (off := 7) (tgt := 193) rfl (dl_at t_X3_page 75 rfl) (fun _ => ?_) (fun _ => ?_)
          · refine g_iconst (pc := 193) X (n := (-1)) (dl_at t_X3_page 78 rfl) ?_
            refine g_ls (ls2 := [(0, rv D a0), (1, rv D a1)]) [2, 1] rfl ?_
            exact J194 (-1) (r32_c rfl)
          refine g_iconst (pc := 189) X (n := 2) (dl_at t_X3_page 76 rfl) ?_
          refine g_goto (pc := 190) X (off := 4) (tgt := 194) rfl (dl_at t_X3_page 77 rfl) ?_
          refine g_ls (ls2 := [(0, rv D a0), (1, rv D a1)]) [2, 1] rfl ?_
          exact J194 2 (r32_c rfl)
        refine g_iconst (pc := 176) X (n := 1) (dl_at t_X3_page 70 rfl) ?_
        refine g_goto (pc := 177) X (off := 17) (tgt := 194) rfl (dl_at t_X3_page 71 rfl) ?_
        refine g_ls (ls2 := [(0, rv D a0), (1, rv D a1)]) [2, 1] rfl ?_
        exact J194 1 (r32_c rfl)
      refine g_iconst (pc := 163) X (n := 0) (dl_at t_X3_page 64 rfl) ?_
      refine g_goto (pc := 164) X (off := 30) (tgt := 194) rfl (dl_at t_X3_page 65 rfl) ?_
      refine g_ls (ls2 := [(0, rv D a0), (1, rv D a1)]) [2, 1] rfl ?_
      exact J194 0 (r32_c rfl)
    refine g_aload_n (pc := 29) X (j := 1) (i := 1) (q := 1) (x := a1) rfl rfl (dl_at t_X3_page 15 rfl) ?_
    have k30 := kx E17 (by decide) k17
    refine r_callWr (pc := 30) X (fun _ hv => s_X2_broken k30 hv) cw_code q1825 q356 (in_Vk X (As := []) kX2 k30 (Or.inr ⟨_, nw_in q1985 rfl⟩) q1824 qs16 cw_code q1825 ⟨by decide, by decide⟩ rfl (dl_at t_X3_page 16 rfl)) (dl_at t_X3_page 16 rfl) (cat24 (st := []) (Nat.le_of_ble_eq_true rfl)) (Nat.le_of_ble_eq_true rfl) (Nat.le_of_ble_eq_true rfl) fun v30 h30 E30 => ?_
    refine g_gd fun p33 => ?_
    refine g_athrow (pc := 33) X (Int.ne_of_gt p33) (dl_at t_X3_page 17 rfl) ?_
    exact gt_at fun Q hQ => gt_out (Q := Q) X rfl p33 (hno _) _ Q rfl hQ
def k_X4_slot : List (Nat × Instr × Nat) := [(0, .iload_n 2, 1), (1, .istore_n 3, 1), (2, .iload_n 1, 1), (3, .istore 4, 2), (5, .iload 4, 2), (7, .iload_n 1, 1), (8, .iload_n 2, 1), (9, .iadd, 1), (10, .if_icmp .ge 19, 3), (13, .bipush 31, 2), (15, .iload_n 3, 1), (16, .imul, 1), (17, .aload_n 0, 1), (18, .iload 4, 2), (20, .baload, 1), (21, .iadd, 1), (22, .istore_n 3, 1), (23, .iinc 4 1, 3), (26, .goto (-21), 3), (29, .iload_n 3, 1), (30, .iload_n 3, 1), (31, .bipush 15, 2), (33, .iushr, 1), (34, .ixor, 1), (35, .bipush 127, 2), (37, .iand, 1), (38, .ireturn, 1)]
theorem t_X4_slot : ∀ q ∈ k_X4_slot, decode cX4_slot q.1 = .ok q.2 := dl_all (by decide +kernel)
noncomputable def m_X4_slot_l5 (a0 a1 a2 x3_5 x4_5 : Int) (h : Hp) : Option ((Int × Int) ⊕ ((Int))) :=
  if (w32 (a1 + a2)) ≤ x4_5 then (some (.inr (iand_ (ixor_ x3_5 (iushr_ x3_5 15)) 127)))
  else (gd (h a0 (-2) % 16 = 2 ∧ (0 : Int) ≤ x4_5 ∧ x4_5 < h a0 (-1)) (lt_ (w32 ((w32 (31 * x3_5)) + (h a0 x4_5))) fun x3_22 =>
  lt_ (w32 (x4_5 + 1)) fun x4_23 =>
  some (.inl (x3_22, x4_23))))
noncomputable def m_X4_slot (a0 a1 a2 : Int) (h : Hp) : Option (Int) :=
  (lp (fun (q : Int × Int) => m_X4_slot_l5 a0 a1 a2 q.1 q.2 h) (a2, a1)).bind (fun (x : Int) => some x)
theorem s_X4_slot {l : Launch} [NoTr l] {D : SD} {a0 a1 a2 : Int} {h : Hp} (r1 : r32 a1) (r2 : r32 a2) {r : Int} (hm : m_X4_slot a0 a1 a2 h = some r) : Sim l D yX4_slot (Cond.code yX4_slot cX4_slot 5 (Option.some Jvm.ClassFile.FieldType.int)) 0 0 [rv D a0, iv a1, iv a2] h 1 ((0, r), h) := by
  refine Sim.of (fin := fun (v : Int) => ((0, v), h)) (lsE := [(0, rv D a0), (1, iv a1), (2, iv a2)]) hm rfl cwS_code (la_r (la_i (la_i la_n))) (ll_r (ll_i (ll_i ll_n))) ?_
  intro p e s m below meth c X hcw hmm hcc hnm hname
  unfold m_X4_slot
  refine g_iload_n (pc := 0) X (j := 2) (i := 2) (q := 2) (x := a2) rfl rfl (dl_at t_X4_slot 0 rfl) ?_
  refine g_istore_nN (pc := 1) X (j := 3) (i := 3) (x := a2) (b := 2) (w := iv a2) (rest := [(0, rv D a0), (1, iv a1)]) rfl (Nat.le_of_ble_eq_true rfl) [2, 0, 1] rfl (by decide) rfl rfl (dl_at t_X4_slot 1 rfl) ?_
  refine g_iload_n (pc := 2) X (j := 1) (i := 1) (q := 3) (x := a1) rfl rfl (dl_at t_X4_slot 2 rfl) ?_
  refine g_istoreN (pc := 3) X (i := 4) (x := a1) (b := 3) (w := iv a2) (rest := [(2, iv a2), (0, rv D a0), (1, iv a1)]) (Nat.le_of_ble_eq_true rfl) [0, 1, 2, 3] rfl (by decide) rfl rfl (dl_at t_X4_slot 3 rfl) ?_
  refine g_ls (ls2 := [(0, rv D a0), (1, iv a1), (2, iv a2), (3, iv a2), (4, iv a1)]) [3, 4, 2, 1, 0] rfl ?_
  refine g_loop0F (fun (q : Int × Int) => [(0, rv D a0), (1, iv a1), (2, iv a2), (3, iv q.1), (4, iv q.2)]) (fun (q : Int × Int) => h) (fun (q : Int × Int) => r32 q.1 ∧ r32 q.2) (a2, a1) ⟨r2, r1⟩ ?_ (fun _ => rfl)
  · rintro ⟨x3_5, x4_5⟩ ⟨r3_5, r4_5⟩
    try dsimp only
    unfold m_X4_slot_l5
    refine g_iload (pc := 5) X (i := 4) (q := 4) (x := x4_5) rfl (dl_at t_X4_slot 4 rfl) ?_
    refine g_iload_n (pc := 7) X (j := 1) (i := 1) (q := 1) (x := a1) rfl rfl (dl_at t_X4_slot 5 rfl) ?_
    refine g_iload_n (pc := 8) X (j := 2) (i := 2) (q := 2) (x := a2) rfl rfl (dl_at t_X4_slot 6 rfl) ?_
    refine g_iadd (pc := 9) X r1 r2 (dl_at t_X4_slot 7 rfl) ?_
    refine g_icmpge (pc := 10) X r4_5 (r32_w _) (off := 19) (tgt := 29) rfl (dl_at t_X4_slot 8 rfl) (fun _ => ?_) (fun _ => ?_)
    · refine g_iload_n (pc := 29) X (j := 3) (i := 3) (q := 3) (x := x3_5) rfl rfl (dl_at t_X4_slot 19 rfl) ?_
      refine g_iload_n (pc := 30) X (j := 3) (i := 3) (q := 3) (x := x3_5) rfl rfl (dl_at t_X4_slot 20 rfl) ?_
      refine g_bipush (pc := 31) X (n := 15) rfl (dl_at t_X4_slot 21 rfl) ?_
      refine g_iushr (pc := 33) X (dl_at t_X4_slot 22 rfl) ?_
      refine g_ixor (pc := 34) X (dl_at t_X4_slot 23 rfl) ?_
      refine g_bipush (pc := 35) X (n := 127) rfl (dl_at t_X4_slot 24 rfl) ?_
      refine g_iand (pc := 37) X (dl_at t_X4_slot 25 rfl) ?_
      exact g_at fun Q hQ => (g_iret (pc := 38) X (r32_iand _ _) rfl rfl (dl_at t_X4_slot 26 rfl)) _ Q rfl hQ
    refine g_bipush (pc := 13) X (n := 31) rfl (dl_at t_X4_slot 9 rfl) ?_
    refine g_iload_n (pc := 15) X (j := 3) (i := 3) (q := 3) (x := x3_5) rfl rfl (dl_at t_X4_slot 10 rfl) ?_
    refine g_imul (pc := 16) X (r32_c rfl) r3_5 (dl_at t_X4_slot 11 rfl) ?_
    refine g_aload_n (pc := 17) X (j := 0) (i := 0) (q := 0) (x := a0) rfl rfl (dl_at t_X4_slot 12 rfl) ?_
    refine g_iload (pc := 18) X (i := 4) (q := 4) (x := x4_5) rfl (dl_at t_X4_slot 13 rfl) ?_
    refine g_gd fun k20 => ?_
    refine g_bald (pc := 20) X r4_5 k20 (dl_at t_X4_slot 14 rfl) fun g20 => ?_
    refine g_iadd (pc := 21) X (r32_w _) (r32_b g20) (dl_at t_X4_slot 15 rfl) ?_
    refine g_lti (r32_w _) fun x3_22 r3_22 => ?_
    refine g_istore_nN (pc := 22) X (j := 3) (i := 3) (x := x3_22) (b := 2) (w := iv a2) (rest := [(0, rv D a0), (1, iv a1), (4, iv x4_5)]) rfl (Nat.le_of_ble_eq_true rfl) [2, 0, 1, 4] rfl (by decide) rfl rfl (dl_at t_X4_slot 16 rfl) ?_
    refine r_iincN (pc := 23) X (i := 4) (q := 4) (n := 1) (x := x4_5) (b := 3) (w := iv x3_22) (rest := [(2, iv a2), (0, rv D a0), (1, iv a1)]) rfl r4_5 (r32_c rfl) (Nat.le_of_ble_eq_true rfl) [0, 1, 2, 3] rfl (by decide) rfl rfl (dl_at t_X4_slot 17 rfl) fun x4_23 r4_23 => ?_
    refine g_goto (pc := 26) X (off := (-21)) (tgt := 5) rfl (dl_at t_X4_slot 18 rfl) ?_
    refine g_ls (ls2 := [(0, rv D a0), (1, iv a1), (2, iv a2), (3, iv x3_22), (4, iv x4_23)]) [3, 4, 2, 1, 0] rfl ?_
    exact g_at fun Q hQ => hQ ⟨r3_22, r4_23⟩
def k_X4_length : List (Nat × Instr × Nat) := [(0, .iload_n 1, 1), (1, .iconst 1, 1), (2, .iadd, 1), (3, .aload_n 0, 1), (4, .getfield 32, 3), (7, .if_icmp .ge 14, 3), (10, .aload_n 0, 1), (11, .getfield 19, 3), (14, .iload_n 1, 1), (15, .iconst 1, 1), (16, .iadd, 1), (17, .iaload, 1), (18, .goto 7, 3), (21, .aload_n 0, 1), (22, .getfield 28, 3), (25, .aload_n 0, 1), (26, .getfield 19, 3), (29, .iload_n 1, 1), (30, .iaload, 1), (31, .isub, 1), (32, .ireturn, 1)]
theorem t_X4_length : ∀ q ∈ k_X4_length, decode cX4_length q.1 = .ok q.2 := dl_all (by decide +kernel)
noncomputable def m_X4_length (a0 a1 : Int) (h : Hp) : Option (Int) :=
  if (h a0 3) ≤ (w32 (a1 + 1)) then (gd (h (h a0 2) (-2) % 16 = 1 ∧ (0 : Int) ≤ a1 ∧ a1 < h (h a0 2) (-1)) (some (w32 ((h a0 1) - (h (h a0 2) a1)))))
  else (gd (h (h a0 2) (-2) % 16 = 1 ∧ (0 : Int) ≤ (w32 (a1 + 1)) ∧ (w32 (a1 + 1)) < h (h a0 2) (-1)) (gd (h (h a0 2) (-2) % 16 = 1 ∧ (0 : Int) ≤ a1 ∧ a1 < h (h a0 2) (-1)) (some (w32 ((h (h a0 2) (w32 (a1 + 1))) - (h (h a0 2) a1))))))
theorem s_X4_length {l : Launch} [NoTr l] {D : SD} {a0 a1 : Int} {h : Hp} (hk : h a0 (-2) = 64) (r1 : r32 a1) {r : Int} (hm : m_X4_length a0 a1 h = some r) : Sim l D yX4_length (Cond.code yX4_length cX4_length 2 (Option.some Jvm.ClassFile.FieldType.int)) 0 0 [rv D a0, iv a1] h 1 ((0, r), h) := by
  refine Sim.of (fin := fun (v : Int) => ((0, v), h)) (lsE := [(0, rv D a0), (1, iv a1)]) hm rfl cwS_code (la_r (la_i la_n)) (ll_r (ll_i ll_n)) ?_
  intro p e s m below meth c X hcw hmm hcc hnm hname
  unfold m_X4_length
  refine g_iload_n (pc := 0) X (j := 1) (i := 1) (q := 1) (x := a1) rfl rfl (dl_at t_X4_length 0 rfl) ?_
  refine g_iconst (pc := 1) X (n := 1) (dl_at t_X4_length 1 rfl) ?_
  refine g_iadd (pc := 2) X r1 (r32_c rfl) (dl_at t_X4_length 2 rfl) ?_
  refine g_aload_n (pc := 3) X (j := 0) (i := 0) (q := 0) (x := a0) rfl rfl (dl_at t_X4_length 3 rfl) ?_
  refine r_geti (pc := 4) X fX4_3 hk q472 (dl_at t_X4_length 4 rfl) fun g4 => ?_
  refine g_icmpge (pc := 7) X (r32_w _) g4 (off := 14) (tgt := 21) rfl (dl_at t_X4_length 5 rfl) (fun _ => ?_) (fun _ => ?_)
  · refine g_aload_n (pc := 21) X (j := 0) (i := 0) (q := 0) (x := a0) rfl rfl (dl_at t_X4_length 13 rfl) ?_
    refine r_geti (pc := 22) X fX4_1 hk q469 (dl_at t_X4_length 14 rfl) fun g22 => ?_
    refine g_aload_n (pc := 25) X (j := 0) (i := 0) (q := 0) (x := a0) rfl rfl (dl_at t_X4_length 15 rfl) ?_
    refine r_getr (pc := 26) X fX4_2 hk q470 (dl_at t_X4_length 16 rfl) ?_
    refine g_iload_n (pc := 29) X (j := 1) (i := 1) (q := 1) (x := a1) rfl rfl (dl_at t_X4_length 17 rfl) ?_
    refine g_gd fun k30 => ?_
    refine g_iald (pc := 30) X r1 k30 (dl_at t_X4_length 18 rfl) fun g30 => ?_
    refine g_isub (pc := 31) X g22 g30 (dl_at t_X4_length 19 rfl) ?_
    exact g_iret (pc := 32) X (r32_w _) rfl rfl (dl_at t_X4_length 20 rfl)
  refine g_aload_n (pc := 10) X (j := 0) (i := 0) (q := 0) (x := a0) rfl rfl (dl_at t_X4_length 6 rfl) ?_
  refine r_getr (pc := 11) X fX4_2 hk q470 (dl_at t_X4_length 7 rfl) ?_
  refine g_iload_n (pc := 14) X (j := 1) (i := 1) (q := 1) (x := a1) rfl rfl (dl_at t_X4_length 8 rfl) ?_
  refine g_iconst (pc := 15) X (n := 1) (dl_at t_X4_length 9 rfl) ?_
  refine g_iadd (pc := 16) X r1 (r32_c rfl) (dl_at t_X4_length 10 rfl) ?_
  refine g_gd fun k17 => ?_
  refine g_iald (pc := 17) X (r32_w _) k17 (dl_at t_X4_length 11 rfl) fun g17 => ?_
  refine g_goto (pc := 18) X (off := 7) (tgt := 25) rfl (dl_at t_X4_length 12 rfl) ?_
  refine g_aload_n (pc := 25) X (j := 0) (i := 0) (q := 0) (x := a0) rfl rfl (dl_at t_X4_length 15 rfl) ?_
  refine r_getr (pc := 26) X fX4_2 hk q470 (dl_at t_X4_length 16 rfl) ?_
  refine g_iload_n (pc := 29) X (j := 1) (i := 1) (q := 1) (x := a1) rfl rfl (dl_at t_X4_length 17 rfl) ?_
  refine g_gd fun k30_1 => ?_
  refine g_iald (pc := 30) X r1 k30_1 (dl_at t_X4_length 18 rfl) fun g30_1 => ?_
  refine g_isub (pc := 31) X g17 g30_1 (dl_at t_X4_length 19 rfl) ?_
  exact g_iret (pc := 32) X (r32_w _) rfl rfl (dl_at t_X4_length 20 rfl)
def k_X4_is : List (Nat × Instr × Nat) := [(0, .aload_n 0, 1), (1, .iload_n 1, 1), (2, .invokevirtual 35, 3), (5, .iload 4, 2), (7, .if_icmp .eq 5, 3), (10, .iconst 0, 1), (11, .ireturn, 1), (12, .iconst 0, 1), (13, .istore 5, 2), (15, .iload 5, 2), (17, .iload 4, 2), (19, .if_icmp .ge 34, 3), (22, .aload_n 0, 1), (23, .getfield 9, 3), (26, .aload_n 0, 1), (27, .getfield 19, 3), (30, .iload_n 1, 1), (31, .iaload, 1), (32, .iload 5, 2), (34, .iadd, 1), (35, .baload, 1), (36, .aload_n 2, 1), (37, .iload_n 3, 1), (38, .iload 5, 2), (40, .iadd, 1), (41, .baload, 1), (42, .if_icmp .eq 5, 3), (45, .iconst 0, 1), (46, .ireturn, 1), (47, .iinc 5 1, 3), (50, .goto (-35), 3), (53, .iconst 1, 1), (54, .ireturn, 1)]
theorem t_X4_is : ∀ q ∈ k_X4_is, decode cX4_is q.1 = .ok q.2 := dl_all (by decide +kernel)
noncomputable def m_X4_is_l15 (a0 a1 a2 a3 a4 x5_15 : Int) (h : Hp) : Option ((Int) ⊕ ((Int))) :=
  if a4 ≤ x5_15 then (some (.inr 1))
  else (gd (h (h a0 2) (-2) % 16 = 1 ∧ (0 : Int) ≤ a1 ∧ a1 < h (h a0 2) (-1)) (gd (h (h a0 0) (-2) % 16 = 2 ∧ (0 : Int) ≤ (w32 ((h (h a0 2) a1) + x5_15)) ∧ (w32 ((h (h a0 2) a1) + x5_15)) < h (h a0 0) (-1)) (gd (h a2 (-2) % 16 = 2 ∧ (0 : Int) ≤ (w32 (a3 + x5_15)) ∧ (w32 (a3 + x5_15)) < h a2 (-1)) (if (h (h a0 0) (w32 ((h (h a0 2) a1) + x5_15))) = (h a2 (w32 (a3 + x5_15))) then (lt_ (w32 (x5_15 + 1)) fun x5_47 =>
  some (.inl x5_47))
  else (some (.inr 0))))))
noncomputable def m_X4_is (a0 a1 a2 a3 a4 : Int) (h : Hp) : Option (Int) :=
  (m_X4_length a0 a1 h).bind fun v2 =>
  if v2 = a4 then (lt_ 0 fun x5_13 =>
  (lp (fun (q : Int) => m_X4_is_l15 a0 a1 a2 a3 a4 q h) x5_13).bind (fun (x : Int) => some x))
  else (some 0)
theorem s_X4_is {l : Launch} [NoTr l] {D : SD} {a0 a1 a2 a3 a4 : Int} {h : Hp} (hk : h a0 (-2) = 64) (r1 : r32 a1) (r3 : r32 a3) (r4 : r32 a4) {r : Int} (hm : m_X4_is a0 a1 a2 a3 a4 h = some r) : Sim l D yX4_is (Cond.code yX4_is cX4_is 6 (Option.some Jvm.ClassFile.FieldType.boolean)) 1 37 [rv D a0, iv a1, rv D a2, iv a3, iv a4] h 3 ((0, r), h) := by
  refine Sim.of (fin := fun (v : Int) => ((0, v), h)) (lsE := [(0, rv D a0), (1, iv a1), (2, rv D a2), (3, iv a3), (4, iv a4)]) hm rfl cwS_code (la_r (la_i (la_r (la_i (la_i la_n))))) (ll_r (ll_i (ll_r (ll_i (ll_i ll_n))))) ?_
  intro p e s m below meth c X hcw hmm hcc hnm hname
  unfold m_X4_is
  refine g_aload_n (pc := 0) X (j := 0) (i := 0) (q := 0) (x := a0) rfl rfl (dl_at t_X4_is 0 rfl) ?_
  refine g_iload_n (pc := 1) X (j := 1) (i := 1) (q := 1) (x := a1) rfl rfl (dl_at t_X4_is 1 rfl) ?_
  refine r_callRi (pc := 2) X (fun _ hv => s_X4_length hk r1 hv) cw_code q2022 q358 (in_Vk X (As := [iv a1]) kX4 hk (Or.inl q2019) q2021 qs40 cw_code q2022 ⟨by decide, by decide⟩ rfl (dl_at t_X4_is 2 rfl)) (dl_at t_X4_is 2 rfl) (cat24 (st := []) (Nat.le_of_ble_eq_true rfl)) (Nat.le_of_ble_eq_true rfl) (Nat.le_of_ble_eq_true rfl) fun v2 g2 => ?_
  refine g_iload (pc := 5) X (i := 4) (q := 4) (x := a4) rfl (dl_at t_X4_is 3 rfl) ?_
  refine g_icmpeq (pc := 7) X g2 r4 (off := 5) (tgt := 12) rfl (dl_at t_X4_is 4 rfl) (fun _ => ?_) (fun _ => ?_)
  · refine g_iconst (pc := 12) X (n := 0) (dl_at t_X4_is 7 rfl) ?_
    refine g_ltz (Or.inl rfl) fun x5_13 r5_13 => ?_
    refine g_istoreN (pc := 13) X (i := 5) (x := x5_13) (b := 4) (w := iv a4) (rest := [(0, rv D a0), (1, iv a1), (2, rv D a2), (3, iv a3)]) (Nat.le_of_ble_eq_true rfl) [4, 0, 1, 2, 3] rfl (by decide) rfl rfl (dl_at t_X4_is 8 rfl) ?_
    refine g_ls (ls2 := [(0, rv D a0), (1, iv a1), (2, rv D a2), (3, iv a3), (4, iv a4), (5, iv x5_13)]) [2, 3, 4, 5, 1, 0] rfl ?_
    refine g_loop0F (fun (q : Int) => [(0, rv D a0), (1, iv a1), (2, rv D a2), (3, iv a3), (4, iv a4), (5, iv q)]) (fun (q : Int) => h) (fun (q : Int) => r32 q) x5_13 (r32_z r5_13) ?_ (fun _ => rfl)
    · rintro x5_15 r5_15
      try dsimp only
      unfold m_X4_is_l15
      refine g_iload (pc := 15) X (i := 5) (q := 5) (x := x5_15) rfl (dl_at t_X4_is 9 rfl) ?_
      refine g_iload (pc := 17) X (i := 4) (q := 4) (x := a4) rfl (dl_at t_X4_is 10 rfl) ?_
      refine g_icmpge (pc := 19) X r5_15 r4 (off := 34) (tgt := 53) rfl (dl_at t_X4_is 11 rfl) (fun _ => ?_) (fun _ => ?_)
      · refine g_iconst (pc := 53) X (n := 1) (dl_at t_X4_is 31 rfl) ?_
        exact g_at fun Q hQ => (g_zret (pc := 54) X (Or.inr rfl) rfl rfl (dl_at t_X4_is 32 rfl)) _ Q rfl hQ
      refine g_aload_n (pc := 22) X (j := 0) (i := 0) (q := 0) (x := a0) rfl rfl (dl_at t_X4_is 12 rfl) ?_
      refine r_getr (pc := 23) X fX4_0 hk q467 (dl_at t_X4_is 13 rfl) ?_
      refine g_aload_n (pc := 26) X (j := 0) (i := 0) (q := 0) (x := a0) rfl rfl (dl_at t_X4_is 14 rfl) ?_
      refine r_getr (pc := 27) X fX4_2 hk q470 (dl_at t_X4_is 15 rfl) ?_
      refine g_iload_n (pc := 30) X (j := 1) (i := 1) (q := 1) (x := a1) rfl rfl (dl_at t_X4_is 16 rfl) ?_
      refine g_gd fun k31 => ?_
      refine g_iald (pc := 31) X r1 k31 (dl_at t_X4_is 17 rfl) fun g31 => ?_
      refine g_iload (pc := 32) X (i := 5) (q := 5) (x := x5_15) rfl (dl_at t_X4_is 18 rfl) ?_
      refine g_iadd (pc := 34) X g31 r5_15 (dl_at t_X4_is 19 rfl) ?_
      refine g_gd fun k35 => ?_
      refine g_bald (pc := 35) X (r32_w _) k35 (dl_at t_X4_is 20 rfl) fun g35 => ?_
      refine g_aload_n (pc := 36) X (j := 2) (i := 2) (q := 2) (x := a2) rfl rfl (dl_at t_X4_is 21 rfl) ?_
      refine g_iload_n (pc := 37) X (j := 3) (i := 3) (q := 3) (x := a3) rfl rfl (dl_at t_X4_is 22 rfl) ?_
      refine g_iload (pc := 38) X (i := 5) (q := 5) (x := x5_15) rfl (dl_at t_X4_is 23 rfl) ?_
      refine g_iadd (pc := 40) X r3 r5_15 (dl_at t_X4_is 24 rfl) ?_
      refine g_gd fun k41 => ?_
      refine g_bald (pc := 41) X (r32_w _) k41 (dl_at t_X4_is 25 rfl) fun g41 => ?_
      refine g_icmpeq (pc := 42) X (r32_b g35) (r32_b g41) (off := 5) (tgt := 47) rfl (dl_at t_X4_is 26 rfl) (fun _ => ?_) (fun _ => ?_)
      · refine r_iincN (pc := 47) X (i := 5) (q := 5) (n := 1) (x := x5_15) (b := 4) (w := iv a4) (rest := [(0, rv D a0), (1, iv a1), (2, rv D a2), (3, iv a3)]) rfl r5_15 (r32_c rfl) (Nat.le_of_ble_eq_true rfl) [4, 0, 1, 2, 3] rfl (by decide) rfl rfl (dl_at t_X4_is 29 rfl) fun x5_47 r5_47 => ?_
        refine g_goto (pc := 50) X (off := (-35)) (tgt := 15) rfl (dl_at t_X4_is 30 rfl) ?_
        refine g_ls (ls2 := [(0, rv D a0), (1, iv a1), (2, rv D a2), (3, iv a3), (4, iv a4), (5, iv x5_47)]) [2, 3, 4, 5, 1, 0] rfl ?_
        exact g_at fun Q hQ => hQ r5_47
      refine g_iconst (pc := 45) X (n := 0) (dl_at t_X4_is 27 rfl) ?_
      exact g_at fun Q hQ => (g_zret (pc := 46) X (Or.inl rfl) rfl rfl (dl_at t_X4_is 28 rfl)) _ Q rfl hQ
  refine g_iconst (pc := 10) X (n := 0) (dl_at t_X4_is 5 rfl) ?_
  exact g_zret (pc := 11) X (Or.inl rfl) rfl rfl (dl_at t_X4_is 6 rfl)
def k_X4_find : List (Nat × Instr × Nat) := [(0, .aload_n 0, 1), (1, .getfield 15, 3), (4, .aload_n 1, 1), (5, .iload_n 2, 1), (6, .iload_n 3, 1), (7, .invokestatic 39, 3), (10, .iaload, 1), (11, .istore 4, 2), (13, .iload 4, 2), (15, .ifCond .lt 27, 3), (18, .aload_n 0, 1), (19, .iload 4, 2), (21, .aload_n 1, 1), (22, .iload_n 2, 1), (23, .iload_n 3, 1), (24, .invokevirtual 43, 3), (27, .ifCond .ne 15, 3), (30, .aload_n 0, 1), (31, .getfield 22, 3), (34, .iload 4, 2), (36, .iaload, 1), (37, .istore 4, 2), (39, .goto (-26), 3), (42, .iload 4, 2), (44, .ireturn, 1)]
theorem t_X4_find : ∀ q ∈ k_X4_find, decode cX4_find q.1 = .ok q.2 := dl_all (by decide +kernel)
noncomputable def m_X4_find_l13 (a0 a1 a2 a3 x4_13 : Int) (h : Hp) : Option ((Int) ⊕ ((Int))) :=
  if x4_13 < 0 then (some (.inr x4_13))
  else ((m_X4_is a0 x4_13 a1 a2 a3 h).bind fun v24 =>
  if v24 ≠ 0 then (some (.inr x4_13))
  else (gd (h (h a0 5) (-2) % 16 = 1 ∧ (0 : Int) ≤ x4_13 ∧ x4_13 < h (h a0 5) (-1)) (lt_ (h (h a0 5) x4_13) fun x4_37 =>
  some (.inl x4_37))))
noncomputable def m_X4_find (a0 a1 a2 a3 : Int) (h : Hp) : Option (Int) :=
  (m_X4_slot a1 a2 a3 h).bind fun v7 =>
  gd (h (h a0 4) (-2) % 16 = 1 ∧ (0 : Int) ≤ v7 ∧ v7 < h (h a0 4) (-1)) (lt_ (h (h a0 4) v7) fun x4_11 =>
  (lp (fun (q : Int) => m_X4_find_l13 a0 a1 a2 a3 q h) x4_11).bind (fun (x : Int) => some x))
theorem s_X4_find {l : Launch} [NoTr l] {D : SD} {a0 a1 a2 a3 : Int} {h : Hp} (hk : h a0 (-2) = 64) (r2 : r32 a2) (r3 : r32 a3) {r : Int} (hm : m_X4_find a0 a1 a2 a3 h = some r) : Sim l D yX4_find (Cond.code yX4_find cX4_find 5 (Option.some Jvm.ClassFile.FieldType.int)) 2 78 [rv D a0, rv D a1, iv a2, iv a3] h 1 ((0, r), h) := by
  refine Sim.of (fin := fun (v : Int) => ((0, v), h)) (lsE := [(0, rv D a0), (1, rv D a1), (2, iv a2), (3, iv a3)]) hm rfl cwS_code (la_r (la_r (la_i (la_i la_n)))) (ll_r (ll_r (ll_i (ll_i ll_n)))) ?_
  intro p e s m below meth c X hcw hmm hcc hnm hname
  unfold m_X4_find
  refine g_aload_n (pc := 0) X (j := 0) (i := 0) (q := 0) (x := a0) rfl rfl (dl_at t_X4_find 0 rfl) ?_
  refine r_getr (pc := 1) X fX4_4 hk q477 (dl_at t_X4_find 1 rfl) ?_
  refine g_aload_n (pc := 4) X (j := 1) (i := 1) (q := 1) (x := a1) rfl rfl (dl_at t_X4_find 2 rfl) ?_
  refine g_iload_n (pc := 5) X (j := 2) (i := 2) (q := 2) (x := a2) rfl rfl (dl_at t_X4_find 3 rfl) ?_
  refine g_iload_n (pc := 6) X (j := 3) (i := 3) (q := 3) (x := a3) rfl rfl (dl_at t_X4_find 4 rfl) ?_
  refine r_callRi (pc := 7) X (fun _ hv => s_X4_slot r2 r3 hv) cw_code q2014 q358 (in_Sc X (As := [rv D a1, iv a2, iv a3]) (Or.inl q2012) q2013 q358 q2014 ⟨by decide, by decide⟩ rfl (dl_at t_X4_find 5 rfl)) (dl_at t_X4_find 5 rfl) (cat24 (st := [rv D (h a0 4)]) (Nat.le_of_ble_eq_true rfl)) (Nat.le_of_ble_eq_true rfl) (Nat.le_of_ble_eq_true rfl) fun v7 g7 => ?_
  refine g_gd fun k10 => ?_
  refine g_iald (pc := 10) X g7 k10 (dl_at t_X4_find 6 rfl) fun g10 => ?_
  refine g_lti g10 fun x4_11 r4_11 => ?_
  refine g_istoreN (pc := 11) X (i := 4) (x := x4_11) (b := 3) (w := iv a3) (rest := [(0, rv D a0), (1, rv D a1), (2, iv a2)]) (Nat.le_of_ble_eq_true rfl) [3, 0, 1, 2] rfl (by decide) rfl rfl (dl_at t_X4_find 7 rfl) ?_
  refine g_ls (ls2 := [(0, rv D a0), (1, rv D a1), (2, iv a2), (3, iv a3), (4, iv x4_11)]) [2, 3, 4, 1, 0] rfl ?_
  refine g_loop0F (fun (q : Int) => [(0, rv D a0), (1, rv D a1), (2, iv a2), (3, iv a3), (4, iv q)]) (fun (q : Int) => h) (fun (q : Int) => r32 q) x4_11 r4_11 ?_ (fun _ => rfl)
  · rintro x4_13 r4_13
    try dsimp only
    unfold m_X4_find_l13
    refine g_iload (pc := 13) X (i := 4) (q := 4) (x := x4_13) rfl (dl_at t_X4_find 8 rfl) ?_
    refine g_iflt (pc := 15) X r4_13 (off := 27) (tgt := 42) rfl (dl_at t_X4_find 9 rfl) (fun _ => ?_) (fun _ => ?_)
    · refine g_iload (pc := 42) X (i := 4) (q := 4) (x := x4_13) rfl (dl_at t_X4_find 23 rfl) ?_
      exact g_at fun Q hQ => (g_iret (pc := 44) X r4_13 rfl rfl (dl_at t_X4_find 24 rfl)) _ Q rfl hQ
    refine g_aload_n (pc := 18) X (j := 0) (i := 0) (q := 0) (x := a0) rfl rfl (dl_at t_X4_find 10 rfl) ?_
    refine g_iload (pc := 19) X (i := 4) (q := 4) (x := x4_13) rfl (dl_at t_X4_find 11 rfl) ?_
    refine g_aload_n (pc := 21) X (j := 1) (i := 1) (q := 1) (x := a1) rfl rfl (dl_at t_X4_find 12 rfl) ?_
    refine g_iload_n (pc := 22) X (j := 2) (i := 2) (q := 2) (x := a2) rfl rfl (dl_at t_X4_find 13 rfl) ?_
    refine g_iload_n (pc := 23) X (j := 3) (i := 3) (q := 3) (x := a3) rfl rfl (dl_at t_X4_find 14 rfl) ?_
    refine r_callRz (pc := 24) X (fun _ hv => s_X4_is hk r4_13 r2 r3 hv) cw_code q2018 q358 (in_Vk X (As := [iv x4_13, rv D a1, iv a2, iv a3]) kX4 hk (Or.inl q2015) q2017 qs39 cw_code q2018 ⟨by decide, by decide⟩ rfl (dl_at t_X4_find 15 rfl)) (dl_at t_X4_find 15 rfl) (cat24 (st := []) (Nat.le_of_ble_eq_true rfl)) (Nat.le_of_ble_eq_true rfl) (Nat.le_of_ble_eq_true rfl) fun v24 g24 => ?_
    refine g_ifne (pc := 27) X (r32_z g24) (off := 15) (tgt := 42) rfl (dl_at t_X4_find 16 rfl) (fun _ => ?_) (fun _ => ?_)
    · refine g_iload (pc := 42) X (i := 4) (q := 4) (x := x4_13) rfl (dl_at t_X4_find 23 rfl) ?_
      exact g_at fun Q hQ => (g_iret (pc := 44) X r4_13 rfl rfl (dl_at t_X4_find 24 rfl)) _ Q rfl hQ
    refine g_aload_n (pc := 30) X (j := 0) (i := 0) (q := 0) (x := a0) rfl rfl (dl_at t_X4_find 17 rfl) ?_
    refine r_getr (pc := 31) X fX4_5 hk q478 (dl_at t_X4_find 18 rfl) ?_
    refine g_iload (pc := 34) X (i := 4) (q := 4) (x := x4_13) rfl (dl_at t_X4_find 19 rfl) ?_
    refine g_gd fun k36 => ?_
    refine g_iald (pc := 36) X r4_13 k36 (dl_at t_X4_find 20 rfl) fun g36 => ?_
    refine g_lti g36 fun x4_37 r4_37 => ?_
    refine g_istoreN (pc := 37) X (i := 4) (x := x4_37) (b := 3) (w := iv a3) (rest := [(0, rv D a0), (1, rv D a1), (2, iv a2)]) (Nat.le_of_ble_eq_true rfl) [3, 0, 1, 2] rfl (by decide) rfl rfl (dl_at t_X4_find 21 rfl) ?_
    refine g_goto (pc := 39) X (off := (-26)) (tgt := 13) rfl (dl_at t_X4_find 22 rfl) ?_
    refine g_ls (ls2 := [(0, rv D a0), (1, rv D a1), (2, iv a2), (3, iv a3), (4, iv x4_37)]) [2, 3, 4, 1, 0] rfl ?_
    exact g_at fun Q hQ => hQ r4_37
def k_X4_add : List (Nat × Instr × Nat) := [(0, .aload_n 0, 1), (1, .aload_n 1, 1), (2, .iload_n 2, 1), (3, .iload_n 3, 1), (4, .invokevirtual 47, 3), (7, .istore 4, 2), (9, .iload 4, 2), (11, .ifCond .lt 6, 3), (14, .iload 4, 2), (16, .ireturn, 1), (17, .aload_n 0, 1), (18, .getfield 19, 3), (21, .aload_n 0, 1), (22, .getfield 32, 3), (25, .aload_n 0, 1), (26, .getfield 28, 3), (29, .iastore, 1), (30, .aload_n 1, 1), (31, .iload_n 2, 1), (32, .iload_n 3, 1), (33, .invokestatic 39, 3), (36, .istore 5, 2), (38, .aload_n 0, 1), (39, .getfield 22, 3), (42, .aload_n 0, 1), (43, .getfield 32, 3), (46, .aload_n 0, 1), (47, .getfield 15, 3), (50, .iload 5, 2), (52, .iaload, 1), (53, .iastore, 1), (54, .aload_n 0, 1), (55, .getfield 15, 3), (58, .iload 5, 2), (60, .aload_n 0, 1), (61, .getfield 32, 3), (64, .iastore, 1), (65, .iload_n 2, 1), (66, .istore 6, 2), (68, .iload 6, 2), (70, .iload_n 2, 1), (71, .iload_n 3, 1), (72, .iadd, 1), (73, .if_icmp .ge 32, 3), (76, .aload_n 0, 1), (77, .getfield 9, 3), (80, .aload_n 0, 1), (81, .getfield 28, 3), (84, .aload_n 1, 1), (85, .iload 6, 2), (87, .baload, 1), (88, .bastore, 1), (89, .aload_n 0, 1), (90, .dup, 1), (91, .getfield 28, 3), (94, .iconst 1, 1), (95, .iadd, 1), (96, .putfield 28, 3), (99, .iinc 6 1, 3), (102, .goto (-34), 3), (105, .aload_n 0, 1), (106, .dup, 1), (107, .getfield 32, 3), (110, .iconst 1, 1), (111, .iadd, 1), (112, .putfield 32, 3), (115, .aload_n 0, 1), (116, .getfield 32, 3), (119, .iconst 1, 1), (120, .isub, 1), (121, .ireturn, 1)]
theorem t_X4_add : ∀ q ∈ k_X4_add, decode cX4_add q.1 = .ok q.2 := dl_all (by decide +kernel)
noncomputable def m_X4_add_l68 (a0 a1 a2 a3 x6_68 : Int) (h_68 : Hp) : Option ((Int × Hp) ⊕ ((Hp))) :=
  if (w32 (a2 + a3)) ≤ x6_68 then (some (.inr h_68))
  else (gd (h_68 a1 (-2) % 16 = 2 ∧ (0 : Int) ≤ x6_68 ∧ x6_68 < h_68 a1 (-1)) (gd (h_68 (h_68 a0 0) (-2) % 16 = 2 ∧ (0 : Int) ≤ (h_68 a0 1) ∧ (h_68 a0 1) < h_68 (h_68 a0 0) (-1)) (pt h_68 (h_68 a0 0) (h_68 a0 1) (h_68 a1 x6_68) fun h88 =>
  pt h88 a0 1 (w32 ((h88 a0 1) + 1)) fun h96 =>
  lt_ (w32 (x6_68 + 1)) fun x6_99 =>
  some (.inl (x6_99, h96)))))
noncomputable def m_X4_add (a0 a1 a2 a3 : Int) (h : Hp) : Option (Int × Hp) :=
  (m_X4_find a0 a1 a2 a3 h).bind fun v4 =>
  if v4 < 0 then (gd (h (h a0 2) (-2) % 16 = 1 ∧ (0 : Int) ≤ (h a0 3) ∧ (h a0 3) < h (h a0 2) (-1)) (pt h (h a0 2) (h a0 3) (h a0 1) fun h29 =>
  (m_X4_slot a1 a2 a3 h29).bind fun v33 =>
  gd (h29 (h29 a0 4) (-2) % 16 = 1 ∧ (0 : Int) ≤ v33 ∧ v33 < h29 (h29 a0 4) (-1)) (gd (h29 (h29 a0 5) (-2) % 16 = 1 ∧ (0 : Int) ≤ (h29 a0 3) ∧ (h29 a0 3) < h29 (h29 a0 5) (-1)) (pt h29 (h29 a0 5) (h29 a0 3) (h29 (h29 a0 4) v33) fun h53 =>
  gd (h53 (h53 a0 4) (-2) % 16 = 1 ∧ (0 : Int) ≤ v33 ∧ v33 < h53 (h53 a0 4) (-1)) (pt h53 (h53 a0 4) v33 (h53 a0 3) fun h64 =>
  (lp (fun (q : Int × Hp) => m_X4_add_l68 a0 a1 a2 a3 q.1 q.2) (a2, h64)).bind (fun (y105 : Hp) => pt y105 a0 3 (w32 ((y105 a0 3) + 1)) fun h112 =>
  some ((w32 ((h112 a0 3) - 1)), h112)))))))
  else (some (v4, h))
theorem s_X4_add {l : Launch} [NoTr l] {D : SD} {a0 a1 a2 a3 : Int} {h : Hp} (hk : h a0 (-2) = 64) (r2 : r32 a2) (r3 : r32 a3) {r : Int × Hp} (hm : m_X4_add a0 a1 a2 a3 h = some r) : Sim l D yX4_add (Cond.code yX4_add cX4_add 7 (Option.some Jvm.ClassFile.FieldType.int)) 3 118 [rv D a0, rv D a1, iv a2, iv a3] h 1 ((0, r.1), r.2) := by
  refine Sim.of (fin := fun (v : Int × Hp) => ((0, v.1), v.2)) (lsE := [(0, rv D a0), (1, rv D a1), (2, iv a2), (3, iv a3)]) hm rfl cwS_code (la_r (la_r (la_i (la_i la_n)))) (ll_r (ll_r (ll_i (ll_i ll_n)))) ?_
  intro p e s m below meth c X hcw hmm hcc hnm hname
  unfold m_X4_add
  refine g_aload_n (pc := 0) X (j := 0) (i := 0) (q := 0) (x := a0) rfl rfl (dl_at t_X4_add 0 rfl) ?_
  refine g_aload_n (pc := 1) X (j := 1) (i := 1) (q := 1) (x := a1) rfl rfl (dl_at t_X4_add 1 rfl) ?_
  refine g_iload_n (pc := 2) X (j := 2) (i := 2) (q := 2) (x := a2) rfl rfl (dl_at t_X4_add 2 rfl) ?_
  refine g_iload_n (pc := 3) X (j := 3) (i := 3) (q := 3) (x := a3) rfl rfl (dl_at t_X4_add 3 rfl) ?_
  refine r_callRi (pc := 4) X (fun _ hv => s_X4_find hk r2 r3 hv) cw_code q2011 q358 (in_Vk X (As := [rv D a1, iv a2, iv a3]) kX4 hk (Or.inl q2008) q2010 qs38 cw_code q2011 ⟨by decide, by decide⟩ rfl (dl_at t_X4_add 4 rfl)) (dl_at t_X4_add 4 rfl) (cat24 (st := []) (Nat.le_of_ble_eq_true rfl)) (Nat.le_of_ble_eq_true rfl) (Nat.le_of_ble_eq_true rfl) fun v4 g4 => ?_
  refine g_istoreN (pc := 7) X (i := 4) (x := v4) (b := 3) (w := iv a3) (rest := [(0, rv D a0), (1, rv D a1), (2, iv a2)]) (Nat.le_of_ble_eq_true rfl) [3, 0, 1, 2] rfl (by decide) rfl rfl (dl_at t_X4_add 5 rfl) ?_
  refine g_iload (pc := 9) X (i := 4) (q := 0) (x := v4) rfl (dl_at t_X4_add 6 rfl) ?_
  refine g_iflt (pc := 11) X g4 (off := 6) (tgt := 17) rfl (dl_at t_X4_add 7 rfl) (fun _ => ?_) (fun _ => ?_)
  · refine g_aload_n (pc := 17) X (j := 0) (i := 0) (q := 2) (x := a0) rfl rfl (dl_at t_X4_add 10 rfl) ?_
    refine r_getr (pc := 18) X fX4_2 hk q470 (dl_at t_X4_add 11 rfl) ?_
    refine g_aload_n (pc := 21) X (j := 0) (i := 0) (q := 2) (x := a0) rfl rfl (dl_at t_X4_add 12 rfl) ?_
    refine r_geti (pc := 22) X fX4_3 hk q472 (dl_at t_X4_add 13 rfl) fun g22 => ?_
    refine g_aload_n (pc := 25) X (j := 0) (i := 0) (q := 2) (x := a0) rfl rfl (dl_at t_X4_add 14 rfl) ?_
    refine r_geti (pc := 26) X fX4_1 hk q469 (dl_at t_X4_add 15 rfl) fun g26 => ?_
    refine g_gd fun k29 => ?_
    refine r_iast (pc := 29) X g22 g26 k29 (dl_at t_X4_add 16 rfl) (fun h29 E29 => ?_)
    refine g_aload_n (pc := 30) X (j := 1) (i := 1) (q := 3) (x := a1) rfl rfl (dl_at t_X4_add 17 rfl) ?_
    refine g_iload_n (pc := 31) X (j := 2) (i := 2) (q := 4) (x := a2) rfl rfl (dl_at t_X4_add 18 rfl) ?_
    refine g_iload_n (pc := 32) X (j := 3) (i := 3) (q := 1) (x := a3) rfl rfl (dl_at t_X4_add 19 rfl) ?_
    refine r_callRi (pc := 33) X (fun _ hv => s_X4_slot r2 r3 hv) cw_code q2014 q358 (in_Sc X (As := [rv D a1, iv a2, iv a3]) (Or.inl q2012) q2013 q358 q2014 ⟨by decide, by decide⟩ rfl (dl_at t_X4_add 20 rfl)) (dl_at t_X4_add 20 rfl) (cat24 (st := []) (Nat.le_of_ble_eq_true rfl)) (Nat.le_of_ble_eq_true rfl) (Nat.le_of_ble_eq_true rfl) fun v33 g33 => ?_
    refine g_istore (pc := 36) X (i := 5) (x := v33) (rest := [(3, iv a3), (0, rv D a0), (1, rv D a1), (2, iv a2)]) (Nat.le_of_ble_eq_true rfl) [1, 2, 3, 4] rfl rfl (dl_at t_X4_add 21 rfl) ?_
    refine g_aload_n (pc := 38) X (j := 0) (i := 0) (q := 2) (x := a0) rfl rfl (dl_at t_X4_add 22 rfl) ?_
    have k39 := kx E29 (by decide) hk
    refine r_getr (pc := 39) X fX4_5 k39 q478 (dl_at t_X4_add 23 rfl) ?_
    refine g_aload_n (pc := 42) X (j := 0) (i := 0) (q := 2) (x := a0) rfl rfl (dl_at t_X4_add 24 rfl) ?_
    refine r_geti (pc := 43) X fX4_3 k39 q472 (dl_at t_X4_add 25 rfl) fun g43 => ?_
    refine g_aload_n (pc := 46) X (j := 0) (i := 0) (q := 2) (x := a0) rfl rfl (dl_at t_X4_add 26 rfl) ?_
    refine r_getr (pc := 47) X fX4_4 k39 q477 (dl_at t_X4_add 27 rfl) ?_
    refine g_iload (pc := 50) X (i := 5) (q := 0) (x := v33) rfl (dl_at t_X4_add 28 rfl) ?_
    refine g_gd fun k52 => ?_
    refine g_iald (pc := 52) X g33 k52 (dl_at t_X4_add 29 rfl) fun g52 => ?_
    refine g_gd fun k53 => ?_
    refine r_iast (pc := 53) X g43 g52 k53 (dl_at t_X4_add 30 rfl) (fun h53 E53 => ?_)
    refine g_aload_n (pc := 54) X (j := 0) (i := 0) (q := 2) (x := a0) rfl rfl (dl_at t_X4_add 31 rfl) ?_
    have k55 := kx E53 (by decide) k39
    refine r_getr (pc := 55) X fX4_4 k55 q477 (dl_at t_X4_add 32 rfl) ?_
    refine g_iload (pc := 58) X (i := 5) (q := 0) (x := v33) rfl (dl_at t_X4_add 33 rfl) ?_
    refine g_aload_n (pc := 60) X (j := 0) (i := 0) (q := 2) (x := a0) rfl rfl (dl_at t_X4_add 34 rfl) ?_
    refine r_geti (pc := 61) X fX4_3 k55 q472 (dl_at t_X4_add 35 rfl) fun g61 => ?_
    refine g_gd fun k64 => ?_
    refine r_iast (pc := 64) X g33 g61 k64 (dl_at t_X4_add 36 rfl) (fun h64 E64 => ?_)
    refine g_iload_n (pc := 65) X (j := 2) (i := 2) (q := 4) (x := a2) rfl rfl (dl_at t_X4_add 37 rfl) ?_
    refine g_istore (pc := 66) X (i := 6) (x := a2) (rest := [(3, iv a3), (0, rv D a0), (1, rv D a1), (2, iv a2)]) (Nat.le_of_ble_eq_true rfl) [1, 2, 3, 4] rfl rfl (dl_at t_X4_add 38 rfl) ?_
    refine g_ls (ls2 := [(0, rv D a0), (1, rv D a1), (2, iv a2), (3, iv a3), (6, iv a2)]) [2, 3, 4, 1, 0] rfl ?_
    refine g_loop1 (fun (q : Int × Hp) => [(0, rv D a0), (1, rv D a1), (2, iv a2), (3, iv a3), (6, iv q.1)]) (fun (q : Int × Hp) => q.2) (fun (q : Int × Hp) => r32 q.1 ∧ Ext h64 q.2) 105 (fun (y105 : Hp) => [(0, rv D a0)]) (fun (y105 : Hp) => y105) (fun (y105 : Hp) => Ext h64 y105) (a2, h64) ⟨r2, (Ext.refl _)⟩ ?_ ?_
    · rintro ⟨x6_68, h_68⟩ ⟨r6_68, E_68⟩
      try dsimp only
      unfold m_X4_add_l68
      refine g_iload (pc := 68) X (i := 6) (q := 4) (x := x6_68) rfl (dl_at t_X4_add 39 rfl) ?_
      refine g_iload_n (pc := 70) X (j := 2) (i := 2) (q := 2) (x := a2) rfl rfl (dl_at t_X4_add 40 rfl) ?_
      refine g_iload_n (pc := 71) X (j := 3) (i := 3) (q := 3) (x := a3) rfl rfl (dl_at t_X4_add 41 rfl) ?_
      refine g_iadd (pc := 72) X r2 r3 (dl_at t_X4_add 42 rfl) ?_
      refine g_icmpge (pc := 73) X r6_68 (r32_w _) (off := 32) (tgt := 105) rfl (dl_at t_X4_add 43 rfl) (fun _ => ?_) (fun _ => ?_)
      · refine g_ls (ls2 := [(0, rv D a0)]) [0] rfl ?_
        exact g_at fun Q hQ => hQ E_68
      refine g_aload_n (pc := 76) X (j := 0) (i := 0) (q := 0) (x := a0) rfl rfl (dl_at t_X4_add 44 rfl) ?_
      have k77 := kx (E64.trans E_68) (by decide) k55
      refine r_getr (pc := 77) X fX4_0 k77 q467 (dl_at t_X4_add 45 rfl) ?_
      refine g_aload_n (pc := 80) X (j := 0) (i := 0) (q := 0) (x := a0) rfl rfl (dl_at t_X4_add 46 rfl) ?_
      refine r_geti (pc := 81) X fX4_1 k77 q469 (dl_at t_X4_add 47 rfl) fun g81 => ?_
      refine g_aload_n (pc := 84) X (j := 1) (i := 1) (q := 1) (x := a1) rfl rfl (dl_at t_X4_add 48 rfl) ?_
      refine g_iload (pc := 85) X (i := 6) (q := 4) (x := x6_68) rfl (dl_at t_X4_add 49 rfl) ?_
      refine g_gd fun k87 => ?_
      refine g_bald (pc := 87) X r6_68 k87 (dl_at t_X4_add 50 rfl) fun g87 => ?_
      refine g_gd fun k88 => ?_
      refine r_bastB (pc := 88) X g81 g87 k88 (dl_at t_X4_add 51 rfl) (fun h88 E88 => ?_)
      refine g_aload_n (pc := 89) X (j := 0) (i := 0) (q := 0) (x := a0) rfl rfl (dl_at t_X4_add 52 rfl) ?_
      refine g_dup (pc := 90) X rv_cat (dl_at t_X4_add 53 rfl) ?_
      have k91 := kx E88 (by decide) k77
      refine r_geti (pc := 91) X fX4_1 k91 q469 (dl_at t_X4_add 54 rfl) fun g91 => ?_
      refine g_iconst (pc := 94) X (n := 1) (dl_at t_X4_add 55 rfl) ?_
      refine g_iadd (pc := 95) X g91 (r32_c rfl) (dl_at t_X4_add 56 rfl) ?_
      refine r_puti (pc := 96) X fX4_1 k91 q469 rfl (dl_at t_X4_add 57 rfl) (r32_w _) (fun h96 E96 => ?_)
      refine r_iinc (pc := 99) X (i := 6) (q := 4) (n := 1) (x := x6_68) (rest := [(0, rv D a0), (1, rv D a1), (2, iv a2), (3, iv a3)]) rfl r6_68 (r32_c rfl) (Nat.le_of_ble_eq_true rfl) [0, 1, 2, 3] rfl rfl (dl_at t_X4_add 58 rfl) fun x6_99 r6_99 => ?_
      refine g_goto (pc := 102) X (off := (-34)) (tgt := 68) rfl (dl_at t_X4_add 59 rfl) ?_
      refine g_ls (ls2 := [(0, rv D a0), (1, rv D a1), (2, iv a2), (3, iv a3), (6, iv x6_99)]) [1, 2, 3, 4, 0] rfl ?_
      exact g_at fun Q hQ => hQ ⟨r6_99, (E_68.trans (E88.trans E96))⟩
    · rintro h_105 E_105
      try dsimp only [sE]
      refine g_aload_n (pc := 105) X (j := 0) (i := 0) (q := 0) (x := a0) rfl rfl (dl_at t_X4_add 60 rfl) ?_
      refine g_dup (pc := 106) X rv_cat (dl_at t_X4_add 61 rfl) ?_
      have k107 := kx (E64.trans E_105) (by decide) k55
      refine r_geti (pc := 107) X fX4_3 k107 q472 (dl_at t_X4_add 62 rfl) fun g107 => ?_
      refine g_iconst (pc := 110) X (n := 1) (dl_at t_X4_add 63 rfl) ?_
      refine g_iadd (pc := 111) X g107 (r32_c rfl) (dl_at t_X4_add 64 rfl) ?_
      refine r_puti (pc := 112) X fX4_3 k107 q472 rfl (dl_at t_X4_add 65 rfl) (r32_w _) (fun h112 E112 => ?_)
      refine g_aload_n (pc := 115) X (j := 0) (i := 0) (q := 0) (x := a0) rfl rfl (dl_at t_X4_add 66 rfl) ?_
      have k116 := kx E112 (by decide) k107
      refine r_geti (pc := 116) X fX4_3 k116 q472 (dl_at t_X4_add 67 rfl) fun g116 => ?_
      refine g_iconst (pc := 119) X (n := 1) (dl_at t_X4_add 68 rfl) ?_
      refine g_isub (pc := 120) X g116 (r32_c rfl) (dl_at t_X4_add 69 rfl) ?_
      exact g_iret (pc := 121) X (r32_w _) rfl rfl (dl_at t_X4_add 70 rfl)
  refine g_iload (pc := 14) X (i := 4) (q := 0) (x := v4) rfl (dl_at t_X4_add 8 rfl) ?_
  exact g_iret (pc := 16) X g4 rfl rfl (dl_at t_X4_add 9 rfl)
def k_X3_ask : List (Nat × Instr × Nat) := [(0, .aload_n 0, 1), (1, .getfield 40, 3), (4, .aload_n 0, 1), (5, .getfield 88, 3), (8, .iload_n 1, 1), (9, .iastore, 1), (10, .aload_n 0, 1), (11, .getfield 43, 3), (14, .aload_n 0, 1), (15, .getfield 88, 3), (18, .iload_n 2, 1), (19, .iastore, 1), (20, .aload_n 0, 1), (21, .getfield 46, 3), (24, .aload_n 0, 1), (25, .getfield 88, 3), (28, .iload_n 3, 1), (29, .iastore, 1), (30, .aload_n 0, 1), (31, .getfield 49, 3), (34, .aload_n 0, 1), (35, .getfield 88, 3), (38, .iload 4, 2), (40, .iastore, 1), (41, .aload_n 0, 1), (42, .dup, 1), (43, .getfield 88, 3), (46, .iconst 1, 1), (47, .iadd, 1), (48, .putfield 88, 3), (51, .return_, 1)]
theorem t_X3_ask : ∀ q ∈ k_X3_ask, decode cX3_ask q.1 = .ok q.2 := dl_all (by decide +kernel)
noncomputable def m_X3_ask (a0 a1 a2 a3 a4 : Int) (h : Hp) : Option (Hp) :=
  gd (h (h a0 7) (-2) % 16 = 1 ∧ (0 : Int) ≤ (h a0 11) ∧ (h a0 11) < h (h a0 7) (-1)) (pt h (h a0 7) (h a0 11) a1 fun h9 =>
  gd (h9 (h9 a0 8) (-2) % 16 = 1 ∧ (0 : Int) ≤ (h9 a0 11) ∧ (h9 a0 11) < h9 (h9 a0 8) (-1)) (pt h9 (h9 a0 8) (h9 a0 11) a2 fun h19 =>
  gd (h19 (h19 a0 9) (-2) % 16 = 1 ∧ (0 : Int) ≤ (h19 a0 11) ∧ (h19 a0 11) < h19 (h19 a0 9) (-1)) (pt h19 (h19 a0 9) (h19 a0 11) a3 fun h29 =>
  gd (h29 (h29 a0 10) (-2) % 16 = 1 ∧ (0 : Int) ≤ (h29 a0 11) ∧ (h29 a0 11) < h29 (h29 a0 10) (-1)) (pt h29 (h29 a0 10) (h29 a0 11) a4 fun h40 =>
  pt h40 a0 11 (w32 ((h40 a0 11) + 1)) fun h48 =>
  some h48))))
theorem s_X3_ask {l : Launch} [NoTr l] {D : SD} {a0 a1 a2 a3 a4 : Int} {h : Hp} (hk : h a0 (-2) = 48) (r1 : r32 a1) (r2 : r32 a2) (r3 : r32 a3) (r4 : r32 a4) {r : Hp} (hm : m_X3_ask a0 a1 a2 a3 a4 h = some r) : Sim l D yX3_ask (Cond.code yX3_ask cX3_ask 5 (Option.none : Option Jvm.ClassFile.FieldType)) 0 0 [rv D a0, iv a1, iv a2, iv a3, iv a4] h 0 ((0, 0), r) := by
  refine Sim.of (fin := fun (v : Hp) => ((0, 0), v)) (lsE := [(0, rv D a0), (1, iv a1), (2, iv a2), (3, iv a3), (4, iv a4)]) hm rfl cwS_code (la_r (la_i (la_i (la_i (la_i la_n))))) (ll_r (ll_i (ll_i (ll_i (ll_i ll_n))))) ?_
  intro p e s m below meth c X hcw hmm hcc hnm hname
  unfold m_X3_ask
  refine g_aload_n (pc := 0) X (j := 0) (i := 0) (q := 0) (x := a0) rfl rfl (dl_at t_X3_ask 0 rfl) ?_
  refine r_getr (pc := 1) X fX3_7 hk q534 (dl_at t_X3_ask 1 rfl) ?_
  refine g_aload_n (pc := 4) X (j := 0) (i := 0) (q := 0) (x := a0) rfl rfl (dl_at t_X3_ask 2 rfl) ?_
  refine r_geti (pc := 5) X fX3_11 hk q542 (dl_at t_X3_ask 3 rfl) fun g5 => ?_
  refine g_iload_n (pc := 8) X (j := 1) (i := 1) (q := 1) (x := a1) rfl rfl (dl_at t_X3_ask 4 rfl) ?_
  refine g_gd fun k9 => ?_
  refine r_iast (pc := 9) X g5 r1 k9 (dl_at t_X3_ask 5 rfl) (fun h9 E9 => ?_)
  refine g_aload_n (pc := 10) X (j := 0) (i := 0) (q := 0) (x := a0) rfl rfl (dl_at t_X3_ask 6 rfl) ?_
  have k11 := kx E9 (by decide) hk
  refine r_getr (pc := 11) X fX3_8 k11 q536 (dl_at t_X3_ask 7 rfl) ?_
  refine g_aload_n (pc := 14) X (j := 0) (i := 0) (q := 0) (x := a0) rfl rfl (dl_at t_X3_ask 8 rfl) ?_
  refine r_geti (pc := 15) X fX3_11 k11 q542 (dl_at t_X3_ask 9 rfl) fun g15 => ?_
  refine g_iload_n (pc := 18) X (j := 2) (i := 2) (q := 2) (x := a2) rfl rfl (dl_at t_X3_ask 10 rfl) ?_
  refine g_gd fun k19 => ?_
  refine r_iast (pc := 19) X g15 r2 k19 (dl_at t_X3_ask 11 rfl) (fun h19 E19 => ?_)
  refine g_aload_n (pc := 20) X (j := 0) (i := 0) (q := 0) (x := a0) rfl rfl (dl_at t_X3_ask 12 rfl) ?_
  have k21 := kx E19 (by decide) k11
  refine r_getr (pc := 21) X fX3_9 k21 q538 (dl_at t_X3_ask 13 rfl) ?_
  refine g_aload_n (pc := 24) X (j := 0) (i := 0) (q := 0) (x := a0) rfl rfl (dl_at t_X3_ask 14 rfl) ?_
  refine r_geti (pc := 25) X fX3_11 k21 q542 (dl_at t_X3_ask 15 rfl) fun g25 => ?_
  refine g_iload_n (pc := 28) X (j := 3) (i := 3) (q := 3) (x := a3) rfl rfl (dl_at t_X3_ask 16 rfl) ?_
  refine g_gd fun k29 => ?_
  refine r_iast (pc := 29) X g25 r3 k29 (dl_at t_X3_ask 17 rfl) (fun h29 E29 => ?_)
  refine g_aload_n (pc := 30) X (j := 0) (i := 0) (q := 0) (x := a0) rfl rfl (dl_at t_X3_ask 18 rfl) ?_
  have k31 := kx E29 (by decide) k21
  refine r_getr (pc := 31) X fX3_10 k31 q540 (dl_at t_X3_ask 19 rfl) ?_
  refine g_aload_n (pc := 34) X (j := 0) (i := 0) (q := 0) (x := a0) rfl rfl (dl_at t_X3_ask 20 rfl) ?_
  refine r_geti (pc := 35) X fX3_11 k31 q542 (dl_at t_X3_ask 21 rfl) fun g35 => ?_
  refine g_iload (pc := 38) X (i := 4) (q := 4) (x := a4) rfl (dl_at t_X3_ask 22 rfl) ?_
  refine g_gd fun k40 => ?_
  refine r_iast (pc := 40) X g35 r4 k40 (dl_at t_X3_ask 23 rfl) (fun h40 E40 => ?_)
  refine g_aload_n (pc := 41) X (j := 0) (i := 0) (q := 0) (x := a0) rfl rfl (dl_at t_X3_ask 24 rfl) ?_
  refine g_dup (pc := 42) X rv_cat (dl_at t_X3_ask 25 rfl) ?_
  have k43 := kx E40 (by decide) k31
  refine r_geti (pc := 43) X fX3_11 k43 q542 (dl_at t_X3_ask 26 rfl) fun g43 => ?_
  refine g_iconst (pc := 46) X (n := 1) (dl_at t_X3_ask 27 rfl) ?_
  refine g_iadd (pc := 47) X g43 (r32_c rfl) (dl_at t_X3_ask 28 rfl) ?_
  refine r_puti (pc := 48) X fX3_11 k43 q542 rfl (dl_at t_X3_ask 29 rfl) (r32_w _) (fun h48 E48 => ?_)
  exact g_vret (pc := 51) X (v := 0) rfl rfl (dl_at t_X3_ask 30 rfl)
def k_X5_add : List (Nat × Instr × Nat) := [(0, .aload_n 0, 1), (1, .getfield 13, 3), (4, .aload_n 0, 1), (5, .getfield 7, 3), (8, .arraylength, 1), (9, .if_icmp .ge 7, 3), (12, .iconst 1, 1), (13, .goto 4, 3), (16, .iconst 0, 1), (17, .invokestatic 17, 3), (20, .aload_n 0, 1), (21, .getfield 7, 3), (24, .aload_n 0, 1), (25, .getfield 13, 3), (28, .iload_n 1, 1), (29, .i2b, 1), (30, .bastore, 1), (31, .aload_n 0, 1), (32, .dup, 1), (33, .getfield 13, 3), (36, .iconst 1, 1), (37, .iadd, 1), (38, .putfield 13, 3), (41, .return_, 1)]
theorem t_X5_add : ∀ q ∈ k_X5_add, decode cX5_add q.1 = .ok q.2 := dl_all (by decide +kernel)
noncomputable def m_X5_add_j17 (a0 a1 s0_17 : Int) (h : Hp) : Option ((Int × Int) × Hp) :=
  bT (m_X1_room s0_17 h) (fun _ h17 =>
  gd (h17 (h17 a0 0) (-2) % 16 = 2 ∧ (0 : Int) ≤ (h17 a0 1) ∧ (h17 a0 1) < h17 (h17 a0 0) (-1)) (pt h17 (h17 a0 0) (h17 a0 1) (w8 a1) fun h30 =>
  pt h30 a0 1 (w32 ((h30 a0 1) + 1)) fun h38 =>
  some ((0, 0), h38))) (fun a_ h_ => some ((1, a_), h_))
noncomputable def m_X5_add (a0 a1 : Int) (h : Hp) : Option ((Int × Int) × Hp) :=
  gd (1 ≤ h (h a0 0) (-2) % 16 ∧ h (h a0 0) (-2) % 16 ≤ 9) (if (h (h a0 0) (-1)) ≤ (h a0 1) then (m_X5_add_j17 a0 a1 0 h)
  else (m_X5_add_j17 a0 a1 1 h))
theorem s_X5_add {l : Launch} [NoTr l] {D : SD} {a0 a1 : Int} {h : Hp} (hk : h a0 (-2) = 80) (r1 : r32 a1) {r : (Int × Int) × Hp} (hm : m_X5_add a0 a1 h = some r) : Sim l D yX5_add (Cond.code yX5_add cX5_add 2 (Option.none : Option Jvm.ClassFile.FieldType)) 10 372 [rv D a0, iv a1] h 0 r := by
  refine Sim.of (fin := fun (v : (Int × Int) × Hp) => v) (lsE := [(0, rv D a0), (1, iv a1)]) hm rfl cwS_code (la_r (la_i la_n)) (ll_r (ll_i ll_n)) ?_
  intro p e s m below meth c X hcw hmm hcc hnm hname
  have hno := noh hcw hnm hmm hcc
  unfold m_X5_add
  refine g_aload_n (pc := 0) X (j := 0) (i := 0) (q := 0) (x := a0) rfl rfl (dl_at t_X5_add 0 rfl) ?_
  refine r_geti (pc := 1) X fX5_1 hk q504 (dl_at t_X5_add 1 rfl) fun g1 => ?_
  refine g_aload_n (pc := 4) X (j := 0) (i := 0) (q := 0) (x := a0) rfl rfl (dl_at t_X5_add 2 rfl) ?_
  refine r_getr (pc := 5) X fX5_0 hk q499 (dl_at t_X5_add 3 rfl) ?_
  refine g_gd fun k8 => ?_
  refine g_alen (pc := 8) X k8 (dl_at t_X5_add 4 rfl) fun g8 => ?_
  refine g_join (γ := Int) (fun q => (q = 0 ∨ q = 1)) 17 (fun q => [(0, rv D a0), (1, iv a1)]) (fun q => [iv q]) (fun q => h) (fun q => m_X5_add_j17 a0 a1 q h) ?_ ?_
  · rintro s0_17 rs0_17
    try dsimp only
    unfold m_X5_add_j17
    refine r_callTv (pc := 17) X (fun _ hv => s_X1_room rs0_17 hv) cw_code q1653 q355 (in_Sc X (As := [iv s0_17]) (Or.inr ⟨_, nw_in q2039 rfl⟩) q1652 q355 q1653 ⟨by decide, by decide⟩ rfl (dl_at t_X5_add 9 rfl)) (dl_at t_X5_add 9 rfl) (cat24 (st := []) (Nat.le_of_ble_eq_true rfl)) (Nat.le_of_ble_eq_true rfl) (Nat.le_of_ble_eq_true rfl) (fun v17 h17 E17 => ?_) (fun _ _ ha _ => gt_at fun Q hQ => gt_out (Q := Q) X rfl ha (hno _) _ Q rfl hQ)
    refine g_aload_n (pc := 20) X (j := 0) (i := 0) (q := 0) (x := a0) rfl rfl (dl_at t_X5_add 10 rfl) ?_
    have k21 := kx E17 (by decide) hk
    refine r_getr (pc := 21) X fX5_0 k21 q499 (dl_at t_X5_add 11 rfl) ?_
    refine g_aload_n (pc := 24) X (j := 0) (i := 0) (q := 0) (x := a0) rfl rfl (dl_at t_X5_add 12 rfl) ?_
    refine r_geti (pc := 25) X fX5_1 k21 q504 (dl_at t_X5_add 13 rfl) fun g25 => ?_
    refine g_iload_n (pc := 28) X (j := 1) (i := 1) (q := 1) (x := a1) rfl rfl (dl_at t_X5_add 14 rfl) ?_
    refine g_i2b (pc := 29) X r1 (dl_at t_X5_add 15 rfl) ?_
    refine g_gd fun k30 => ?_
    refine r_bastB (pc := 30) X g25 (b_w8 _) k30 (dl_at t_X5_add 16 rfl) (fun h30 E30 => ?_)
    refine g_aload_n (pc := 31) X (j := 0) (i := 0) (q := 0) (x := a0) rfl rfl (dl_at t_X5_add 17 rfl) ?_
    refine g_dup (pc := 32) X rv_cat (dl_at t_X5_add 18 rfl) ?_
    have k33 := kx E30 (by decide) k21
    refine r_geti (pc := 33) X fX5_1 k33 q504 (dl_at t_X5_add 19 rfl) fun g33 => ?_
    refine g_iconst (pc := 36) X (n := 1) (dl_at t_X5_add 20 rfl) ?_
    refine g_iadd (pc := 37) X g33 (r32_c rfl) (dl_at t_X5_add 21 rfl) ?_
    refine r_puti (pc := 38) X fX5_1 k33 q504 rfl (dl_at t_X5_add 22 rfl) (r32_w _) (fun h38 E38 => ?_)
    exact g_vret (pc := 41) X (v := 0) rfl rfl (dl_at t_X5_add 23 rfl)
  intro J17
  refine g_icmpge (pc := 9) X g1 g8 (off := 7) (tgt := 16) rfl (dl_at t_X5_add 5 rfl) (fun _ => ?_) (fun _ => ?_)
  · refine g_iconst (pc := 16) X (n := 0) (dl_at t_X5_add 8 rfl) ?_
    exact J17 0 (Or.inl rfl)
  refine g_iconst (pc := 12) X (n := 1) (dl_at t_X5_add 6 rfl) ?_
  refine g_goto (pc := 13) X (off := 4) (tgt := 17) rfl (dl_at t_X5_add 7 rfl) ?_
  exact J17 1 (Or.inr rfl)
def k_X5_addAll : List (Nat × Instr × Nat) := [(0, .iload_n 2, 1), (1, .istore 4, 2), (3, .iload 4, 2), (5, .iload_n 2, 1), (6, .iload_n 3, 1), (7, .iadd, 1), (8, .if_icmp .ge 17, 3), (11, .aload_n 0, 1), (12, .aload_n 1, 1), (13, .iload 4, 2), (15, .baload, 1), (16, .invokevirtual 23, 3), (19, .iinc 4 1, 3), (22, .goto (-19), 3), (25, .return_, 1)]
theorem t_X5_addAll : ∀ q ∈ k_X5_addAll, decode cX5_addAll q.1 = .ok q.2 := dl_all (by decide +kernel)
noncomputable def m_X5_addAll_l3 (a0 a1 a2 a3 x4_3 : Int) (h_3 : Hp) : Option ((Int × Hp) ⊕ (((Int × Int) × Hp))) :=
  if (w32 (a2 + a3)) ≤ x4_3 then (some (.inr ((0, 0), h_3)))
  else (gd (h_3 a1 (-2) % 16 = 2 ∧ (0 : Int) ≤ x4_3 ∧ x4_3 < h_3 a1 (-1)) (bT (m_X5_add a0 (h_3 a1 x4_3) h_3) (fun _ h16 =>
  lt_ (w32 (x4_3 + 1)) fun x4_19 =>
  some (.inl (x4_19, h16))) (fun a_ h_ => some (.inr ((1, a_), h_)))))
noncomputable def m_X5_addAll (a0 a1 a2 a3 : Int) (h : Hp) : Option ((Int × Int) × Hp) :=
  (lp (fun (q : Int × Hp) => m_X5_addAll_l3 a0 a1 a2 a3 q.1 q.2) (a2, h)).bind (fun (x : (Int × Int) × Hp) => some x)
theorem s_X5_addAll {l : Launch} [NoTr l] {D : SD} {a0 a1 a2 a3 : Int} {h : Hp} (hk : h a0 (-2) = 80) (r2 : r32 a2) (r3 : r32 a3) {r : (Int × Int) × Hp} (hm : m_X5_addAll a0 a1 a2 a3 h = some r) : Sim l D yX5_addAll (Cond.code yX5_addAll cX5_addAll 5 (Option.none : Option Jvm.ClassFile.FieldType)) 11 409 [rv D a0, rv D a1, iv a2, iv a3] h 0 r := by
  refine Sim.of (fin := fun (v : (Int × Int) × Hp) => v) (lsE := [(0, rv D a0), (1, rv D a1), (2, iv a2), (3, iv a3)]) hm rfl cwS_code (la_r (la_r (la_i (la_i la_n)))) (ll_r (ll_r (ll_i (ll_i ll_n)))) ?_
  intro p e s m below meth c X hcw hmm hcc hnm hname
  have hno := noh hcw hnm hmm hcc
  unfold m_X5_addAll
  refine g_iload_n (pc := 0) X (j := 2) (i := 2) (q := 2) (x := a2) rfl rfl (dl_at t_X5_addAll 0 rfl) ?_
  refine g_istoreN (pc := 1) X (i := 4) (x := a2) (b := 3) (w := iv a3) (rest := [(0, rv D a0), (1, rv D a1), (2, iv a2)]) (Nat.le_of_ble_eq_true rfl) [3, 0, 1, 2] rfl (by decide) rfl rfl (dl_at t_X5_addAll 1 rfl) ?_
  refine g_ls (ls2 := [(0, rv D a0), (1, rv D a1), (2, iv a2), (3, iv a3), (4, iv a2)]) [2, 3, 4, 1, 0] rfl ?_
  refine g_loop0F (fun (q : Int × Hp) => [(0, rv D a0), (1, rv D a1), (2, iv a2), (3, iv a3), (4, iv q.1)]) (fun (q : Int × Hp) => q.2) (fun (q : Int × Hp) => r32 q.1 ∧ Ext h q.2) (a2, h) ⟨r2, (Ext.refl _)⟩ ?_ (fun _ => rfl)
  · rintro ⟨x4_3, h_3⟩ ⟨r4_3, E_3⟩
    try dsimp only
    unfold m_X5_addAll_l3
    refine g_iload (pc := 3) X (i := 4) (q := 4) (x := x4_3) rfl (dl_at t_X5_addAll 2 rfl) ?_
    refine g_iload_n (pc := 5) X (j := 2) (i := 2) (q := 2) (x := a2) rfl rfl (dl_at t_X5_addAll 3 rfl) ?_
    refine g_iload_n (pc := 6) X (j := 3) (i := 3) (q := 3) (x := a3) rfl rfl (dl_at t_X5_addAll 4 rfl) ?_
    refine g_iadd (pc := 7) X r2 r3 (dl_at t_X5_addAll 5 rfl) ?_
    refine g_icmpge (pc := 8) X r4_3 (r32_w _) (off := 17) (tgt := 25) rfl (dl_at t_X5_addAll 6 rfl) (fun _ => ?_) (fun _ => ?_)
    · exact g_at fun Q hQ => (g_vret (pc := 25) X (v := 0) rfl rfl (dl_at t_X5_addAll 14 rfl)) _ Q rfl hQ
    refine g_aload_n (pc := 11) X (j := 0) (i := 0) (q := 0) (x := a0) rfl rfl (dl_at t_X5_addAll 7 rfl) ?_
    refine g_aload_n (pc := 12) X (j := 1) (i := 1) (q := 1) (x := a1) rfl rfl (dl_at t_X5_addAll 8 rfl) ?_
    refine g_iload (pc := 13) X (i := 4) (q := 4) (x := x4_3) rfl (dl_at t_X5_addAll 9 rfl) ?_
    refine g_gd fun k15 => ?_
    refine g_bald (pc := 15) X r4_3 k15 (dl_at t_X5_addAll 10 rfl) fun g15 => ?_
    have k16 := kx E_3 (by decide) hk
    refine r_callTv (pc := 16) X (fun _ hv => s_X5_add k16 (r32_b g15) hv) cw_code q2038 q359 (in_Vk X (As := [iv (h_3 a1 x4_3)]) kX5 k16 (Or.inl q2035) q2037 qs44 cw_code q2038 ⟨by decide, by decide⟩ rfl (dl_at t_X5_addAll 11 rfl)) (dl_at t_X5_addAll 11 rfl) (cat24 (st := []) (Nat.le_of_ble_eq_true rfl)) (Nat.le_of_ble_eq_true rfl) (Nat.le_of_ble_eq_true rfl) (fun v16 h16 E16 => ?_) (fun _ _ ha _ => gt_at fun Q hQ => gt_out (Q := Q) X rfl ha (hno _) _ Q rfl hQ)
    refine r_iincN (pc := 19) X (i := 4) (q := 4) (n := 1) (x := x4_3) (b := 3) (w := iv a3) (rest := [(0, rv D a0), (1, rv D a1), (2, iv a2)]) rfl r4_3 (r32_c rfl) (Nat.le_of_ble_eq_true rfl) [3, 0, 1, 2] rfl (by decide) rfl rfl (dl_at t_X5_addAll 12 rfl) fun x4_19 r4_19 => ?_
    refine g_goto (pc := 22) X (off := (-19)) (tgt := 3) rfl (dl_at t_X5_addAll 13 rfl) ?_
    refine g_ls (ls2 := [(0, rv D a0), (1, rv D a1), (2, iv a2), (3, iv a3), (4, iv x4_19)]) [2, 3, 4, 1, 0] rfl ?_
    exact g_at fun Q hQ => hQ ⟨r4_19, (E_3.trans E16)⟩
def k_X3_field : List (Nat × Instr × Nat) := [(0, .aload_n 1, 1), (1, .iconst 1, 1), (2, .invokevirtual 147, 3), (5, .aload_n 0, 1), (6, .getfield 16, 3), (9, .aload_n 1, 1), (10, .getfield 193, 3), (13, .aload_n 1, 1), (14, .getfield 197, 3), (17, .aload_n 1, 1), (18, .getfield 200, 3), (21, .invokevirtual 202, 3), (24, .istore_n 2, 1), (25, .aload_n 1, 1), (26, .invokevirtual 132, 3), (29, .aload_n 1, 1), (30, .bipush 61, 2), (32, .invokevirtual 143, 3), (35, .ifCond .eq 51, 3), (38, .aload_n 1, 1), (39, .iconst 3, 1), (40, .invokevirtual 147, 3), (43, .aload_n 0, 1), (44, .iconst 1, 1), (45, .iload_n 2, 1), (46, .aload_n 0, 1), (47, .getfield 26, 3), (50, .getfield 81, 3), (53, .aload_n 1, 1), (54, .getfield 200, 3), (57, .invokevirtual 212, 3), (60, .aload_n 0, 1), (61, .getfield 26, 3), (64, .aload_n 1, 1), (65, .getfield 193, 3), (68, .aload_n 1, 1), (69, .getfield 197, 3), (72, .aload_n 1, 1), (73, .getfield 200, 3), (76, .invokevirtual 216, 3), (79, .aload_n 1, 1), (80, .invokevirtual 132, 3), (83, .goto 11, 3), (86, .aload_n 0, 1), (87, .iconst 0, 1), (88, .iload_n 2, 1), (89, .iconst 0, 1), (90, .iconst 0, 1), (91, .invokevirtual 212, 3), (94, .aload_n 1, 1), (95, .bipush 93, 2), (97, .invokevirtual 140, 3), (100, .return_, 1)]
theorem t_X3_field : ∀ q ∈ k_X3_field, decode cX3_field q.1 = .ok q.2 := dl_all (by decide +kernel)
noncomputable def m_X3_field (a0 a1 : Int) (h : Hp) : Option ((Int × Int) × Hp) :=
  gd (h a1 (-2) = 32) (bT (m_X2_needKind a1 1 h) (fun _ h2 =>
  gd (h2 (h2 a0 0) (-2) = 64) (bW (m_X4_add (h2 a0 0) (h2 a1 0) (h2 a1 5) (h2 a1 6) h2) fun v21 h21 =>
  (m_X2_next a1 h21).bind fun h26 =>
  bW (m_X2_take a1 61 h26) fun v32 h32 =>
  if v32 = 0 then ((m_X3_ask a0 0 v21 0 0 h32).bind fun h91 =>
  bT (m_X2_need a1 93 h91) (fun _ h97 =>
  some ((0, 0), h97)) (fun a_ h_ => some ((1, a_), h_)))
  else (bT (m_X2_needKind a1 3 h32) (fun _ h40 =>
  gd (h40 (h40 a0 2) (-2) = 80) ((m_X3_ask a0 1 v21 (h40 (h40 a0 2) 1) (h40 a1 6) h40).bind fun h57 =>
  gd (h57 (h57 a0 2) (-2) = 80) (bT (m_X5_addAll (h57 a0 2) (h57 a1 0) (h57 a1 5) (h57 a1 6) h57) (fun _ h76 =>
  (m_X2_next a1 h76).bind fun h80 =>
  bT (m_X2_need a1 93 h80) (fun _ h97_1 =>
  some ((0, 0), h97_1)) (fun a_ h_ => some ((1, a_), h_))) (fun a_ h_ => some ((1, a_), h_))))) (fun a_ h_ => some ((1, a_), h_))))) (fun a_ h_ => some ((1, a_), h_)))
theorem s_X3_field {l : Launch} [NoTr l] {D : SD} {a0 a1 : Int} {h : Hp} (hk : h a0 (-2) = 48) {r : (Int × Int) × Hp} (hm : m_X3_field a0 a1 h = some r) : Sim l D yX3_field (Cond.code yX3_field cX3_field 3 (Option.none : Option Jvm.ClassFile.FieldType)) 12 449 [rv D a0, rv D a1] h 0 r := by
  refine Sim.of (fin := fun (v : (Int × Int) × Hp) => v) (lsE := [(0, rv D a0), (1, rv D a1)]) hm rfl cwS_code (la_r (la_r la_n)) (ll_r (ll_r ll_n)) ?_
  intro p e s m below meth c X hcw hmm hcc hnm hname
  have hno := noh hcw hnm hmm hcc
  unfold m_X3_field
  refine g_aload_n (pc := 0) X (j := 1) (i := 1) (q := 1) (x := a1) rfl rfl (dl_at t_X3_field 0 rfl) ?_
  refine g_iconst (pc := 1) X (n := 1) (dl_at t_X3_field 1 rfl) ?_
  refine g_gd fun k2 => ?_
  refine r_callTv (pc := 2) X (fun _ hv => s_X2_needKind k2 (r32_c rfl) hv) cw_code q1975 q356 (in_Vk X (As := [iv 1]) kX2 k2 (Or.inr ⟨_, nw_in q1972 rfl⟩) q1974 qs33 cw_code q1975 ⟨by decide, by decide⟩ rfl (dl_at t_X3_field 2 rfl)) (dl_at t_X3_field 2 rfl) (cat24 (st := []) (Nat.le_of_ble_eq_true rfl)) (Nat.le_of_ble_eq_true rfl) (Nat.le_of_ble_eq_true rfl) (fun v2 h2 E2 => ?_) (fun _ _ ha _ => gt_at fun Q hQ => gt_out (Q := Q) X rfl ha (hno _) _ Q rfl hQ)
  refine g_aload_n (pc := 5) X (j := 0) (i := 0) (q := 0) (x := a0) rfl rfl (dl_at t_X3_field 3 rfl) ?_
  have k6 := kx E2 (by decide) hk
  refine r_getr (pc := 6) X fX3_0 k6 q522 (dl_at t_X3_field 4 rfl) ?_
  refine g_aload_n (pc := 9) X (j := 1) (i := 1) (q := 1) (x := a1) rfl rfl (dl_at t_X3_field 5 rfl) ?_
  have k10 := kx E2 (by decide) k2
  refine r_getrN (pc := 10) X fX2_0 k10 (nw_in q416 rfl) (dl_at t_X3_field 6 rfl) ?_
  refine g_aload_n (pc := 13) X (j := 1) (i := 1) (q := 1) (x := a1) rfl rfl (dl_at t_X3_field 7 rfl) ?_
  refine r_getiN (pc := 14) X fX2_5 k10 (nw_in q426 rfl) (dl_at t_X3_field 8 rfl) fun g14 => ?_
  refine g_aload_n (pc := 17) X (j := 1) (i := 1) (q := 1) (x := a1) rfl rfl (dl_at t_X3_field 9 rfl) ?_
  refine r_getiN (pc := 18) X fX2_6 k10 (nw_in q429 rfl) (dl_at t_X3_field 10 rfl) fun g18 => ?_
  refine g_gd fun k21 => ?_
  refine r_callWi (pc := 21) X (fun _ hv => s_X4_add k21 g14 g18 hv) cw_code q2007 q358 (in_Vk X (As := [rv D (h2 a1 0), iv (h2 a1 5), iv (h2 a1 6)]) kX4 k21 (Or.inr ⟨_, nw_in q2004 rfl⟩) q2006 qs37 cw_code q2007 ⟨by decide, by decide⟩ rfl (dl_at t_X3_field 11 rfl)) (dl_at t_X3_field 11 rfl) (cat24 (st := []) (Nat.le_of_ble_eq_true rfl)) (Nat.le_of_ble_eq_true rfl) (Nat.le_of_ble_eq_true rfl) fun v21 h21 g21 E21 => ?_
  refine g_istore_nN (pc := 24) X (j := 2) (i := 2) (x := v21) (b := 1) (w := rv D a1) (rest := [(0, rv D a0)]) rfl (Nat.le_of_ble_eq_true rfl) [1, 0] rfl (by decide) rv_cat rfl (dl_at t_X3_field 12 rfl) ?_
  refine g_aload_n (pc := 25) X (j := 1) (i := 1) (q := 1) (x := a1) rfl rfl (dl_at t_X3_field 13 rfl) ?_
  have k26 := kx E21 (by decide) k10
  refine r_callV (pc := 26) X (fun _ hv => s_X2_next k26 hv) cw_code q1725 q356 (in_Vk X (As := []) kX2 k26 (Or.inr ⟨_, nw_in q1965 rfl⟩) q1724 qs8 cw_code q1725 ⟨by decide, by decide⟩ rfl (dl_at t_X3_field 14 rfl)) (dl_at t_X3_field 14 rfl) (cat24 (st := []) (Nat.le_of_ble_eq_true rfl)) (Nat.le_of_ble_eq_true rfl) (Nat.le_of_ble_eq_true rfl) fun h26 E26 => ?_
  refine g_aload_n (pc := 29) X (j := 1) (i := 1) (q := 1) (x := a1) rfl rfl (dl_at t_X3_field 15 rfl) ?_
  refine g_bipush (pc := 30) X (n := 61) rfl (dl_at t_X3_field 16 rfl) ?_
  have k32 := kx E26 (by decide) k26
  refine r_callWz (pc := 32) X (fun _ hv => s_X2_take k32 (r32_c rfl) hv) cw_code q1867 q356 (in_Vk X (As := [iv 61]) kX2 k32 (Or.inr ⟨_, nw_in q1971 rfl⟩) q1866 qs18 cw_code q1867 ⟨by decide, by decide⟩ rfl (dl_at t_X3_field 17 rfl)) (dl_at t_X3_field 17 rfl) (cat24 (st := []) (Nat.le_of_ble_eq_true rfl)) (Nat.le_of_ble_eq_true rfl) (Nat.le_of_ble_eq_true rfl) fun v32 h32 g32 E32 => ?_
  refine g_ifeq (pc := 35) X (r32_z g32) (off := 51) (tgt := 86) rfl (dl_at t_X3_field 18 rfl) (fun _ => ?_) (fun _ => ?_)
  · refine g_aload_n (pc := 86) X (j := 0) (i := 0) (q := 2) (x := a0) rfl rfl (dl_at t_X3_field 43 rfl) ?_
    refine g_iconst (pc := 87) X (n := 0) (dl_at t_X3_field 44 rfl) ?_
    refine g_iload_n (pc := 88) X (j := 2) (i := 2) (q := 0) (x := v21) rfl rfl (dl_at t_X3_field 45 rfl) ?_
    refine g_iconst (pc := 89) X (n := 0) (dl_at t_X3_field 46 rfl) ?_
    refine g_iconst (pc := 90) X (n := 0) (dl_at t_X3_field 47 rfl) ?_
    have k91 := kx (E21.trans (E26.trans E32)) (by decide) k6
    refine r_callV (pc := 91) X (fun _ hv => s_X3_ask k91 (r32_c rfl) g21 (r32_c rfl) (r32_c rfl) hv) cw_code q2030 q357 (in_Vk X (As := [iv 0, iv v21, iv 0, iv 0]) kX3 k91 (Or.inl q2027) q2029 qs42 cw_code q2030 ⟨by decide, by decide⟩ rfl (dl_at t_X3_field 48 rfl)) (dl_at t_X3_field 48 rfl) (cat24 (st := []) (Nat.le_of_ble_eq_true rfl)) (Nat.le_of_ble_eq_true rfl) (Nat.le_of_ble_eq_true rfl) fun h91 E91 => ?_
    refine g_aload_n (pc := 94) X (j := 1) (i := 1) (q := 1) (x := a1) rfl rfl (dl_at t_X3_field 49 rfl) ?_
    refine g_bipush (pc := 95) X (n := 93) rfl (dl_at t_X3_field 50 rfl) ?_
    have k97 := kx (E32.trans E91) (by decide) k32
    refine r_callTv (pc := 97) X (fun _ hv => s_X2_need k97 (r32_c rfl) hv) cw_code q1876 q356 (in_Vk X (As := [iv 93]) kX2 k97 (Or.inr ⟨_, nw_in q1970 rfl⟩) q1875 qs20 cw_code q1876 ⟨by decide, by decide⟩ rfl (dl_at t_X3_field 51 rfl)) (dl_at t_X3_field 51 rfl) (cat24 (st := []) (Nat.le_of_ble_eq_true rfl)) (Nat.le_of_ble_eq_true rfl) (Nat.le_of_ble_eq_true rfl) (fun v97 h97 E97 => ?_) (fun _ _ ha _ => gt_at fun Q hQ => gt_out (Q := Q) X rfl ha (hno _) _ Q rfl hQ)
    exact g_vret (pc := 100) X (v := 0) rfl rfl (dl_at t_X3_field 52 rfl)
  refine g_aload_n (pc := 38) X (j := 1) (i := 1) (q := 1) (x := a1) rfl rfl (dl_at t_X3_field 19 rfl) ?_
  refine g_iconst (pc := 39) X (n := 3) (dl_at t_X3_field 20 rfl) ?_
  have k40 := kx E32 (by decide) k32
  refine r_callTv (pc := 40) X (fun _ hv => s_X2_needKind k40 (r32_c rfl) hv) cw_code q1975 q356 (in_Vk X (As := [iv 3]) kX2 k40 (Or.inr ⟨_, nw_in q1972 rfl⟩) q1974 qs33 cw_code q1975 ⟨by decide, by decide⟩ rfl (dl_at t_X3_field 21 rfl)) (dl_at t_X3_field 21 rfl) (cat24 (st := []) (Nat.le_of_ble_eq_true rfl)) (Nat.le_of_ble_eq_true rfl) (Nat.le_of_ble_eq_true rfl) (fun v40 h40 E40 => ?_) (fun _ _ ha _ => gt_at fun Q hQ => gt_out (Q := Q) X rfl ha (hno _) _ Q rfl hQ)
  refine g_aload_n (pc := 43) X (j := 0) (i := 0) (q := 2) (x := a0) rfl rfl (dl_at t_X3_field 22 rfl) ?_
  refine g_iconst (pc := 44) X (n := 1) (dl_at t_X3_field 23 rfl) ?_
  refine g_iload_n (pc := 45) X (j := 2) (i := 2) (q := 0) (x := v21) rfl rfl (dl_at t_X3_field 24 rfl) ?_
  refine g_aload_n (pc := 46) X (j := 0) (i := 0) (q := 2) (x := a0) rfl rfl (dl_at t_X3_field 25 rfl) ?_
  have k47 := kx (E21.trans (E26.trans (E32.trans E40))) (by decide) k6
  refine r_getr (pc := 47) X fX3_2 k47 q525 (dl_at t_X3_field 26 rfl) ?_
  refine g_gd fun k50 => ?_
  refine r_getiN (pc := 50) X fX5_1 k50 (nw_in q505 rfl) (dl_at t_X3_field 27 rfl) fun g50 => ?_
  refine g_aload_n (pc := 53) X (j := 1) (i := 1) (q := 1) (x := a1) rfl rfl (dl_at t_X3_field 28 rfl) ?_
  have k54 := kx E40 (by decide) k40
  refine r_getiN (pc := 54) X fX2_6 k54 (nw_in q429 rfl) (dl_at t_X3_field 29 rfl) fun g54 => ?_
  refine r_callV (pc := 57) X (fun _ hv => s_X3_ask k47 (r32_c rfl) g21 g50 g54 hv) cw_code q2030 q357 (in_Vk X (As := [iv 1, iv v21, iv (h40 (h40 a0 2) 1), iv (h40 a1 6)]) kX3 k47 (Or.inl q2027) q2029 qs42 cw_code q2030 ⟨by decide, by decide⟩ rfl (dl_at t_X3_field 30 rfl)) (dl_at t_X3_field 30 rfl) (cat24 (st := []) (Nat.le_of_ble_eq_true rfl)) (Nat.le_of_ble_eq_true rfl) (Nat.le_of_ble_eq_true rfl) fun h57 E57 => ?_
  refine g_aload_n (pc := 60) X (j := 0) (i := 0) (q := 2) (x := a0) rfl rfl (dl_at t_X3_field 31 rfl) ?_
  have k61 := kx E57 (by decide) k47
  refine r_getr (pc := 61) X fX3_2 k61 q525 (dl_at t_X3_field 32 rfl) ?_
  refine g_aload_n (pc := 64) X (j := 1) (i := 1) (q := 1) (x := a1) rfl rfl (dl_at t_X3_field 33 rfl) ?_
  have k65 := kx E57 (by decide) k54
  refine r_getrN (pc := 65) X fX2_0 k65 (nw_in q416 rfl) (dl_at t_X3_field 34 rfl) ?_
  refine g_aload_n (pc := 68) X (j := 1) (i := 1) (q := 1) (x := a1) rfl rfl (dl_at t_X3_field 35 rfl) ?_
  refine r_getiN (pc := 69) X fX2_5 k65 (nw_in q426 rfl) (dl_at t_X3_field 36 rfl) fun g69 => ?_
  refine g_aload_n (pc := 72) X (j := 1) (i := 1) (q := 1) (x := a1) rfl rfl (dl_at t_X3_field 37 rfl) ?_
  refine r_getiN (pc := 73) X fX2_6 k65 (nw_in q429 rfl) (dl_at t_X3_field 38 rfl) fun g73 => ?_
  refine g_gd fun k76 => ?_
  refine r_callTv (pc := 76) X (fun _ hv => s_X5_addAll k76 g69 g73 hv) cw_code q2034 q359 (in_Vk X (As := [rv D (h57 a1 0), iv (h57 a1 5), iv (h57 a1 6)]) kX5 k76 (Or.inr ⟨_, nw_in q2031 rfl⟩) q2033 qs43 cw_code q2034 ⟨by decide, by decide⟩ rfl (dl_at t_X3_field 39 rfl)) (dl_at t_X3_field 39 rfl) (cat24 (st := []) (Nat.le_of_ble_eq_true rfl)) (Nat.le_of_ble_eq_true rfl) (Nat.le_of_ble_eq_true rfl) (fun v76 h76 E76 => ?_) (fun _ _ ha _ => gt_at fun Q hQ => gt_out (Q := Q) X rfl ha (hno _) _ Q rfl hQ)
  refine g_aload_n (pc := 79) X (j := 1) (i := 1) (q := 1) (x := a1) rfl rfl (dl_at t_X3_field 40 rfl) ?_
  have k80 := kx E76 (by decide) k65
  refine r_callV (pc := 80) X (fun _ hv => s_X2_next k80 hv) cw_code q1725 q356 (in_Vk X (As := []) kX2 k80 (Or.inr ⟨_, nw_in q1965 rfl⟩) q1724 qs8 cw_code q1725 ⟨by decide, by decide⟩ rfl (dl_at t_X3_field 41 rfl)) (dl_at t_X3_field 41 rfl) (cat24 (st := []) (Nat.le_of_ble_eq_true rfl)) (Nat.le_of_ble_eq_true rfl) (Nat.le_of_ble_eq_true rfl) fun h80 E80 => ?_
  refine g_goto (pc := 83) X (off := 11) (tgt := 94) rfl (dl_at t_X3_field 42 rfl) ?_
  refine g_aload_n (pc := 94) X (j := 1) (i := 1) (q := 1) (x := a1) rfl rfl (dl_at t_X3_field 49 rfl) ?_
  refine g_bipush (pc := 95) X (n := 93) rfl (dl_at t_X3_field 50 rfl) ?_
  have k97_1 := kx E80 (by decide) k80
  refine r_callTv (pc := 97) X (fun _ hv => s_X2_need k97_1 (r32_c rfl) hv) cw_code q1876 q356 (in_Vk X (As := [iv 93]) kX2 k97_1 (Or.inr ⟨_, nw_in q1970 rfl⟩) q1875 qs20 cw_code q1876 ⟨by decide, by decide⟩ rfl (dl_at t_X3_field 51 rfl)) (dl_at t_X3_field 51 rfl) (cat24 (st := []) (Nat.le_of_ble_eq_true rfl)) (Nat.le_of_ble_eq_true rfl) (Nat.le_of_ble_eq_true rfl) (fun v97_1 h97_1 E97_1 => ?_) (fun _ _ ha _ => gt_at fun Q hQ => gt_out (Q := Q) X rfl ha (hno _) _ Q rfl hQ)
  exact g_vret (pc := 100) X (v := 0) rfl rfl (dl_at t_X3_field 52 rfl)
def k_X3_place : List (Nat × Instr × Nat) := [(0, .aload_n 1, 1), (1, .ldc 220, 2), (3, .invokevirtual 128, 3), (6, .ifCond .eq 14, 3), (9, .aload_n 0, 1), (10, .iconst 2, 1), (11, .iconst 0, 1), (12, .iconst 0, 1), (13, .iconst 0, 1), (14, .invokevirtual 212, 3), (17, .goto 170, 3), (20, .aload_n 1, 1), (21, .ldc 222, 2), (23, .invokevirtual 128, 3), (26, .ifCond .eq 14, 3), (29, .aload_n 0, 1), (30, .iconst 3, 1), (31, .iconst 0, 1), (32, .iconst 0, 1), (33, .iconst 0, 1), (34, .invokevirtual 212, 3), (37, .goto 150, 3), (40, .aload_n 1, 1), (41, .ldc 224, 2), (43, .invokevirtual 128, 3), (46, .ifCond .eq 14, 3), (49, .aload_n 0, 1), (50, .iconst 4, 1), (51, .iconst 0, 1), (52, .iconst 0, 1), (53, .iconst 0, 1), (54, .invokevirtual 212, 3), (57, .goto 130, 3), (60, .aload_n 1, 1), (61, .ldc 226, 2), (63, .invokevirtual 128, 3), (66, .ifCond .eq 47, 3), (69, .aload_n 1, 1), (70, .invokevirtual 132, 3), (73, .aload_n 1, 1), (74, .bipush 40, 2), (76, .invokevirtual 140, 3), (79, .aload_n 1, 1), (80, .iconst 2, 1), (81, .invokevirtual 147, 3), (84, .aload_n 0, 1), (85, .iconst 5, 1), (86, .aload_n 1, 1), (87, .getfield 228, 3), (90, .iconst 0, 1), (91, .iconst 0, 1), (92, .invokevirtual 212, 3), (95, .aload_n 1, 1), (96, .invokevirtual 132, 3), (99, .aload_n 1, 1), (100, .bipush 41, 2), (102, .invokevirtual 183, 3), (105, .ifCond .ne 82, 3), (108, .aload_n 1, 1), (109, .invokevirtual 154, 3), (112, .athrow, 1), (113, .aload_n 1, 1), (114, .ldc 231, 2), (116, .invokevirtual 128, 3), (119, .ifCond .eq 63, 3), (122, .aload_n 1, 1), (123, .invokevirtual 132, 3), (126, .aload_n 1, 1), (127, .bipush 40, 2), (129, .invokevirtual 140, 3), (132, .aload_n 1, 1), (133, .iconst 1, 1), (134, .invokevirtual 147, 3), (137, .aload_n 0, 1), (138, .bipush 6, 2), (140, .aload_n 0, 1), (141, .getfield 16, 3), (144, .aload_n 1, 1), (145, .getfield 193, 3), (148, .aload_n 1, 1), (149, .getfield 197, 3), (152, .aload_n 1, 1), (153, .getfield 200, 3), (156, .invokevirtual 202, 3), (159, .iconst 0, 1), (160, .iconst 0, 1), (161, .invokevirtual 212, 3), (164, .aload_n 1, 1), (165, .invokevirtual 132, 3), (168, .aload_n 1, 1), (169, .bipush 41, 2), (171, .invokevirtual 183, 3), (174, .ifCond .ne 13, 3), (177, .aload_n 1, 1), (178, .invokevirtual 154, 3), (181, .athrow, 1), (182, .aload_n 1, 1), (183, .invokevirtual 154, 3), (186, .athrow, 1), (187, .aload_n 1, 1), (188, .invokevirtual 132, 3), (191, .return_, 1)]
theorem t_X3_place : ∀ q ∈ k_X3_place, decode cX3_place q.1 = .ok q.2 := dl_all (by decide +kernel)
noncomputable def m_X3_place (a0 a1 : Int) (h : Hp) : Option ((Int × Int) × Hp) :=
  gd (h a1 (-2) = 32) ((m_X2_isName a1 (-29) h).bind fun v3 =>
  if v3 = 0 then ((m_X2_isName a1 (-30) h).bind fun v23 =>
  if v23 = 0 then ((m_X2_isName a1 (-31) h).bind fun v43 =>
  if v43 = 0 then ((m_X2_isName a1 (-32) h).bind fun v63 =>
  if v63 = 0 then ((m_X2_isName a1 (-33) h).bind fun v116 =>
  if v116 = 0 then (bW (m_X2_broken a1 h) fun v183 h183 =>
  gd (0 < v183) (some ((1, v183), h183)))
  else ((m_X2_next a1 h).bind fun h123 =>
  bT (m_X2_need a1 40 h123) (fun _ h129 =>
  bT (m_X2_needKind a1 1 h129) (fun _ h134 =>
  gd (h134 (h134 a0 0) (-2) = 64) (bW (m_X4_add (h134 a0 0) (h134 a1 0) (h134 a1 5) (h134 a1 6) h134) fun v156 h156 =>
  (m_X3_ask a0 6 v156 0 0 h156).bind fun h161 =>
  (m_X2_next a1 h161).bind fun h165 =>
  (m_X2_isByte a1 41 h165).bind fun v171 =>
  if v171 ≠ 0 then ((m_X2_next a1 h165).bind fun h188 =>
  some ((0, 0), h188))
  else (bW (m_X2_broken a1 h165) fun v178 h178 =>
  gd (0 < v178) (some ((1, v178), h178))))) (fun a_ h_ => some ((1, a_), h_))) (fun a_ h_ => some ((1, a_), h_))))
  else ((m_X2_next a1 h).bind fun h70 =>
  bT (m_X2_need a1 40 h70) (fun _ h76 =>
  bT (m_X2_needKind a1 2 h76) (fun _ h81 =>
  (m_X3_ask a0 5 (h81 a1 7) 0 0 h81).bind fun h92 =>
  (m_X2_next a1 h92).bind fun h96 =>
  (m_X2_isByte a1 41 h96).bind fun v102 =>
  if v102 ≠ 0 then ((m_X2_next a1 h96).bind fun h188_1 =>
  some ((0, 0), h188_1))
  else (bW (m_X2_broken a1 h96) fun v109 h109 =>
  gd (0 < v109) (some ((1, v109), h109)))) (fun a_ h_ => some ((1, a_), h_))) (fun a_ h_ => some ((1, a_), h_))))
  else ((m_X3_ask a0 4 0 0 0 h).bind fun h54 =>
  (m_X2_next a1 h54).bind fun h188_2 =>
  some ((0, 0), h188_2)))
  else ((m_X3_ask a0 3 0 0 0 h).bind fun h34 =>
  (m_X2_next a1 h34).bind fun h188_3 =>
  some ((0, 0), h188_3)))
  else ((m_X3_ask a0 2 0 0 0 h).bind fun h14 =>
  (m_X2_next a1 h14).bind fun h188_4 =>
  some ((0, 0), h188_4)))
theorem s_X3_place {l : Launch} [NoTr l] {D : SD} {a0 a1 : Int} {h : Hp} (hk : h a0 (-2) = 48) {r : (Int × Int) × Hp} (hm : m_X3_place a0 a1 h = some r) : Sim l D yX3_place (Cond.code yX3_place cX3_place 2 (Option.none : Option Jvm.ClassFile.FieldType)) 11 410 [rv D a0, rv D a1] h 0 r := by
  refine Sim.of (fin := fun (v : (Int × Int) × Hp) => v) (lsE := [(0, rv D a0), (1, rv D a1)]) hm rfl cwS_code (la_r (la_r la_n)) (ll_r (ll_r ll_n)) ?_
  intro p e s m below meth c X hcw hmm hcc hnm hname
  have hno := noh hcw hnm hmm hcc
  unfold m_X3_place
  refine g_aload_n (pc := 0) X (j := 1) (i := 1) (q := 1) (x := a1) rfl rfl (dl_at t_X3_place 0 rfl) ?_
  refine g_ldcS (pc := 1) X (index := 220) (id := (-29)) 27 rfl rfl (dl_at t_X3_place 1 rfl) ?_
  refine g_gd fun k3 => ?_
  refine r_callRz (pc := 3) X (fun _ hv => s_X2_isName k3 hv) cw_code q1766 q356 (in_Vk X (As := [rv D (-29)]) kX2 k3 (Or.inr ⟨_, nw_in q1964 rfl⟩) q1765 qs15 cw_code q1766 ⟨by decide, by decide⟩ rfl (dl_at t_X3_place 2 rfl)) (dl_at t_X3_place 2 rfl) (cat24 (st := []) (Nat.le_of_ble_eq_true rfl)) (Nat.le_of_ble_eq_true rfl) (Nat.le_of_ble_eq_true rfl) fun v3 g3 => ?_
  refine g_ifeq (pc := 6) X (r32_z g3) (off := 14) (tgt := 20) rfl (dl_at t_X3_place 3 rfl) (fun _ => ?_) (fun _ => ?_)
  · refine g_aload_n (pc := 20) X (j := 1) (i := 1) (q := 1) (x := a1) rfl rfl (dl_at t_X3_place 11 rfl) ?_
    refine g_ldcS (pc := 21) X (index := 222) (id := (-30)) 28 rfl rfl (dl_at t_X3_place 12 rfl) ?_
    refine r_callRz (pc := 23) X (fun _ hv => s_X2_isName k3 hv) cw_code q1766 q356 (in_Vk X (As := [rv D (-30)]) kX2 k3 (Or.inr ⟨_, nw_in q1964 rfl⟩) q1765 qs15 cw_code q1766 ⟨by decide, by decide⟩ rfl (dl_at t_X3_place 13 rfl)) (dl_at t_X3_place 13 rfl) (cat24 (st := []) (Nat.le_of_ble_eq_true rfl)) (Nat.le_of_ble_eq_true rfl) (Nat.le_of_ble_eq_true rfl) fun v23 g23 => ?_
    refine g_ifeq (pc := 26) X (r32_z g23) (off := 14) (tgt := 40) rfl (dl_at t_X3_place 14 rfl) (fun _ => ?_) (fun _ => ?_)
    · refine g_aload_n (pc := 40) X (j := 1) (i := 1) (q := 1) (x := a1) rfl rfl (dl_at t_X3_place 22 rfl) ?_
      refine g_ldcS (pc := 41) X (index := 224) (id := (-31)) 29 rfl rfl (dl_at t_X3_place 23 rfl) ?_
      refine r_callRz (pc := 43) X (fun _ hv => s_X2_isName k3 hv) cw_code q1766 q356 (in_Vk X (As := [rv D (-31)]) kX2 k3 (Or.inr ⟨_, nw_in q1964 rfl⟩) q1765 qs15 cw_code q1766 ⟨by decide, by decide⟩ rfl (dl_at t_X3_place 24 rfl)) (dl_at t_X3_place 24 rfl) (cat24 (st := []) (Nat.le_of_ble_eq_true rfl)) (Nat.le_of_ble_eq_true rfl) (Nat.le_of_ble_eq_true rfl) fun v43 g43 => ?_
      refine g_ifeq (pc := 46) X (r32_z g43) (off := 14) (tgt := 60) rfl (dl_at t_X3_place 25 rfl) (fun _ => ?_) (fun _ => ?_)
      · refine g_aload_n (pc := 60) X (j := 1) (i := 1) (q := 1) (x := a1) rfl rfl (dl_at t_X3_place 33 rfl) ?_
        refine g_ldcS (pc := 61) X (index := 226) (id := (-32)) 30 rfl rfl (dl_at t_X3_place 34 rfl) ?_
        refine r_callRz (pc := 63) X (fun _ hv => s_X2_isName k3 hv) cw_code q1766 q356 (in_Vk X (As := [rv D (-32)]) kX2 k3 (Or.inr ⟨_, nw_in q1964 rfl⟩) q1765 qs15 cw_code q1766 ⟨by decide, by decide⟩ rfl (dl_at t_X3_place 35 rfl)) (dl_at t_X3_place 35 rfl) (cat24 (st := []) (Nat.le_of_ble_eq_true rfl)) (Nat.le_of_ble_eq_true rfl) (Nat.le_of_ble_eq_true rfl) fun v63 g63 => ?_
        refine g_ifeq (pc := 66) X (r32_z g63) (off := 47) (tgt := 113) rfl (dl_at t_X3_place 36 rfl) (fun _ => ?_) (fun _ => ?_)
        · refine g_aload_n (pc := 113) X (j := 1) (i := 1) (q := 1) (x := a1) rfl rfl (dl_at t_X3_place 61 rfl) ?_
          refine g_ldcS (pc := 114) X (index := 231) (id := (-33)) 31 rfl rfl (dl_at t_X3_place 62 rfl) ?_
          refine r_callRz (pc := 116) X (fun _ hv => s_X2_isName k3 hv) cw_code q1766 q356 (in_Vk X (As := [rv D (-33)]) kX2 k3 (Or.inr ⟨_, nw_in q1964 rfl⟩) q1765 qs15 cw_code q1766 ⟨by decide, by decide⟩ rfl (dl_at t_X3_place 63 rfl)) (dl_at t_X3_place 63 rfl) (cat24 (st := []) (Nat.le_of_ble_eq_true rfl)) (Nat.le_of_ble_eq_true rfl) (Nat.le_of_ble_eq_true rfl) fun v116 g116 => ?_
          refine g_ifeq (pc := 119) X (r32_z g116) (off := 63) (tgt := 182) rfl (dl_at t_X3_place 64 rfl) (fun _ => ?_) (fun _ => ?_)
          · refine g_aload_n (pc := 182) X (j := 1) (i := 1) (q := 1) (x := a1) rfl rfl (dl_at t_X3_place 96 rfl) ?_
            refine r_callWr (pc := 183) X (fun _ hv => s_X2_broken k3 hv) cw_code q1825 q356 (in_Vk X (As := []) kX2 k3 (Or.inr ⟨_, nw_in q1985 rfl⟩) q1824 qs16 cw_code q1825 ⟨by decide, by decide⟩ rfl (dl_at t_X3_place 97 rfl)) (dl_at t_X3_place 97 rfl) (cat24 (st := []) (Nat.le_of_ble_eq_true rfl)) (Nat.le_of_ble_eq_true rfl) (Nat.le_of_ble_eq_true rfl) fun v183 h183 E183 => ?_
            refine g_gd fun p186 => ?_
            refine g_athrow (pc := 186) X (Int.ne_of_gt p186) (dl_at t_X3_place 98 rfl) ?_
            exact gt_at fun Q hQ => gt_out (Q := Q) X rfl p186 (hno _) _ Q rfl hQ
          refine g_aload_n (pc := 122) X (j := 1) (i := 1) (q := 1) (x := a1) rfl rfl (dl_at t_X3_place 65 rfl) ?_
          refine r_callV (pc := 123) X (fun _ hv => s_X2_next k3 hv) cw_code q1725 q356 (in_Vk X (As := []) kX2 k3 (Or.inr ⟨_, nw_in q1965 rfl⟩) q1724 qs8 cw_code q1725 ⟨by decide, by decide⟩ rfl (dl_at t_X3_place 66 rfl)) (dl_at t_X3_place 66 rfl) (cat24 (st := []) (Nat.le_of_ble_eq_true rfl)) (Nat.le_of_ble_eq_true rfl) (Nat.le_of_ble_eq_true rfl) fun h123 E123 => ?_
          refine g_aload_n (pc := 126) X (j := 1) (i := 1) (q := 1) (x := a1) rfl rfl (dl_at t_X3_place 67 rfl) ?_
          refine g_bipush (pc := 127) X (n := 40) rfl (dl_at t_X3_place 68 rfl) ?_
          have k129 := kx E123 (by decide) k3
          refine r_callTv (pc := 129) X (fun _ hv => s_X2_need k129 (r32_c rfl) hv) cw_code q1876 q356 (in_Vk X (As := [iv 40]) kX2 k129 (Or.inr ⟨_, nw_in q1970 rfl⟩) q1875 qs20 cw_code q1876 ⟨by decide, by decide⟩ rfl (dl_at t_X3_place 69 rfl)) (dl_at t_X3_place 69 rfl) (cat24 (st := []) (Nat.le_of_ble_eq_true rfl)) (Nat.le_of_ble_eq_true rfl) (Nat.le_of_ble_eq_true rfl) (fun v129 h129 E129 => ?_) (fun _ _ ha _ => gt_at fun Q hQ => gt_out (Q := Q) X rfl ha (hno _) _ Q rfl hQ)
          refine g_aload_n (pc := 132) X (j := 1) (i := 1) (q := 1) (x := a1) rfl rfl (dl_at t_X3_place 70 rfl) ?_
          refine g_iconst (pc := 133) X (n := 1) (dl_at t_X3_place 71 rfl) ?_
          have k134 := kx E129 (by decide) k129
          refine r_callTv (pc := 134) X (fun _ hv => s_X2_needKind k134 (r32_c rfl) hv) cw_code q1975 q356 (in_Vk X (As := [iv 1]) kX2 k134 (Or.inr ⟨_, nw_in q1972 rfl⟩) q1974 qs33 cw_code q1975 ⟨by decide, by decide⟩ rfl (dl_at t_X3_place 72 rfl)) (dl_at t_X3_place 72 rfl) (cat24 (st := []) (Nat.le_of_ble_eq_true rfl)) (Nat.le_of_ble_eq_true rfl) (Nat.le_of_ble_eq_true rfl) (fun v134 h134 E134 => ?_) (fun _ _ ha _ => gt_at fun Q hQ => gt_out (Q := Q) X rfl ha (hno _) _ Q rfl hQ)
          refine g_aload_n (pc := 137) X (j := 0) (i := 0) (q := 0) (x := a0) rfl rfl (dl_at t_X3_place 73 rfl) ?_
          refine g_bipush (pc := 138) X (n := 6) rfl (dl_at t_X3_place 74 rfl) ?_
          refine g_aload_n (pc := 140) X (j := 0) (i := 0) (q := 0) (x := a0) rfl rfl (dl_at t_X3_place 75 rfl) ?_
          have k141 := kx (E123.trans (E129.trans E134)) (by decide) hk
          refine r_getr (pc := 141) X fX3_0 k141 q522 (dl_at t_X3_place 76 rfl) ?_
          refine g_aload_n (pc := 144) X (j := 1) (i := 1) (q := 1) (x := a1) rfl rfl (dl_at t_X3_place 77 rfl) ?_
          have k145 := kx E134 (by decide) k134
          refine r_getrN (pc := 145) X fX2_0 k145 (nw_in q416 rfl) (dl_at t_X3_place 78 rfl) ?_
          refine g_aload_n (pc := 148) X (j := 1) (i := 1) (q := 1) (x := a1) rfl rfl (dl_at t_X3_place 79 rfl) ?_
          refine r_getiN (pc := 149) X fX2_5 k145 (nw_in q426 rfl) (dl_at t_X3_place 80 rfl) fun g149 => ?_
          refine g_aload_n (pc := 152) X (j := 1) (i := 1) (q := 1) (x := a1) rfl rfl (dl_at t_X3_place 81 rfl) ?_
          refine r_getiN (pc := 153) X fX2_6 k145 (nw_in q429 rfl) (dl_at t_X3_place 82 rfl) fun g153 => ?_
          refine g_gd fun k156 => ?_
          refine r_callWi (pc := 156) X (fun _ hv => s_X4_add k156 g149 g153 hv) cw_code q2007 q358 (in_Vk X (As := [rv D (h134 a1 0), iv (h134 a1 5), iv (h134 a1 6)]) kX4 k156 (Or.inr ⟨_, nw_in q2004 rfl⟩) q2006 qs37 cw_code q2007 ⟨by decide, by decide⟩ rfl (dl_at t_X3_place 83 rfl)) (dl_at t_X3_place 83 rfl) (cat24 (st := [iv 6, rv D a0]) (Nat.le_of_ble_eq_true rfl)) (Nat.le_of_ble_eq_true rfl) (Nat.le_of_ble_eq_true rfl) fun v156 h156 g156 E156 => ?_
          refine g_iconst (pc := 159) X (n := 0) (dl_at t_X3_place 84 rfl) ?_
          refine g_iconst (pc := 160) X (n := 0) (dl_at t_X3_place 85 rfl) ?_
          have k161 := kx E156 (by decide) k141
          refine r_callV (pc := 161) X (fun _ hv => s_X3_ask k161 (r32_c rfl) g156 (r32_c rfl) (r32_c rfl) hv) cw_code q2030 q357 (in_Vk X (As := [iv 6, iv v156, iv 0, iv 0]) kX3 k161 (Or.inl q2027) q2029 qs42 cw_code q2030 ⟨by decide, by decide⟩ rfl (dl_at t_X3_place 86 rfl)) (dl_at t_X3_place 86 rfl) (cat24 (st := []) (Nat.le_of_ble_eq_true rfl)) (Nat.le_of_ble_eq_true rfl) (Nat.le_of_ble_eq_true rfl) fun h161 E161 => ?_
          refine g_aload_n (pc := 164) X (j := 1) (i := 1) (q := 1) (x := a1) rfl rfl (dl_at t_X3_place 87 rfl) ?_
          have k165 := kx (E156.trans E161) (by decide) k145
          refine r_callV (pc := 165) X (fun _ hv => s_X2_next k165 hv) cw_code q1725 q356 (in_Vk X (As := []) kX2 k165 (Or.inr ⟨_, nw_in q1965 rfl⟩) q1724 qs8 cw_code q1725 ⟨by decide, by decide⟩ rfl (dl_at t_X3_place 88 rfl)) (dl_at t_X3_place 88 rfl) (cat24 (st := []) (Nat.le_of_ble_eq_true rfl)) (Nat.le_of_ble_eq_true rfl) (Nat.le_of_ble_eq_true rfl) fun h165 E165 => ?_
          refine g_aload_n (pc := 168) X (j := 1) (i := 1) (q := 1) (x := a1) rfl rfl (dl_at t_X3_place 89 rfl) ?_
          refine g_bipush (pc := 169) X (n := 41) rfl (dl_at t_X3_place 90 rfl) ?_
          have k171 := kx E165 (by decide) k165
          refine r_callRz (pc := 171) X (fun _ hv => s_X2_isByte k171 (r32_c rfl) hv) cw_code q1871 q356 (in_Vk X (As := [iv 41]) kX2 k171 (Or.inr ⟨_, nw_in q1999 rfl⟩) q1870 qs19 cw_code q1871 ⟨by decide, by decide⟩ rfl (dl_at t_X3_place 91 rfl)) (dl_at t_X3_place 91 rfl) (cat24 (st := []) (Nat.le_of_ble_eq_true rfl)) (Nat.le_of_ble_eq_true rfl) (Nat.le_of_ble_eq_true rfl) fun v171 g171 => ?_
          refine g_ifne (pc := 174) X (r32_z g171) (off := 13) (tgt := 187) rfl (dl_at t_X3_place 92 rfl) (fun _ => ?_) (fun _ => ?_)
          · refine g_aload_n (pc := 187) X (j := 1) (i := 1) (q := 1) (x := a1) rfl rfl (dl_at t_X3_place 99 rfl) ?_
            refine r_callV (pc := 188) X (fun _ hv => s_X2_next k171 hv) cw_code q1725 q356 (in_Vk X (As := []) kX2 k171 (Or.inr ⟨_, nw_in q1965 rfl⟩) q1724 qs8 cw_code q1725 ⟨by decide, by decide⟩ rfl (dl_at t_X3_place 100 rfl)) (dl_at t_X3_place 100 rfl) (cat24 (st := []) (Nat.le_of_ble_eq_true rfl)) (Nat.le_of_ble_eq_true rfl) (Nat.le_of_ble_eq_true rfl) fun h188 E188 => ?_
            exact g_vret (pc := 191) X (v := 0) rfl rfl (dl_at t_X3_place 101 rfl)
          refine g_aload_n (pc := 177) X (j := 1) (i := 1) (q := 1) (x := a1) rfl rfl (dl_at t_X3_place 93 rfl) ?_
          refine r_callWr (pc := 178) X (fun _ hv => s_X2_broken k171 hv) cw_code q1825 q356 (in_Vk X (As := []) kX2 k171 (Or.inr ⟨_, nw_in q1985 rfl⟩) q1824 qs16 cw_code q1825 ⟨by decide, by decide⟩ rfl (dl_at t_X3_place 94 rfl)) (dl_at t_X3_place 94 rfl) (cat24 (st := []) (Nat.le_of_ble_eq_true rfl)) (Nat.le_of_ble_eq_true rfl) (Nat.le_of_ble_eq_true rfl) fun v178 h178 E178 => ?_
          refine g_gd fun p181 => ?_
          refine g_athrow (pc := 181) X (Int.ne_of_gt p181) (dl_at t_X3_place 95 rfl) ?_
          exact gt_at fun Q hQ => gt_out (Q := Q) X rfl p181 (hno _) _ Q rfl hQ
        refine g_aload_n (pc := 69) X (j := 1) (i := 1) (q := 1) (x := a1) rfl rfl (dl_at t_X3_place 37 rfl) ?_
        refine r_callV (pc := 70) X (fun _ hv => s_X2_next k3 hv) cw_code q1725 q356 (in_Vk X (As := []) kX2 k3 (Or.inr ⟨_, nw_in q1965 rfl⟩) q1724 qs8 cw_code q1725 ⟨by decide, by decide⟩ rfl (dl_at t_X3_place 38 rfl)) (dl_at t_X3_place 38 rfl) (cat24 (st := []) (Nat.le_of_ble_eq_true rfl)) (Nat.le_of_ble_eq_true rfl) (Nat.le_of_ble_eq_true rfl) fun h70 E70 => ?_
        refine g_aload_n (pc := 73) X (j := 1) (i := 1) (q := 1) (x := a1) rfl rfl (dl_at t_X3_place 39 rfl) ?_
        refine g_bipush (pc := 74) X (n := 40) rfl (dl_at t_X3_place 40 rfl) ?_
        have k76 := kx E70 (by decide) k3
        refine r_callTv (pc := 76) X (fun _ hv => s_X2_need k76 (r32_c rfl) hv) cw_code q1876 q356 (in_Vk X (As := [iv 40]) kX2 k76 (Or.inr ⟨_, nw_in q1970 rfl⟩) q1875 qs20 cw_code q1876 ⟨by decide, by decide⟩ rfl (dl_at t_X3_place 41 rfl)) (dl_at t_X3_place 41 rfl) (cat24 (st := []) (Nat.le_of_ble_eq_true rfl)) (Nat.le_of_ble_eq_true rfl) (Nat.le_of_ble_eq_true rfl) (fun v76 h76 E76 => ?_) (fun _ _ ha _ => gt_at fun Q hQ => gt_out (Q := Q) X rfl ha (hno _) _ Q rfl hQ)
        refine g_aload_n (pc := 79) X (j := 1) (i := 1) (q := 1) (x := a1) rfl rfl (dl_at t_X3_place 42 rfl) ?_
        refine g_iconst (pc := 80) X (n := 2) (dl_at t_X3_place 43 rfl) ?_
        have k81 := kx E76 (by decide) k76
        refine r_callTv (pc := 81) X (fun _ hv => s_X2_needKind k81 (r32_c rfl) hv) cw_code q1975 q356 (in_Vk X (As := [iv 2]) kX2 k81 (Or.inr ⟨_, nw_in q1972 rfl⟩) q1974 qs33 cw_code q1975 ⟨by decide, by decide⟩ rfl (dl_at t_X3_place 44 rfl)) (dl_at t_X3_place 44 rfl) (cat24 (st := []) (Nat.le_of_ble_eq_true rfl)) (Nat.le_of_ble_eq_true rfl) (Nat.le_of_ble_eq_true rfl) (fun v81 h81 E81 => ?_) (fun _ _ ha _ => gt_at fun Q hQ => gt_out (Q := Q) X rfl ha (hno _) _ Q rfl hQ)
        refine g_aload_n (pc := 84) X (j := 0) (i := 0) (q := 0) (x := a0) rfl rfl (dl_at t_X3_place 45 rfl) ?_
        refine g_iconst (pc := 85) X (n := 5) (dl_at t_X3_place 46 rfl) ?_
        refine g_aload_n (pc := 86) X (j := 1) (i := 1) (q := 1) (x := a1) rfl rfl (dl_at t_X3_place 47 rfl) ?_
        have k87 := kx E81 (by decide) k81
        refine r_getiN (pc := 87) X fX2_7 k87 (nw_in q431 rfl) (dl_at t_X3_place 48 rfl) fun g87 => ?_
        refine g_iconst (pc := 90) X (n := 0) (dl_at t_X3_place 49 rfl) ?_
        refine g_iconst (pc := 91) X (n := 0) (dl_at t_X3_place 50 rfl) ?_
        have k92 := kx (E70.trans (E76.trans E81)) (by decide) hk
        refine r_callV (pc := 92) X (fun _ hv => s_X3_ask k92 (r32_c rfl) g87 (r32_c rfl) (r32_c rfl) hv) cw_code q2030 q357 (in_Vk X (As := [iv 5, iv (h81 a1 7), iv 0, iv 0]) kX3 k92 (Or.inl q2027) q2029 qs42 cw_code q2030 ⟨by decide, by decide⟩ rfl (dl_at t_X3_place 51 rfl)) (dl_at t_X3_place 51 rfl) (cat24 (st := []) (Nat.le_of_ble_eq_true rfl)) (Nat.le_of_ble_eq_true rfl) (Nat.le_of_ble_eq_true rfl) fun h92 E92 => ?_
        refine g_aload_n (pc := 95) X (j := 1) (i := 1) (q := 1) (x := a1) rfl rfl (dl_at t_X3_place 52 rfl) ?_
        have k96 := kx E92 (by decide) k87
        refine r_callV (pc := 96) X (fun _ hv => s_X2_next k96 hv) cw_code q1725 q356 (in_Vk X (As := []) kX2 k96 (Or.inr ⟨_, nw_in q1965 rfl⟩) q1724 qs8 cw_code q1725 ⟨by decide, by decide⟩ rfl (dl_at t_X3_place 53 rfl)) (dl_at t_X3_place 53 rfl) (cat24 (st := []) (Nat.le_of_ble_eq_true rfl)) (Nat.le_of_ble_eq_true rfl) (Nat.le_of_ble_eq_true rfl) fun h96 E96 => ?_
        refine g_aload_n (pc := 99) X (j := 1) (i := 1) (q := 1) (x := a1) rfl rfl (dl_at t_X3_place 54 rfl) ?_
        refine g_bipush (pc := 100) X (n := 41) rfl (dl_at t_X3_place 55 rfl) ?_
        have k102 := kx E96 (by decide) k96
        refine r_callRz (pc := 102) X (fun _ hv => s_X2_isByte k102 (r32_c rfl) hv) cw_code q1871 q356 (in_Vk X (As := [iv 41]) kX2 k102 (Or.inr ⟨_, nw_in q1999 rfl⟩) q1870 qs19 cw_code q1871 ⟨by decide, by decide⟩ rfl (dl_at t_X3_place 56 rfl)) (dl_at t_X3_place 56 rfl) (cat24 (st := []) (Nat.le_of_ble_eq_true rfl)) (Nat.le_of_ble_eq_true rfl) (Nat.le_of_ble_eq_true rfl) fun v102 g102 => ?_
        refine g_ifne (pc := 105) X (r32_z g102) (off := 82) (tgt := 187) rfl (dl_at t_X3_place 57 rfl) (fun _ => ?_) (fun _ => ?_)
        · refine g_aload_n (pc := 187) X (j := 1) (i := 1) (q := 1) (x := a1) rfl rfl (dl_at t_X3_place 99 rfl) ?_
          refine r_callV (pc := 188) X (fun _ hv => s_X2_next k102 hv) cw_code q1725 q356 (in_Vk X (As := []) kX2 k102 (Or.inr ⟨_, nw_in q1965 rfl⟩) q1724 qs8 cw_code q1725 ⟨by decide, by decide⟩ rfl (dl_at t_X3_place 100 rfl)) (dl_at t_X3_place 100 rfl) (cat24 (st := []) (Nat.le_of_ble_eq_true rfl)) (Nat.le_of_ble_eq_true rfl) (Nat.le_of_ble_eq_true rfl) fun h188_1 E188_1 => ?_
          exact g_vret (pc := 191) X (v := 0) rfl rfl (dl_at t_X3_place 101 rfl)
        refine g_aload_n (pc := 108) X (j := 1) (i := 1) (q := 1) (x := a1) rfl rfl (dl_at t_X3_place 58 rfl) ?_
        refine r_callWr (pc := 109) X (fun _ hv => s_X2_broken k102 hv) cw_code q1825 q356 (in_Vk X (As := []) kX2 k102 (Or.inr ⟨_, nw_in q1985 rfl⟩) q1824 qs16 cw_code q1825 ⟨by decide, by decide⟩ rfl (dl_at t_X3_place 59 rfl)) (dl_at t_X3_place 59 rfl) (cat24 (st := []) (Nat.le_of_ble_eq_true rfl)) (Nat.le_of_ble_eq_true rfl) (Nat.le_of_ble_eq_true rfl) fun v109 h109 E109 => ?_
        refine g_gd fun p112 => ?_
        refine g_athrow (pc := 112) X (Int.ne_of_gt p112) (dl_at t_X3_place 60 rfl) ?_
        exact gt_at fun Q hQ => gt_out (Q := Q) X rfl p112 (hno _) _ Q rfl hQ
      refine g_aload_n (pc := 49) X (j := 0) (i := 0) (q := 0) (x := a0) rfl rfl (dl_at t_X3_place 26 rfl) ?_
      refine g_iconst (pc := 50) X (n := 4) (dl_at t_X3_place 27 rfl) ?_
      refine g_iconst (pc := 51) X (n := 0) (dl_at t_X3_place 28 rfl) ?_
      refine g_iconst (pc := 52) X (n := 0) (dl_at t_X3_place 29 rfl) ?_
      refine g_iconst (pc := 53) X (n := 0) (dl_at t_X3_place 30 rfl) ?_
      refine r_callV (pc := 54) X (fun _ hv => s_X3_ask hk (r32_c rfl) (r32_c rfl) (r32_c rfl) (r32_c rfl) hv) cw_code q2030 q357 (in_Vk X (As := [iv 4, iv 0, iv 0, iv 0]) kX3 hk (Or.inl q2027) q2029 qs42 cw_code q2030 ⟨by decide, by decide⟩ rfl (dl_at t_X3_place 31 rfl)) (dl_at t_X3_place 31 rfl) (cat24 (st := []) (Nat.le_of_ble_eq_true rfl)) (Nat.le_of_ble_eq_true rfl) (Nat.le_of_ble_eq_true rfl) fun h54 E54 => ?_
      refine g_goto (pc := 57) X (off := 130) (tgt := 187) rfl (dl_at t_X3_place 32 rfl) ?_
      refine g_aload_n (pc := 187) X (j := 1) (i := 1) (q := 1) (x := a1) rfl rfl (dl_at t_X3_place 99 rfl) ?_
      have k188 := kx E54 (by decide) k3
      refine r_callV (pc := 188) X (fun _ hv => s_X2_next k188 hv) cw_code q1725 q356 (in_Vk X (As := []) kX2 k188 (Or.inr ⟨_, nw_in q1965 rfl⟩) q1724 qs8 cw_code q1725 ⟨by decide, by decide⟩ rfl (dl_at t_X3_place 100 rfl)) (dl_at t_X3_place 100 rfl) (cat24 (st := []) (Nat.le_of_ble_eq_true rfl)) (Nat.le_of_ble_eq_true rfl) (Nat.le_of_ble_eq_true rfl) fun h188_2 E188_2 => ?_
      exact g_vret (pc := 191) X (v := 0) rfl rfl (dl_at t_X3_place 101 rfl)
    refine g_aload_n (pc := 29) X (j := 0) (i := 0) (q := 0) (x := a0) rfl rfl (dl_at t_X3_place 15 rfl) ?_
    refine g_iconst (pc := 30) X (n := 3) (dl_at t_X3_place 16 rfl) ?_
    refine g_iconst (pc := 31) X (n := 0) (dl_at t_X3_place 17 rfl) ?_
    refine g_iconst (pc := 32) X (n := 0) (dl_at t_X3_place 18 rfl) ?_
    refine g_iconst (pc := 33) X (n := 0) (dl_at t_X3_place 19 rfl) ?_
    refine r_callV (pc := 34) X (fun _ hv => s_X3_ask hk (r32_c rfl) (r32_c rfl) (r32_c rfl) (r32_c rfl) hv) cw_code q2030 q357 (in_Vk X (As := [iv 3, iv 0, iv 0, iv 0]) kX3 hk (Or.inl q2027) q2029 qs42 cw_code q2030 ⟨by decide, by decide⟩ rfl (dl_at t_X3_place 20 rfl)) (dl_at t_X3_place 20 rfl) (cat24 (st := []) (Nat.le_of_ble_eq_true rfl)) (Nat.le_of_ble_eq_true rfl) (Nat.le_of_ble_eq_true rfl) fun h34 E34 => ?_
    refine g_goto (pc := 37) X (off := 150) (tgt := 187) rfl (dl_at t_X3_place 21 rfl) ?_
    refine g_aload_n (pc := 187) X (j := 1) (i := 1) (q := 1) (x := a1) rfl rfl (dl_at t_X3_place 99 rfl) ?_
    have k188_1 := kx E34 (by decide) k3
    refine r_callV (pc := 188) X (fun _ hv => s_X2_next k188_1 hv) cw_code q1725 q356 (in_Vk X (As := []) kX2 k188_1 (Or.inr ⟨_, nw_in q1965 rfl⟩) q1724 qs8 cw_code q1725 ⟨by decide, by decide⟩ rfl (dl_at t_X3_place 100 rfl)) (dl_at t_X3_place 100 rfl) (cat24 (st := []) (Nat.le_of_ble_eq_true rfl)) (Nat.le_of_ble_eq_true rfl) (Nat.le_of_ble_eq_true rfl) fun h188_3 E188_3 => ?_
    exact g_vret (pc := 191) X (v := 0) rfl rfl (dl_at t_X3_place 101 rfl)
  refine g_aload_n (pc := 9) X (j := 0) (i := 0) (q := 0) (x := a0) rfl rfl (dl_at t_X3_place 4 rfl) ?_
  refine g_iconst (pc := 10) X (n := 2) (dl_at t_X3_place 5 rfl) ?_
  refine g_iconst (pc := 11) X (n := 0) (dl_at t_X3_place 6 rfl) ?_
  refine g_iconst (pc := 12) X (n := 0) (dl_at t_X3_place 7 rfl) ?_
  refine g_iconst (pc := 13) X (n := 0) (dl_at t_X3_place 8 rfl) ?_
  refine r_callV (pc := 14) X (fun _ hv => s_X3_ask hk (r32_c rfl) (r32_c rfl) (r32_c rfl) (r32_c rfl) hv) cw_code q2030 q357 (in_Vk X (As := [iv 2, iv 0, iv 0, iv 0]) kX3 hk (Or.inl q2027) q2029 qs42 cw_code q2030 ⟨by decide, by decide⟩ rfl (dl_at t_X3_place 9 rfl)) (dl_at t_X3_place 9 rfl) (cat24 (st := []) (Nat.le_of_ble_eq_true rfl)) (Nat.le_of_ble_eq_true rfl) (Nat.le_of_ble_eq_true rfl) fun h14 E14 => ?_
  refine g_goto (pc := 17) X (off := 170) (tgt := 187) rfl (dl_at t_X3_place 10 rfl) ?_
  refine g_aload_n (pc := 187) X (j := 1) (i := 1) (q := 1) (x := a1) rfl rfl (dl_at t_X3_place 99 rfl) ?_
  have k188_2 := kx E14 (by decide) k3
  refine r_callV (pc := 188) X (fun _ hv => s_X2_next k188_2 hv) cw_code q1725 q356 (in_Vk X (As := []) kX2 k188_2 (Or.inr ⟨_, nw_in q1965 rfl⟩) q1724 qs8 cw_code q1725 ⟨by decide, by decide⟩ rfl (dl_at t_X3_place 100 rfl)) (dl_at t_X3_place 100 rfl) (cat24 (st := []) (Nat.le_of_ble_eq_true rfl)) (Nat.le_of_ble_eq_true rfl) (Nat.le_of_ble_eq_true rfl) fun h188_4 E188_4 => ?_
  exact g_vret (pc := 191) X (v := 0) rfl rfl (dl_at t_X3_place 101 rfl)
def k_X3_step : List (Nat × Instr × Nat) := [(0, .iconst 0, 1), (1, .istore_n 3, 1), (2, .aload_n 0, 1), (3, .getfield 30, 3), (6, .aload_n 0, 1), (7, .getfield 85, 3), (10, .iconst (-1), 1), (11, .iastore, 1), (12, .aload_n 1, 1), (13, .getfield 180, 3), (16, .iconst 1, 1), (17, .if_icmp .ne 33, 3), (20, .aload_n 0, 1), (21, .getfield 30, 3), (24, .aload_n 0, 1), (25, .getfield 85, 3), (28, .aload_n 0, 1), (29, .getfield 16, 3), (32, .aload_n 1, 1), (33, .getfield 193, 3), (36, .aload_n 1, 1), (37, .getfield 197, 3), (40, .aload_n 1, 1), (41, .getfield 200, 3), (44, .invokevirtual 202, 3), (47, .iastore, 1), (48, .iconst 1, 1), (49, .istore_n 3, 1), (50, .aload_n 0, 1), (51, .getfield 34, 3), (54, .aload_n 0, 1), (55, .getfield 85, 3), (58, .iload_n 2, 1), (59, .iastore, 1), (60, .aload_n 0, 1), (61, .getfield 37, 3), (64, .aload_n 0, 1), (65, .getfield 85, 3), (68, .aload_n 0, 1), (69, .getfield 88, 3), (72, .iastore, 1), (73, .aload_n 1, 1), (74, .invokevirtual 132, 3), (77, .iconst 0, 1), (78, .istore 4, 2), (80, .aload_n 1, 1), (81, .bipush 91, 2), (83, .invokevirtual 183, 3), (86, .ifCond .ne 12, 3), (89, .aload_n 1, 1), (90, .bipush 58, 2), (92, .invokevirtual 183, 3), (95, .ifCond .eq 49, 3), (98, .iload 4, 2), (100, .iconst 4, 1), (101, .if_icmp .ne 8, 3), (104, .aload_n 1, 1), (105, .invokevirtual 154, 3), (108, .athrow, 1), (109, .aload_n 1, 1), (110, .bipush 91, 2), (112, .invokevirtual 143, 3), (115, .ifCond .eq 11, 3), (118, .aload_n 0, 1), (119, .aload_n 1, 1), (120, .invokevirtual 206, 3), (123, .goto 12, 3), (126, .aload_n 1, 1), (127, .invokevirtual 132, 3), (130, .aload_n 0, 1), (131, .aload_n 1, 1), (132, .invokevirtual 209, 3), (135, .iinc 4 1, 3), (138, .iinc 3 100, 3), (141, .goto (-61), 3), (144, .aload_n 0, 1), (145, .dup, 1), (146, .getfield 85, 3), (149, .iconst 1, 1), (150, .iadd, 1), (151, .putfield 85, 3), (154, .iload_n 3, 1), (155, .ireturn, 1)]
theorem t_X3_step : ∀ q ∈ k_X3_step, decode cX3_step q.1 = .ok q.2 := dl_all (by decide +kernel)
noncomputable def m_X3_step_j135 (x3_80 x4_80 : Int) (h_135 : Hp) : Option ((Int × Int × Hp) ⊕ (((Int × Int) × Hp))) :=
  lt_ (w32 (x4_80 + 1)) fun x4_135 =>
  lt_ (w32 (x3_80 + 100)) fun x3_138 =>
  some (.inl (x3_138, x4_135, h_135))
noncomputable def m_X3_step_j98 (a0 a1 x3_80 x4_80 : Int) (h_80 : Hp) : Option ((Int × Int × Hp) ⊕ (((Int × Int) × Hp))) :=
  if x4_80 ≠ 4 then (bW (m_X2_take a1 91 h_80) fun v112 h112 =>
  if v112 = 0 then ((m_X2_next a1 h112).bind fun h127 =>
  bT (m_X3_place a0 a1 h127) (fun _ h132 =>
  m_X3_step_j135 x3_80 x4_80 h132) (fun a_ h_ => some (.inr ((1, a_), h_))))
  else (bT (m_X3_field a0 a1 h112) (fun _ h120 =>
  m_X3_step_j135 x3_80 x4_80 h120) (fun a_ h_ => some (.inr ((1, a_), h_)))))
  else (bW (m_X2_broken a1 h_80) fun v105 h105 =>
  gd (0 < v105) (some (.inr ((1, v105), h105))))
noncomputable def m_X3_step_l80 (a0 a1 x3_80 x4_80 : Int) (h_80 : Hp) : Option ((Int × Int × Hp) ⊕ (((Int × Int) × Hp))) :=
  (m_X2_isByte a1 91 h_80).bind fun v83 =>
  if v83 ≠ 0 then (m_X3_step_j98 a0 a1 x3_80 x4_80 h_80)
  else ((m_X2_isByte a1 58 h_80).bind fun v92 =>
  if v92 = 0 then (pt h_80 a0 6 (w32 ((h_80 a0 6) + 1)) fun h151 =>
  some (.inr ((0, x3_80), h151)))
  else (m_X3_step_j98 a0 a1 x3_80 x4_80 h_80))
noncomputable def m_X3_step_j50 (a2 a0 a1 x3_50 : Int) (h_50 : Hp) : Option ((Int × Int) × Hp) :=
  gd (h_50 (h_50 a0 4) (-2) % 16 = 1 ∧ (0 : Int) ≤ (h_50 a0 6) ∧ (h_50 a0 6) < h_50 (h_50 a0 4) (-1)) (pt h_50 (h_50 a0 4) (h_50 a0 6) a2 fun h59 =>
  gd (h59 (h59 a0 5) (-2) % 16 = 1 ∧ (0 : Int) ≤ (h59 a0 6) ∧ (h59 a0 6) < h59 (h59 a0 5) (-1)) (pt h59 (h59 a0 5) (h59 a0 6) (h59 a0 11) fun h72 =>
  (m_X2_next a1 h72).bind fun h74 =>
  lt_ 0 fun x4_78 =>
  (lp (fun (q : Int × Int × Hp) => m_X3_step_l80 a0 a1 q.1 q.2.1 q.2.2) (x3_50, x4_78, h74)).bind (fun (x : (Int × Int) × Hp) => some x)))
noncomputable def m_X3_step (a0 a1 a2 : Int) (h : Hp) : Option ((Int × Int) × Hp) :=
  lt_ 0 fun x3_1 =>
  gd (h (h a0 3) (-2) % 16 = 1 ∧ (0 : Int) ≤ (h a0 6) ∧ (h a0 6) < h (h a0 3) (-1)) (pt h (h a0 3) (h a0 6) (-1) fun h11 =>
  gd (h11 a1 (-2) = 32) (if (h11 a1 3) ≠ 1 then (m_X3_step_j50 a2 a0 a1 x3_1 h11)
  else (gd (h11 (h11 a0 0) (-2) = 64) (bW (m_X4_add (h11 a0 0) (h11 a1 0) (h11 a1 5) (h11 a1 6) h11) fun v44 h44 =>
  gd (h44 (h11 a0 3) (-2) % 16 = 1 ∧ (0 : Int) ≤ (h11 a0 6) ∧ (h11 a0 6) < h44 (h11 a0 3) (-1)) (pt h44 (h11 a0 3) (h11 a0 6) v44 fun h47 =>
  lt_ 1 fun x3_49 =>
  m_X3_step_j50 a2 a0 a1 x3_49 h47)))))
theorem s_X3_step {l : Launch} [NoTr l] {D : SD} {a0 a1 a2 : Int} {h : Hp} (hk : h a0 (-2) = 48) (r2 : r32 a2) {r : (Int × Int) × Hp} (hm : m_X3_step a0 a1 a2 h = some r) : Sim l D yX3_step (Cond.code yX3_step cX3_step 5 (Option.some Jvm.ClassFile.FieldType.int)) 13 487 [rv D a0, rv D a1, iv a2] h 1 r := by
  refine Sim.of (fin := fun (v : (Int × Int) × Hp) => v) (lsE := [(0, rv D a0), (1, rv D a1), (2, iv a2)]) hm rfl cwS_code (la_r (la_r (la_i la_n))) (ll_r (ll_r (ll_i ll_n))) ?_
  intro p e s m below meth c X hcw hmm hcc hnm hname
  have hno := noh hcw hnm hmm hcc
  unfold m_X3_step
  refine g_iconst (pc := 0) X (n := 0) (dl_at t_X3_step 0 rfl) ?_
  refine g_ltz (Or.inl rfl) fun x3_1 r3_1 => ?_
  refine g_istore_nN (pc := 1) X (j := 3) (i := 3) (x := x3_1) (b := 2) (w := iv a2) (rest := [(0, rv D a0), (1, rv D a1)]) rfl (Nat.le_of_ble_eq_true rfl) [2, 0, 1] rfl (by decide) rfl rfl (dl_at t_X3_step 1 rfl) ?_
  refine g_aload_n (pc := 2) X (j := 0) (i := 0) (q := 2) (x := a0) rfl rfl (dl_at t_X3_step 2 rfl) ?_
  refine r_getr (pc := 3) X fX3_3 hk q527 (dl_at t_X3_step 3 rfl) ?_
  refine g_aload_n (pc := 6) X (j := 0) (i := 0) (q := 2) (x := a0) rfl rfl (dl_at t_X3_step 4 rfl) ?_
  refine r_geti (pc := 7) X fX3_6 hk q533 (dl_at t_X3_step 5 rfl) fun g7 => ?_
  refine g_iconst (pc := 10) X (n := (-1)) (dl_at t_X3_step 6 rfl) ?_
  refine g_gd fun k11 => ?_
  refine r_iast (pc := 11) X g7 (r32_c rfl) k11 (dl_at t_X3_step 7 rfl) (fun h11 E11 => ?_)
  refine g_aload_n (pc := 12) X (j := 1) (i := 1) (q := 3) (x := a1) rfl rfl (dl_at t_X3_step 8 rfl) ?_
  refine g_gd fun k13 => ?_
  refine r_getiN (pc := 13) X fX2_3 k13 (nw_in q421 rfl) (dl_at t_X3_step 9 rfl) fun g13 => ?_
  refine g_iconst (pc := 16) X (n := 1) (dl_at t_X3_step 10 rfl) ?_
  refine g_join (γ := Int × Hp) (fun q => (q.1 = 0 ∨ q.1 = 1) ∧ Ext h11 q.2) 50 (fun q => [(0, rv D a0), (1, rv D a1), (2, iv a2), (3, iv q.1)]) (fun q => []) (fun q => q.2) (fun q => m_X3_step_j50 a2 a0 a1 q.1 q.2) ?_ ?_
  · rintro ⟨x3_50, h_50⟩ ⟨r3_50, E_50⟩
    try dsimp only
    unfold m_X3_step_j50
    refine g_aload_n (pc := 50) X (j := 0) (i := 0) (q := 0) (x := a0) rfl rfl (dl_at t_X3_step 28 rfl) ?_
    have k51 := kx (E11.trans E_50) (by decide) hk
    refine r_getr (pc := 51) X fX3_4 k51 q529 (dl_at t_X3_step 29 rfl) ?_
    refine g_aload_n (pc := 54) X (j := 0) (i := 0) (q := 0) (x := a0) rfl rfl (dl_at t_X3_step 30 rfl) ?_
    refine r_geti (pc := 55) X fX3_6 k51 q533 (dl_at t_X3_step 31 rfl) fun g55 => ?_
    refine g_iload_n (pc := 58) X (j := 2) (i := 2) (q := 2) (x := a2) rfl rfl (dl_at t_X3_step 32 rfl) ?_
    refine g_gd fun k59 => ?_
    refine r_iast (pc := 59) X g55 r2 k59 (dl_at t_X3_step 33 rfl) (fun h59 E59 => ?_)
    refine g_aload_n (pc := 60) X (j := 0) (i := 0) (q := 0) (x := a0) rfl rfl (dl_at t_X3_step 34 rfl) ?_
    have k61 := kx E59 (by decide) k51
    refine r_getr (pc := 61) X fX3_5 k61 q531 (dl_at t_X3_step 35 rfl) ?_
    refine g_aload_n (pc := 64) X (j := 0) (i := 0) (q := 0) (x := a0) rfl rfl (dl_at t_X3_step 36 rfl) ?_
    refine r_geti (pc := 65) X fX3_6 k61 q533 (dl_at t_X3_step 37 rfl) fun g65 => ?_
    refine g_aload_n (pc := 68) X (j := 0) (i := 0) (q := 0) (x := a0) rfl rfl (dl_at t_X3_step 38 rfl) ?_
    refine r_geti (pc := 69) X fX3_11 k61 q542 (dl_at t_X3_step 39 rfl) fun g69 => ?_
    refine g_gd fun k72 => ?_
    refine r_iast (pc := 72) X g65 g69 k72 (dl_at t_X3_step 40 rfl) (fun h72 E72 => ?_)
    refine g_aload_n (pc := 73) X (j := 1) (i := 1) (q := 1) (x := a1) rfl rfl (dl_at t_X3_step 41 rfl) ?_
    have k74 := kx (E_50.trans (E59.trans E72)) (by decide) k13
    refine r_callV (pc := 74) X (fun _ hv => s_X2_next k74 hv) cw_code q1725 q356 (in_Vk X (As := []) kX2 k74 (Or.inr ⟨_, nw_in q1965 rfl⟩) q1724 qs8 cw_code q1725 ⟨by decide, by decide⟩ rfl (dl_at t_X3_step 42 rfl)) (dl_at t_X3_step 42 rfl) (cat24 (st := []) (Nat.le_of_ble_eq_true rfl)) (Nat.le_of_ble_eq_true rfl) (Nat.le_of_ble_eq_true rfl) fun h74 E74 => ?_
    refine g_iconst (pc := 77) X (n := 0) (dl_at t_X3_step 43 rfl) ?_
    refine g_ltz (Or.inl rfl) fun x4_78 r4_78 => ?_
    refine g_istoreN (pc := 78) X (i := 4) (x := x4_78) (b := 3) (w := iv x3_50) (rest := [(0, rv D a0), (1, rv D a1)]) (Nat.le_of_ble_eq_true rfl) [3, 0, 1] rfl (by decide) rfl rfl (dl_at t_X3_step 44 rfl) ?_
    refine g_ls (ls2 := [(0, rv D a0), (1, rv D a1), (3, iv x3_50), (4, iv x4_78)]) [2, 3, 1, 0] rfl ?_
    refine g_loop0F (fun (q : Int × Int × Hp) => [(0, rv D a0), (1, rv D a1), (3, iv q.1), (4, iv q.2.1)]) (fun (q : Int × Int × Hp) => q.2.2) (fun (q : Int × Int × Hp) => r32 q.1 ∧ r32 q.2.1 ∧ Ext h74 q.2.2) (x3_50, x4_78, h74) ⟨(r32_z r3_50), (r32_z r4_78), (Ext.refl _)⟩ ?_ (fun _ => rfl)
    · rintro ⟨x3_80, x4_80, h_80⟩ ⟨r3_80, r4_80, E_80⟩
      try dsimp only
      unfold m_X3_step_l80
      refine g_aload_n (pc := 80) X (j := 1) (i := 1) (q := 1) (x := a1) rfl rfl (dl_at t_X3_step 45 rfl) ?_
      refine g_bipush (pc := 81) X (n := 91) rfl (dl_at t_X3_step 46 rfl) ?_
      have k83 := kx (E74.trans E_80) (by decide) k74
      refine r_callRz (pc := 83) X (fun _ hv => s_X2_isByte k83 (r32_c rfl) hv) cw_code q1871 q356 (in_Vk X (As := [iv 91]) kX2 k83 (Or.inr ⟨_, nw_in q1999 rfl⟩) q1870 qs19 cw_code q1871 ⟨by decide, by decide⟩ rfl (dl_at t_X3_step 47 rfl)) (dl_at t_X3_step 47 rfl) (cat24 (st := []) (Nat.le_of_ble_eq_true rfl)) (Nat.le_of_ble_eq_true rfl) (Nat.le_of_ble_eq_true rfl) fun v83 g83 => ?_
      refine g_join (γ := Unit) (fun q => True) 98 (fun q => [(0, rv D a0), (1, rv D a1), (3, iv x3_80), (4, iv x4_80)]) (fun q => []) (fun q => h_80) (fun q => m_X3_step_j98 a0 a1 x3_80 x4_80 h_80) ?_ ?_
      · rintro _ _
        try dsimp only
        unfold m_X3_step_j98
        refine g_iload (pc := 98) X (i := 4) (q := 3) (x := x4_80) rfl (dl_at t_X3_step 53 rfl) ?_
        refine g_iconst (pc := 100) X (n := 4) (dl_at t_X3_step 54 rfl) ?_
        refine g_icmpne (pc := 101) X r4_80 (r32_c rfl) (off := 8) (tgt := 109) rfl (dl_at t_X3_step 55 rfl) (fun _ => ?_) (fun _ => ?_)
        · refine g_aload_n (pc := 109) X (j := 1) (i := 1) (q := 1) (x := a1) rfl rfl (dl_at t_X3_step 59 rfl) ?_
          refine g_bipush (pc := 110) X (n := 91) rfl (dl_at t_X3_step 60 rfl) ?_
          refine r_callWz (pc := 112) X (fun _ hv => s_X2_take k83 (r32_c rfl) hv) cw_code q1867 q356 (in_Vk X (As := [iv 91]) kX2 k83 (Or.inr ⟨_, nw_in q1971 rfl⟩) q1866 qs18 cw_code q1867 ⟨by decide, by decide⟩ rfl (dl_at t_X3_step 61 rfl)) (dl_at t_X3_step 61 rfl) (cat24 (st := []) (Nat.le_of_ble_eq_true rfl)) (Nat.le_of_ble_eq_true rfl) (Nat.le_of_ble_eq_true rfl) fun v112 h112 g112 E112 => ?_
          refine g_join (γ := Hp) (fun q => Ext h112 q) 135 (fun q => [(0, rv D a0), (1, rv D a1), (3, iv x3_80), (4, iv x4_80)]) (fun q => []) (fun q => q) (fun q => m_X3_step_j135 x3_80 x4_80 q) ?_ ?_
          · rintro h_135 E_135
            try dsimp only
            unfold m_X3_step_j135
            refine r_iincN (pc := 135) X (i := 4) (q := 3) (n := 1) (x := x4_80) (b := 3) (w := iv x3_80) (rest := [(0, rv D a0), (1, rv D a1)]) rfl r4_80 (r32_c rfl) (Nat.le_of_ble_eq_true rfl) [2, 0, 1] rfl (by decide) rfl rfl (dl_at t_X3_step 72 rfl) fun x4_135 r4_135 => ?_
            refine r_iinc (pc := 138) X (i := 3) (q := 1) (n := 100) (x := x3_80) (rest := [(4, iv x4_135), (0, rv D a0), (1, rv D a1)]) rfl r3_80 (r32_c rfl) (Nat.le_of_ble_eq_true rfl) [0, 2, 3] rfl rfl (dl_at t_X3_step 73 rfl) fun x3_138 r3_138 => ?_
            refine g_goto (pc := 141) X (off := (-61)) (tgt := 80) rfl (dl_at t_X3_step 74 rfl) ?_
            refine g_ls (ls2 := [(0, rv D a0), (1, rv D a1), (3, iv x3_138), (4, iv x4_135)]) [2, 3, 0, 1] rfl ?_
            exact g_at fun Q hQ => hQ ⟨r3_138, r4_135, (E_80.trans (E112.trans E_135))⟩
          intro J135
          refine g_ifeq (pc := 115) X (r32_z g112) (off := 11) (tgt := 126) rfl (dl_at t_X3_step 62 rfl) (fun _ => ?_) (fun _ => ?_)
          · refine g_aload_n (pc := 126) X (j := 1) (i := 1) (q := 1) (x := a1) rfl rfl (dl_at t_X3_step 67 rfl) ?_
            have k127 := kx E112 (by decide) k83
            refine r_callV (pc := 127) X (fun _ hv => s_X2_next k127 hv) cw_code q1725 q356 (in_Vk X (As := []) kX2 k127 (Or.inr ⟨_, nw_in q1965 rfl⟩) q1724 qs8 cw_code q1725 ⟨by decide, by decide⟩ rfl (dl_at t_X3_step 68 rfl)) (dl_at t_X3_step 68 rfl) (cat24 (st := []) (Nat.le_of_ble_eq_true rfl)) (Nat.le_of_ble_eq_true rfl) (Nat.le_of_ble_eq_true rfl) fun h127 E127 => ?_
            refine g_aload_n (pc := 130) X (j := 0) (i := 0) (q := 0) (x := a0) rfl rfl (dl_at t_X3_step 69 rfl) ?_
            refine g_aload_n (pc := 131) X (j := 1) (i := 1) (q := 1) (x := a1) rfl rfl (dl_at t_X3_step 70 rfl) ?_
            have k132 := kx (E72.trans (E74.trans (E_80.trans (E112.trans E127)))) (by decide) k61
            refine r_callTv (pc := 132) X (fun _ hv => s_X3_place k132 hv) cw_code q2043 q357 (in_Vk X (As := [rv D a1]) kX3 k132 (Or.inl q2040) q2042 qs45 cw_code q2043 ⟨by decide, by decide⟩ rfl (dl_at t_X3_step 71 rfl)) (dl_at t_X3_step 71 rfl) (cat24 (st := []) (Nat.le_of_ble_eq_true rfl)) (Nat.le_of_ble_eq_true rfl) (Nat.le_of_ble_eq_true rfl) (fun v132 h132 E132 => ?_) (fun _ _ ha _ => gt_at fun Q hQ => gt_out (Q := Q) X rfl ha (hno _) _ Q rfl hQ)
            exact J135 h132 (E127.trans E132)
          refine g_aload_n (pc := 118) X (j := 0) (i := 0) (q := 0) (x := a0) rfl rfl (dl_at t_X3_step 63 rfl) ?_
          refine g_aload_n (pc := 119) X (j := 1) (i := 1) (q := 1) (x := a1) rfl rfl (dl_at t_X3_step 64 rfl) ?_
          have k120 := kx (E72.trans (E74.trans (E_80.trans E112))) (by decide) k61
          refine r_callTv (pc := 120) X (fun _ hv => s_X3_field k120 hv) cw_code q2026 q357 (in_Vk X (As := [rv D a1]) kX3 k120 (Or.inl q2023) q2025 qs41 cw_code q2026 ⟨by decide, by decide⟩ rfl (dl_at t_X3_step 65 rfl)) (dl_at t_X3_step 65 rfl) (cat24 (st := []) (Nat.le_of_ble_eq_true rfl)) (Nat.le_of_ble_eq_true rfl) (Nat.le_of_ble_eq_true rfl) (fun v120 h120 E120 => ?_) (fun _ _ ha _ => gt_at fun Q hQ => gt_out (Q := Q) X rfl ha (hno _) _ Q rfl hQ)
          refine g_goto (pc := 123) X (off := 12) (tgt := 135) rfl (dl_at t_X3_step 66 rfl) ?_
          exact J135 h120 E120
        refine g_aload_n (pc := 104) X (j := 1) (i := 1) (q := 1) (x := a1) rfl rfl (dl_at t_X3_step 56 rfl) ?_
        refine r_callWr (pc := 105) X (fun _ hv => s_X2_broken k83 hv) cw_code q1825 q356 (in_Vk X (As := []) kX2 k83 (Or.inr ⟨_, nw_in q1985 rfl⟩) q1824 qs16 cw_code q1825 ⟨by decide, by decide⟩ rfl (dl_at t_X3_step 57 rfl)) (dl_at t_X3_step 57 rfl) (cat24 (st := []) (Nat.le_of_ble_eq_true rfl)) (Nat.le_of_ble_eq_true rfl) (Nat.le_of_ble_eq_true rfl) fun v105 h105 E105 => ?_
        refine g_gd fun p108 => ?_
        refine g_athrow (pc := 108) X (Int.ne_of_gt p108) (dl_at t_X3_step 58 rfl) ?_
        exact gt_at fun Q hQ => gt_out (Q := Q) X rfl p108 (hno _) _ Q rfl hQ
      intro J98
      refine g_ifne (pc := 86) X (r32_z g83) (off := 12) (tgt := 98) rfl (dl_at t_X3_step 48 rfl) (fun _ => ?_) (fun _ => ?_)
      · exact J98 () trivial
      refine g_aload_n (pc := 89) X (j := 1) (i := 1) (q := 1) (x := a1) rfl rfl (dl_at t_X3_step 49 rfl) ?_
      refine g_bipush (pc := 90) X (n := 58) rfl (dl_at t_X3_step 50 rfl) ?_
      refine r_callRz (pc := 92) X (fun _ hv => s_X2_isByte k83 (r32_c rfl) hv) cw_code q1871 q356 (in_Vk X (As := [iv 58]) kX2 k83 (Or.inr ⟨_, nw_in q1999 rfl⟩) q1870 qs19 cw_code q1871 ⟨by decide, by decide⟩ rfl (dl_at t_X3_step 51 rfl)) (dl_at t_X3_step 51 rfl) (cat24 (st := []) (Nat.le_of_ble_eq_true rfl)) (Nat.le_of_ble_eq_true rfl) (Nat.le_of_ble_eq_true rfl) fun v92 g92 => ?_
      refine g_ifeq (pc := 95) X (r32_z g92) (off := 49) (tgt := 144) rfl (dl_at t_X3_step 52 rfl) (fun _ => ?_) (fun _ => ?_)
      · refine g_aload_n (pc := 144) X (j := 0) (i := 0) (q := 0) (x := a0) rfl rfl (dl_at t_X3_step 75 rfl) ?_
        refine g_dup (pc := 145) X rv_cat (dl_at t_X3_step 76 rfl) ?_
        have k146 := kx (E72.trans (E74.trans E_80)) (by decide) k61
        refine r_geti (pc := 146) X fX3_6 k146 q533 (dl_at t_X3_step 77 rfl) fun g146 => ?_
        refine g_iconst (pc := 149) X (n := 1) (dl_at t_X3_step 78 rfl) ?_
        refine g_iadd (pc := 150) X g146 (r32_c rfl) (dl_at t_X3_step 79 rfl) ?_
        refine r_puti (pc := 151) X fX3_6 k146 q533 rfl (dl_at t_X3_step 80 rfl) (r32_w _) (fun h151 E151 => ?_)
        refine g_iload_n (pc := 154) X (j := 3) (i := 3) (q := 2) (x := x3_80) rfl rfl (dl_at t_X3_step 81 rfl) ?_
        exact g_at fun Q hQ => (g_iret (pc := 155) X r3_80 rfl rfl (dl_at t_X3_step 82 rfl)) _ Q rfl hQ
      exact J98 () trivial
  intro J50
  refine g_icmpne (pc := 17) X g13 (r32_c rfl) (off := 33) (tgt := 50) rfl (dl_at t_X3_step 11 rfl) (fun _ => ?_) (fun _ => ?_)
  · refine g_ls (ls2 := [(0, rv D a0), (1, rv D a1), (2, iv a2), (3, iv x3_1)]) [2, 3, 1, 0] rfl ?_
    exact J50 (x3_1, h11) ⟨r3_1, (Ext.refl _)⟩
  refine g_aload_n (pc := 20) X (j := 0) (i := 0) (q := 2) (x := a0) rfl rfl (dl_at t_X3_step 12 rfl) ?_
  have k21 := kx E11 (by decide) hk
  refine r_getr (pc := 21) X fX3_3 k21 q527 (dl_at t_X3_step 13 rfl) ?_
  refine g_aload_n (pc := 24) X (j := 0) (i := 0) (q := 2) (x := a0) rfl rfl (dl_at t_X3_step 14 rfl) ?_
  refine r_geti (pc := 25) X fX3_6 k21 q533 (dl_at t_X3_step 15 rfl) fun g25 => ?_
  refine g_aload_n (pc := 28) X (j := 0) (i := 0) (q := 2) (x := a0) rfl rfl (dl_at t_X3_step 16 rfl) ?_
  refine r_getr (pc := 29) X fX3_0 k21 q522 (dl_at t_X3_step 17 rfl) ?_
  refine g_aload_n (pc := 32) X (j := 1) (i := 1) (q := 3) (x := a1) rfl rfl (dl_at t_X3_step 18 rfl) ?_
  refine r_getrN (pc := 33) X fX2_0 k13 (nw_in q416 rfl) (dl_at t_X3_step 19 rfl) ?_
  refine g_aload_n (pc := 36) X (j := 1) (i := 1) (q := 3) (x := a1) rfl rfl (dl_at t_X3_step 20 rfl) ?_
  refine r_getiN (pc := 37) X fX2_5 k13 (nw_in q426 rfl) (dl_at t_X3_step 21 rfl) fun g37 => ?_
  refine g_aload_n (pc := 40) X (j := 1) (i := 1) (q := 3) (x := a1) rfl rfl (dl_at t_X3_step 22 rfl) ?_
  refine r_getiN (pc := 41) X fX2_6 k13 (nw_in q429 rfl) (dl_at t_X3_step 23 rfl) fun g41 => ?_
  refine g_gd fun k44 => ?_
  refine r_callWi (pc := 44) X (fun _ hv => s_X4_add k44 g37 g41 hv) cw_code q2007 q358 (in_Vk X (As := [rv D (h11 a1 0), iv (h11 a1 5), iv (h11 a1 6)]) kX4 k44 (Or.inr ⟨_, nw_in q2004 rfl⟩) q2006 qs37 cw_code q2007 ⟨by decide, by decide⟩ rfl (dl_at t_X3_step 24 rfl)) (dl_at t_X3_step 24 rfl) (cat24 (st := [iv (h11 a0 6), rv D (h11 a0 3)]) (Nat.le_of_ble_eq_true rfl)) (Nat.le_of_ble_eq_true rfl) (Nat.le_of_ble_eq_true rfl) fun v44 h44 g44 E44 => ?_
  refine g_gd fun k47 => ?_
  refine r_iast (pc := 47) X g25 g44 k47 (dl_at t_X3_step 25 rfl) (fun h47 E47 => ?_)
  refine g_iconst (pc := 48) X (n := 1) (dl_at t_X3_step 26 rfl) ?_
  refine g_ltz (Or.inr rfl) fun x3_49 r3_49 => ?_
  refine g_istore_nN (pc := 49) X (j := 3) (i := 3) (x := x3_49) (b := 2) (w := iv a2) (rest := [(0, rv D a0), (1, rv D a1)]) rfl (Nat.le_of_ble_eq_true rfl) [1, 2, 3] rfl (by decide) rfl rfl (dl_at t_X3_step 27 rfl) ?_
  refine g_ls (ls2 := [(0, rv D a0), (1, rv D a1), (2, iv a2), (3, iv x3_49)]) [2, 3, 1, 0] rfl ?_
  exact J50 (x3_49, h47) ⟨r3_49, (E44.trans E47)⟩
def k_X3_join : List (Nat × Instr × Nat) := [(0, .aload_n 1, 1), (1, .bipush 62, 2), (3, .invokevirtual 143, 3), (6, .ifCond .eq 7, 3), (9, .iconst 1, 1), (10, .goto 30, 3), (13, .aload_n 1, 1), (14, .bipush 47, 2), (16, .invokevirtual 143, 3), (19, .ifCond .eq 7, 3), (22, .iconst 2, 1), (23, .goto 17, 3), (26, .aload_n 1, 1), (27, .bipush 43, 2), (29, .invokevirtual 143, 3), (32, .ifCond .eq 7, 3), (35, .iconst 3, 1), (36, .goto 4, 3), (39, .iconst 0, 1), (40, .ireturn, 1)]
theorem t_X3_join : ∀ q ∈ k_X3_join, decode cX3_join q.1 = .ok q.2 := dl_all (by decide +kernel)
noncomputable def m_X3_join (a0 a1 : Int) (h : Hp) : Option (Int × Hp) :=
  gd (h a1 (-2) = 32) (bW (m_X2_take a1 62 h) fun v3 h3 =>
  if v3 = 0 then (bW (m_X2_take a1 47 h3) fun v16 h16 =>
  if v16 = 0 then (bW (m_X2_take a1 43 h16) fun v29 h29 =>
  if v29 = 0 then (some (0, h29))
  else (some (3, h29)))
  else (some (2, h16)))
  else (some (1, h3)))
theorem s_X3_join {l : Launch} [NoTr l] {D : SD} {a0 a1 : Int} {h : Hp} (hk : h a0 (-2) = 48) {r : Int × Hp} (hm : m_X3_join a0 a1 h = some r) : Sim l D yX3_join (Cond.code yX3_join cX3_join 2 (Option.some Jvm.ClassFile.FieldType.int)) 4 149 [rv D a0, rv D a1] h 1 ((0, r.1), r.2) := by
  refine Sim.of (fin := fun (v : Int × Hp) => ((0, v.1), v.2)) (lsE := [(0, rv D a0), (1, rv D a1)]) hm rfl cwS_code (la_r (la_r la_n)) (ll_r (ll_r ll_n)) ?_
  intro p e s m below meth c X hcw hmm hcc hnm hname
  unfold m_X3_join
  refine g_aload_n (pc := 0) X (j := 1) (i := 1) (q := 1) (x := a1) rfl rfl (dl_at t_X3_join 0 rfl) ?_
  refine g_bipush (pc := 1) X (n := 62) rfl (dl_at t_X3_join 1 rfl) ?_
  refine g_gd fun k3 => ?_
  refine r_callWz (pc := 3) X (fun _ hv => s_X2_take k3 (r32_c rfl) hv) cw_code q1867 q356 (in_Vk X (As := [iv 62]) kX2 k3 (Or.inr ⟨_, nw_in q1971 rfl⟩) q1866 qs18 cw_code q1867 ⟨by decide, by decide⟩ rfl (dl_at t_X3_join 2 rfl)) (dl_at t_X3_join 2 rfl) (cat24 (st := []) (Nat.le_of_ble_eq_true rfl)) (Nat.le_of_ble_eq_true rfl) (Nat.le_of_ble_eq_true rfl) fun v3 h3 g3 E3 => ?_
  refine g_ifeq (pc := 6) X (r32_z g3) (off := 7) (tgt := 13) rfl (dl_at t_X3_join 3 rfl) (fun _ => ?_) (fun _ => ?_)
  · refine g_aload_n (pc := 13) X (j := 1) (i := 1) (q := 1) (x := a1) rfl rfl (dl_at t_X3_join 6 rfl) ?_
    refine g_bipush (pc := 14) X (n := 47) rfl (dl_at t_X3_join 7 rfl) ?_
    have k16 := kx E3 (by decide) k3
    refine r_callWz (pc := 16) X (fun _ hv => s_X2_take k16 (r32_c rfl) hv) cw_code q1867 q356 (in_Vk X (As := [iv 47]) kX2 k16 (Or.inr ⟨_, nw_in q1971 rfl⟩) q1866 qs18 cw_code q1867 ⟨by decide, by decide⟩ rfl (dl_at t_X3_join 8 rfl)) (dl_at t_X3_join 8 rfl) (cat24 (st := []) (Nat.le_of_ble_eq_true rfl)) (Nat.le_of_ble_eq_true rfl) (Nat.le_of_ble_eq_true rfl) fun v16 h16 g16 E16 => ?_
    refine g_ifeq (pc := 19) X (r32_z g16) (off := 7) (tgt := 26) rfl (dl_at t_X3_join 9 rfl) (fun _ => ?_) (fun _ => ?_)
    · refine g_aload_n (pc := 26) X (j := 1) (i := 1) (q := 1) (x := a1) rfl rfl (dl_at t_X3_join 12 rfl) ?_
      refine g_bipush (pc := 27) X (n := 43) rfl (dl_at t_X3_join 13 rfl) ?_
      have k29 := kx E16 (by decide) k16
      refine r_callWz (pc := 29) X (fun _ hv => s_X2_take k29 (r32_c rfl) hv) cw_code q1867 q356 (in_Vk X (As := [iv 43]) kX2 k29 (Or.inr ⟨_, nw_in q1971 rfl⟩) q1866 qs18 cw_code q1867 ⟨by decide, by decide⟩ rfl (dl_at t_X3_join 14 rfl)) (dl_at t_X3_join 14 rfl) (cat24 (st := []) (Nat.le_of_ble_eq_true rfl)) (Nat.le_of_ble_eq_true rfl) (Nat.le_of_ble_eq_true rfl) fun v29 h29 g29 E29 => ?_
      refine g_ifeq (pc := 32) X (r32_z g29) (off := 7) (tgt := 39) rfl (dl_at t_X3_join 15 rfl) (fun _ => ?_) (fun _ => ?_)
      · refine g_iconst (pc := 39) X (n := 0) (dl_at t_X3_join 18 rfl) ?_
        exact g_iret (pc := 40) X (r32_c rfl) rfl rfl (dl_at t_X3_join 19 rfl)
      refine g_iconst (pc := 35) X (n := 3) (dl_at t_X3_join 16 rfl) ?_
      refine g_goto (pc := 36) X (off := 4) (tgt := 40) rfl (dl_at t_X3_join 17 rfl) ?_
      exact g_iret (pc := 40) X (r32_c rfl) rfl rfl (dl_at t_X3_join 19 rfl)
    refine g_iconst (pc := 22) X (n := 2) (dl_at t_X3_join 10 rfl) ?_
    refine g_goto (pc := 23) X (off := 17) (tgt := 40) rfl (dl_at t_X3_join 11 rfl) ?_
    exact g_iret (pc := 40) X (r32_c rfl) rfl rfl (dl_at t_X3_join 19 rfl)
  refine g_iconst (pc := 9) X (n := 1) (dl_at t_X3_join 4 rfl) ?_
  refine g_goto (pc := 10) X (off := 30) (tgt := 40) rfl (dl_at t_X3_join 5 rfl) ?_
  exact g_iret (pc := 40) X (r32_c rfl) rfl rfl (dl_at t_X3_join 19 rfl)
def k_X3_selector : List (Nat × Instr × Nat) := [(0, .aload_n 1, 1), (1, .getfield 180, 3), (4, .iconst 1, 1), (5, .if_icmp .eq 17, 3), (8, .aload_n 1, 1), (9, .bipush 42, 2), (11, .invokevirtual 183, 3), (14, .ifCond .ne 8, 3), (17, .aload_n 1, 1), (18, .invokevirtual 154, 3), (21, .athrow, 1), (22, .aload_n 0, 1), (23, .getfield 91, 3), (26, .bipush 120, 2), (28, .if_icmp .ne 8, 3), (31, .aload_n 1, 1), (32, .invokevirtual 154, 3), (35, .athrow, 1), (36, .aload_n 0, 1), (37, .getfield 52, 3), (40, .aload_n 0, 1), (41, .getfield 91, 3), (44, .aload_n 0, 1), (45, .getfield 85, 3), (48, .iastore, 1), (49, .aload_n 0, 1), (50, .getfield 58, 3), (53, .aload_n 0, 1), (54, .getfield 91, 3), (57, .aload_n 0, 1), (58, .getfield 97, 3), (61, .iastore, 1), (62, .aload_n 0, 1), (63, .aload_n 1, 1), (64, .iconst 0, 1), (65, .invokevirtual 186, 3), (68, .istore_n 2, 1), (69, .aload_n 0, 1), (70, .aload_n 1, 1), (71, .invokevirtual 190, 3), (74, .istore_n 3, 1), (75, .iload_n 3, 1), (76, .ifCond .eq 62, 3), (79, .aload_n 1, 1), (80, .getfield 180, 3), (83, .iconst 1, 1), (84, .if_icmp .eq 12, 3), (87, .aload_n 1, 1), (88, .bipush 42, 2), (90, .invokevirtual 183, 3), (93, .ifCond .eq 22, 3), (96, .aload_n 0, 1), (97, .getfield 85, 3), (100, .aload_n 0, 1), (101, .getfield 52, 3), (104, .aload_n 0, 1), (105, .getfield 91, 3), (108, .iaload, 1), (109, .isub, 1), (110, .bipush 8, 2), (112, .if_icmp .ne 8, 3), (115, .aload_n 1, 1), (116, .invokevirtual 154, 3), (119, .athrow, 1), (120, .iload_n 2, 1), (121, .aload_n 0, 1), (122, .aload_n 1, 1), (123, .iload_n 3, 1), (124, .invokevirtual 186, 3), (127, .iadd, 1), (128, .istore_n 2, 1), (129, .aload_n 0, 1), (130, .aload_n 1, 1), (131, .invokevirtual 190, 3), (134, .istore_n 3, 1), (135, .goto (-60), 3), (138, .aload_n 0, 1), (139, .getfield 55, 3), (142, .aload_n 0, 1), (143, .getfield 91, 3), (146, .iload_n 2, 1), (147, .iastore, 1), (148, .aload_n 0, 1), (149, .dup, 1), (150, .getfield 91, 3), (153, .iconst 1, 1), (154, .iadd, 1), (155, .putfield 91, 3), (158, .return_, 1)]
theorem t_X3_selector : ∀ q ∈ k_X3_selector, decode cX3_selector q.1 = .ok q.2 := dl_all (by decide +kernel)
noncomputable def m_X3_selector_j96 (a0 a1 x2_75 x3_75 : Int) (h_75 : Hp) : Option ((Int × Int × Hp) ⊕ ((Int × Hp) ⊕ (((Int × Int) × Hp)))) :=
  gd (h_75 (h_75 a0 12) (-2) % 16 = 1 ∧ (0 : Int) ≤ (h_75 a0 15) ∧ (h_75 a0 15) < h_75 (h_75 a0 12) (-1)) (if (w32 ((h_75 a0 6) - (h_75 (h_75 a0 12) (h_75 a0 15)))) ≠ 8 then (bT (m_X3_step a0 a1 x3_75 h_75) (fun v124 h124 =>
  lt_ (w32 (x2_75 + v124)) fun x2_128 =>
  bW (m_X3_join a0 a1 h124) fun v131 h131 =>
  some (.inl (x2_128, v131, h131))) (fun a_ h_ => some (.inr (.inr ((1, a_), h_)))))
  else (bW (m_X2_broken a1 h_75) fun v116 h116 =>
  gd (0 < v116) (some (.inr (.inr ((1, v116), h116))))))
noncomputable def m_X3_selector_l75 (a0 a1 x2_75 x3_75 : Int) (h_75 : Hp) : Option ((Int × Int × Hp) ⊕ ((Int × Hp) ⊕ (((Int × Int) × Hp)))) :=
  if x3_75 = 0 then (some (.inr (.inl (x2_75, h_75))))
  else (if (h_75 a1 3) = 1 then (m_X3_selector_j96 a0 a1 x2_75 x3_75 h_75)
  else ((m_X2_isByte a1 42 h_75).bind fun v90 =>
  if v90 = 0 then (bW (m_X2_broken a1 h_75) fun v116_1 h116_1 =>
  gd (0 < v116_1) (some (.inr (.inr ((1, v116_1), h116_1)))))
  else (m_X3_selector_j96 a0 a1 x2_75 x3_75 h_75)))
noncomputable def m_X3_selector_j22 (a0 a1 : Int) (h : Hp) : Option ((Int × Int) × Hp) :=
  if (h a0 15) ≠ 120 then (gd (h (h a0 12) (-2) % 16 = 1 ∧ (0 : Int) ≤ (h a0 15) ∧ (h a0 15) < h (h a0 12) (-1)) (pt h (h a0 12) (h a0 15) (h a0 6) fun h48 =>
  gd (h48 (h48 a0 14) (-2) % 16 = 1 ∧ (0 : Int) ≤ (h48 a0 15) ∧ (h48 a0 15) < h48 (h48 a0 14) (-1)) (pt h48 (h48 a0 14) (h48 a0 15) (h48 a0 22) fun h61 =>
  bT (m_X3_step a0 a1 0 h61) (fun v65 h65 =>
  bW (m_X3_join a0 a1 h65) fun v71 h71 =>
  (lp (fun (q : Int × Int × Hp) => m_X3_selector_l75 a0 a1 q.1 q.2.1 q.2.2) (v65, v71, h71)).bind (sE (fun (y138 : Int × Hp) => gd (y138.2 (y138.2 a0 13) (-2) % 16 = 1 ∧ (0 : Int) ≤ (y138.2 a0 15) ∧ (y138.2 a0 15) < y138.2 (y138.2 a0 13) (-1)) (pt y138.2 (y138.2 a0 13) (y138.2 a0 15) y138.1 fun h147 =>
  pt h147 a0 15 (w32 ((h147 a0 15) + 1)) fun h155 =>
  some ((0, 0), h155))) (fun (x : (Int × Int) × Hp) => some x))) (fun a_ h_ => some ((1, a_), h_)))))
  else (bW (m_X2_broken a1 h) fun v32 h32 =>
  gd (0 < v32) (some ((1, v32), h32)))
noncomputable def m_X3_selector (a0 a1 : Int) (h : Hp) : Option ((Int × Int) × Hp) :=
  gd (h a1 (-2) = 32) (if (h a1 3) = 1 then (m_X3_selector_j22 a0 a1 h)
  else ((m_X2_isByte a1 42 h).bind fun v11 =>
  if v11 ≠ 0 then (m_X3_selector_j22 a0 a1 h)
  else (bW (m_X2_broken a1 h) fun v18 h18 =>
  gd (0 < v18) (some ((1, v18), h18)))))
theorem s_X3_selector {l : Launch} [NoTr l] {D : SD} {a0 a1 : Int} {h : Hp} (hk : h a0 (-2) = 48) {r : (Int × Int) × Hp} (hm : m_X3_selector a0 a1 h = some r) : Sim l D yX3_selector (Cond.code yX3_selector cX3_selector 4 (Option.none : Option Jvm.ClassFile.FieldType)) 14 527 [rv D a0, rv D a1] h 0 r := by
  refine Sim.of (fin := fun (v : (Int × Int) × Hp) => v) (lsE := [(0, rv D a0), (1, rv D a1)]) hm rfl cwS_code (la_r (la_r la_n)) (ll_r (ll_r ll_n)) ?_
  intro p e s m below meth c X hcw hmm hcc hnm hname
  have hno := noh hcw hnm hmm hcc
  unfold m_X3_selector
  refine g_aload_n (pc := 0) X (j := 1) (i := 1) (q := 1) (x := a1) rfl rfl (dl_at t_X3_selector 0 rfl) ?_
  refine g_gd fun k1 => ?_
  refine r_getiN (pc := 1) X fX2_3 k1 (nw_in q421 rfl) (dl_at t_X3_selector 1 rfl) fun g1 => ?_
  refine g_iconst (pc := 4) X (n := 1) (dl_at t_X3_selector 2 rfl) ?_
  refine g_join (γ := Unit) (fun q => True) 22 (fun q => [(0, rv D a0), (1, rv D a1)]) (fun q => []) (fun q => h) (fun q => m_X3_selector_j22 a0 a1 h) ?_ ?_
  · rintro _ _
    try dsimp only
    unfold m_X3_selector_j22
    refine g_aload_n (pc := 22) X (j := 0) (i := 0) (q := 0) (x := a0) rfl rfl (dl_at t_X3_selector 11 rfl) ?_
    refine r_geti (pc := 23) X fX3_15 hk q549 (dl_at t_X3_selector 12 rfl) fun g23 => ?_
    refine g_bipush (pc := 26) X (n := 120) rfl (dl_at t_X3_selector 13 rfl) ?_
    refine g_icmpne (pc := 28) X g23 (r32_c rfl) (off := 8) (tgt := 36) rfl (dl_at t_X3_selector 14 rfl) (fun _ => ?_) (fun _ => ?_)
    · refine g_aload_n (pc := 36) X (j := 0) (i := 0) (q := 0) (x := a0) rfl rfl (dl_at t_X3_selector 18 rfl) ?_
      refine r_getr (pc := 37) X fX3_12 hk q543 (dl_at t_X3_selector 19 rfl) ?_
      refine g_aload_n (pc := 40) X (j := 0) (i := 0) (q := 0) (x := a0) rfl rfl (dl_at t_X3_selector 20 rfl) ?_
      refine r_geti (pc := 41) X fX3_15 hk q549 (dl_at t_X3_selector 21 rfl) fun g41 => ?_
      refine g_aload_n (pc := 44) X (j := 0) (i := 0) (q := 0) (x := a0) rfl rfl (dl_at t_X3_selector 22 rfl) ?_
      refine r_geti (pc := 45) X fX3_6 hk q533 (dl_at t_X3_selector 23 rfl) fun g45 => ?_
      refine g_gd fun k48 => ?_
      refine r_iast (pc := 48) X g41 g45 k48 (dl_at t_X3_selector 24 rfl) (fun h48 E48 => ?_)
      refine g_aload_n (pc := 49) X (j := 0) (i := 0) (q := 0) (x := a0) rfl rfl (dl_at t_X3_selector 25 rfl) ?_
      have k50 := kx E48 (by decide) hk
      refine r_getr (pc := 50) X fX3_14 k50 q547 (dl_at t_X3_selector 26 rfl) ?_
      refine g_aload_n (pc := 53) X (j := 0) (i := 0) (q := 0) (x := a0) rfl rfl (dl_at t_X3_selector 27 rfl) ?_
      refine r_geti (pc := 54) X fX3_15 k50 q549 (dl_at t_X3_selector 28 rfl) fun g54 => ?_
      refine g_aload_n (pc := 57) X (j := 0) (i := 0) (q := 0) (x := a0) rfl rfl (dl_at t_X3_selector 29 rfl) ?_
      refine r_geti (pc := 58) X fX3_22 k50 q563 (dl_at t_X3_selector 30 rfl) fun g58 => ?_
      refine g_gd fun k61 => ?_
      refine r_iast (pc := 61) X g54 g58 k61 (dl_at t_X3_selector 31 rfl) (fun h61 E61 => ?_)
      refine g_aload_n (pc := 62) X (j := 0) (i := 0) (q := 0) (x := a0) rfl rfl (dl_at t_X3_selector 32 rfl) ?_
      refine g_aload_n (pc := 63) X (j := 1) (i := 1) (q := 1) (x := a1) rfl rfl (dl_at t_X3_selector 33 rfl) ?_
      refine g_iconst (pc := 64) X (n := 0) (dl_at t_X3_selector 34 rfl) ?_
      have k65 := kx E61 (by decide) k50
      refine r_callTi (pc := 65) X (fun _ hv => s_X3_step k65 (r32_c rfl) hv) cw_code q2003 q357 (in_Vk X (As := [rv D a1, iv 0]) kX3 k65 (Or.inl q2000) q2002 qs36 cw_code q2003 ⟨by decide, by decide⟩ rfl (dl_at t_X3_selector 35 rfl)) (dl_at t_X3_selector 35 rfl) (cat24 (st := []) (Nat.le_of_ble_eq_true rfl)) (Nat.le_of_ble_eq_true rfl) (Nat.le_of_ble_eq_true rfl) (fun v65 h65 g65 E65 => ?_) (fun _ _ ha _ => gt_at fun Q hQ => gt_out (Q := Q) X rfl ha (hno _) _ Q rfl hQ)
      refine g_istore_nN (pc := 68) X (j := 2) (i := 2) (x := v65) (b := 1) (w := rv D a1) (rest := [(0, rv D a0)]) rfl (Nat.le_of_ble_eq_true rfl) [1, 0] rfl (by decide) rv_cat rfl (dl_at t_X3_selector 36 rfl) ?_
      refine g_aload_n (pc := 69) X (j := 0) (i := 0) (q := 2) (x := a0) rfl rfl (dl_at t_X3_selector 37 rfl) ?_
      refine g_aload_n (pc := 70) X (j := 1) (i := 1) (q := 1) (x := a1) rfl rfl (dl_at t_X3_selector 38 rfl) ?_
      have k71 := kx E65 (by decide) k65
      refine r_callWi (pc := 71) X (fun _ hv => s_X3_join k71 hv) cw_code q2052 q357 (in_Vk X (As := [rv D a1]) kX3 k71 (Or.inl q2049) q2051 qs46 cw_code q2052 ⟨by decide, by decide⟩ rfl (dl_at t_X3_selector 39 rfl)) (dl_at t_X3_selector 39 rfl) (cat24 (st := []) (Nat.le_of_ble_eq_true rfl)) (Nat.le_of_ble_eq_true rfl) (Nat.le_of_ble_eq_true rfl) fun v71 h71 g71 E71 => ?_
      refine g_istore_nN (pc := 74) X (j := 3) (i := 3) (x := v71) (b := 2) (w := iv v65) (rest := [(1, rv D a1), (0, rv D a0)]) rfl (Nat.le_of_ble_eq_true rfl) [0, 1, 2] rfl (by decide) rfl rfl (dl_at t_X3_selector 40 rfl) ?_
      refine g_ls (ls2 := [(0, rv D a0), (1, rv D a1), (2, iv v65), (3, iv v71)]) [3, 2, 1, 0] rfl ?_
      refine g_loop1F (fun (q : Int × Int × Hp) => [(0, rv D a0), (1, rv D a1), (2, iv q.1), (3, iv q.2.1)]) (fun (q : Int × Int × Hp) => q.2.2) (fun (q : Int × Int × Hp) => r32 q.1 ∧ r32 q.2.1 ∧ Ext h71 q.2.2) 138 (fun (y138 : Int × Hp) => [(0, rv D a0), (2, iv y138.1)]) (fun (y138 : Int × Hp) => y138.2) (fun (y138 : Int × Hp) => r32 y138.1 ∧ Ext h71 y138.2) (v65, v71, h71) ⟨g65, g71, (Ext.refl _)⟩ ?_ ?_ (fun _ => rfl)
      · rintro ⟨x2_75, x3_75, h_75⟩ ⟨r2_75, r3_75, E_75⟩
        try dsimp only
        unfold m_X3_selector_l75
        refine g_iload_n (pc := 75) X (j := 3) (i := 3) (q := 3) (x := x3_75) rfl rfl (dl_at t_X3_selector 41 rfl) ?_
        refine g_ifeq (pc := 76) X r3_75 (off := 62) (tgt := 138) rfl (dl_at t_X3_selector 42 rfl) (fun _ => ?_) (fun _ => ?_)
        · refine g_ls (ls2 := [(0, rv D a0), (2, iv x2_75)]) [0, 2] rfl ?_
          exact g_at fun Q hQ => hQ ⟨r2_75, E_75⟩
        refine g_aload_n (pc := 79) X (j := 1) (i := 1) (q := 1) (x := a1) rfl rfl (dl_at t_X3_selector 43 rfl) ?_
        have k80 := kx (E48.trans (E61.trans (E65.trans (E71.trans E_75)))) (by decide) k1
        refine r_getiN (pc := 80) X fX2_3 k80 (nw_in q421 rfl) (dl_at t_X3_selector 44 rfl) fun g80 => ?_
        refine g_iconst (pc := 83) X (n := 1) (dl_at t_X3_selector 45 rfl) ?_
        refine g_join (γ := Unit) (fun q => True) 96 (fun q => [(0, rv D a0), (1, rv D a1), (2, iv x2_75), (3, iv x3_75)]) (fun q => []) (fun q => h_75) (fun q => m_X3_selector_j96 a0 a1 x2_75 x3_75 h_75) ?_ ?_
        · rintro _ _
          try dsimp only
          unfold m_X3_selector_j96
          refine g_aload_n (pc := 96) X (j := 0) (i := 0) (q := 0) (x := a0) rfl rfl (dl_at t_X3_selector 51 rfl) ?_
          have k97 := kx (E71.trans E_75) (by decide) k71
          refine r_geti (pc := 97) X fX3_6 k97 q533 (dl_at t_X3_selector 52 rfl) fun g97 => ?_
          refine g_aload_n (pc := 100) X (j := 0) (i := 0) (q := 0) (x := a0) rfl rfl (dl_at t_X3_selector 53 rfl) ?_
          refine r_getr (pc := 101) X fX3_12 k97 q543 (dl_at t_X3_selector 54 rfl) ?_
          refine g_aload_n (pc := 104) X (j := 0) (i := 0) (q := 0) (x := a0) rfl rfl (dl_at t_X3_selector 55 rfl) ?_
          refine r_geti (pc := 105) X fX3_15 k97 q549 (dl_at t_X3_selector 56 rfl) fun g105 => ?_
          refine g_gd fun k108 => ?_
          refine g_iald (pc := 108) X g105 k108 (dl_at t_X3_selector 57 rfl) fun g108 => ?_
          refine g_isub (pc := 109) X g97 g108 (dl_at t_X3_selector 58 rfl) ?_
          refine g_bipush (pc := 110) X (n := 8) rfl (dl_at t_X3_selector 59 rfl) ?_
          refine g_icmpne (pc := 112) X (r32_w _) (r32_c rfl) (off := 8) (tgt := 120) rfl (dl_at t_X3_selector 60 rfl) (fun _ => ?_) (fun _ => ?_)
          · refine g_iload_n (pc := 120) X (j := 2) (i := 2) (q := 2) (x := x2_75) rfl rfl (dl_at t_X3_selector 64 rfl) ?_
            refine g_aload_n (pc := 121) X (j := 0) (i := 0) (q := 0) (x := a0) rfl rfl (dl_at t_X3_selector 65 rfl) ?_
            refine g_aload_n (pc := 122) X (j := 1) (i := 1) (q := 1) (x := a1) rfl rfl (dl_at t_X3_selector 66 rfl) ?_
            refine g_iload_n (pc := 123) X (j := 3) (i := 3) (q := 3) (x := x3_75) rfl rfl (dl_at t_X3_selector 67 rfl) ?_
            refine r_callTi (pc := 124) X (fun _ hv => s_X3_step k97 r3_75 hv) cw_code q2003 q357 (in_Vk X (As := [rv D a1, iv x3_75]) kX3 k97 (Or.inl q2000) q2002 qs36 cw_code q2003 ⟨by decide, by decide⟩ rfl (dl_at t_X3_selector 68 rfl)) (dl_at t_X3_selector 68 rfl) (cat24 (st := [iv x2_75]) (Nat.le_of_ble_eq_true rfl)) (Nat.le_of_ble_eq_true rfl) (Nat.le_of_ble_eq_true rfl) (fun v124 h124 g124 E124 => ?_) (fun _ _ ha _ => gt_at fun Q hQ => gt_out (Q := Q) X rfl ha (hno _) _ Q rfl hQ)
            refine g_iadd (pc := 127) X r2_75 g124 (dl_at t_X3_selector 69 rfl) ?_
            refine g_lti (r32_w _) fun x2_128 r2_128 => ?_
            refine g_istore_nN (pc := 128) X (j := 2) (i := 2) (x := x2_128) (b := 1) (w := rv D a1) (rest := [(0, rv D a0)]) rfl (Nat.le_of_ble_eq_true rfl) [1, 0] rfl (by decide) rv_cat rfl (dl_at t_X3_selector 70 rfl) ?_
            refine g_aload_n (pc := 129) X (j := 0) (i := 0) (q := 2) (x := a0) rfl rfl (dl_at t_X3_selector 71 rfl) ?_
            refine g_aload_n (pc := 130) X (j := 1) (i := 1) (q := 1) (x := a1) rfl rfl (dl_at t_X3_selector 72 rfl) ?_
            have k131 := kx E124 (by decide) k97
            refine r_callWi (pc := 131) X (fun _ hv => s_X3_join k131 hv) cw_code q2052 q357 (in_Vk X (As := [rv D a1]) kX3 k131 (Or.inl q2049) q2051 qs46 cw_code q2052 ⟨by decide, by decide⟩ rfl (dl_at t_X3_selector 73 rfl)) (dl_at t_X3_selector 73 rfl) (cat24 (st := []) (Nat.le_of_ble_eq_true rfl)) (Nat.le_of_ble_eq_true rfl) (Nat.le_of_ble_eq_true rfl) fun v131 h131 g131 E131 => ?_
            refine g_istore_nN (pc := 134) X (j := 3) (i := 3) (x := v131) (b := 2) (w := iv x2_128) (rest := [(1, rv D a1), (0, rv D a0)]) rfl (Nat.le_of_ble_eq_true rfl) [0, 1, 2] rfl (by decide) rfl rfl (dl_at t_X3_selector 74 rfl) ?_
            refine g_goto (pc := 135) X (off := (-60)) (tgt := 75) rfl (dl_at t_X3_selector 75 rfl) ?_
            refine g_ls (ls2 := [(0, rv D a0), (1, rv D a1), (2, iv x2_128), (3, iv v131)]) [3, 2, 1, 0] rfl ?_
            exact g_at fun Q hQ => hQ ⟨r2_128, g131, (E_75.trans (E124.trans E131))⟩
          refine g_aload_n (pc := 115) X (j := 1) (i := 1) (q := 1) (x := a1) rfl rfl (dl_at t_X3_selector 61 rfl) ?_
          refine r_callWr (pc := 116) X (fun _ hv => s_X2_broken k80 hv) cw_code q1825 q356 (in_Vk X (As := []) kX2 k80 (Or.inr ⟨_, nw_in q1985 rfl⟩) q1824 qs16 cw_code q1825 ⟨by decide, by decide⟩ rfl (dl_at t_X3_selector 62 rfl)) (dl_at t_X3_selector 62 rfl) (cat24 (st := []) (Nat.le_of_ble_eq_true rfl)) (Nat.le_of_ble_eq_true rfl) (Nat.le_of_ble_eq_true rfl) fun v116 h116 E116 => ?_
          refine g_gd fun p119 => ?_
          refine g_athrow (pc := 119) X (Int.ne_of_gt p119) (dl_at t_X3_selector 63 rfl) ?_
          exact gt_at fun Q hQ => gt_out (Q := Q) X rfl p119 (hno _) _ Q rfl hQ
        intro J96
        refine g_icmpeq (pc := 84) X g80 (r32_c rfl) (off := 12) (tgt := 96) rfl (dl_at t_X3_selector 46 rfl) (fun _ => ?_) (fun _ => ?_)
        · exact J96 () trivial
        refine g_aload_n (pc := 87) X (j := 1) (i := 1) (q := 1) (x := a1) rfl rfl (dl_at t_X3_selector 47 rfl) ?_
        refine g_bipush (pc := 88) X (n := 42) rfl (dl_at t_X3_selector 48 rfl) ?_
        refine r_callRz (pc := 90) X (fun _ hv => s_X2_isByte k80 (r32_c rfl) hv) cw_code q1871 q356 (in_Vk X (As := [iv 42]) kX2 k80 (Or.inr ⟨_, nw_in q1999 rfl⟩) q1870 qs19 cw_code q1871 ⟨by decide, by decide⟩ rfl (dl_at t_X3_selector 49 rfl)) (dl_at t_X3_selector 49 rfl) (cat24 (st := []) (Nat.le_of_ble_eq_true rfl)) (Nat.le_of_ble_eq_true rfl) (Nat.le_of_ble_eq_true rfl) fun v90 g90 => ?_
        refine g_ifeq (pc := 93) X (r32_z g90) (off := 22) (tgt := 115) rfl (dl_at t_X3_selector 50 rfl) (fun _ => ?_) (fun _ => ?_)
        · refine g_aload_n (pc := 115) X (j := 1) (i := 1) (q := 1) (x := a1) rfl rfl (dl_at t_X3_selector 61 rfl) ?_
          refine r_callWr (pc := 116) X (fun _ hv => s_X2_broken k80 hv) cw_code q1825 q356 (in_Vk X (As := []) kX2 k80 (Or.inr ⟨_, nw_in q1985 rfl⟩) q1824 qs16 cw_code q1825 ⟨by decide, by decide⟩ rfl (dl_at t_X3_selector 62 rfl)) (dl_at t_X3_selector 62 rfl) (cat24 (st := []) (Nat.le_of_ble_eq_true rfl)) (Nat.le_of_ble_eq_true rfl) (Nat.le_of_ble_eq_true rfl) fun v116_1 h116_1 E116_1 => ?_
          refine g_gd fun p119_1 => ?_
          refine g_athrow (pc := 119) X (Int.ne_of_gt p119_1) (dl_at t_X3_selector 63 rfl) ?_
          exact gt_at fun Q hQ => gt_out (Q := Q) X rfl p119_1 (hno _) _ Q rfl hQ
        exact J96 () trivial
      · rintro ⟨x2_138, h_138⟩ ⟨r2_138, E_138⟩
        try dsimp only [sE]
        refine g_aload_n (pc := 138) X (j := 0) (i := 0) (q := 0) (x := a0) rfl rfl (dl_at t_X3_selector 76 rfl) ?_
        have k139 := kx (E71.trans E_138) (by decide) k71
        refine r_getr (pc := 139) X fX3_13 k139 q545 (dl_at t_X3_selector 77 rfl) ?_
        refine g_aload_n (pc := 142) X (j := 0) (i := 0) (q := 0) (x := a0) rfl rfl (dl_at t_X3_selector 78 rfl) ?_
        refine r_geti (pc := 143) X fX3_15 k139 q549 (dl_at t_X3_selector 79 rfl) fun g143 => ?_
        refine g_iload_n (pc := 146) X (j := 2) (i := 2) (q := 1) (x := x2_138) rfl rfl (dl_at t_X3_selector 80 rfl) ?_
        refine g_gd fun k147 => ?_
        refine r_iast (pc := 147) X g143 r2_138 k147 (dl_at t_X3_selector 81 rfl) (fun h147 E147 => ?_)
        refine g_aload_n (pc := 148) X (j := 0) (i := 0) (q := 0) (x := a0) rfl rfl (dl_at t_X3_selector 82 rfl) ?_
        refine g_dup (pc := 149) X rv_cat (dl_at t_X3_selector 83 rfl) ?_
        have k150 := kx E147 (by decide) k139
        refine r_geti (pc := 150) X fX3_15 k150 q549 (dl_at t_X3_selector 84 rfl) fun g150 => ?_
        refine g_iconst (pc := 153) X (n := 1) (dl_at t_X3_selector 85 rfl) ?_
        refine g_iadd (pc := 154) X g150 (r32_c rfl) (dl_at t_X3_selector 86 rfl) ?_
        refine r_puti (pc := 155) X fX3_15 k150 q549 rfl (dl_at t_X3_selector 87 rfl) (r32_w _) (fun h155 E155 => ?_)
        exact g_vret (pc := 158) X (v := 0) rfl rfl (dl_at t_X3_selector 88 rfl)
    refine g_aload_n (pc := 31) X (j := 1) (i := 1) (q := 1) (x := a1) rfl rfl (dl_at t_X3_selector 15 rfl) ?_
    refine r_callWr (pc := 32) X (fun _ hv => s_X2_broken k1 hv) cw_code q1825 q356 (in_Vk X (As := []) kX2 k1 (Or.inr ⟨_, nw_in q1985 rfl⟩) q1824 qs16 cw_code q1825 ⟨by decide, by decide⟩ rfl (dl_at t_X3_selector 16 rfl)) (dl_at t_X3_selector 16 rfl) (cat24 (st := []) (Nat.le_of_ble_eq_true rfl)) (Nat.le_of_ble_eq_true rfl) (Nat.le_of_ble_eq_true rfl) fun v32 h32 E32 => ?_
    refine g_gd fun p35 => ?_
    refine g_athrow (pc := 35) X (Int.ne_of_gt p35) (dl_at t_X3_selector 17 rfl) ?_
    exact gt_at fun Q hQ => gt_out (Q := Q) X rfl p35 (hno _) _ Q rfl hQ
  intro J22
  refine g_icmpeq (pc := 5) X g1 (r32_c rfl) (off := 17) (tgt := 22) rfl (dl_at t_X3_selector 3 rfl) (fun _ => ?_) (fun _ => ?_)
  · exact J22 () trivial
  refine g_aload_n (pc := 8) X (j := 1) (i := 1) (q := 1) (x := a1) rfl rfl (dl_at t_X3_selector 4 rfl) ?_
  refine g_bipush (pc := 9) X (n := 42) rfl (dl_at t_X3_selector 5 rfl) ?_
  refine r_callRz (pc := 11) X (fun _ hv => s_X2_isByte k1 (r32_c rfl) hv) cw_code q1871 q356 (in_Vk X (As := [iv 42]) kX2 k1 (Or.inr ⟨_, nw_in q1999 rfl⟩) q1870 qs19 cw_code q1871 ⟨by decide, by decide⟩ rfl (dl_at t_X3_selector 6 rfl)) (dl_at t_X3_selector 6 rfl) (cat24 (st := []) (Nat.le_of_ble_eq_true rfl)) (Nat.le_of_ble_eq_true rfl) (Nat.le_of_ble_eq_true rfl) fun v11 g11 => ?_
  refine g_ifne (pc := 14) X (r32_z g11) (off := 8) (tgt := 22) rfl (dl_at t_X3_selector 7 rfl) (fun _ => ?_) (fun _ => ?_)
  · exact J22 () trivial
  refine g_aload_n (pc := 17) X (j := 1) (i := 1) (q := 1) (x := a1) rfl rfl (dl_at t_X3_selector 8 rfl) ?_
  refine r_callWr (pc := 18) X (fun _ hv => s_X2_broken k1 hv) cw_code q1825 q356 (in_Vk X (As := []) kX2 k1 (Or.inr ⟨_, nw_in q1985 rfl⟩) q1824 qs16 cw_code q1825 ⟨by decide, by decide⟩ rfl (dl_at t_X3_selector 9 rfl)) (dl_at t_X3_selector 9 rfl) (cat24 (st := []) (Nat.le_of_ble_eq_true rfl)) (Nat.le_of_ble_eq_true rfl) (Nat.le_of_ble_eq_true rfl) fun v18 h18 E18 => ?_
  refine g_gd fun p21 => ?_
  refine g_athrow (pc := 21) X (Int.ne_of_gt p21) (dl_at t_X3_selector 10 rfl) ?_
  exact gt_at fun Q hQ => gt_out (Q := Q) X rfl p21 (hno _) _ Q rfl hQ
def k_X3_propertyOf : List (Nat × Instr × Nat) := [(0, .aload_n 0, 1), (1, .ldc_w 261, 3), (4, .invokevirtual 128, 3), (7, .ifCond .eq 5, 3), (10, .iconst 0, 1), (11, .ireturn, 1), (12, .aload_n 0, 1), (13, .ldc_w 263, 3), (16, .invokevirtual 128, 3), (19, .ifCond .eq 5, 3), (22, .iconst 1, 1), (23, .ireturn, 1), (24, .aload_n 0, 1), (25, .ldc_w 264, 3), (28, .invokevirtual 128, 3), (31, .ifCond .eq 5, 3), (34, .iconst 2, 1), (35, .ireturn, 1), (36, .aload_n 0, 1), (37, .ldc_w 266, 3), (40, .invokevirtual 128, 3), (43, .ifCond .eq 5, 3), (46, .iconst 3, 1), (47, .ireturn, 1), (48, .aload_n 0, 1), (49, .ldc_w 268, 3), (52, .invokevirtual 128, 3), (55, .ifCond .eq 5, 3), (58, .iconst 4, 1), (59, .ireturn, 1), (60, .aload_n 0, 1), (61, .ldc_w 270, 3), (64, .invokevirtual 128, 3), (67, .ifCond .eq 5, 3), (70, .iconst 5, 1), (71, .ireturn, 1), (72, .aload_n 0, 1), (73, .ldc_w 272, 3), (76, .invokevirtual 128, 3), (79, .ifCond .eq 6, 3), (82, .bipush 6, 2), (84, .ireturn, 1), (85, .aload_n 0, 1), (86, .ldc_w 274, 3), (89, .invokevirtual 128, 3), (92, .ifCond .eq 6, 3), (95, .bipush 7, 2), (97, .ireturn, 1), (98, .aload_n 0, 1), (99, .ldc_w 276, 3), (102, .invokevirtual 128, 3), (105, .ifCond .eq 6, 3), (108, .bipush 8, 2), (110, .ireturn, 1), (111, .aload_n 0, 1), (112, .ldc_w 278, 3), (115, .invokevirtual 128, 3), (118, .ifCond .eq 6, 3), (121, .bipush 9, 2), (123, .ireturn, 1), (124, .aload_n 0, 1), (125, .ldc_w 280, 3), (128, .invokevirtual 128, 3), (131, .ifCond .eq 6, 3), (134, .bipush 10, 2), (136, .ireturn, 1), (137, .aload_n 0, 1), (138, .ldc 220, 2), (140, .invokevirtual 128, 3), (143, .ifCond .eq 6, 3), (146, .bipush 11, 2), (148, .ireturn, 1), (149, .aload_n 0, 1), (150, .ldc 222, 2), (152, .invokevirtual 128, 3), (155, .ifCond .eq 6, 3), (158, .bipush 12, 2), (160, .ireturn, 1), (161, .aload_n 0, 1), (162, .ldc_w 282, 3), (165, .invokevirtual 128, 3), (168, .ifCond .eq 6, 3), (171, .bipush 13, 2), (173, .ireturn, 1), (174, .aload_n 0, 1), (175, .ldc_w 284, 3), (178, .invokevirtual 128, 3), (181, .ifCond .eq 6, 3), (184, .bipush 14, 2), (186, .ireturn, 1), (187, .aload_n 0, 1), (188, .ldc_w 286, 3), (191, .invokevirtual 128, 3), (194, .ifCond .eq 6, 3), (197, .bipush 15, 2), (199, .ireturn, 1), (200, .aload_n 0, 1), (201, .ldc_w 287, 3), (204, .invokevirtual 128, 3), (207, .ifCond .eq 6, 3), (210, .bipush 16, 2), (212, .ireturn, 1), (213, .aload_n 0, 1), (214, .ldc_w 289, 3), (217, .invokevirtual 128, 3), (220, .ifCond .eq 6, 3), (223, .bipush 17, 2), (225, .ireturn, 1), (226, .aload_n 0, 1), (227, .ldc_w 290, 3), (230, .invokevirtual 128, 3), (233, .ifCond .eq 6, 3), (236, .bipush 18, 2), (238, .ireturn, 1), (239, .aload_n 0, 1), (240, .ldc_w 292, 3), (243, .invokevirtual 128, 3), (246, .ifCond .eq 6, 3), (249, .bipush 19, 2), (251, .ireturn, 1), (252, .aload_n 0, 1), (253, .ldc_w 294, 3), (256, .invokevirtual 128, 3), (259, .ifCond .eq 6, 3), (262, .bipush 20, 2), (264, .ireturn, 1), (265, .aload_n 0, 1), (266, .ldc 169, 2), (268, .invokevirtual 128, 3), (271, .ifCond .eq 8, 3), (274, .bipush 21, 2), (276, .goto 4, 3), (279, .iconst (-1), 1), (280, .ireturn, 1)]
theorem t_X3_propertyOf : ∀ q ∈ k_X3_propertyOf, decode cX3_propertyOf q.1 = .ok q.2 := dl_all (by decide +kernel)
noncomputable def m_X3_propertyOf (a0 : Int) (h : Hp) : Option (Int) :=
  gd (h a0 (-2) = 32) ((m_X2_isName a0 (-35) h).bind fun v4 =>
  if v4 = 0 then ((m_X2_isName a0 (-36) h).bind fun v16 =>
  if v16 = 0 then ((m_X2_isName a0 (-37) h).bind fun v28 =>
  if v28 = 0 then ((m_X2_isName a0 (-38) h).bind fun v40 =>
  if v40 = 0 then ((m_X2_isName a0 (-39) h).bind fun v52 =>
  if v52 = 0 then ((m_X2_isName a0 (-40) h).bind fun v64 =>
  if v64 = 0 then ((m_X2_isName a0 (-41) h).bind fun v76 =>
  if v76 = 0 then ((m_X2_isName a0 (-42) h).bind fun v89 =>
  if v89 = 0 then ((m_X2_isName a0 (-43) h).bind fun v102 =>
  if v102 = 0 then ((m_X2_isName a0 (-44) h).bind fun v115 =>
  if v115 = 0 then ((m_X2_isName a0 (-45) h).bind fun v128 =>
  if v128 = 0 then ((m_X2_isName a0 (-29) h).bind fun v140 =>
  if v140 = 0 then ((m_X2_isName a0 (-30) h).bind fun v152 =>
  if v152 = 0 then ((m_X2_isName a0 (-46) h).bind fun v165 =>
  if v165 = 0 then ((m_X2_isName a0 (-47) h).bind fun v178 =>
  if v178 = 0 then ((m_X2_isName a0 (-48) h).bind fun v191 =>
  if v191 = 0 then ((m_X2_isName a0 (-49) h).bind fun v204 =>
  if v204 = 0 then ((m_X2_isName a0 (-50) h).bind fun v217 =>
  if v217 = 0 then ((m_X2_isName a0 (-51) h).bind fun v230 =>
  if v230 = 0 then ((m_X2_isName a0 (-52) h).bind fun v243 =>
  if v243 = 0 then ((m_X2_isName a0 (-53) h).bind fun v256 =>
  if v256 = 0 then ((m_X2_isName a0 (-24) h).bind fun v268 =>
  if v268 = 0 then (some (-1))
  else (some 21))
  else (some 20))
  else (some 19))
  else (some 18))
  else (some 17))
  else (some 16))
  else (some 15))
  else (some 14))
  else (some 13))
  else (some 12))
  else (some 11))
  else (some 10))
  else (some 9))
  else (some 8))
  else (some 7))
  else (some 6))
  else (some 5))
  else (some 4))
  else (some 3))
  else (some 2))
  else (some 1))
  else (some 0))
theorem s_X3_propertyOf {l : Launch} [NoTr l] {D : SD} {a0 : Int} {h : Hp}  {r : Int} (hm : m_X3_propertyOf a0 h = some r) : Sim l D yX3_propertyOf (Cond.code yX3_propertyOf cX3_propertyOf 1 (Option.some Jvm.ClassFile.FieldType.int)) 5 238 [rv D a0] h 1 ((0, r), h) := by
  refine Sim.of (fin := fun (v : Int) => ((0, v), h)) (lsE := [(0, rv D a0)]) hm rfl cwS_code (la_r la_n) (ll_r ll_n) ?_
  intro p e s m below meth c X hcw hmm hcc hnm hname
  unfold m_X3_propertyOf
  refine g_aload_n (pc := 0) X (j := 0) (i := 0) (q := 0) (x := a0) rfl rfl (dl_at t_X3_propertyOf 0 rfl) ?_
  refine g_ldcSw (pc := 1) X (index := 261) (id := (-35)) 33 rfl rfl (dl_at t_X3_propertyOf 1 rfl) ?_
  refine g_gd fun k4 => ?_
  refine r_callRz (pc := 4) X (fun _ hv => s_X2_isName k4 hv) cw_code q1766 q356 (in_Vk X (As := [rv D (-35)]) kX2 k4 (Or.inr ⟨_, nw_in q1964 rfl⟩) q1765 qs15 cw_code q1766 ⟨by decide, by decide⟩ rfl (dl_at t_X3_propertyOf 2 rfl)) (dl_at t_X3_propertyOf 2 rfl) (cat24 (st := []) (Nat.le_of_ble_eq_true rfl)) (Nat.le_of_ble_eq_true rfl) (Nat.le_of_ble_eq_true rfl) fun v4 g4 => ?_
  refine g_ifeq (pc := 7) X (r32_z g4) (off := 5) (tgt := 12) rfl (dl_at t_X3_propertyOf 3 rfl) (fun _ => ?_) (fun _ => ?_)
  · refine g_aload_n (pc := 12) X (j := 0) (i := 0) (q := 0) (x := a0) rfl rfl (dl_at t_X3_propertyOf 6 rfl) ?_
    refine g_ldcSw (pc := 13) X (index := 263) (id := (-36)) 34 rfl rfl (dl_at t_X3_propertyOf 7 rfl) ?_
    refine r_callRz (pc := 16) X (fun _ hv => s_X2_isName k4 hv) cw_code q1766 q356 (in_Vk X (As := [rv D (-36)]) kX2 k4 (Or.inr ⟨_, nw_in q1964 rfl⟩) q1765 qs15 cw_code q1766 ⟨by decide, by decide⟩ rfl (dl_at t_X3_propertyOf 8 rfl)) (dl_at t_X3_propertyOf 8 rfl) (cat24 (st := []) (Nat.le_of_ble_eq_true rfl)) (Nat.le_of_ble_eq_true rfl) (Nat.le_of_ble_eq_true rfl) fun v16 g16 => ?_
    refine g_ifeq (pc := 19) X (r32_z g16) (off := 5) (tgt := 24) rfl (dl_at t_X3_propertyOf 9 rfl) (fun _ => ?_) (fun _ => ?_)
    · refine g_aload_n (pc := 24) X (j := 0) (i := 0) (q := 0) (x := a0) rfl rfl (dl_at t_X3_propertyOf 12 rfl) ?_
      refine g_ldcSw (pc := 25) X (index := 264) (id := (-37)) 35 rfl rfl (dl_at t_X3_propertyOf 13 rfl) ?_
      refine r_callRz (pc := 28) X (fun _ hv => s_X2_isName k4 hv) cw_code q1766 q356 (in_Vk X (As := [rv D (-37)]) kX2 k4 (Or.inr ⟨_, nw_in q1964 rfl⟩) q1765 qs15 cw_code q1766 ⟨by decide, by decide⟩ rfl (dl_at t_X3_propertyOf 14 rfl)) (dl_at t_X3_propertyOf 14 rfl) (cat24 (st := []) (Nat.le_of_ble_eq_true rfl)) (Nat.le_of_ble_eq_true rfl) (Nat.le_of_ble_eq_true rfl) fun v28 g28 => ?_
      refine g_ifeq (pc := 31) X (r32_z g28) (off := 5) (tgt := 36) rfl (dl_at t_X3_propertyOf 15 rfl) (fun _ => ?_) (fun _ => ?_)
      · refine g_aload_n (pc := 36) X (j := 0) (i := 0) (q := 0) (x := a0) rfl rfl (dl_at t_X3_propertyOf 18 rfl) ?_
        refine g_ldcSw (pc := 37) X (index := 266) (id := (-38)) 36 rfl rfl (dl_at t_X3_propertyOf 19 rfl) ?_
        refine r_callRz (pc := 40) X (fun _ hv => s_X2_isName k4 hv) cw_code q1766 q356 (in_Vk X (As := [rv D (-38)]) kX2 k4 (Or.inr ⟨_, nw_in q1964 rfl⟩) q1765 qs15 cw_code q1766 ⟨by decide, by decide⟩ rfl (dl_at t_X3_propertyOf 20 rfl)) (dl_at t_X3_propertyOf 20 rfl) (cat24 (st := []) (Nat.le_of_ble_eq_true rfl)) (Nat.le_of_ble_eq_true rfl) (Nat.le_of_ble_eq_true rfl) fun v40 g40 => ?_
        refine g_ifeq (pc := 43) X (r32_z g40) (off := 5) (tgt := 48) rfl (dl_at t_X3_propertyOf 21 rfl) (fun _ => ?_) (fun _ => ?_)
        · refine g_aload_n (pc := 48) X (j := 0) (i := 0) (q := 0) (x := a0) rfl rfl (dl_at t_X3_propertyOf 24 rfl) ?_
          refine g_ldcSw (pc := 49) X (index := 268) (id := (-39)) 37 rfl rfl (dl_at t_X3_propertyOf 25 rfl) ?_
          refine r_callRz (pc := 52) X (fun _ hv => s_X2_isName k4 hv) cw_code q1766 q356 (in_Vk X (As := [rv D (-39)]) kX2 k4 (Or.inr ⟨_, nw_in q1964 rfl⟩) q1765 qs15 cw_code q1766 ⟨by decide, by decide⟩ rfl (dl_at t_X3_propertyOf 26 rfl)) (dl_at t_X3_propertyOf 26 rfl) (cat24 (st := []) (Nat.le_of_ble_eq_true rfl)) (Nat.le_of_ble_eq_true rfl) (Nat.le_of_ble_eq_true rfl) fun v52 g52 => ?_
          refine g_ifeq (pc := 55) X (r32_z g52) (off := 5) (tgt := 60) rfl (dl_at t_X3_propertyOf 27 rfl) (fun _ => ?_) (fun _ => ?_)
          · refine g_aload_n (pc := 60) X (j := 0) (i := 0) (q := 0) (x := a0) rfl rfl (dl_at t_X3_propertyOf 30 rfl) ?_
            refine g_ldcSw (pc := 61) X (index := 270) (id := (-40)) 38 rfl rfl (dl_at t_X3_propertyOf 31 rfl) ?_
            refine r_callRz (pc := 64) X (fun _ hv => s_X2_isName k4 hv) cw_code q1766 q356 (in_Vk X (As := [rv D (-40)]) kX2 k4 (Or.inr ⟨_, nw_in q1964 rfl⟩) q1765 qs15 cw_code q1766 ⟨by decide, by decide⟩ rfl (dl_at t_X3_propertyOf 32 rfl)) (dl_at t_X3_propertyOf 32 rfl) (cat24 (st := []) (Nat.le_of_ble_eq_true rfl)) (Nat.le_of_ble_eq_true rfl) (Nat.le_of_ble_eq_true rfl) fun v64 g64 => ?_
            refine g_ifeq (pc := 67) X (r32_z g64) (off := 5) (tgt := 72) rfl (dl_at t_X3_propertyOf 33 rfl) (fun _ => ?_) (fun _ => ?_)
            · refine g_aload_n (pc := 72) X (j := 0) (i := 0) (q := 0) (x := a0) rfl rfl (dl_at t_X3_propertyOf 36 rfl) ?_
              refine g_ldcSw (pc := 73) X (index := 272) (id := (-41)) 39 rfl rfl (dl_at t_X3_propertyOf 37 rfl) ?_
              refine r_callRz (pc := 76) X (fun _ hv => s_X2_isName k4 hv) cw_code q1766 q356 (in_Vk X (As := [rv D (-41)]) kX2 k4 (Or.inr ⟨_, nw_in q1964 rfl⟩) q1765 qs15 cw_code q1766 ⟨by decide, by decide⟩ rfl (dl_at t_X3_propertyOf 38 rfl)) (dl_at t_X3_propertyOf 38 rfl) (cat24 (st := []) (Nat.le_of_ble_eq_true rfl)) (Nat.le_of_ble_eq_true rfl) (Nat.le_of_ble_eq_true rfl) fun v76 g76 => ?_
              refine g_ifeq (pc := 79) X (r32_z g76) (off := 6) (tgt := 85) rfl (dl_at t_X3_propertyOf 39 rfl) (fun _ => ?_) (fun _ => ?_)
              · refine g_aload_n (pc := 85) X (j := 0) (i := 0) (q := 0) (x := a0) rfl rfl (dl_at t_X3_propertyOf 42 rfl) ?_
                refine g_ldcSw (pc := 86) X (index := 274) (id := (-42)) 40 rfl rfl (dl_at t_X3_propertyOf 43 rfl) ?_
                refine r_callRz (pc := 89) X (fun _ hv => s_X2_isName k4 hv) cw_code q1766 q356 (in_Vk X (As := [rv D (-42)]) kX2 k4 (Or.inr ⟨_, nw_in q1964 rfl⟩) q1765 qs15 cw_code q1766 ⟨by decide, by decide⟩ rfl (dl_at t_X3_propertyOf 44 rfl)) (dl_at t_X3_propertyOf 44 rfl) (cat24 (st := []) (Nat.le_of_ble_eq_true rfl)) (Nat.le_of_ble_eq_true rfl) (Nat.le_of_ble_eq_true rfl) fun v89 g89 => ?_
                refine g_ifeq (pc := 92) X (r32_z g89) (off := 6) (tgt := 98) rfl (dl_at t_X3_propertyOf 45 rfl) (fun _ => ?_) (fun _ => ?_)
                · refine g_aload_n (pc := 98) X (j := 0) (i := 0) (q := 0) (x := a0) rfl rfl (dl_at t_X3_propertyOf 48 rfl) ?_
                  refine g_ldcSw (pc := 99) X (index := 276) (id := (-43)) 41 rfl rfl (dl_at t_X3_propertyOf 49 rfl) ?_
                  refine r_callRz (pc := 102) X (fun _ hv => s_X2_isName k4 hv) cw_code q1766 q356 (in_Vk X (As := [rv D (-43)]) kX2 k4 (Or.inr ⟨_, nw_in q1964 rfl⟩) q1765 qs15 cw_code q1766 ⟨by decide, by decide⟩ rfl (dl_at t_X3_propertyOf 50 rfl)) (dl_at t_X3_propertyOf 50 rfl) (cat24 (st := []) (Nat.le_of_ble_eq_true rfl)) (Nat.le_of_ble_eq_true rfl) (Nat.le_of_ble_eq_true rfl) fun v102 g102 => ?_
                  refine g_ifeq (pc := 105) X (r32_z g102) (off := 6) (tgt := 111) rfl (dl_at t_X3_propertyOf 51 rfl) (fun _ => ?_) (fun _ => ?_)
                  · refine g_aload_n (pc := 111) X (j := 0) (i := 0) (q := 0) (x := a0) rfl rfl (dl_at t_X3_propertyOf 54 rfl) ?_
                    refine g_ldcSw (pc := 112) X (index := 278) (id := (-44)) 42 rfl rfl (dl_at t_X3_propertyOf 55 rfl) ?_
                    refine r_callRz (pc := 115) X (fun _ hv => s_X2_isName k4 hv) cw_code q1766 q356 (in_Vk X (As := [rv D (-44)]) kX2 k4 (Or.inr ⟨_, nw_in q1964 rfl⟩) q1765 qs15 cw_code q1766 ⟨by decide, by decide⟩ rfl (dl_at t_X3_propertyOf 56 rfl)) (dl_at t_X3_propertyOf 56 rfl) (cat24 (st := []) (Nat.le_of_ble_eq_true rfl)) (Nat.le_of_ble_eq_true rfl) (Nat.le_of_ble_eq_true rfl) fun v115 g115 => ?_
                    refine g_ifeq (pc := 118) X (r32_z g115) (off := 6) (tgt := 124) rfl (dl_at t_X3_propertyOf 57 rfl) (fun _ => ?_) (fun _ => ?_)
                    · refine g_aload_n (pc := 124) X (j := 0) (i := 0) (q := 0) (x := a0) rfl rfl (dl_at t_X3_propertyOf 60 rfl) ?_
                      refine g_ldcSw (pc := 125) X (index := 280) (id := (-45)) 43 rfl rfl (dl_at t_X3_propertyOf 61 rfl) ?_
                      refine r_callRz (pc := 128) X (fun _ hv => s_X2_isName k4 hv) cw_code q1766 q356 (in_Vk X (As := [rv D (-45)]) kX2 k4 (Or.inr ⟨_, nw_in q1964 rfl⟩) q1765 qs15 cw_code q1766 ⟨by decide, by decide⟩ rfl (dl_at t_X3_propertyOf 62 rfl)) (dl_at t_X3_propertyOf 62 rfl) (cat24 (st := []) (Nat.le_of_ble_eq_true rfl)) (Nat.le_of_ble_eq_true rfl) (Nat.le_of_ble_eq_true rfl) fun v128 g128 => ?_
                      refine g_ifeq (pc := 131) X (r32_z g128) (off := 6) (tgt := 137) rfl (dl_at t_X3_propertyOf 63 rfl) (fun _ => ?_) (fun _ => ?_)
                      · refine g_aload_n (pc := 137) X (j := 0) (i := 0) (q := 0) (x := a0) rfl rfl (dl_at t_X3_propertyOf 66 rfl) ?_
                        refine g_ldcS (pc := 138) X (index := 220) (id := (-29)) 27 rfl rfl (dl_at t_X3_propertyOf 67 rfl) ?_
                        refine r_callRz (pc := 140) X (fun _ hv => s_X2_isName k4 hv) cw_code q1766 q356 (in_Vk X (As := [rv D (-29)]) kX2 k4 (Or.inr ⟨_, nw_in q1964 rfl⟩) q1765 qs15 cw_code q1766 ⟨by decide, by decide⟩ rfl (dl_at t_X3_propertyOf 68 rfl)) (dl_at t_X3_propertyOf 68 rfl) (cat24 (st := []) (Nat.le_of_ble_eq_true rfl)) (Nat.le_of_ble_eq_true rfl) (Nat.le_of_ble_eq_true rfl) fun v140 g140 => ?_
                        refine g_ifeq (pc := 143) X (r32_z g140) (off := 6) (tgt := 149) rfl (dl_at t_X3_propertyOf 69 rfl) (fun _ => ?_) (fun _ => ?_)
                        · refine g_aload_n (pc := 149) X (j := 0) (i := 0) (q := 0) (x := a0) rfl rfl (dl_at t_X3_propertyOf 72 rfl) ?_
                          refine g_ldcS (pc := 150) X (index := 222) (id := (-30)) 28 rfl rfl (dl_at t_X3_propertyOf 73 rfl) ?_
                          refine r_callRz (pc := 152) X (fun _ hv => s_X2_isName k4 hv) cw_code q1766 q356 (in_Vk X (As := [rv D (-30)]) kX2 k4 (Or.inr ⟨_, nw_in q1964 rfl⟩) q1765 qs15 cw_code q1766 ⟨by decide, by decide⟩ rfl (dl_at t_X3_propertyOf 74 rfl)) (dl_at t_X3_propertyOf 74 rfl) (cat24 (st := []) (Nat.le_of_ble_eq_true rfl)) (Nat.le_of_ble_eq_true rfl) (Nat.le_of_ble_eq_true rfl) fun v152 g152 => ?_
                          refine g_ifeq (pc := 155) X (r32_z g152) (off := 6) (tgt := 161) rfl (dl_at t_X3_propertyOf 75 rfl) (fun _ => ?_) (fun _ => ?_)
                          · refine g_aload_n (pc := 161) X (j := 0) (i := 0) (q := 0) (x := a0) rfl rfl (dl_at t_X3_propertyOf 78 rfl) ?_
                            refine g_ldcSw (pc := 162) X (index := 282) (id := (-46)) 44 rfl rfl (dl_at t_X3_propertyOf 79 rfl) ?_
                            refine r_callRz (pc := 165) X (fun _ hv => s_X2_isName k4 hv) cw_code q1766 q356 (in_Vk X (As := [rv D (-46)]) kX2 k4 (Or.inr ⟨_, nw_in q1964 rfl⟩) q1765 qs15 cw_code q1766 ⟨by decide, by decide⟩ rfl (dl_at t_X3_propertyOf 80 rfl)) (dl_at t_X3_propertyOf 80 rfl) (cat24 (st := []) (Nat.le_of_ble_eq_true rfl)) (Nat.le_of_ble_eq_true rfl) (Nat.le_of_ble_eq_true rfl) fun v165 g165 => ?_
                            refine g_ifeq (pc := 168) X (r32_z g165) (off := 6) (tgt := 174) rfl (dl_at t_X3_propertyOf 81 rfl) (fun _ => ?_) (fun _ => ?_)
                            · refine g_aload_n (pc := 174) X (j := 0) (i := 0) (q := 0) (x := a0) rfl rfl (dl_at t_X3_propertyOf 84 rfl) ?_
                              refine g_ldcSw (pc := 175) X (index := 284) (id := (-47)) 45 rfl rfl (dl_at t_X3_propertyOf 85 rfl) ?_
                              refine r_callRz (pc := 178) X (fun _ hv => s_X2_isName k4 hv) cw_code q1766 q356 (in_Vk X (As := [rv D (-47)]) kX2 k4 (Or.inr ⟨_, nw_in q1964 rfl⟩) q1765 qs15 cw_code q1766 ⟨by decide, by decide⟩ rfl (dl_at t_X3_propertyOf 86 rfl)) (dl_at t_X3_propertyOf 86 rfl) (cat24 (st := []) (Nat.le_of_ble_eq_true rfl)) (Nat.le_of_ble_eq_true rfl) (Nat.le_of_ble_eq_true rfl) fun v178 g178 => ?_
                              refine g_ifeq (pc := 181) X (r32_z g178) (off := 6) (tgt := 187) rfl (dl_at t_X3_propertyOf 87 rfl) (fun _ => ?_) (fun _ => ?_)
                              · refine g_aload_n (pc := 187) X (j := 0) (i := 0) (q := 0) (x := a0) rfl rfl (dl_at t_X3_propertyOf 90 rfl) ?_
                                refine g_ldcSw (pc := 188) X (index := 286) (id := (-48)) 46 rfl rfl (dl_at t_X3_propertyOf 91 rfl) ?_
                                refine r_callRz (pc := 191) X (fun _ hv => s_X2_isName k4 hv) cw_code q1766 q356 (in_Vk X (As := [rv D (-48)]) kX2 k4 (Or.inr ⟨_, nw_in q1964 rfl⟩) q1765 qs15 cw_code q1766 ⟨by decide, by decide⟩ rfl (dl_at t_X3_propertyOf 92 rfl)) (dl_at t_X3_propertyOf 92 rfl) (cat24 (st := []) (Nat.le_of_ble_eq_true rfl)) (Nat.le_of_ble_eq_true rfl) (Nat.le_of_ble_eq_true rfl) fun v191 g191 => ?_
                                refine g_ifeq (pc := 194) X (r32_z g191) (off := 6) (tgt := 200) rfl (dl_at t_X3_propertyOf 93 rfl) (fun _ => ?_) (fun _ => ?_)
                                · refine g_aload_n (pc := 200) X (j := 0) (i := 0) (q := 0) (x := a0) rfl rfl (dl_at t_X3_propertyOf 96 rfl) ?_
                                  refine g_ldcSw (pc := 201) X (index := 287) (id := (-49)) 47 rfl rfl (dl_at t_X3_propertyOf 97 rfl) ?_
                                  refine r_callRz (pc := 204) X (fun _ hv => s_X2_isName k4 hv) cw_code q1766 q356 (in_Vk X (As := [rv D (-49)]) kX2 k4 (Or.inr ⟨_, nw_in q1964 rfl⟩) q1765 qs15 cw_code q1766 ⟨by decide, by decide⟩ rfl (dl_at t_X3_propertyOf 98 rfl)) (dl_at t_X3_propertyOf 98 rfl) (cat24 (st := []) (Nat.le_of_ble_eq_true rfl)) (Nat.le_of_ble_eq_true rfl) (Nat.le_of_ble_eq_true rfl) fun v204 g204 => ?_
                                  refine g_ifeq (pc := 207) X (r32_z g204) (off := 6) (tgt := 213) rfl (dl_at t_X3_propertyOf 99 rfl) (fun _ => ?_) (fun _ => ?_)
                                  · refine g_aload_n (pc := 213) X (j := 0) (i := 0) (q := 0) (x := a0) rfl rfl (dl_at t_X3_propertyOf 102 rfl) ?_
                                    refine g_ldcSw (pc := 214) X (index := 289) (id := (-50)) 48 rfl rfl (dl_at t_X3_propertyOf 103 rfl) ?_
                                    refine r_callRz (pc := 217) X (fun _ hv => s_X2_isName k4 hv) cw_code q1766 q356 (in_Vk X (As := [rv D (-50)]) kX2 k4 (Or.inr ⟨_, nw_in q1964 rfl⟩) q1765 qs15 cw_code q1766 ⟨by decide, by decide⟩ rfl (dl_at t_X3_propertyOf 104 rfl)) (dl_at t_X3_propertyOf 104 rfl) (cat24 (st := []) (Nat.le_of_ble_eq_true rfl)) (Nat.le_of_ble_eq_true rfl) (Nat.le_of_ble_eq_true rfl) fun v217 g217 => ?_
                                    refine g_ifeq (pc := 220) X (r32_z g217) (off := 6) (tgt := 226) rfl (dl_at t_X3_propertyOf 105 rfl) (fun _ => ?_) (fun _ => ?_)
                                    · refine g_aload_n (pc := 226) X (j := 0) (i := 0) (q := 0) (x := a0) rfl rfl (dl_at t_X3_propertyOf 108 rfl) ?_
                                      refine g_ldcSw (pc := 227) X (index := 290) (id := (-51)) 49 rfl rfl (dl_at t_X3_propertyOf 109 rfl) ?_
                                      refine r_callRz (pc := 230) X (fun _ hv => s_X2_isName k4 hv) cw_code q1766 q356 (in_Vk X (As := [rv D (-51)]) kX2 k4 (Or.inr ⟨_, nw_in q1964 rfl⟩) q1765 qs15 cw_code q1766 ⟨by decide, by decide⟩ rfl (dl_at t_X3_propertyOf 110 rfl)) (dl_at t_X3_propertyOf 110 rfl) (cat24 (st := []) (Nat.le_of_ble_eq_true rfl)) (Nat.le_of_ble_eq_true rfl) (Nat.le_of_ble_eq_true rfl) fun v230 g230 => ?_
                                      refine g_ifeq (pc := 233) X (r32_z g230) (off := 6) (tgt := 239) rfl (dl_at t_X3_propertyOf 111 rfl) (fun _ => ?_) (fun _ => ?_)
                                      · refine g_aload_n (pc := 239) X (j := 0) (i := 0) (q := 0) (x := a0) rfl rfl (dl_at t_X3_propertyOf 114 rfl) ?_
                                        refine g_ldcSw (pc := 240) X (index := 292) (id := (-52)) 50 rfl rfl (dl_at t_X3_propertyOf 115 rfl) ?_
                                        refine r_callRz (pc := 243) X (fun _ hv => s_X2_isName k4 hv) cw_code q1766 q356 (in_Vk X (As := [rv D (-52)]) kX2 k4 (Or.inr ⟨_, nw_in q1964 rfl⟩) q1765 qs15 cw_code q1766 ⟨by decide, by decide⟩ rfl (dl_at t_X3_propertyOf 116 rfl)) (dl_at t_X3_propertyOf 116 rfl) (cat24 (st := []) (Nat.le_of_ble_eq_true rfl)) (Nat.le_of_ble_eq_true rfl) (Nat.le_of_ble_eq_true rfl) fun v243 g243 => ?_
                                        refine g_ifeq (pc := 246) X (r32_z g243) (off := 6) (tgt := 252) rfl (dl_at t_X3_propertyOf 117 rfl) (fun _ => ?_) (fun _ => ?_)
                                        · refine g_aload_n (pc := 252) X (j := 0) (i := 0) (q := 0) (x := a0) rfl rfl (dl_at t_X3_propertyOf 120 rfl) ?_
                                          refine g_ldcSw (pc := 253) X (index := 294) (id := (-53)) 51 rfl rfl (dl_at t_X3_propertyOf 121 rfl) ?_
                                          refine r_callRz (pc := 256) X (fun _ hv => s_X2_isName k4 hv) cw_code q1766 q356 (in_Vk X (As := [rv D (-53)]) kX2 k4 (Or.inr ⟨_, nw_in q1964 rfl⟩) q1765 qs15 cw_code q1766 ⟨by decide, by decide⟩ rfl (dl_at t_X3_propertyOf 122 rfl)) (dl_at t_X3_propertyOf 122 rfl) (cat24 (st := []) (Nat.le_of_ble_eq_true rfl)) (Nat.le_of_ble_eq_true rfl) (Nat.le_of_ble_eq_true rfl) fun v256 g256 => ?_
                                          refine g_ifeq (pc := 259) X (r32_z g256) (off := 6) (tgt := 265) rfl (dl_at t_X3_propertyOf 123 rfl) (fun _ => ?_) (fun _ => ?_)
                                          · refine g_aload_n (pc := 265) X (j := 0) (i := 0) (q := 0) (x := a0) rfl rfl (dl_at t_X3_propertyOf 126 rfl) ?_
                                            refine g_ldcS (pc := 266) X (index := 169) (id := (-24)) 22 rfl rfl (dl_at t_X3_propertyOf 127 rfl) ?_
                                            refine r_callRz (pc := 268) X (fun _ hv => s_X2_isName k4 hv) cw_code q1766 q356 (in_Vk X (As := [rv D (-24)]) kX2 k4 (Or.inr ⟨_, nw_in q1964 rfl⟩) q1765 qs15 cw_code q1766 ⟨by decide, by decide⟩ rfl (dl_at t_X3_propertyOf 128 rfl)) (dl_at t_X3_propertyOf 128 rfl) (cat24 (st := []) (Nat.le_of_ble_eq_true rfl)) (Nat.le_of_ble_eq_true rfl) (Nat.le_of_ble_eq_true rfl) fun v268 g268 => ?_
                                            refine g_ifeq (pc := 271) X (r32_z g268) (off := 8) (tgt := 279) rfl (dl_at t_X3_propertyOf 129 rfl) (fun _ => ?_) (fun _ => ?_)
                                            · refine g_iconst (pc := 279) X (n := (-1)) (dl_at t_X3_propertyOf 132 rfl) ?_
                                              exact g_iret (pc := 280) X (r32_c rfl) rfl rfl (dl_at t_X3_propertyOf 133 rfl)
                                            refine g_bipush (pc := 274) X (n := 21) rfl (dl_at t_X3_propertyOf 130 rfl) ?_
                                            refine g_goto (pc := 276) X (off := 4) (tgt := 280) rfl (dl_at t_X3_propertyOf 131 rfl) ?_
                                            exact g_iret (pc := 280) X (r32_c rfl) rfl rfl (dl_at t_X3_propertyOf 133 rfl)
                                          refine g_bipush (pc := 262) X (n := 20) rfl (dl_at t_X3_propertyOf 124 rfl) ?_
                                          exact g_iret (pc := 264) X (r32_c rfl) rfl rfl (dl_at t_X3_propertyOf 125 rfl)
                                        refine g_bipush (pc := 249) X (n := 19) rfl (dl_at t_X3_propertyOf 118 rfl) ?_
                                        exact g_iret (pc := 251) X (r32_c rfl) rfl rfl (dl_at t_X3_propertyOf 119 rfl)
                                      refine g_bipush (pc := 236) X (n := 18) rfl (dl_at t_X3_propertyOf 112 rfl) ?_
                                      exact g_iret (pc := 238) X (r32_c rfl) rfl rfl (dl_at t_X3_propertyOf 113 rfl)
                                    refine g_bipush (pc := 223) X (n := 17) rfl (dl_at t_X3_propertyOf 106 rfl) ?_
                                    exact g_iret (pc := 225) X (r32_c rfl) rfl rfl (dl_at t_X3_propertyOf 107 rfl)
                                  refine g_bipush (pc := 210) X (n := 16) rfl (dl_at t_X3_propertyOf 100 rfl) ?_
                                  exact g_iret (pc := 212) X (r32_c rfl) rfl rfl (dl_at t_X3_propertyOf 101 rfl)
                                refine g_bipush (pc := 197) X (n := 15) rfl (dl_at t_X3_propertyOf 94 rfl) ?_
                                exact g_iret (pc := 199) X (r32_c rfl) rfl rfl (dl_at t_X3_propertyOf 95 rfl)
                              refine g_bipush (pc := 184) X (n := 14) rfl (dl_at t_X3_propertyOf 88 rfl) ?_
                              exact g_iret (pc := 186) X (r32_c rfl) rfl rfl (dl_at t_X3_propertyOf 89 rfl)
                            refine g_bipush (pc := 171) X (n := 13) rfl (dl_at t_X3_propertyOf 82 rfl) ?_
                            exact g_iret (pc := 173) X (r32_c rfl) rfl rfl (dl_at t_X3_propertyOf 83 rfl)
                          refine g_bipush (pc := 158) X (n := 12) rfl (dl_at t_X3_propertyOf 76 rfl) ?_
                          exact g_iret (pc := 160) X (r32_c rfl) rfl rfl (dl_at t_X3_propertyOf 77 rfl)
                        refine g_bipush (pc := 146) X (n := 11) rfl (dl_at t_X3_propertyOf 70 rfl) ?_
                        exact g_iret (pc := 148) X (r32_c rfl) rfl rfl (dl_at t_X3_propertyOf 71 rfl)
                      refine g_bipush (pc := 134) X (n := 10) rfl (dl_at t_X3_propertyOf 64 rfl) ?_
                      exact g_iret (pc := 136) X (r32_c rfl) rfl rfl (dl_at t_X3_propertyOf 65 rfl)
                    refine g_bipush (pc := 121) X (n := 9) rfl (dl_at t_X3_propertyOf 58 rfl) ?_
                    exact g_iret (pc := 123) X (r32_c rfl) rfl rfl (dl_at t_X3_propertyOf 59 rfl)
                  refine g_bipush (pc := 108) X (n := 8) rfl (dl_at t_X3_propertyOf 52 rfl) ?_
                  exact g_iret (pc := 110) X (r32_c rfl) rfl rfl (dl_at t_X3_propertyOf 53 rfl)
                refine g_bipush (pc := 95) X (n := 7) rfl (dl_at t_X3_propertyOf 46 rfl) ?_
                exact g_iret (pc := 97) X (r32_c rfl) rfl rfl (dl_at t_X3_propertyOf 47 rfl)
              refine g_bipush (pc := 82) X (n := 6) rfl (dl_at t_X3_propertyOf 40 rfl) ?_
              exact g_iret (pc := 84) X (r32_c rfl) rfl rfl (dl_at t_X3_propertyOf 41 rfl)
            refine g_iconst (pc := 70) X (n := 5) (dl_at t_X3_propertyOf 34 rfl) ?_
            exact g_iret (pc := 71) X (r32_c rfl) rfl rfl (dl_at t_X3_propertyOf 35 rfl)
          refine g_iconst (pc := 58) X (n := 4) (dl_at t_X3_propertyOf 28 rfl) ?_
          exact g_iret (pc := 59) X (r32_c rfl) rfl rfl (dl_at t_X3_propertyOf 29 rfl)
        refine g_iconst (pc := 46) X (n := 3) (dl_at t_X3_propertyOf 22 rfl) ?_
        exact g_iret (pc := 47) X (r32_c rfl) rfl rfl (dl_at t_X3_propertyOf 23 rfl)
      refine g_iconst (pc := 34) X (n := 2) (dl_at t_X3_propertyOf 16 rfl) ?_
      exact g_iret (pc := 35) X (r32_c rfl) rfl rfl (dl_at t_X3_propertyOf 17 rfl)
    refine g_iconst (pc := 22) X (n := 1) (dl_at t_X3_propertyOf 10 rfl) ?_
    exact g_iret (pc := 23) X (r32_c rfl) rfl rfl (dl_at t_X3_propertyOf 11 rfl)
  refine g_iconst (pc := 10) X (n := 0) (dl_at t_X3_propertyOf 4 rfl) ?_
  exact g_iret (pc := 11) X (r32_c rfl) rfl rfl (dl_at t_X3_propertyOf 5 rfl)
def k_X3_size : List (Nat × Instr × Nat) := [(0, .aload_n 1, 1), (1, .iconst 2, 1), (2, .invokevirtual 147, 3), (5, .aload_n 1, 1), (6, .getfield 228, 3), (9, .istore_n 2, 1), (10, .aload_n 1, 1), (11, .getfield 250, 3), (14, .istore_n 3, 1), (15, .aload_n 1, 1), (16, .invokevirtual 132, 3), (19, .aload_n 0, 1), (20, .getfield 70, 3), (23, .aload_n 0, 1), (24, .getfield 94, 3), (27, .aload_n 1, 1), (28, .bipush 37, 2), (30, .invokevirtual 183, 3), (33, .bastore, 1), (34, .aload_n 0, 1), (35, .getfield 70, 3), (38, .aload_n 0, 1), (39, .getfield 94, 3), (42, .baload, 1), (43, .ifCond .eq 18, 3), (46, .iload_n 2, 1), (47, .iconst 1, 1), (48, .if_icmp .lt 26, 3), (51, .iload_n 2, 1), (52, .sipush 1000, 3), (55, .if_icmp .le 28, 3), (58, .goto 16, 3), (61, .iload_n 2, 1), (62, .sipush 1000, 3), (65, .if_icmp .lt 9, 3), (68, .iload_n 2, 1), (69, .ldc 163, 2), (71, .if_icmp .le 12, 3), (74, .new 252, 3), (77, .dup, 1), (78, .iload_n 3, 1), (79, .invokespecial 254, 3), (82, .athrow, 1), (83, .aload_n 0, 1), (84, .getfield 70, 3), (87, .aload_n 0, 1), (88, .getfield 94, 3), (91, .baload, 1), (92, .ifCond .eq 7, 3), (95, .aload_n 1, 1), (96, .invokevirtual 132, 3), (99, .aload_n 0, 1), (100, .getfield 64, 3), (103, .aload_n 0, 1), (104, .getfield 94, 3), (107, .iload_n 2, 1), (108, .iastore, 1), (109, .return_, 1)]
theorem t_X3_size : ∀ q ∈ k_X3_size, decode cX3_size q.1 = .ok q.2 := dl_all (by decide +kernel)
noncomputable def m_X3_size_j83 (x2_9 a1 a0 : Int) (h33 : Hp) : Option ((Int × Int) × Hp) :=
  if (h33 (h33 a0 19) (h33 a0 20)) = 0 then (gd (h33 (h33 a0 17) (-2) % 16 = 1 ∧ (0 : Int) ≤ (h33 a0 20) ∧ (h33 a0 20) < h33 (h33 a0 17) (-1)) (pt h33 (h33 a0 17) (h33 a0 20) x2_9 fun h108 =>
  some ((0, 0), h108)))
  else ((m_X2_next a1 h33).bind fun h96 =>
  gd (h96 (h96 a0 17) (-2) % 16 = 1 ∧ (0 : Int) ≤ (h96 a0 20) ∧ (h96 a0 20) < h96 (h96 a0 17) (-1)) (pt h96 (h96 a0 17) (h96 a0 20) x2_9 fun h108_1 =>
  some ((0, 0), h108_1)))
noncomputable def m_X3_size (a0 a1 : Int) (h : Hp) : Option ((Int × Int) × Hp) :=
  gd (h a1 (-2) = 32) (bT (m_X2_needKind a1 2 h) (fun _ h2 =>
  lt_ (h2 a1 7) fun x2_9 =>
  lt_ (h2 a1 4) fun x3_14 =>
  (m_X2_next a1 h2).bind fun h16 =>
  (m_X2_isByte a1 37 h16).bind fun v30 =>
  gd (h16 (h16 a0 19) (-2) % 16 = 3 ∧ (0 : Int) ≤ (h16 a0 20) ∧ (h16 a0 20) < h16 (h16 a0 19) (-1)) (pt h16 (h16 a0 19) (h16 a0 20) v30 fun h33 =>
  gd (h33 (h33 a0 19) (-2) % 16 = 3 ∧ (0 : Int) ≤ (h33 a0 20) ∧ (h33 a0 20) < h33 (h33 a0 19) (-1)) (if (h33 (h33 a0 19) (h33 a0 20)) = 0 then (if x2_9 < 1000 then (al h33 432 7 fun a74 h74 =>
  (x_broken a74 x3_14 h74).bind fun h79 =>
  some ((1, a74), h79))
  else (if x2_9 ≤ 100000 then (m_X3_size_j83 x2_9 a1 a0 h33)
  else (al h33 432 7 fun a74_1 h74_1 =>
  (x_broken a74_1 x3_14 h74_1).bind fun h79_1 =>
  some ((1, a74_1), h79_1))))
  else (if x2_9 < 1 then (al h33 432 7 fun a74_2 h74_2 =>
  (x_broken a74_2 x3_14 h74_2).bind fun h79_2 =>
  some ((1, a74_2), h79_2))
  else (if x2_9 ≤ 1000 then (m_X3_size_j83 x2_9 a1 a0 h33)
  else (al h33 432 7 fun a74_3 h74_3 =>
  (x_broken a74_3 x3_14 h74_3).bind fun h79_3 =>
  some ((1, a74_3), h79_3))))))) (fun a_ h_ => some ((1, a_), h_)))
theorem s_X3_size {l : Launch} [NoTr l] {D : SD} {a0 a1 : Int} {h : Hp} (hk : h a0 (-2) = 48) {r : (Int × Int) × Hp} (hm : m_X3_size a0 a1 h = some r) : Sim l D yX3_size (Cond.code yX3_size cX3_size 4 (Option.none : Option Jvm.ClassFile.FieldType)) 11 410 [rv D a0, rv D a1] h 0 r := by
  refine Sim.of (fin := fun (v : (Int × Int) × Hp) => v) (lsE := [(0, rv D a0), (1, rv D a1)]) hm rfl cwS_code (la_r (la_r la_n)) (ll_r (ll_r ll_n)) ?_
  intro p e s m below meth c X hcw hmm hcc hnm hname
  have hno := noh hcw hnm hmm hcc
  unfold m_X3_size
  refine g_aload_n (pc := 0) X (j := 1) (i := 1) (q := 1) (x := a1) rfl rfl (dl_at t_X3_size 0 rfl) ?_
  refine g_iconst (pc := 1) X (n := 2) (dl_at t_X3_size 1 rfl) ?_
  refine g_gd fun k2 => ?_
  refine r_callTv (pc := 2) X (fun _ hv => s_X2_needKind k2 (r32_c rfl) hv) cw_code q1975 q356 (in_Vk X (As := [iv 2]) kX2 k2 (Or.inr ⟨_, nw_in q1972 rfl⟩) q1974 qs33 cw_code q1975 ⟨by decide, by decide⟩ rfl (dl_at t_X3_size 2 rfl)) (dl_at t_X3_size 2 rfl) (cat24 (st := []) (Nat.le_of_ble_eq_true rfl)) (Nat.le_of_ble_eq_true rfl) (Nat.le_of_ble_eq_true rfl) (fun v2 h2 E2 => ?_) (fun _ _ ha _ => gt_at fun Q hQ => gt_out (Q := Q) X rfl ha (hno _) _ Q rfl hQ)
  refine g_aload_n (pc := 5) X (j := 1) (i := 1) (q := 1) (x := a1) rfl rfl (dl_at t_X3_size 3 rfl) ?_
  have k6 := kx E2 (by decide) k2
  refine r_getiN (pc := 6) X fX2_7 k6 (nw_in q431 rfl) (dl_at t_X3_size 4 rfl) fun g6 => ?_
  refine g_lti g6 fun x2_9 r2_9 => ?_
  refine g_istore_nN (pc := 9) X (j := 2) (i := 2) (x := x2_9) (b := 1) (w := rv D a1) (rest := [(0, rv D a0)]) rfl (Nat.le_of_ble_eq_true rfl) [1, 0] rfl (by decide) rv_cat rfl (dl_at t_X3_size 5 rfl) ?_
  refine g_aload_n (pc := 10) X (j := 1) (i := 1) (q := 1) (x := a1) rfl rfl (dl_at t_X3_size 6 rfl) ?_
  refine r_getiN (pc := 11) X fX2_4 k6 (nw_in q423 rfl) (dl_at t_X3_size 7 rfl) fun g11 => ?_
  refine g_lti g11 fun x3_14 r3_14 => ?_
  refine g_istore_nN (pc := 14) X (j := 3) (i := 3) (x := x3_14) (b := 2) (w := iv x2_9) (rest := [(1, rv D a1), (0, rv D a0)]) rfl (Nat.le_of_ble_eq_true rfl) [0, 1, 2] rfl (by decide) rfl rfl (dl_at t_X3_size 8 rfl) ?_
  refine g_aload_n (pc := 15) X (j := 1) (i := 1) (q := 2) (x := a1) rfl rfl (dl_at t_X3_size 9 rfl) ?_
  refine r_callV (pc := 16) X (fun _ hv => s_X2_next k6 hv) cw_code q1725 q356 (in_Vk X (As := []) kX2 k6 (Or.inr ⟨_, nw_in q1965 rfl⟩) q1724 qs8 cw_code q1725 ⟨by decide, by decide⟩ rfl (dl_at t_X3_size 10 rfl)) (dl_at t_X3_size 10 rfl) (cat24 (st := []) (Nat.le_of_ble_eq_true rfl)) (Nat.le_of_ble_eq_true rfl) (Nat.le_of_ble_eq_true rfl) fun h16 E16 => ?_
  refine g_aload_n (pc := 19) X (j := 0) (i := 0) (q := 3) (x := a0) rfl rfl (dl_at t_X3_size 11 rfl) ?_
  have k20 := kx (E2.trans E16) (by decide) hk
  refine r_getr (pc := 20) X fX3_19 k20 q558 (dl_at t_X3_size 12 rfl) ?_
  refine g_aload_n (pc := 23) X (j := 0) (i := 0) (q := 3) (x := a0) rfl rfl (dl_at t_X3_size 13 rfl) ?_
  refine r_geti (pc := 24) X fX3_20 k20 q560 (dl_at t_X3_size 14 rfl) fun g24 => ?_
  refine g_aload_n (pc := 27) X (j := 1) (i := 1) (q := 2) (x := a1) rfl rfl (dl_at t_X3_size 15 rfl) ?_
  refine g_bipush (pc := 28) X (n := 37) rfl (dl_at t_X3_size 16 rfl) ?_
  have k30 := kx E16 (by decide) k6
  refine r_callRz (pc := 30) X (fun _ hv => s_X2_isByte k30 (r32_c rfl) hv) cw_code q1871 q356 (in_Vk X (As := [iv 37]) kX2 k30 (Or.inr ⟨_, nw_in q1999 rfl⟩) q1870 qs19 cw_code q1871 ⟨by decide, by decide⟩ rfl (dl_at t_X3_size 17 rfl)) (dl_at t_X3_size 17 rfl) (cat24 (st := [iv (h16 a0 20), rv D (h16 a0 19)]) (Nat.le_of_ble_eq_true rfl)) (Nat.le_of_ble_eq_true rfl) (Nat.le_of_ble_eq_true rfl) fun v30 g30 => ?_
  refine g_gd fun k33 => ?_
  refine r_zast (pc := 33) X g24 g30 k33 (dl_at t_X3_size 18 rfl) (fun h33 E33 => ?_)
  refine g_aload_n (pc := 34) X (j := 0) (i := 0) (q := 3) (x := a0) rfl rfl (dl_at t_X3_size 19 rfl) ?_
  have k35 := kx E33 (by decide) k20
  refine r_getr (pc := 35) X fX3_19 k35 q558 (dl_at t_X3_size 20 rfl) ?_
  refine g_aload_n (pc := 38) X (j := 0) (i := 0) (q := 3) (x := a0) rfl rfl (dl_at t_X3_size 21 rfl) ?_
  refine r_geti (pc := 39) X fX3_20 k35 q560 (dl_at t_X3_size 22 rfl) fun g39 => ?_
  refine g_gd fun k42 => ?_
  refine g_zald (pc := 42) X g39 k42 (dl_at t_X3_size 23 rfl) fun g42 => ?_
  refine g_join (γ := Unit) (fun q => True) 83 (fun q => [(0, rv D a0), (1, rv D a1), (2, iv x2_9)]) (fun q => []) (fun q => h33) (fun q => m_X3_size_j83 x2_9 a1 a0 h33) ?_ ?_
  · rintro _ _
    try dsimp only
    unfold m_X3_size_j83
    refine g_aload_n (pc := 83) X (j := 0) (i := 0) (q := 0) (x := a0) rfl rfl (dl_at t_X3_size 43 rfl) ?_
    refine r_getr (pc := 84) X fX3_19 k35 q558 (dl_at t_X3_size 44 rfl) ?_
    refine g_aload_n (pc := 87) X (j := 0) (i := 0) (q := 0) (x := a0) rfl rfl (dl_at t_X3_size 45 rfl) ?_
    refine r_geti (pc := 88) X fX3_20 k35 q560 (dl_at t_X3_size 46 rfl) fun g88 => ?_
    refine g_zald (pc := 91) X g88 k42 (dl_at t_X3_size 47 rfl) fun g91 => ?_
    refine g_ifeq (pc := 92) X (r32_z g91) (off := 7) (tgt := 99) rfl (dl_at t_X3_size 48 rfl) (fun _ => ?_) (fun _ => ?_)
    · refine g_aload_n (pc := 99) X (j := 0) (i := 0) (q := 0) (x := a0) rfl rfl (dl_at t_X3_size 51 rfl) ?_
      refine r_getr (pc := 100) X fX3_17 k35 q554 (dl_at t_X3_size 52 rfl) ?_
      refine g_aload_n (pc := 103) X (j := 0) (i := 0) (q := 0) (x := a0) rfl rfl (dl_at t_X3_size 53 rfl) ?_
      refine r_geti (pc := 104) X fX3_20 k35 q560 (dl_at t_X3_size 54 rfl) fun g104 => ?_
      refine g_iload_n (pc := 107) X (j := 2) (i := 2) (q := 2) (x := x2_9) rfl rfl (dl_at t_X3_size 55 rfl) ?_
      refine g_gd fun k108 => ?_
      refine r_iast (pc := 108) X g104 r2_9 k108 (dl_at t_X3_size 56 rfl) (fun h108 E108 => ?_)
      exact g_vret (pc := 109) X (v := 0) rfl rfl (dl_at t_X3_size 57 rfl)
    refine g_aload_n (pc := 95) X (j := 1) (i := 1) (q := 1) (x := a1) rfl rfl (dl_at t_X3_size 49 rfl) ?_
    have k96 := kx E33 (by decide) k30
    refine r_callV (pc := 96) X (fun _ hv => s_X2_next k96 hv) cw_code q1725 q356 (in_Vk X (As := []) kX2 k96 (Or.inr ⟨_, nw_in q1965 rfl⟩) q1724 qs8 cw_code q1725 ⟨by decide, by decide⟩ rfl (dl_at t_X3_size 50 rfl)) (dl_at t_X3_size 50 rfl) (cat24 (st := []) (Nat.le_of_ble_eq_true rfl)) (Nat.le_of_ble_eq_true rfl) (Nat.le_of_ble_eq_true rfl) fun h96 E96 => ?_
    refine g_aload_n (pc := 99) X (j := 0) (i := 0) (q := 0) (x := a0) rfl rfl (dl_at t_X3_size 51 rfl) ?_
    have k100 := kx E96 (by decide) k35
    refine r_getr (pc := 100) X fX3_17 k100 q554 (dl_at t_X3_size 52 rfl) ?_
    refine g_aload_n (pc := 103) X (j := 0) (i := 0) (q := 0) (x := a0) rfl rfl (dl_at t_X3_size 53 rfl) ?_
    refine r_geti (pc := 104) X fX3_20 k100 q560 (dl_at t_X3_size 54 rfl) fun g104_1 => ?_
    refine g_iload_n (pc := 107) X (j := 2) (i := 2) (q := 2) (x := x2_9) rfl rfl (dl_at t_X3_size 55 rfl) ?_
    refine g_gd fun k108_1 => ?_
    refine r_iast (pc := 108) X g104_1 r2_9 k108_1 (dl_at t_X3_size 56 rfl) (fun h108_1 E108_1 => ?_)
    exact g_vret (pc := 109) X (v := 0) rfl rfl (dl_at t_X3_size 57 rfl)
  intro J83
  refine g_ifeq (pc := 43) X (r32_z g42) (off := 18) (tgt := 61) rfl (dl_at t_X3_size 24 rfl) (fun _ => ?_) (fun _ => ?_)
  · refine g_iload_n (pc := 61) X (j := 2) (i := 2) (q := 1) (x := x2_9) rfl rfl (dl_at t_X3_size 32 rfl) ?_
    refine g_sipush (pc := 62) X (n := 1000) rfl (dl_at t_X3_size 33 rfl) ?_
    refine g_icmplt (pc := 65) X r2_9 (r32_c rfl) (off := 9) (tgt := 74) rfl (dl_at t_X3_size 34 rfl) (fun _ => ?_) (fun _ => ?_)
    · refine r_new (pc := 74) X kX26 q2083 (dl_at t_X3_size 38 rfl) fun a74 h74 p74 k74 E74 => ?_
      refine g_dup (pc := 77) X rv_cat (dl_at t_X3_size 39 rfl) ?_
      refine g_iload_n (pc := 78) X (j := 3) (i := 3) (q := 0) (x := x3_14) rfl rfl (dl_at t_X3_size 40 rfl) ?_
      refine r_callV (pc := 79) X (fun _ hv => sx_ScholarsPress_Broken_init_I_V k74 r3_14 hv) cw_code q1839 q391 (in_I X (As := [iv x3_14]) (Int.ne_of_gt p74) rfl (Or.inr ⟨_, nw_in q2084 rfl⟩) q1838 q1839 ⟨by decide, by decide⟩ rfl (dl_at t_X3_size 41 rfl)) (dl_at t_X3_size 41 rfl) (cat24 (st := [rv D a74]) (Nat.le_of_ble_eq_true rfl)) (Nat.le_of_ble_eq_true rfl) (Nat.le_of_ble_eq_true rfl) fun h79 E79 => ?_
      refine g_athrow (pc := 82) X (Int.ne_of_gt p74) (dl_at t_X3_size 42 rfl) ?_
      exact gt_at fun Q hQ => gt_out (Q := Q) X rfl p74 (hno _) _ Q rfl hQ
    refine g_iload_n (pc := 68) X (j := 2) (i := 2) (q := 1) (x := x2_9) rfl rfl (dl_at t_X3_size 35 rfl) ?_
    refine g_ldc (pc := 69) X (index := 163) (n := 100000) q1988 (dl_at t_X3_size 36 rfl) ?_
    refine g_icmple (pc := 71) X r2_9 (r32_c rfl) (off := 12) (tgt := 83) rfl (dl_at t_X3_size 37 rfl) (fun _ => ?_) (fun _ => ?_)
    · refine g_ls (ls2 := [(0, rv D a0), (1, rv D a1), (2, iv x2_9)]) [3, 2, 1] rfl ?_
      exact J83 () trivial
    refine r_new (pc := 74) X kX26 q2083 (dl_at t_X3_size 38 rfl) fun a74_1 h74_1 p74_1 k74_1 E74_1 => ?_
    refine g_dup (pc := 77) X rv_cat (dl_at t_X3_size 39 rfl) ?_
    refine g_iload_n (pc := 78) X (j := 3) (i := 3) (q := 0) (x := x3_14) rfl rfl (dl_at t_X3_size 40 rfl) ?_
    refine r_callV (pc := 79) X (fun _ hv => sx_ScholarsPress_Broken_init_I_V k74_1 r3_14 hv) cw_code q1839 q391 (in_I X (As := [iv x3_14]) (Int.ne_of_gt p74_1) rfl (Or.inr ⟨_, nw_in q2084 rfl⟩) q1838 q1839 ⟨by decide, by decide⟩ rfl (dl_at t_X3_size 41 rfl)) (dl_at t_X3_size 41 rfl) (cat24 (st := [rv D a74_1]) (Nat.le_of_ble_eq_true rfl)) (Nat.le_of_ble_eq_true rfl) (Nat.le_of_ble_eq_true rfl) fun h79_1 E79_1 => ?_
    refine g_athrow (pc := 82) X (Int.ne_of_gt p74_1) (dl_at t_X3_size 42 rfl) ?_
    exact gt_at fun Q hQ => gt_out (Q := Q) X rfl p74_1 (hno _) _ Q rfl hQ
  refine g_iload_n (pc := 46) X (j := 2) (i := 2) (q := 1) (x := x2_9) rfl rfl (dl_at t_X3_size 25 rfl) ?_
  refine g_iconst (pc := 47) X (n := 1) (dl_at t_X3_size 26 rfl) ?_
  refine g_icmplt (pc := 48) X r2_9 (r32_c rfl) (off := 26) (tgt := 74) rfl (dl_at t_X3_size 27 rfl) (fun _ => ?_) (fun _ => ?_)
  · refine r_new (pc := 74) X kX26 q2083 (dl_at t_X3_size 38 rfl) fun a74_2 h74_2 p74_2 k74_2 E74_2 => ?_
    refine g_dup (pc := 77) X rv_cat (dl_at t_X3_size 39 rfl) ?_
    refine g_iload_n (pc := 78) X (j := 3) (i := 3) (q := 0) (x := x3_14) rfl rfl (dl_at t_X3_size 40 rfl) ?_
    refine r_callV (pc := 79) X (fun _ hv => sx_ScholarsPress_Broken_init_I_V k74_2 r3_14 hv) cw_code q1839 q391 (in_I X (As := [iv x3_14]) (Int.ne_of_gt p74_2) rfl (Or.inr ⟨_, nw_in q2084 rfl⟩) q1838 q1839 ⟨by decide, by decide⟩ rfl (dl_at t_X3_size 41 rfl)) (dl_at t_X3_size 41 rfl) (cat24 (st := [rv D a74_2]) (Nat.le_of_ble_eq_true rfl)) (Nat.le_of_ble_eq_true rfl) (Nat.le_of_ble_eq_true rfl) fun h79_2 E79_2 => ?_
    refine g_athrow (pc := 82) X (Int.ne_of_gt p74_2) (dl_at t_X3_size 42 rfl) ?_
    exact gt_at fun Q hQ => gt_out (Q := Q) X rfl p74_2 (hno _) _ Q rfl hQ
  refine g_iload_n (pc := 51) X (j := 2) (i := 2) (q := 1) (x := x2_9) rfl rfl (dl_at t_X3_size 28 rfl) ?_
  refine g_sipush (pc := 52) X (n := 1000) rfl (dl_at t_X3_size 29 rfl) ?_
  refine g_icmple (pc := 55) X r2_9 (r32_c rfl) (off := 28) (tgt := 83) rfl (dl_at t_X3_size 30 rfl) (fun _ => ?_) (fun _ => ?_)
  · refine g_ls (ls2 := [(0, rv D a0), (1, rv D a1), (2, iv x2_9)]) [3, 2, 1] rfl ?_
    exact J83 () trivial
  refine g_goto (pc := 58) X (off := 16) (tgt := 74) rfl (dl_at t_X3_size 31 rfl) ?_
  refine r_new (pc := 74) X kX26 q2083 (dl_at t_X3_size 38 rfl) fun a74_3 h74_3 p74_3 k74_3 E74_3 => ?_
  refine g_dup (pc := 77) X rv_cat (dl_at t_X3_size 39 rfl) ?_
  refine g_iload_n (pc := 78) X (j := 3) (i := 3) (q := 0) (x := x3_14) rfl rfl (dl_at t_X3_size 40 rfl) ?_
  refine r_callV (pc := 79) X (fun _ hv => sx_ScholarsPress_Broken_init_I_V k74_3 r3_14 hv) cw_code q1839 q391 (in_I X (As := [iv x3_14]) (Int.ne_of_gt p74_3) rfl (Or.inr ⟨_, nw_in q2084 rfl⟩) q1838 q1839 ⟨by decide, by decide⟩ rfl (dl_at t_X3_size 41 rfl)) (dl_at t_X3_size 41 rfl) (cat24 (st := [rv D a74_3]) (Nat.le_of_ble_eq_true rfl)) (Nat.le_of_ble_eq_true rfl) (Nat.le_of_ble_eq_true rfl) fun h79_3 E79_3 => ?_
  refine g_athrow (pc := 82) X (Int.ne_of_gt p74_3) (dl_at t_X3_size 42 rfl) ?_
  exact gt_at fun Q hQ => gt_out (Q := Q) X rfl p74_3 (hno _) _ Q rfl hQ
def k_X3_counter : List (Nat × Instr × Nat) := [(0, .aload_n 1, 1), (1, .iconst 1, 1), (2, .invokevirtual 147, 3), (5, .aload_n 0, 1), (6, .getfield 64, 3), (9, .aload_n 0, 1), (10, .getfield 94, 3), (13, .iconst 0, 1), (14, .iastore, 1), (15, .aload_n 1, 1), (16, .ldc 255, 2), (18, .invokevirtual 128, 3), (21, .ifCond .ne 74, 3), (24, .aload_n 0, 1), (25, .getfield 20, 3), (28, .aload_n 1, 1), (29, .getfield 193, 3), (32, .aload_n 1, 1), (33, .getfield 197, 3), (36, .aload_n 1, 1), (37, .getfield 200, 3), (40, .invokevirtual 257, 3), (43, .istore_n 2, 1), (44, .iload_n 2, 1), (45, .ifCond .ge 20, 3), (48, .aload_n 0, 1), (49, .getfield 20, 3), (52, .getfield 260, 3), (55, .bipush 12, 2), (57, .if_icmp .ne 8, 3), (60, .aload_n 1, 1), (61, .invokevirtual 154, 3), (64, .athrow, 1), (65, .aload_n 0, 1), (66, .getfield 64, 3), (69, .aload_n 0, 1), (70, .getfield 94, 3), (73, .iconst 1, 1), (74, .aload_n 0, 1), (75, .getfield 20, 3), (78, .aload_n 1, 1), (79, .getfield 193, 3), (82, .aload_n 1, 1), (83, .getfield 197, 3), (86, .aload_n 1, 1), (87, .getfield 200, 3), (90, .invokevirtual 202, 3), (93, .iadd, 1), (94, .iastore, 1), (95, .aload_n 1, 1), (96, .invokevirtual 132, 3), (99, .return_, 1)]
theorem t_X3_counter : ∀ q ∈ k_X3_counter, decode cX3_counter q.1 = .ok q.2 := dl_all (by decide +kernel)
noncomputable def m_X3_counter_j65 (a1 a0 : Int) (h14 : Hp) : Option ((Int × Int) × Hp) :=
  bW (m_X4_add (h14 a0 1) (h14 a1 0) (h14 a1 5) (h14 a1 6) h14) fun v90 h90 =>
  gd (h90 (h14 a0 17) (-2) % 16 = 1 ∧ (0 : Int) ≤ (h14 a0 20) ∧ (h14 a0 20) < h90 (h14 a0 17) (-1)) (pt h90 (h14 a0 17) (h14 a0 20) (w32 (1 + v90)) fun h94 =>
  (m_X2_next a1 h94).bind fun h96_1 =>
  some ((0, 0), h96_1))
noncomputable def m_X3_counter (a0 a1 : Int) (h : Hp) : Option ((Int × Int) × Hp) :=
  gd (h a1 (-2) = 32) (bT (m_X2_needKind a1 1 h) (fun _ h2 =>
  gd (h2 (h2 a0 17) (-2) % 16 = 1 ∧ (0 : Int) ≤ (h2 a0 20) ∧ (h2 a0 20) < h2 (h2 a0 17) (-1)) (pt h2 (h2 a0 17) (h2 a0 20) 0 fun h14 =>
  (m_X2_isName a1 (-34) h14).bind fun v18 =>
  if v18 ≠ 0 then ((m_X2_next a1 h14).bind fun h96 =>
  some ((0, 0), h96))
  else (gd (h14 (h14 a0 1) (-2) = 64) ((m_X4_find (h14 a0 1) (h14 a1 0) (h14 a1 5) (h14 a1 6) h14).bind fun v40 =>
  if 0 ≤ v40 then (m_X3_counter_j65 a1 a0 h14)
  else (if (h14 (h14 a0 1) 3) ≠ 12 then (m_X3_counter_j65 a1 a0 h14)
  else (bW (m_X2_broken a1 h14) fun v61 h61 =>
  gd (0 < v61) (some ((1, v61), h61)))))))) (fun a_ h_ => some ((1, a_), h_)))
theorem s_X3_counter {l : Launch} [NoTr l] {D : SD} {a0 a1 : Int} {h : Hp} (hk : h a0 (-2) = 48) {r : (Int × Int) × Hp} (hm : m_X3_counter a0 a1 h = some r) : Sim l D yX3_counter (Cond.code yX3_counter cX3_counter 3 (Option.none : Option Jvm.ClassFile.FieldType)) 11 410 [rv D a0, rv D a1] h 0 r := by
  refine Sim.of (fin := fun (v : (Int × Int) × Hp) => v) (lsE := [(0, rv D a0), (1, rv D a1)]) hm rfl cwS_code (la_r (la_r la_n)) (ll_r (ll_r ll_n)) ?_
  intro p e s m below meth c X hcw hmm hcc hnm hname
  have hno := noh hcw hnm hmm hcc
  unfold m_X3_counter
  refine g_aload_n (pc := 0) X (j := 1) (i := 1) (q := 1) (x := a1) rfl rfl (dl_at t_X3_counter 0 rfl) ?_
  refine g_iconst (pc := 1) X (n := 1) (dl_at t_X3_counter 1 rfl) ?_
  refine g_gd fun k2 => ?_
  refine r_callTv (pc := 2) X (fun _ hv => s_X2_needKind k2 (r32_c rfl) hv) cw_code q1975 q356 (in_Vk X (As := [iv 1]) kX2 k2 (Or.inr ⟨_, nw_in q1972 rfl⟩) q1974 qs33 cw_code q1975 ⟨by decide, by decide⟩ rfl (dl_at t_X3_counter 2 rfl)) (dl_at t_X3_counter 2 rfl) (cat24 (st := []) (Nat.le_of_ble_eq_true rfl)) (Nat.le_of_ble_eq_true rfl) (Nat.le_of_ble_eq_true rfl) (fun v2 h2 E2 => ?_) (fun _ _ ha _ => gt_at fun Q hQ => gt_out (Q := Q) X rfl ha (hno _) _ Q rfl hQ)
  refine g_aload_n (pc := 5) X (j := 0) (i := 0) (q := 0) (x := a0) rfl rfl (dl_at t_X3_counter 3 rfl) ?_
  have k6 := kx E2 (by decide) hk
  refine r_getr (pc := 6) X fX3_17 k6 q554 (dl_at t_X3_counter 4 rfl) ?_
  refine g_aload_n (pc := 9) X (j := 0) (i := 0) (q := 0) (x := a0) rfl rfl (dl_at t_X3_counter 5 rfl) ?_
  refine r_geti (pc := 10) X fX3_20 k6 q560 (dl_at t_X3_counter 6 rfl) fun g10 => ?_
  refine g_iconst (pc := 13) X (n := 0) (dl_at t_X3_counter 7 rfl) ?_
  refine g_gd fun k14 => ?_
  refine r_iast (pc := 14) X g10 (r32_c rfl) k14 (dl_at t_X3_counter 8 rfl) (fun h14 E14 => ?_)
  refine g_aload_n (pc := 15) X (j := 1) (i := 1) (q := 1) (x := a1) rfl rfl (dl_at t_X3_counter 9 rfl) ?_
  refine g_ldcS (pc := 16) X (index := 255) (id := (-34)) 32 rfl rfl (dl_at t_X3_counter 10 rfl) ?_
  have k18 := kx (E2.trans E14) (by decide) k2
  refine r_callRz (pc := 18) X (fun _ hv => s_X2_isName k18 hv) cw_code q1766 q356 (in_Vk X (As := [rv D (-34)]) kX2 k18 (Or.inr ⟨_, nw_in q1964 rfl⟩) q1765 qs15 cw_code q1766 ⟨by decide, by decide⟩ rfl (dl_at t_X3_counter 11 rfl)) (dl_at t_X3_counter 11 rfl) (cat24 (st := []) (Nat.le_of_ble_eq_true rfl)) (Nat.le_of_ble_eq_true rfl) (Nat.le_of_ble_eq_true rfl) fun v18 g18 => ?_
  refine g_ifne (pc := 21) X (r32_z g18) (off := 74) (tgt := 95) rfl (dl_at t_X3_counter 12 rfl) (fun _ => ?_) (fun _ => ?_)
  · refine g_aload_n (pc := 95) X (j := 1) (i := 1) (q := 1) (x := a1) rfl rfl (dl_at t_X3_counter 49 rfl) ?_
    refine r_callV (pc := 96) X (fun _ hv => s_X2_next k18 hv) cw_code q1725 q356 (in_Vk X (As := []) kX2 k18 (Or.inr ⟨_, nw_in q1965 rfl⟩) q1724 qs8 cw_code q1725 ⟨by decide, by decide⟩ rfl (dl_at t_X3_counter 50 rfl)) (dl_at t_X3_counter 50 rfl) (cat24 (st := []) (Nat.le_of_ble_eq_true rfl)) (Nat.le_of_ble_eq_true rfl) (Nat.le_of_ble_eq_true rfl) fun h96 E96 => ?_
    exact g_vret (pc := 99) X (v := 0) rfl rfl (dl_at t_X3_counter 51 rfl)
  refine g_aload_n (pc := 24) X (j := 0) (i := 0) (q := 0) (x := a0) rfl rfl (dl_at t_X3_counter 13 rfl) ?_
  have k25 := kx E14 (by decide) k6
  refine r_getr (pc := 25) X fX3_1 k25 q524 (dl_at t_X3_counter 14 rfl) ?_
  refine g_aload_n (pc := 28) X (j := 1) (i := 1) (q := 1) (x := a1) rfl rfl (dl_at t_X3_counter 15 rfl) ?_
  refine r_getrN (pc := 29) X fX2_0 k18 (nw_in q416 rfl) (dl_at t_X3_counter 16 rfl) ?_
  refine g_aload_n (pc := 32) X (j := 1) (i := 1) (q := 1) (x := a1) rfl rfl (dl_at t_X3_counter 17 rfl) ?_
  refine r_getiN (pc := 33) X fX2_5 k18 (nw_in q426 rfl) (dl_at t_X3_counter 18 rfl) fun g33 => ?_
  refine g_aload_n (pc := 36) X (j := 1) (i := 1) (q := 1) (x := a1) rfl rfl (dl_at t_X3_counter 19 rfl) ?_
  refine r_getiN (pc := 37) X fX2_6 k18 (nw_in q429 rfl) (dl_at t_X3_counter 20 rfl) fun g37 => ?_
  refine g_gd fun k40 => ?_
  refine r_callRi (pc := 40) X (fun _ hv => s_X4_find k40 g33 g37 hv) cw_code q2011 q358 (in_Vk X (As := [rv D (h14 a1 0), iv (h14 a1 5), iv (h14 a1 6)]) kX4 k40 (Or.inr ⟨_, nw_in q2092 rfl⟩) q2010 qs38 cw_code q2011 ⟨by decide, by decide⟩ rfl (dl_at t_X3_counter 21 rfl)) (dl_at t_X3_counter 21 rfl) (cat24 (st := []) (Nat.le_of_ble_eq_true rfl)) (Nat.le_of_ble_eq_true rfl) (Nat.le_of_ble_eq_true rfl) fun v40 g40 => ?_
  refine g_istore_nN (pc := 43) X (j := 2) (i := 2) (x := v40) (b := 1) (w := rv D a1) (rest := [(0, rv D a0)]) rfl (Nat.le_of_ble_eq_true rfl) [1, 0] rfl (by decide) rv_cat rfl (dl_at t_X3_counter 22 rfl) ?_
  refine g_iload_n (pc := 44) X (j := 2) (i := 2) (q := 0) (x := v40) rfl rfl (dl_at t_X3_counter 23 rfl) ?_
  refine g_join (γ := Unit) (fun q => True) 65 (fun q => [(0, rv D a0), (1, rv D a1)]) (fun q => []) (fun q => h14) (fun q => m_X3_counter_j65 a1 a0 h14) ?_ ?_
  · rintro _ _
    try dsimp only
    unfold m_X3_counter_j65
    refine g_aload_n (pc := 65) X (j := 0) (i := 0) (q := 0) (x := a0) rfl rfl (dl_at t_X3_counter 33 rfl) ?_
    refine r_getr (pc := 66) X fX3_17 k25 q554 (dl_at t_X3_counter 34 rfl) ?_
    refine g_aload_n (pc := 69) X (j := 0) (i := 0) (q := 0) (x := a0) rfl rfl (dl_at t_X3_counter 35 rfl) ?_
    refine r_geti (pc := 70) X fX3_20 k25 q560 (dl_at t_X3_counter 36 rfl) fun g70 => ?_
    refine g_iconst (pc := 73) X (n := 1) (dl_at t_X3_counter 37 rfl) ?_
    refine g_aload_n (pc := 74) X (j := 0) (i := 0) (q := 0) (x := a0) rfl rfl (dl_at t_X3_counter 38 rfl) ?_
    refine r_getr (pc := 75) X fX3_1 k25 q524 (dl_at t_X3_counter 39 rfl) ?_
    refine g_aload_n (pc := 78) X (j := 1) (i := 1) (q := 1) (x := a1) rfl rfl (dl_at t_X3_counter 40 rfl) ?_
    refine r_getrN (pc := 79) X fX2_0 k18 (nw_in q416 rfl) (dl_at t_X3_counter 41 rfl) ?_
    refine g_aload_n (pc := 82) X (j := 1) (i := 1) (q := 1) (x := a1) rfl rfl (dl_at t_X3_counter 42 rfl) ?_
    refine r_getiN (pc := 83) X fX2_5 k18 (nw_in q426 rfl) (dl_at t_X3_counter 43 rfl) fun g83 => ?_
    refine g_aload_n (pc := 86) X (j := 1) (i := 1) (q := 1) (x := a1) rfl rfl (dl_at t_X3_counter 44 rfl) ?_
    refine r_getiN (pc := 87) X fX2_6 k18 (nw_in q429 rfl) (dl_at t_X3_counter 45 rfl) fun g87 => ?_
    refine r_callWi (pc := 90) X (fun _ hv => s_X4_add k40 g83 g87 hv) cw_code q2007 q358 (in_Vk X (As := [rv D (h14 a1 0), iv (h14 a1 5), iv (h14 a1 6)]) kX4 k40 (Or.inr ⟨_, nw_in q2004 rfl⟩) q2006 qs37 cw_code q2007 ⟨by decide, by decide⟩ rfl (dl_at t_X3_counter 46 rfl)) (dl_at t_X3_counter 46 rfl) (cat24 (st := [iv 1, iv (h14 a0 20), rv D (h14 a0 17)]) (Nat.le_of_ble_eq_true rfl)) (Nat.le_of_ble_eq_true rfl) (Nat.le_of_ble_eq_true rfl) fun v90 h90 g90 E90 => ?_
    refine g_iadd (pc := 93) X (r32_c rfl) g90 (dl_at t_X3_counter 47 rfl) ?_
    refine g_gd fun k94 => ?_
    refine r_iast (pc := 94) X g70 (r32_w _) k94 (dl_at t_X3_counter 48 rfl) (fun h94 E94 => ?_)
    refine g_aload_n (pc := 95) X (j := 1) (i := 1) (q := 1) (x := a1) rfl rfl (dl_at t_X3_counter 49 rfl) ?_
    have k96 := kx (E90.trans E94) (by decide) k18
    refine r_callV (pc := 96) X (fun _ hv => s_X2_next k96 hv) cw_code q1725 q356 (in_Vk X (As := []) kX2 k96 (Or.inr ⟨_, nw_in q1965 rfl⟩) q1724 qs8 cw_code q1725 ⟨by decide, by decide⟩ rfl (dl_at t_X3_counter 50 rfl)) (dl_at t_X3_counter 50 rfl) (cat24 (st := []) (Nat.le_of_ble_eq_true rfl)) (Nat.le_of_ble_eq_true rfl) (Nat.le_of_ble_eq_true rfl) fun h96_1 E96_1 => ?_
    exact g_vret (pc := 99) X (v := 0) rfl rfl (dl_at t_X3_counter 51 rfl)
  intro J65
  refine g_ifge (pc := 45) X g40 (off := 20) (tgt := 65) rfl (dl_at t_X3_counter 24 rfl) (fun _ => ?_) (fun _ => ?_)
  · refine g_ls (ls2 := [(0, rv D a0), (1, rv D a1)]) [2, 1] rfl ?_
    exact J65 () trivial
  refine g_aload_n (pc := 48) X (j := 0) (i := 0) (q := 2) (x := a0) rfl rfl (dl_at t_X3_counter 25 rfl) ?_
  refine r_getr (pc := 49) X fX3_1 k25 q524 (dl_at t_X3_counter 26 rfl) ?_
  refine r_getiN (pc := 52) X fX4_3 k40 (nw_in q474 rfl) (dl_at t_X3_counter 27 rfl) fun g52 => ?_
  refine g_bipush (pc := 55) X (n := 12) rfl (dl_at t_X3_counter 28 rfl) ?_
  refine g_icmpne (pc := 57) X g52 (r32_c rfl) (off := 8) (tgt := 65) rfl (dl_at t_X3_counter 29 rfl) (fun _ => ?_) (fun _ => ?_)
  · refine g_ls (ls2 := [(0, rv D a0), (1, rv D a1)]) [2, 1] rfl ?_
    exact J65 () trivial
  refine g_aload_n (pc := 60) X (j := 1) (i := 1) (q := 1) (x := a1) rfl rfl (dl_at t_X3_counter 30 rfl) ?_
  refine r_callWr (pc := 61) X (fun _ hv => s_X2_broken k18 hv) cw_code q1825 q356 (in_Vk X (As := []) kX2 k18 (Or.inr ⟨_, nw_in q1985 rfl⟩) q1824 qs16 cw_code q1825 ⟨by decide, by decide⟩ rfl (dl_at t_X3_counter 31 rfl)) (dl_at t_X3_counter 31 rfl) (cat24 (st := []) (Nat.le_of_ble_eq_true rfl)) (Nat.le_of_ble_eq_true rfl) (Nat.le_of_ble_eq_true rfl) fun v61 h61 E61 => ?_
  refine g_gd fun p64 => ?_
  refine g_athrow (pc := 64) X (Int.ne_of_gt p64) (dl_at t_X3_counter 32 rfl) ?_
  exact gt_at fun Q hQ => gt_out (Q := Q) X rfl p64 (hno _) _ Q rfl hQ
