set_option maxRecDepth 100000
def k_X3_label : List (Nat × Instr × Nat) := [(0, .aload_n 0, 1), (1, .getfield 64, 3), (4, .aload_n 0, 1), (5, .getfield 94, 3), (8, .iconst (-1), 1), (9, .iastore, 1), (10, .aload_n 1, 1), (11, .getfield 180, 3), (14, .iconst 3, 1), (15, .if_icmp .ne 54, 3), (18, .aload_n 0, 1), (19, .getfield 64, 3), (22, .aload_n 0, 1), (23, .getfield 94, 3), (26, .aload_n 0, 1), (27, .getfield 26, 3), (30, .getfield 81, 3), (33, .iastore, 1), (34, .aload_n 0, 1), (35, .getfield 67, 3), (38, .aload_n 0, 1), (39, .getfield 94, 3), (42, .aload_n 1, 1), (43, .getfield 200, 3), (46, .iastore, 1), (47, .aload_n 0, 1), (48, .getfield 26, 3), (51, .aload_n 1, 1), (52, .getfield 193, 3), (55, .aload_n 1, 1), (56, .getfield 197, 3), (59, .aload_n 1, 1), (60, .getfield 200, 3), (63, .invokevirtual 216, 3), (66, .goto 17, 3), (69, .aload_n 1, 1), (70, .ldc 255, 2), (72, .invokevirtual 128, 3), (75, .ifCond .ne 8, 3), (78, .aload_n 1, 1), (79, .invokevirtual 154, 3), (82, .athrow, 1), (83, .aload_n 1, 1), (84, .invokevirtual 132, 3), (87, .return_, 1)]
theorem t_X3_label : ∀ q ∈ k_X3_label, decode cX3_label q.1 = .ok q.2 := dl_all (by decide +kernel)
noncomputable def m_X3_label (a0 a1 : Int) (h : Hp) : Option ((Int × Int) × Hp) :=
  gd (h (h a0 17) (-2) % 16 = 1 ∧ (0 : Int) ≤ (h a0 20) ∧ (h a0 20) < h (h a0 17) (-1)) (pt h (h a0 17) (h a0 20) (-1) fun h9 =>
  gd (h9 a1 (-2) = 32) (if (h9 a1 3) ≠ 3 then ((m_X2_isName a1 (-34) h9).bind fun v72 =>
  if v72 ≠ 0 then ((m_X2_next a1 h9).bind fun h84 =>
  some ((0, 0), h84))
  else (bW (m_X2_broken a1 h9) fun v79 h79 =>
  gd (0 < v79) (some ((1, v79), h79))))
  else (gd (h9 (h9 a0 2) (-2) = 80) (gd (h9 (h9 a0 17) (-2) % 16 = 1 ∧ (0 : Int) ≤ (h9 a0 20) ∧ (h9 a0 20) < h9 (h9 a0 17) (-1)) (pt h9 (h9 a0 17) (h9 a0 20) (h9 (h9 a0 2) 1) fun h33 =>
  gd (h33 (h33 a0 18) (-2) % 16 = 1 ∧ (0 : Int) ≤ (h33 a0 20) ∧ (h33 a0 20) < h33 (h33 a0 18) (-1)) (pt h33 (h33 a0 18) (h33 a0 20) (h33 a1 6) fun h46 =>
  gd (h46 (h46 a0 2) (-2) = 80) (bT (m_X5_addAll (h46 a0 2) (h46 a1 0) (h46 a1 5) (h46 a1 6) h46) (fun _ h63 =>
  (m_X2_next a1 h63).bind fun h84_1 =>
  some ((0, 0), h84_1)) (fun a_ h_ => some ((1, a_), h_)))))))))
theorem s_X3_label {l : Launch} [NoTr l] {D : SD} {a0 a1 : Int} {h : Hp} (hk : h a0 (-2) = 48) {r : (Int × Int) × Hp} (hm : m_X3_label a0 a1 h = some r) : Sim l D yX3_label (Cond.code yX3_label cX3_label 2 (Option.none : Option Jvm.ClassFile.FieldType)) 12 449 [rv D a0, rv D a1] h 0 r := by
  refine Sim.of (fin := fun (v : (Int × Int) × Hp) => v) (lsE := [(0, rv D a0), (1, rv D a1)]) hm rfl cwS_code (la_r (la_r la_n)) (ll_r (ll_r ll_n)) ?_
  intro p e s m below meth c X hcw hmm hcc hnm hname
  have hno := noh hcw hnm hmm hcc
  unfold m_X3_label
  refine g_aload_n (pc := 0) X (j := 0) (i := 0) (q := 0) (x := a0) rfl rfl (dl_at t_X3_label 0 rfl) ?_
  refine r_getr (pc := 1) X fX3_17 hk q554 (dl_at t_X3_label 1 rfl) ?_
  refine g_aload_n (pc := 4) X (j := 0) (i := 0) (q := 0) (x := a0) rfl rfl (dl_at t_X3_label 2 rfl) ?_
  refine r_geti (pc := 5) X fX3_20 hk q560 (dl_at t_X3_label 3 rfl) fun g5 => ?_
  refine g_iconst (pc := 8) X (n := (-1)) (dl_at t_X3_label 4 rfl) ?_
  refine g_gd fun k9 => ?_
  refine r_iast (pc := 9) X g5 (r32_c rfl) k9 (dl_at t_X3_label 5 rfl) (fun h9 E9 => ?_)
  refine g_aload_n (pc := 10) X (j := 1) (i := 1) (q := 1) (x := a1) rfl rfl (dl_at t_X3_label 6 rfl) ?_
  refine g_gd fun k11 => ?_
  refine r_getiN (pc := 11) X fX2_3 k11 (nw_in q421 rfl) (dl_at t_X3_label 7 rfl) fun g11 => ?_
  refine g_iconst (pc := 14) X (n := 3) (dl_at t_X3_label 8 rfl) ?_
  refine g_icmpne (pc := 15) X g11 (r32_c rfl) (off := 54) (tgt := 69) rfl (dl_at t_X3_label 9 rfl) (fun _ => ?_) (fun _ => ?_)
  · refine g_aload_n (pc := 69) X (j := 1) (i := 1) (q := 1) (x := a1) rfl rfl (dl_at t_X3_label 35 rfl) ?_
    refine g_ldcS (pc := 70) X (index := 255) (id := (-34)) 32 rfl rfl (dl_at t_X3_label 36 rfl) ?_
    refine r_callRz (pc := 72) X (fun _ hv => s_X2_isName k11 hv) cw_code q1766 q356 (in_Vk X (As := [rv D (-34)]) kX2 k11 (Or.inr ⟨_, nw_in q1964 rfl⟩) q1765 qs15 cw_code q1766 ⟨by decide, by decide⟩ rfl (dl_at t_X3_label 37 rfl)) (dl_at t_X3_label 37 rfl) (cat24 (st := []) (Nat.le_of_ble_eq_true rfl)) (Nat.le_of_ble_eq_true rfl) (Nat.le_of_ble_eq_true rfl) fun v72 g72 => ?_
    refine g_ifne (pc := 75) X (r32_z g72) (off := 8) (tgt := 83) rfl (dl_at t_X3_label 38 rfl) (fun _ => ?_) (fun _ => ?_)
    · refine g_aload_n (pc := 83) X (j := 1) (i := 1) (q := 1) (x := a1) rfl rfl (dl_at t_X3_label 42 rfl) ?_
      refine r_callV (pc := 84) X (fun _ hv => s_X2_next k11 hv) cw_code q1725 q356 (in_Vk X (As := []) kX2 k11 (Or.inr ⟨_, nw_in q1965 rfl⟩) q1724 qs8 cw_code q1725 ⟨by decide, by decide⟩ rfl (dl_at t_X3_label 43 rfl)) (dl_at t_X3_label 43 rfl) (cat24 (st := []) (Nat.le_of_ble_eq_true rfl)) (Nat.le_of_ble_eq_true rfl) (Nat.le_of_ble_eq_true rfl) fun h84 E84 => ?_
      exact g_vret (pc := 87) X (v := 0) rfl rfl (dl_at t_X3_label 44 rfl)
    refine g_aload_n (pc := 78) X (j := 1) (i := 1) (q := 1) (x := a1) rfl rfl (dl_at t_X3_label 39 rfl) ?_
    refine r_callWr (pc := 79) X (fun _ hv => s_X2_broken k11 hv) cw_code q1825 q356 (in_Vk X (As := []) kX2 k11 (Or.inr ⟨_, nw_in q1985 rfl⟩) q1824 qs16 cw_code q1825 ⟨by decide, by decide⟩ rfl (dl_at t_X3_label 40 rfl)) (dl_at t_X3_label 40 rfl) (cat24 (st := []) (Nat.le_of_ble_eq_true rfl)) (Nat.le_of_ble_eq_true rfl) (Nat.le_of_ble_eq_true rfl) fun v79 h79 E79 => ?_
    refine g_gd fun p82 => ?_
    refine g_athrow (pc := 82) X (Int.ne_of_gt p82) (dl_at t_X3_label 41 rfl) ?_
    exact gt_at fun Q hQ => gt_out (Q := Q) X rfl p82 (hno _) _ Q rfl hQ
  refine g_aload_n (pc := 18) X (j := 0) (i := 0) (q := 0) (x := a0) rfl rfl (dl_at t_X3_label 10 rfl) ?_
  have k19 := kx E9 (by decide) hk
  refine r_getr (pc := 19) X fX3_17 k19 q554 (dl_at t_X3_label 11 rfl) ?_
  refine g_aload_n (pc := 22) X (j := 0) (i := 0) (q := 0) (x := a0) rfl rfl (dl_at t_X3_label 12 rfl) ?_
  refine r_geti (pc := 23) X fX3_20 k19 q560 (dl_at t_X3_label 13 rfl) fun g23 => ?_
  refine g_aload_n (pc := 26) X (j := 0) (i := 0) (q := 0) (x := a0) rfl rfl (dl_at t_X3_label 14 rfl) ?_
  refine r_getr (pc := 27) X fX3_2 k19 q525 (dl_at t_X3_label 15 rfl) ?_
  refine g_gd fun k30 => ?_
  refine r_getiN (pc := 30) X fX5_1 k30 (nw_in q505 rfl) (dl_at t_X3_label 16 rfl) fun g30 => ?_
  refine g_gd fun k33 => ?_
  refine r_iast (pc := 33) X g23 g30 k33 (dl_at t_X3_label 17 rfl) (fun h33 E33 => ?_)
  refine g_aload_n (pc := 34) X (j := 0) (i := 0) (q := 0) (x := a0) rfl rfl (dl_at t_X3_label 18 rfl) ?_
  have k35 := kx E33 (by decide) k19
  refine r_getr (pc := 35) X fX3_18 k35 q556 (dl_at t_X3_label 19 rfl) ?_
  refine g_aload_n (pc := 38) X (j := 0) (i := 0) (q := 0) (x := a0) rfl rfl (dl_at t_X3_label 20 rfl) ?_
  refine r_geti (pc := 39) X fX3_20 k35 q560 (dl_at t_X3_label 21 rfl) fun g39 => ?_
  refine g_aload_n (pc := 42) X (j := 1) (i := 1) (q := 1) (x := a1) rfl rfl (dl_at t_X3_label 22 rfl) ?_
  have k43 := kx E33 (by decide) k11
  refine r_getiN (pc := 43) X fX2_6 k43 (nw_in q429 rfl) (dl_at t_X3_label 23 rfl) fun g43 => ?_
  refine g_gd fun k46 => ?_
  refine r_iast (pc := 46) X g39 g43 k46 (dl_at t_X3_label 24 rfl) (fun h46 E46 => ?_)
  refine g_aload_n (pc := 47) X (j := 0) (i := 0) (q := 0) (x := a0) rfl rfl (dl_at t_X3_label 25 rfl) ?_
  have k48 := kx E46 (by decide) k35
  refine r_getr (pc := 48) X fX3_2 k48 q525 (dl_at t_X3_label 26 rfl) ?_
  refine g_aload_n (pc := 51) X (j := 1) (i := 1) (q := 1) (x := a1) rfl rfl (dl_at t_X3_label 27 rfl) ?_
  have k52 := kx E46 (by decide) k43
  refine r_getrN (pc := 52) X fX2_0 k52 (nw_in q416 rfl) (dl_at t_X3_label 28 rfl) ?_
  refine g_aload_n (pc := 55) X (j := 1) (i := 1) (q := 1) (x := a1) rfl rfl (dl_at t_X3_label 29 rfl) ?_
  refine r_getiN (pc := 56) X fX2_5 k52 (nw_in q426 rfl) (dl_at t_X3_label 30 rfl) fun g56 => ?_
  refine g_aload_n (pc := 59) X (j := 1) (i := 1) (q := 1) (x := a1) rfl rfl (dl_at t_X3_label 31 rfl) ?_
  refine r_getiN (pc := 60) X fX2_6 k52 (nw_in q429 rfl) (dl_at t_X3_label 32 rfl) fun g60 => ?_
  refine g_gd fun k63 => ?_
  refine r_callTv (pc := 63) X (fun _ hv => s_X5_addAll k63 g56 g60 hv) cw_code q2034 q359 (in_Vk X (As := [rv D (h46 a1 0), iv (h46 a1 5), iv (h46 a1 6)]) kX5 k63 (Or.inr ⟨_, nw_in q2031 rfl⟩) q2033 qs43 cw_code q2034 ⟨by decide, by decide⟩ rfl (dl_at t_X3_label 33 rfl)) (dl_at t_X3_label 33 rfl) (cat24 (st := []) (Nat.le_of_ble_eq_true rfl)) (Nat.le_of_ble_eq_true rfl) (Nat.le_of_ble_eq_true rfl) (fun v63 h63 E63 => ?_) (fun _ _ ha _ => gt_at fun Q hQ => gt_out (Q := Q) X rfl ha (hno _) _ Q rfl hQ)
  refine g_goto (pc := 66) X (off := 17) (tgt := 83) rfl (dl_at t_X3_label 34 rfl) ?_
  refine g_aload_n (pc := 83) X (j := 1) (i := 1) (q := 1) (x := a1) rfl rfl (dl_at t_X3_label 42 rfl) ?_
  have k84 := kx E63 (by decide) k52
  refine r_callV (pc := 84) X (fun _ hv => s_X2_next k84 hv) cw_code q1725 q356 (in_Vk X (As := []) kX2 k84 (Or.inr ⟨_, nw_in q1965 rfl⟩) q1724 qs8 cw_code q1725 ⟨by decide, by decide⟩ rfl (dl_at t_X3_label 43 rfl)) (dl_at t_X3_label 43 rfl) (cat24 (st := []) (Nat.le_of_ble_eq_true rfl)) (Nat.le_of_ble_eq_true rfl) (Nat.le_of_ble_eq_true rfl) fun h84_1 E84_1 => ?_
  exact g_vret (pc := 87) X (v := 0) rfl rfl (dl_at t_X3_label 44 rfl)
def k_X3_showOf : List (Nat × Instr × Nat) := [(0, .aload_n 0, 1), (1, .ldc_w 311, 3), (4, .invokevirtual 128, 3), (7, .ifCond .eq 5, 3), (10, .iconst 0, 1), (11, .ireturn, 1), (12, .aload_n 0, 1), (13, .ldc_w 313, 3), (16, .invokevirtual 128, 3), (19, .ifCond .eq 5, 3), (22, .iconst 1, 1), (23, .ireturn, 1), (24, .aload_n 0, 1), (25, .ldc 255, 2), (27, .invokevirtual 128, 3), (30, .ifCond .eq 5, 3), (33, .iconst 2, 1), (34, .ireturn, 1), (35, .aload_n 0, 1), (36, .ldc_w 315, 3), (39, .invokevirtual 128, 3), (42, .ifCond .eq 5, 3), (45, .iconst 3, 1), (46, .ireturn, 1), (47, .aload_n 0, 1), (48, .ldc_w 317, 3), (51, .invokevirtual 128, 3), (54, .ifCond .eq 5, 3), (57, .iconst 4, 1), (58, .ireturn, 1), (59, .aload_n 0, 1), (60, .ldc_w 319, 3), (63, .invokevirtual 128, 3), (66, .ifCond .eq 5, 3), (69, .iconst 5, 1), (70, .ireturn, 1), (71, .aload_n 0, 1), (72, .ldc_w 321, 3), (75, .invokevirtual 128, 3), (78, .ifCond .eq 6, 3), (81, .bipush 6, 2), (83, .ireturn, 1), (84, .aload_n 0, 1), (85, .ldc_w 323, 3), (88, .invokevirtual 128, 3), (91, .ifCond .eq 6, 3), (94, .bipush 7, 2), (96, .ireturn, 1), (97, .aload_n 0, 1), (98, .ldc_w 325, 3), (101, .invokevirtual 128, 3), (104, .ifCond .eq 6, 3), (107, .bipush 8, 2), (109, .ireturn, 1), (110, .aload_n 0, 1), (111, .ldc_w 327, 3), (114, .invokevirtual 128, 3), (117, .ifCond .eq 6, 3), (120, .bipush 9, 2), (122, .ireturn, 1), (123, .aload_n 0, 1), (124, .ldc_w 329, 3), (127, .invokevirtual 128, 3), (130, .ifCond .eq 6, 3), (133, .bipush 10, 2), (135, .ireturn, 1), (136, .aload_n 0, 1), (137, .ldc_w 331, 3), (140, .invokevirtual 128, 3), (143, .ifCond .eq 8, 3), (146, .bipush 11, 2), (148, .goto 4, 3), (151, .iconst (-1), 1), (152, .ireturn, 1)]
theorem t_X3_showOf : ∀ q ∈ k_X3_showOf, decode cX3_showOf q.1 = .ok q.2 := dl_all (by decide +kernel)
noncomputable def m_X3_showOf (a0 : Int) (h : Hp) : Option (Int) :=
  gd (h a0 (-2) = 32) ((m_X2_isName a0 (-60) h).bind fun v4 =>
  if v4 = 0 then ((m_X2_isName a0 (-61) h).bind fun v16 =>
  if v16 = 0 then ((m_X2_isName a0 (-34) h).bind fun v27 =>
  if v27 = 0 then ((m_X2_isName a0 (-62) h).bind fun v39 =>
  if v39 = 0 then ((m_X2_isName a0 (-63) h).bind fun v51 =>
  if v51 = 0 then ((m_X2_isName a0 (-64) h).bind fun v63 =>
  if v63 = 0 then ((m_X2_isName a0 (-65) h).bind fun v75 =>
  if v75 = 0 then ((m_X2_isName a0 (-66) h).bind fun v88 =>
  if v88 = 0 then ((m_X2_isName a0 (-67) h).bind fun v101 =>
  if v101 = 0 then ((m_X2_isName a0 (-68) h).bind fun v114 =>
  if v114 = 0 then ((m_X2_isName a0 (-69) h).bind fun v127 =>
  if v127 = 0 then ((m_X2_isName a0 (-70) h).bind fun v140 =>
  if v140 = 0 then (some (-1))
  else (some 11))
  else (some 10))
  else (some 9))
  else (some 8))
  else (some 7))
  else (some 6))
  else (some 5))
  else (some 4))
  else (some 3))
  else (some 2))
  else (some 1))
  else (some 0))
theorem s_X3_showOf {l : Launch} [NoTr l] {D : SD} {a0 : Int} {h : Hp}  {r : Int} (hm : m_X3_showOf a0 h = some r) : Sim l D yX3_showOf (Cond.code yX3_showOf cX3_showOf 1 (Option.some Jvm.ClassFile.FieldType.int)) 5 238 [rv D a0] h 1 ((0, r), h) := by
  refine Sim.of (fin := fun (v : Int) => ((0, v), h)) (lsE := [(0, rv D a0)]) hm rfl cwS_code (la_r la_n) (ll_r ll_n) ?_
  intro p e s m below meth c X hcw hmm hcc hnm hname
  unfold m_X3_showOf
  refine g_aload_n (pc := 0) X (j := 0) (i := 0) (q := 0) (x := a0) rfl rfl (dl_at t_X3_showOf 0 rfl) ?_
  refine g_ldcSw (pc := 1) X (index := 311) (id := (-60)) 58 rfl rfl (dl_at t_X3_showOf 1 rfl) ?_
  refine g_gd fun k4 => ?_
  refine r_callRz (pc := 4) X (fun _ hv => s_X2_isName k4 hv) cw_code q1766 q356 (in_Vk X (As := [rv D (-60)]) kX2 k4 (Or.inr ⟨_, nw_in q1964 rfl⟩) q1765 qs15 cw_code q1766 ⟨by decide, by decide⟩ rfl (dl_at t_X3_showOf 2 rfl)) (dl_at t_X3_showOf 2 rfl) (cat24 (st := []) (Nat.le_of_ble_eq_true rfl)) (Nat.le_of_ble_eq_true rfl) (Nat.le_of_ble_eq_true rfl) fun v4 g4 => ?_
  refine g_ifeq (pc := 7) X (r32_z g4) (off := 5) (tgt := 12) rfl (dl_at t_X3_showOf 3 rfl) (fun _ => ?_) (fun _ => ?_)
  · refine g_aload_n (pc := 12) X (j := 0) (i := 0) (q := 0) (x := a0) rfl rfl (dl_at t_X3_showOf 6 rfl) ?_
    refine g_ldcSw (pc := 13) X (index := 313) (id := (-61)) 59 rfl rfl (dl_at t_X3_showOf 7 rfl) ?_
    refine r_callRz (pc := 16) X (fun _ hv => s_X2_isName k4 hv) cw_code q1766 q356 (in_Vk X (As := [rv D (-61)]) kX2 k4 (Or.inr ⟨_, nw_in q1964 rfl⟩) q1765 qs15 cw_code q1766 ⟨by decide, by decide⟩ rfl (dl_at t_X3_showOf 8 rfl)) (dl_at t_X3_showOf 8 rfl) (cat24 (st := []) (Nat.le_of_ble_eq_true rfl)) (Nat.le_of_ble_eq_true rfl) (Nat.le_of_ble_eq_true rfl) fun v16 g16 => ?_
    refine g_ifeq (pc := 19) X (r32_z g16) (off := 5) (tgt := 24) rfl (dl_at t_X3_showOf 9 rfl) (fun _ => ?_) (fun _ => ?_)
    · refine g_aload_n (pc := 24) X (j := 0) (i := 0) (q := 0) (x := a0) rfl rfl (dl_at t_X3_showOf 12 rfl) ?_
      refine g_ldcS (pc := 25) X (index := 255) (id := (-34)) 32 rfl rfl (dl_at t_X3_showOf 13 rfl) ?_
      refine r_callRz (pc := 27) X (fun _ hv => s_X2_isName k4 hv) cw_code q1766 q356 (in_Vk X (As := [rv D (-34)]) kX2 k4 (Or.inr ⟨_, nw_in q1964 rfl⟩) q1765 qs15 cw_code q1766 ⟨by decide, by decide⟩ rfl (dl_at t_X3_showOf 14 rfl)) (dl_at t_X3_showOf 14 rfl) (cat24 (st := []) (Nat.le_of_ble_eq_true rfl)) (Nat.le_of_ble_eq_true rfl) (Nat.le_of_ble_eq_true rfl) fun v27 g27 => ?_
      refine g_ifeq (pc := 30) X (r32_z g27) (off := 5) (tgt := 35) rfl (dl_at t_X3_showOf 15 rfl) (fun _ => ?_) (fun _ => ?_)
      · refine g_aload_n (pc := 35) X (j := 0) (i := 0) (q := 0) (x := a0) rfl rfl (dl_at t_X3_showOf 18 rfl) ?_
        refine g_ldcSw (pc := 36) X (index := 315) (id := (-62)) 60 rfl rfl (dl_at t_X3_showOf 19 rfl) ?_
        refine r_callRz (pc := 39) X (fun _ hv => s_X2_isName k4 hv) cw_code q1766 q356 (in_Vk X (As := [rv D (-62)]) kX2 k4 (Or.inr ⟨_, nw_in q1964 rfl⟩) q1765 qs15 cw_code q1766 ⟨by decide, by decide⟩ rfl (dl_at t_X3_showOf 20 rfl)) (dl_at t_X3_showOf 20 rfl) (cat24 (st := []) (Nat.le_of_ble_eq_true rfl)) (Nat.le_of_ble_eq_true rfl) (Nat.le_of_ble_eq_true rfl) fun v39 g39 => ?_
        refine g_ifeq (pc := 42) X (r32_z g39) (off := 5) (tgt := 47) rfl (dl_at t_X3_showOf 21 rfl) (fun _ => ?_) (fun _ => ?_)
        · refine g_aload_n (pc := 47) X (j := 0) (i := 0) (q := 0) (x := a0) rfl rfl (dl_at t_X3_showOf 24 rfl) ?_
          refine g_ldcSw (pc := 48) X (index := 317) (id := (-63)) 61 rfl rfl (dl_at t_X3_showOf 25 rfl) ?_
          refine r_callRz (pc := 51) X (fun _ hv => s_X2_isName k4 hv) cw_code q1766 q356 (in_Vk X (As := [rv D (-63)]) kX2 k4 (Or.inr ⟨_, nw_in q1964 rfl⟩) q1765 qs15 cw_code q1766 ⟨by decide, by decide⟩ rfl (dl_at t_X3_showOf 26 rfl)) (dl_at t_X3_showOf 26 rfl) (cat24 (st := []) (Nat.le_of_ble_eq_true rfl)) (Nat.le_of_ble_eq_true rfl) (Nat.le_of_ble_eq_true rfl) fun v51 g51 => ?_
          refine g_ifeq (pc := 54) X (r32_z g51) (off := 5) (tgt := 59) rfl (dl_at t_X3_showOf 27 rfl) (fun _ => ?_) (fun _ => ?_)
          · refine g_aload_n (pc := 59) X (j := 0) (i := 0) (q := 0) (x := a0) rfl rfl (dl_at t_X3_showOf 30 rfl) ?_
            refine g_ldcSw (pc := 60) X (index := 319) (id := (-64)) 62 rfl rfl (dl_at t_X3_showOf 31 rfl) ?_
            refine r_callRz (pc := 63) X (fun _ hv => s_X2_isName k4 hv) cw_code q1766 q356 (in_Vk X (As := [rv D (-64)]) kX2 k4 (Or.inr ⟨_, nw_in q1964 rfl⟩) q1765 qs15 cw_code q1766 ⟨by decide, by decide⟩ rfl (dl_at t_X3_showOf 32 rfl)) (dl_at t_X3_showOf 32 rfl) (cat24 (st := []) (Nat.le_of_ble_eq_true rfl)) (Nat.le_of_ble_eq_true rfl) (Nat.le_of_ble_eq_true rfl) fun v63 g63 => ?_
            refine g_ifeq (pc := 66) X (r32_z g63) (off := 5) (tgt := 71) rfl (dl_at t_X3_showOf 33 rfl) (fun _ => ?_) (fun _ => ?_)
            · refine g_aload_n (pc := 71) X (j := 0) (i := 0) (q := 0) (x := a0) rfl rfl (dl_at t_X3_showOf 36 rfl) ?_
              refine g_ldcSw (pc := 72) X (index := 321) (id := (-65)) 63 rfl rfl (dl_at t_X3_showOf 37 rfl) ?_
              refine r_callRz (pc := 75) X (fun _ hv => s_X2_isName k4 hv) cw_code q1766 q356 (in_Vk X (As := [rv D (-65)]) kX2 k4 (Or.inr ⟨_, nw_in q1964 rfl⟩) q1765 qs15 cw_code q1766 ⟨by decide, by decide⟩ rfl (dl_at t_X3_showOf 38 rfl)) (dl_at t_X3_showOf 38 rfl) (cat24 (st := []) (Nat.le_of_ble_eq_true rfl)) (Nat.le_of_ble_eq_true rfl) (Nat.le_of_ble_eq_true rfl) fun v75 g75 => ?_
              refine g_ifeq (pc := 78) X (r32_z g75) (off := 6) (tgt := 84) rfl (dl_at t_X3_showOf 39 rfl) (fun _ => ?_) (fun _ => ?_)
              · refine g_aload_n (pc := 84) X (j := 0) (i := 0) (q := 0) (x := a0) rfl rfl (dl_at t_X3_showOf 42 rfl) ?_
                refine g_ldcSw (pc := 85) X (index := 323) (id := (-66)) 64 rfl rfl (dl_at t_X3_showOf 43 rfl) ?_
                refine r_callRz (pc := 88) X (fun _ hv => s_X2_isName k4 hv) cw_code q1766 q356 (in_Vk X (As := [rv D (-66)]) kX2 k4 (Or.inr ⟨_, nw_in q1964 rfl⟩) q1765 qs15 cw_code q1766 ⟨by decide, by decide⟩ rfl (dl_at t_X3_showOf 44 rfl)) (dl_at t_X3_showOf 44 rfl) (cat24 (st := []) (Nat.le_of_ble_eq_true rfl)) (Nat.le_of_ble_eq_true rfl) (Nat.le_of_ble_eq_true rfl) fun v88 g88 => ?_
                refine g_ifeq (pc := 91) X (r32_z g88) (off := 6) (tgt := 97) rfl (dl_at t_X3_showOf 45 rfl) (fun _ => ?_) (fun _ => ?_)
                · refine g_aload_n (pc := 97) X (j := 0) (i := 0) (q := 0) (x := a0) rfl rfl (dl_at t_X3_showOf 48 rfl) ?_
                  refine g_ldcSw (pc := 98) X (index := 325) (id := (-67)) 65 rfl rfl (dl_at t_X3_showOf 49 rfl) ?_
                  refine r_callRz (pc := 101) X (fun _ hv => s_X2_isName k4 hv) cw_code q1766 q356 (in_Vk X (As := [rv D (-67)]) kX2 k4 (Or.inr ⟨_, nw_in q1964 rfl⟩) q1765 qs15 cw_code q1766 ⟨by decide, by decide⟩ rfl (dl_at t_X3_showOf 50 rfl)) (dl_at t_X3_showOf 50 rfl) (cat24 (st := []) (Nat.le_of_ble_eq_true rfl)) (Nat.le_of_ble_eq_true rfl) (Nat.le_of_ble_eq_true rfl) fun v101 g101 => ?_
                  refine g_ifeq (pc := 104) X (r32_z g101) (off := 6) (tgt := 110) rfl (dl_at t_X3_showOf 51 rfl) (fun _ => ?_) (fun _ => ?_)
                  · refine g_aload_n (pc := 110) X (j := 0) (i := 0) (q := 0) (x := a0) rfl rfl (dl_at t_X3_showOf 54 rfl) ?_
                    refine g_ldcSw (pc := 111) X (index := 327) (id := (-68)) 66 rfl rfl (dl_at t_X3_showOf 55 rfl) ?_
                    refine r_callRz (pc := 114) X (fun _ hv => s_X2_isName k4 hv) cw_code q1766 q356 (in_Vk X (As := [rv D (-68)]) kX2 k4 (Or.inr ⟨_, nw_in q1964 rfl⟩) q1765 qs15 cw_code q1766 ⟨by decide, by decide⟩ rfl (dl_at t_X3_showOf 56 rfl)) (dl_at t_X3_showOf 56 rfl) (cat24 (st := []) (Nat.le_of_ble_eq_true rfl)) (Nat.le_of_ble_eq_true rfl) (Nat.le_of_ble_eq_true rfl) fun v114 g114 => ?_
                    refine g_ifeq (pc := 117) X (r32_z g114) (off := 6) (tgt := 123) rfl (dl_at t_X3_showOf 57 rfl) (fun _ => ?_) (fun _ => ?_)
                    · refine g_aload_n (pc := 123) X (j := 0) (i := 0) (q := 0) (x := a0) rfl rfl (dl_at t_X3_showOf 60 rfl) ?_
                      refine g_ldcSw (pc := 124) X (index := 329) (id := (-69)) 67 rfl rfl (dl_at t_X3_showOf 61 rfl) ?_
                      refine r_callRz (pc := 127) X (fun _ hv => s_X2_isName k4 hv) cw_code q1766 q356 (in_Vk X (As := [rv D (-69)]) kX2 k4 (Or.inr ⟨_, nw_in q1964 rfl⟩) q1765 qs15 cw_code q1766 ⟨by decide, by decide⟩ rfl (dl_at t_X3_showOf 62 rfl)) (dl_at t_X3_showOf 62 rfl) (cat24 (st := []) (Nat.le_of_ble_eq_true rfl)) (Nat.le_of_ble_eq_true rfl) (Nat.le_of_ble_eq_true rfl) fun v127 g127 => ?_
                      refine g_ifeq (pc := 130) X (r32_z g127) (off := 6) (tgt := 136) rfl (dl_at t_X3_showOf 63 rfl) (fun _ => ?_) (fun _ => ?_)
                      · refine g_aload_n (pc := 136) X (j := 0) (i := 0) (q := 0) (x := a0) rfl rfl (dl_at t_X3_showOf 66 rfl) ?_
                        refine g_ldcSw (pc := 137) X (index := 331) (id := (-70)) 68 rfl rfl (dl_at t_X3_showOf 67 rfl) ?_
                        refine r_callRz (pc := 140) X (fun _ hv => s_X2_isName k4 hv) cw_code q1766 q356 (in_Vk X (As := [rv D (-70)]) kX2 k4 (Or.inr ⟨_, nw_in q1964 rfl⟩) q1765 qs15 cw_code q1766 ⟨by decide, by decide⟩ rfl (dl_at t_X3_showOf 68 rfl)) (dl_at t_X3_showOf 68 rfl) (cat24 (st := []) (Nat.le_of_ble_eq_true rfl)) (Nat.le_of_ble_eq_true rfl) (Nat.le_of_ble_eq_true rfl) fun v140 g140 => ?_
                        refine g_ifeq (pc := 143) X (r32_z g140) (off := 8) (tgt := 151) rfl (dl_at t_X3_showOf 69 rfl) (fun _ => ?_) (fun _ => ?_)
                        · refine g_iconst (pc := 151) X (n := (-1)) (dl_at t_X3_showOf 72 rfl) ?_
                          exact g_iret (pc := 152) X (r32_c rfl) rfl rfl (dl_at t_X3_showOf 73 rfl)
                        refine g_bipush (pc := 146) X (n := 11) rfl (dl_at t_X3_showOf 70 rfl) ?_
                        refine g_goto (pc := 148) X (off := 4) (tgt := 152) rfl (dl_at t_X3_showOf 71 rfl) ?_
                        exact g_iret (pc := 152) X (r32_c rfl) rfl rfl (dl_at t_X3_showOf 73 rfl)
                      refine g_bipush (pc := 133) X (n := 10) rfl (dl_at t_X3_showOf 64 rfl) ?_
                      exact g_iret (pc := 135) X (r32_c rfl) rfl rfl (dl_at t_X3_showOf 65 rfl)
                    refine g_bipush (pc := 120) X (n := 9) rfl (dl_at t_X3_showOf 58 rfl) ?_
                    exact g_iret (pc := 122) X (r32_c rfl) rfl rfl (dl_at t_X3_showOf 59 rfl)
                  refine g_bipush (pc := 107) X (n := 8) rfl (dl_at t_X3_showOf 52 rfl) ?_
                  exact g_iret (pc := 109) X (r32_c rfl) rfl rfl (dl_at t_X3_showOf 53 rfl)
                refine g_bipush (pc := 94) X (n := 7) rfl (dl_at t_X3_showOf 46 rfl) ?_
                exact g_iret (pc := 96) X (r32_c rfl) rfl rfl (dl_at t_X3_showOf 47 rfl)
              refine g_bipush (pc := 81) X (n := 6) rfl (dl_at t_X3_showOf 40 rfl) ?_
              exact g_iret (pc := 83) X (r32_c rfl) rfl rfl (dl_at t_X3_showOf 41 rfl)
            refine g_iconst (pc := 69) X (n := 5) (dl_at t_X3_showOf 34 rfl) ?_
            exact g_iret (pc := 70) X (r32_c rfl) rfl rfl (dl_at t_X3_showOf 35 rfl)
          refine g_iconst (pc := 57) X (n := 4) (dl_at t_X3_showOf 28 rfl) ?_
          exact g_iret (pc := 58) X (r32_c rfl) rfl rfl (dl_at t_X3_showOf 29 rfl)
        refine g_iconst (pc := 45) X (n := 3) (dl_at t_X3_showOf 22 rfl) ?_
        exact g_iret (pc := 46) X (r32_c rfl) rfl rfl (dl_at t_X3_showOf 23 rfl)
      refine g_iconst (pc := 33) X (n := 2) (dl_at t_X3_showOf 16 rfl) ?_
      exact g_iret (pc := 34) X (r32_c rfl) rfl rfl (dl_at t_X3_showOf 17 rfl)
    refine g_iconst (pc := 22) X (n := 1) (dl_at t_X3_showOf 10 rfl) ?_
    exact g_iret (pc := 23) X (r32_c rfl) rfl rfl (dl_at t_X3_showOf 11 rfl)
  refine g_iconst (pc := 10) X (n := 0) (dl_at t_X3_showOf 4 rfl) ?_
  exact g_iret (pc := 11) X (r32_c rfl) rfl rfl (dl_at t_X3_showOf 5 rfl)
def k_X3_wordOf : List (Nat × Instr × Nat) := [(0, .iload_n 0, 1), (36, .aload_n 1, 1), (37, .invokestatic 296, 3), (40, .ireturn, 1), (41, .aload_n 1, 1), (42, .ldc_w 299, 3), (45, .invokevirtual 128, 3), (48, .ifCond .eq 7, 3), (51, .iconst 0, 1), (52, .goto 46, 3), (55, .aload_n 1, 1), (56, .ldc_w 268, 3), (59, .invokevirtual 128, 3), (62, .ifCond .eq 7, 3), (65, .iconst 1, 1), (66, .goto 32, 3), (69, .aload_n 1, 1), (70, .ldc_w 270, 3), (73, .invokevirtual 128, 3), (76, .ifCond .eq 7, 3), (79, .iconst 2, 1), (80, .goto 18, 3), (83, .aload_n 1, 1), (84, .ldc_w 301, 3), (87, .invokevirtual 128, 3), (90, .ifCond .eq 7, 3), (93, .iconst 3, 1), (94, .goto 4, 3), (97, .iconst (-1), 1), (98, .ireturn, 1), (99, .aload_n 1, 1), (100, .ldc_w 303, 3), (103, .invokevirtual 128, 3), (106, .ifCond .eq 7, 3), (109, .iconst 0, 1), (110, .goto 32, 3), (113, .aload_n 1, 1), (114, .ldc_w 305, 3), (117, .invokevirtual 128, 3), (120, .ifCond .eq 7, 3), (123, .iconst 1, 1), (124, .goto 18, 3), (127, .aload_n 1, 1), (128, .ldc_w 307, 3), (131, .invokevirtual 128, 3), (134, .ifCond .eq 7, 3), (137, .iconst 2, 1), (138, .goto 4, 3), (141, .iconst (-1), 1), (142, .ireturn, 1), (143, .aload_n 1, 1), (144, .ldc 164, 2), (146, .invokevirtual 128, 3), (149, .ifCond .eq 7, 3), (152, .iconst 0, 1), (153, .goto 18, 3), (156, .aload_n 1, 1), (157, .ldc_w 309, 3), (160, .invokevirtual 128, 3), (163, .ifCond .eq 7, 3), (166, .iconst 1, 1), (167, .goto 4, 3), (170, .iconst (-1), 1), (171, .ireturn, 1)]
theorem t_X3_wordOf : ∀ q ∈ k_X3_wordOf, decode cX3_wordOf q.1 = .ok q.2 := dl_all (by decide +kernel)
theorem dS_X3_wordOf_1 : decode cX3_wordOf 1 = .ok (.lookupswitch 142 #[(0, 35), (8, 40), (18, 98)], 35) := by decide +kernel
noncomputable def m_X3_wordOf (a0 a1 : Int) (h : Hp) : Option (Int) :=
  if a0 = 0 then ((m_X3_showOf a1 h).bind fun v37 =>
  some v37)
  else (if a0 = 8 then (gd (h a1 (-2) = 32) ((m_X2_isName a1 (-54) h).bind fun v45 =>
  if v45 = 0 then ((m_X2_isName a1 (-39) h).bind fun v59 =>
  if v59 = 0 then ((m_X2_isName a1 (-40) h).bind fun v73 =>
  if v73 = 0 then ((m_X2_isName a1 (-55) h).bind fun v87 =>
  if v87 = 0 then (some (-1))
  else (some 3))
  else (some 2))
  else (some 1))
  else (some 0)))
  else (if a0 = 18 then (gd (h a1 (-2) = 32) ((m_X2_isName a1 (-56) h).bind fun v103 =>
  if v103 = 0 then ((m_X2_isName a1 (-57) h).bind fun v117 =>
  if v117 = 0 then ((m_X2_isName a1 (-58) h).bind fun v131 =>
  if v131 = 0 then (some (-1))
  else (some 2))
  else (some 1))
  else (some 0)))
  else (gd (h a1 (-2) = 32) ((m_X2_isName a1 (-21) h).bind fun v146 =>
  if v146 = 0 then ((m_X2_isName a1 (-59) h).bind fun v160 =>
  if v160 = 0 then (some (-1))
  else (some 1))
  else (some 0)))))
theorem s_X3_wordOf {l : Launch} [NoTr l] {D : SD} {a0 a1 : Int} {h : Hp} (r0 : r32 a0) {r : Int} (hm : m_X3_wordOf a0 a1 h = some r) : Sim l D yX3_wordOf (Cond.code yX3_wordOf cX3_wordOf 2 (Option.some Jvm.ClassFile.FieldType.int)) 6 274 [iv a0, rv D a1] h 1 ((0, r), h) := by
  refine Sim.of (fin := fun (v : Int) => ((0, v), h)) (lsE := [(0, iv a0), (1, rv D a1)]) hm rfl cwS_code (la_i (la_r la_n)) (ll_i (ll_r ll_n)) ?_
  intro p e s m below meth c X hcw hmm hcc hnm hname
  unfold m_X3_wordOf
  refine g_iload_n (pc := 0) X (j := 0) (i := 0) (q := 0) (x := a0) rfl rfl (dl_at t_X3_wordOf 0 rfl) ?_
  refine g_case (fun w1 => ?_) (fun nw1 => ?_)
  · refine g_look (pc := 1) X (off := 35) (tgt := 36) r0 rfl (by rw [w1]; rfl) rfl dS_X3_wordOf_1 ?_
    refine g_aload_n (pc := 36) X (j := 1) (i := 1) (q := 1) (x := a1) rfl rfl (dl_at t_X3_wordOf 1 rfl) ?_
    refine r_callRi (pc := 37) X (fun _ hv => s_X3_showOf hv) cw_code q2102 q357 (in_Sc X (As := [rv D a1]) (Or.inl q2100) q2101 q357 q2102 ⟨by decide, by decide⟩ rfl (dl_at t_X3_wordOf 2 rfl)) (dl_at t_X3_wordOf 2 rfl) (cat24 (st := []) (Nat.le_of_ble_eq_true rfl)) (Nat.le_of_ble_eq_true rfl) (Nat.le_of_ble_eq_true rfl) fun v37 g37 => ?_
    exact g_iret (pc := 40) X g37 rfl rfl (dl_at t_X3_wordOf 3 rfl)
  refine g_case (fun w1_1 => ?_) (fun nw1_1 => ?_)
  · refine g_look (pc := 1) X (off := 40) (tgt := 41) r0 rfl (by rw [w1_1]; rfl) rfl dS_X3_wordOf_1 ?_
    refine g_aload_n (pc := 41) X (j := 1) (i := 1) (q := 1) (x := a1) rfl rfl (dl_at t_X3_wordOf 4 rfl) ?_
    refine g_ldcSw (pc := 42) X (index := 299) (id := (-54)) 52 rfl rfl (dl_at t_X3_wordOf 5 rfl) ?_
    refine g_gd fun k45 => ?_
    refine r_callRz (pc := 45) X (fun _ hv => s_X2_isName k45 hv) cw_code q1766 q356 (in_Vk X (As := [rv D (-54)]) kX2 k45 (Or.inr ⟨_, nw_in q1964 rfl⟩) q1765 qs15 cw_code q1766 ⟨by decide, by decide⟩ rfl (dl_at t_X3_wordOf 6 rfl)) (dl_at t_X3_wordOf 6 rfl) (cat24 (st := []) (Nat.le_of_ble_eq_true rfl)) (Nat.le_of_ble_eq_true rfl) (Nat.le_of_ble_eq_true rfl) fun v45 g45 => ?_
    refine g_ifeq (pc := 48) X (r32_z g45) (off := 7) (tgt := 55) rfl (dl_at t_X3_wordOf 7 rfl) (fun _ => ?_) (fun _ => ?_)
    · refine g_aload_n (pc := 55) X (j := 1) (i := 1) (q := 1) (x := a1) rfl rfl (dl_at t_X3_wordOf 10 rfl) ?_
      refine g_ldcSw (pc := 56) X (index := 268) (id := (-39)) 37 rfl rfl (dl_at t_X3_wordOf 11 rfl) ?_
      refine r_callRz (pc := 59) X (fun _ hv => s_X2_isName k45 hv) cw_code q1766 q356 (in_Vk X (As := [rv D (-39)]) kX2 k45 (Or.inr ⟨_, nw_in q1964 rfl⟩) q1765 qs15 cw_code q1766 ⟨by decide, by decide⟩ rfl (dl_at t_X3_wordOf 12 rfl)) (dl_at t_X3_wordOf 12 rfl) (cat24 (st := []) (Nat.le_of_ble_eq_true rfl)) (Nat.le_of_ble_eq_true rfl) (Nat.le_of_ble_eq_true rfl) fun v59 g59 => ?_
      refine g_ifeq (pc := 62) X (r32_z g59) (off := 7) (tgt := 69) rfl (dl_at t_X3_wordOf 13 rfl) (fun _ => ?_) (fun _ => ?_)
      · refine g_aload_n (pc := 69) X (j := 1) (i := 1) (q := 1) (x := a1) rfl rfl (dl_at t_X3_wordOf 16 rfl) ?_
        refine g_ldcSw (pc := 70) X (index := 270) (id := (-40)) 38 rfl rfl (dl_at t_X3_wordOf 17 rfl) ?_
        refine r_callRz (pc := 73) X (fun _ hv => s_X2_isName k45 hv) cw_code q1766 q356 (in_Vk X (As := [rv D (-40)]) kX2 k45 (Or.inr ⟨_, nw_in q1964 rfl⟩) q1765 qs15 cw_code q1766 ⟨by decide, by decide⟩ rfl (dl_at t_X3_wordOf 18 rfl)) (dl_at t_X3_wordOf 18 rfl) (cat24 (st := []) (Nat.le_of_ble_eq_true rfl)) (Nat.le_of_ble_eq_true rfl) (Nat.le_of_ble_eq_true rfl) fun v73 g73 => ?_
        refine g_ifeq (pc := 76) X (r32_z g73) (off := 7) (tgt := 83) rfl (dl_at t_X3_wordOf 19 rfl) (fun _ => ?_) (fun _ => ?_)
        · refine g_aload_n (pc := 83) X (j := 1) (i := 1) (q := 1) (x := a1) rfl rfl (dl_at t_X3_wordOf 22 rfl) ?_
          refine g_ldcSw (pc := 84) X (index := 301) (id := (-55)) 53 rfl rfl (dl_at t_X3_wordOf 23 rfl) ?_
          refine r_callRz (pc := 87) X (fun _ hv => s_X2_isName k45 hv) cw_code q1766 q356 (in_Vk X (As := [rv D (-55)]) kX2 k45 (Or.inr ⟨_, nw_in q1964 rfl⟩) q1765 qs15 cw_code q1766 ⟨by decide, by decide⟩ rfl (dl_at t_X3_wordOf 24 rfl)) (dl_at t_X3_wordOf 24 rfl) (cat24 (st := []) (Nat.le_of_ble_eq_true rfl)) (Nat.le_of_ble_eq_true rfl) (Nat.le_of_ble_eq_true rfl) fun v87 g87 => ?_
          refine g_ifeq (pc := 90) X (r32_z g87) (off := 7) (tgt := 97) rfl (dl_at t_X3_wordOf 25 rfl) (fun _ => ?_) (fun _ => ?_)
          · refine g_iconst (pc := 97) X (n := (-1)) (dl_at t_X3_wordOf 28 rfl) ?_
            exact g_iret (pc := 98) X (r32_c rfl) rfl rfl (dl_at t_X3_wordOf 29 rfl)
          refine g_iconst (pc := 93) X (n := 3) (dl_at t_X3_wordOf 26 rfl) ?_
          refine g_goto (pc := 94) X (off := 4) (tgt := 98) rfl (dl_at t_X3_wordOf 27 rfl) ?_
          exact g_iret (pc := 98) X (r32_c rfl) rfl rfl (dl_at t_X3_wordOf 29 rfl)
        refine g_iconst (pc := 79) X (n := 2) (dl_at t_X3_wordOf 20 rfl) ?_
        refine g_goto (pc := 80) X (off := 18) (tgt := 98) rfl (dl_at t_X3_wordOf 21 rfl) ?_
        exact g_iret (pc := 98) X (r32_c rfl) rfl rfl (dl_at t_X3_wordOf 29 rfl)
      refine g_iconst (pc := 65) X (n := 1) (dl_at t_X3_wordOf 14 rfl) ?_
      refine g_goto (pc := 66) X (off := 32) (tgt := 98) rfl (dl_at t_X3_wordOf 15 rfl) ?_
      exact g_iret (pc := 98) X (r32_c rfl) rfl rfl (dl_at t_X3_wordOf 29 rfl)
    refine g_iconst (pc := 51) X (n := 0) (dl_at t_X3_wordOf 8 rfl) ?_
    refine g_goto (pc := 52) X (off := 46) (tgt := 98) rfl (dl_at t_X3_wordOf 9 rfl) ?_
    exact g_iret (pc := 98) X (r32_c rfl) rfl rfl (dl_at t_X3_wordOf 29 rfl)
  refine g_case (fun w1_2 => ?_) (fun nw1_2 => ?_)
  · refine g_look (pc := 1) X (off := 98) (tgt := 99) r0 rfl (by rw [w1_2]; rfl) rfl dS_X3_wordOf_1 ?_
    refine g_aload_n (pc := 99) X (j := 1) (i := 1) (q := 1) (x := a1) rfl rfl (dl_at t_X3_wordOf 30 rfl) ?_
    refine g_ldcSw (pc := 100) X (index := 303) (id := (-56)) 54 rfl rfl (dl_at t_X3_wordOf 31 rfl) ?_
    refine g_gd fun k103 => ?_
    refine r_callRz (pc := 103) X (fun _ hv => s_X2_isName k103 hv) cw_code q1766 q356 (in_Vk X (As := [rv D (-56)]) kX2 k103 (Or.inr ⟨_, nw_in q1964 rfl⟩) q1765 qs15 cw_code q1766 ⟨by decide, by decide⟩ rfl (dl_at t_X3_wordOf 32 rfl)) (dl_at t_X3_wordOf 32 rfl) (cat24 (st := []) (Nat.le_of_ble_eq_true rfl)) (Nat.le_of_ble_eq_true rfl) (Nat.le_of_ble_eq_true rfl) fun v103 g103 => ?_
    refine g_ifeq (pc := 106) X (r32_z g103) (off := 7) (tgt := 113) rfl (dl_at t_X3_wordOf 33 rfl) (fun _ => ?_) (fun _ => ?_)
    · refine g_aload_n (pc := 113) X (j := 1) (i := 1) (q := 1) (x := a1) rfl rfl (dl_at t_X3_wordOf 36 rfl) ?_
      refine g_ldcSw (pc := 114) X (index := 305) (id := (-57)) 55 rfl rfl (dl_at t_X3_wordOf 37 rfl) ?_
      refine r_callRz (pc := 117) X (fun _ hv => s_X2_isName k103 hv) cw_code q1766 q356 (in_Vk X (As := [rv D (-57)]) kX2 k103 (Or.inr ⟨_, nw_in q1964 rfl⟩) q1765 qs15 cw_code q1766 ⟨by decide, by decide⟩ rfl (dl_at t_X3_wordOf 38 rfl)) (dl_at t_X3_wordOf 38 rfl) (cat24 (st := []) (Nat.le_of_ble_eq_true rfl)) (Nat.le_of_ble_eq_true rfl) (Nat.le_of_ble_eq_true rfl) fun v117 g117 => ?_
      refine g_ifeq (pc := 120) X (r32_z g117) (off := 7) (tgt := 127) rfl (dl_at t_X3_wordOf 39 rfl) (fun _ => ?_) (fun _ => ?_)
      · refine g_aload_n (pc := 127) X (j := 1) (i := 1) (q := 1) (x := a1) rfl rfl (dl_at t_X3_wordOf 42 rfl) ?_
        refine g_ldcSw (pc := 128) X (index := 307) (id := (-58)) 56 rfl rfl (dl_at t_X3_wordOf 43 rfl) ?_
        refine r_callRz (pc := 131) X (fun _ hv => s_X2_isName k103 hv) cw_code q1766 q356 (in_Vk X (As := [rv D (-58)]) kX2 k103 (Or.inr ⟨_, nw_in q1964 rfl⟩) q1765 qs15 cw_code q1766 ⟨by decide, by decide⟩ rfl (dl_at t_X3_wordOf 44 rfl)) (dl_at t_X3_wordOf 44 rfl) (cat24 (st := []) (Nat.le_of_ble_eq_true rfl)) (Nat.le_of_ble_eq_true rfl) (Nat.le_of_ble_eq_true rfl) fun v131 g131 => ?_
        refine g_ifeq (pc := 134) X (r32_z g131) (off := 7) (tgt := 141) rfl (dl_at t_X3_wordOf 45 rfl) (fun _ => ?_) (fun _ => ?_)
        · refine g_iconst (pc := 141) X (n := (-1)) (dl_at t_X3_wordOf 48 rfl) ?_
          exact g_iret (pc := 142) X (r32_c rfl) rfl rfl (dl_at t_X3_wordOf 49 rfl)
        refine g_iconst (pc := 137) X (n := 2) (dl_at t_X3_wordOf 46 rfl) ?_
        refine g_goto (pc := 138) X (off := 4) (tgt := 142) rfl (dl_at t_X3_wordOf 47 rfl) ?_
        exact g_iret (pc := 142) X (r32_c rfl) rfl rfl (dl_at t_X3_wordOf 49 rfl)
      refine g_iconst (pc := 123) X (n := 1) (dl_at t_X3_wordOf 40 rfl) ?_
      refine g_goto (pc := 124) X (off := 18) (tgt := 142) rfl (dl_at t_X3_wordOf 41 rfl) ?_
      exact g_iret (pc := 142) X (r32_c rfl) rfl rfl (dl_at t_X3_wordOf 49 rfl)
    refine g_iconst (pc := 109) X (n := 0) (dl_at t_X3_wordOf 34 rfl) ?_
    refine g_goto (pc := 110) X (off := 32) (tgt := 142) rfl (dl_at t_X3_wordOf 35 rfl) ?_
    exact g_iret (pc := 142) X (r32_c rfl) rfl rfl (dl_at t_X3_wordOf 49 rfl)
  refine g_look (pc := 1) X (off := 142) (tgt := 143) r0 rfl (by simp [Op.lookupswitch.offset_cons, Op.lookupswitch.offset_nil, nw1, nw1_1, nw1_2, Ne.symm nw1, Ne.symm nw1_1, Ne.symm nw1_2]) rfl dS_X3_wordOf_1 ?_
  refine g_aload_n (pc := 143) X (j := 1) (i := 1) (q := 1) (x := a1) rfl rfl (dl_at t_X3_wordOf 50 rfl) ?_
  refine g_ldcS (pc := 144) X (index := 164) (id := (-21)) 19 rfl rfl (dl_at t_X3_wordOf 51 rfl) ?_
  refine g_gd fun k146 => ?_
  refine r_callRz (pc := 146) X (fun _ hv => s_X2_isName k146 hv) cw_code q1766 q356 (in_Vk X (As := [rv D (-21)]) kX2 k146 (Or.inr ⟨_, nw_in q1964 rfl⟩) q1765 qs15 cw_code q1766 ⟨by decide, by decide⟩ rfl (dl_at t_X3_wordOf 52 rfl)) (dl_at t_X3_wordOf 52 rfl) (cat24 (st := []) (Nat.le_of_ble_eq_true rfl)) (Nat.le_of_ble_eq_true rfl) (Nat.le_of_ble_eq_true rfl) fun v146 g146 => ?_
  refine g_ifeq (pc := 149) X (r32_z g146) (off := 7) (tgt := 156) rfl (dl_at t_X3_wordOf 53 rfl) (fun _ => ?_) (fun _ => ?_)
  · refine g_aload_n (pc := 156) X (j := 1) (i := 1) (q := 1) (x := a1) rfl rfl (dl_at t_X3_wordOf 56 rfl) ?_
    refine g_ldcSw (pc := 157) X (index := 309) (id := (-59)) 57 rfl rfl (dl_at t_X3_wordOf 57 rfl) ?_
    refine r_callRz (pc := 160) X (fun _ hv => s_X2_isName k146 hv) cw_code q1766 q356 (in_Vk X (As := [rv D (-59)]) kX2 k146 (Or.inr ⟨_, nw_in q1964 rfl⟩) q1765 qs15 cw_code q1766 ⟨by decide, by decide⟩ rfl (dl_at t_X3_wordOf 58 rfl)) (dl_at t_X3_wordOf 58 rfl) (cat24 (st := []) (Nat.le_of_ble_eq_true rfl)) (Nat.le_of_ble_eq_true rfl) (Nat.le_of_ble_eq_true rfl) fun v160 g160 => ?_
    refine g_ifeq (pc := 163) X (r32_z g160) (off := 7) (tgt := 170) rfl (dl_at t_X3_wordOf 59 rfl) (fun _ => ?_) (fun _ => ?_)
    · refine g_iconst (pc := 170) X (n := (-1)) (dl_at t_X3_wordOf 62 rfl) ?_
      exact g_iret (pc := 171) X (r32_c rfl) rfl rfl (dl_at t_X3_wordOf 63 rfl)
    refine g_iconst (pc := 166) X (n := 1) (dl_at t_X3_wordOf 60 rfl) ?_
    refine g_goto (pc := 167) X (off := 4) (tgt := 171) rfl (dl_at t_X3_wordOf 61 rfl) ?_
    exact g_iret (pc := 171) X (r32_c rfl) rfl rfl (dl_at t_X3_wordOf 63 rfl)
  refine g_iconst (pc := 152) X (n := 0) (dl_at t_X3_wordOf 54 rfl) ?_
  refine g_goto (pc := 153) X (off := 18) (tgt := 171) rfl (dl_at t_X3_wordOf 55 rfl) ?_
  exact g_iret (pc := 171) X (r32_c rfl) rfl rfl (dl_at t_X3_wordOf 63 rfl)
def k_X3_declaration : List (Nat × Instr × Nat) := [(0, .aload_n 1, 1), (1, .iconst 1, 1), (2, .invokevirtual 147, 3), (5, .aload_n 1, 1), (6, .invokestatic 233, 3), (9, .istore_n 2, 1), (10, .iload_n 2, 1), (11, .ifCond .lt 13, 3), (14, .aload_n 0, 1), (15, .getfield 94, 3), (18, .sipush 600, 3), (21, .if_icmp .ne 8, 3), (24, .aload_n 1, 1), (25, .invokevirtual 154, 3), (28, .athrow, 1), (29, .aload_n 0, 1), (30, .getfield 61, 3), (33, .aload_n 0, 1), (34, .getfield 94, 3), (37, .iload_n 2, 1), (38, .iastore, 1), (39, .aload_n 1, 1), (40, .invokevirtual 132, 3), (43, .aload_n 1, 1), (44, .bipush 58, 2), (46, .invokevirtual 140, 3), (49, .iload_n 2, 1), (148, .aload_n 0, 1), (149, .aload_n 1, 1), (150, .invokevirtual 236, 3), (153, .goto 176, 3), (156, .aload_n 0, 1), (157, .getfield 64, 3), (160, .aload_n 0, 1), (161, .getfield 94, 3), (164, .aload_n 1, 1), (165, .sipush 1000, 3), (168, .ldc 238, 2), (170, .invokevirtual 159, 3), (173, .iastore, 1), (174, .goto 155, 3), (177, .aload_n 0, 1), (178, .getfield 64, 3), (181, .aload_n 0, 1), (182, .getfield 94, 3), (185, .aload_n 1, 1), (186, .iconst 0, 1), (187, .ldc 239, 2), (189, .invokevirtual 159, 3), (192, .iastore, 1), (193, .goto 136, 3), (196, .aload_n 0, 1), (197, .getfield 64, 3), (200, .aload_n 0, 1), (201, .getfield 94, 3), (204, .aload_n 1, 1), (205, .iconst 1, 1), (206, .sipush 10000, 3), (209, .invokevirtual 159, 3), (212, .iastore, 1), (213, .goto 116, 3), (216, .aload_n 0, 1), (217, .getfield 64, 3), (220, .aload_n 0, 1), (221, .getfield 94, 3), (224, .aload_n 1, 1), (225, .iconst 1, 1), (226, .bipush 9, 2), (228, .invokevirtual 159, 3), (231, .iastore, 1), (232, .goto 97, 3), (235, .aload_n 0, 1), (236, .getfield 64, 3), (239, .aload_n 0, 1), (240, .getfield 94, 3), (243, .aload_n 1, 1), (244, .iconst 0, 1), (245, .bipush 9, 2), (247, .invokevirtual 159, 3), (250, .iastore, 1), (251, .goto 78, 3), (254, .aload_n 0, 1), (255, .getfield 64, 3), (258, .aload_n 0, 1), (259, .getfield 94, 3), (262, .aload_n 1, 1), (263, .iconst 0, 1), (264, .ldc 158, 2), (266, .invokevirtual 159, 3), (269, .iastore, 1), (270, .goto 59, 3), (273, .aload_n 0, 1), (274, .aload_n 1, 1), (275, .invokevirtual 240, 3), (278, .goto 51, 3), (281, .aload_n 0, 1), (282, .aload_n 1, 1), (283, .invokevirtual 243, 3), (286, .goto 43, 3), (289, .aload_n 1, 1), (290, .iconst 1, 1), (291, .invokevirtual 147, 3), (294, .aload_n 0, 1), (295, .getfield 64, 3), (298, .aload_n 0, 1), (299, .getfield 94, 3), (302, .iload_n 2, 1), (303, .aload_n 1, 1), (304, .invokestatic 246, 3), (307, .iastore, 1), (308, .aload_n 0, 1), (309, .getfield 64, 3), (312, .aload_n 0, 1), (313, .getfield 94, 3), (316, .iaload, 1), (317, .ifCond .ge 8, 3), (320, .aload_n 1, 1), (321, .invokevirtual 154, 3), (324, .athrow, 1), (325, .aload_n 1, 1), (326, .invokevirtual 132, 3), (329, .aload_n 1, 1), (330, .bipush 59, 2), (332, .invokevirtual 140, 3), (335, .aload_n 0, 1), (336, .dup, 1), (337, .getfield 94, 3), (340, .iconst 1, 1), (341, .iadd, 1), (342, .putfield 94, 3), (345, .return_, 1)]
theorem t_X3_declaration : ∀ q ∈ k_X3_declaration, decode cX3_declaration q.1 = .ok q.2 := dl_all (by decide +kernel)
theorem dS_X3_declaration_50 : decode cX3_declaration 50 = .ok (.tableswitch 239 1 21 #[98, 106, 127, 127, 127, 127, 127, 239, 239, 146, 166, 166, 239, 239, 223, 223, 231, 239, 185, 239, 204], 98) := by decide +kernel
noncomputable def m_X3_declaration_j329 (a1 a0 : Int) (h_329 : Hp) : Option ((Int × Int) × Hp) :=
  bT (m_X2_need a1 59 h_329) (fun _ h332 =>
  pt h332 a0 20 (w32 ((h332 a0 20) + 1)) fun h342 =>
  some ((0, 0), h342)) (fun a_ h_ => some ((1, a_), h_))
noncomputable def m_X3_declaration (a0 a1 : Int) (h : Hp) : Option ((Int × Int) × Hp) :=
  gd (h a1 (-2) = 32) (bT (m_X2_needKind a1 1 h) (fun _ h2 =>
  (m_X3_propertyOf a1 h2).bind fun v6 =>
  if v6 < 0 then (bW (m_X2_broken a1 h2) fun v25 h25 =>
  gd (0 < v25) (some ((1, v25), h25)))
  else (if (h2 a0 20) ≠ 600 then (gd (h2 (h2 a0 16) (-2) % 16 = 1 ∧ (0 : Int) ≤ (h2 a0 20) ∧ (h2 a0 20) < h2 (h2 a0 16) (-1)) (pt h2 (h2 a0 16) (h2 a0 20) v6 fun h38 =>
  (m_X2_next a1 h38).bind fun h40 =>
  bT (m_X2_need a1 58 h40) (fun _ h46 =>
  if v6 = 1 then (bT (m_X3_size a0 a1 h46) (fun _ h150 =>
  m_X3_declaration_j329 a1 a0 h150) (fun a_ h_ => some ((1, a_), h_)))
  else (if v6 = 2 then (bT (m_X2_needNumber a1 1000 200000 h46) (fun v170 h170 =>
  gd (h170 (h46 a0 17) (-2) % 16 = 1 ∧ (0 : Int) ≤ (h46 a0 20) ∧ (h46 a0 20) < h170 (h46 a0 17) (-1)) (pt h170 (h46 a0 17) (h46 a0 20) v170 fun h173 =>
  m_X3_declaration_j329 a1 a0 h173)) (fun a_ h_ => some ((1, a_), h_)))
  else (if v6 ∈ ([3, 4, 5, 6, 7] : List Int) then (bT (m_X2_needNumber a1 0 500000 h46) (fun v189 h189 =>
  gd (h189 (h46 a0 17) (-2) % 16 = 1 ∧ (0 : Int) ≤ (h46 a0 20) ∧ (h46 a0 20) < h189 (h46 a0 17) (-1)) (pt h189 (h46 a0 17) (h46 a0 20) v189 fun h192 =>
  m_X3_declaration_j329 a1 a0 h192)) (fun a_ h_ => some ((1, a_), h_)))
  else (if v6 = 10 then (bT (m_X2_needNumber a1 1 10000 h46) (fun v209 h209 =>
  gd (h209 (h46 a0 17) (-2) % 16 = 1 ∧ (0 : Int) ≤ (h46 a0 20) ∧ (h46 a0 20) < h209 (h46 a0 17) (-1)) (pt h209 (h46 a0 17) (h46 a0 20) v209 fun h212 =>
  m_X3_declaration_j329 a1 a0 h212)) (fun a_ h_ => some ((1, a_), h_)))
  else (if v6 ∈ ([11, 12] : List Int) then (bT (m_X2_needNumber a1 1 9 h46) (fun v228 h228 =>
  gd (h228 (h46 a0 17) (-2) % 16 = 1 ∧ (0 : Int) ≤ (h46 a0 20) ∧ (h46 a0 20) < h228 (h46 a0 17) (-1)) (pt h228 (h46 a0 17) (h46 a0 20) v228 fun h231 =>
  m_X3_declaration_j329 a1 a0 h231)) (fun a_ h_ => some ((1, a_), h_)))
  else (if v6 ∈ ([15, 16] : List Int) then (bT (m_X3_counter a0 a1 h46) (fun _ h275 =>
  m_X3_declaration_j329 a1 a0 h275) (fun a_ h_ => some ((1, a_), h_)))
  else (if v6 = 17 then (bT (m_X3_label a0 a1 h46) (fun _ h283 =>
  m_X3_declaration_j329 a1 a0 h283) (fun a_ h_ => some ((1, a_), h_)))
  else (if v6 = 19 then (bT (m_X2_needNumber a1 0 9 h46) (fun v247 h247 =>
  gd (h247 (h46 a0 17) (-2) % 16 = 1 ∧ (0 : Int) ≤ (h46 a0 20) ∧ (h46 a0 20) < h247 (h46 a0 17) (-1)) (pt h247 (h46 a0 17) (h46 a0 20) v247 fun h250 =>
  m_X3_declaration_j329 a1 a0 h250)) (fun a_ h_ => some ((1, a_), h_)))
  else (if v6 = 21 then (bT (m_X2_needNumber a1 0 1000000 h46) (fun v266 h266 =>
  gd (h266 (h46 a0 17) (-2) % 16 = 1 ∧ (0 : Int) ≤ (h46 a0 20) ∧ (h46 a0 20) < h266 (h46 a0 17) (-1)) (pt h266 (h46 a0 17) (h46 a0 20) v266 fun h269 =>
  m_X3_declaration_j329 a1 a0 h269)) (fun a_ h_ => some ((1, a_), h_)))
  else (bT (m_X2_needKind a1 1 h46) (fun _ h291 =>
  (m_X3_wordOf v6 a1 h291).bind fun v304 =>
  gd (h291 (h291 a0 17) (-2) % 16 = 1 ∧ (0 : Int) ≤ (h291 a0 20) ∧ (h291 a0 20) < h291 (h291 a0 17) (-1)) (pt h291 (h291 a0 17) (h291 a0 20) v304 fun h307 =>
  gd (h307 (h307 a0 17) (-2) % 16 = 1 ∧ (0 : Int) ≤ (h307 a0 20) ∧ (h307 a0 20) < h307 (h307 a0 17) (-1)) (if 0 ≤ (h307 (h307 a0 17) (h307 a0 20)) then ((m_X2_next a1 h307).bind fun h326 =>
  m_X3_declaration_j329 a1 a0 h326)
  else (bW (m_X2_broken a1 h307) fun v321 h321 =>
  gd (0 < v321) (some ((1, v321), h321)))))) (fun a_ h_ => some ((1, a_), h_)))))))))))) (fun a_ h_ => some ((1, a_), h_))))
  else (bW (m_X2_broken a1 h2) fun v25_1 h25_1 =>
  gd (0 < v25_1) (some ((1, v25_1), h25_1))))) (fun a_ h_ => some ((1, a_), h_)))
theorem s_X3_declaration {l : Launch} [NoTr l] {D : SD} {a0 a1 : Int} {h : Hp} (hk : h a0 (-2) = 48) {r : (Int × Int) × Hp} (hm : m_X3_declaration a0 a1 h = some r) : Sim l D yX3_declaration (Cond.code yX3_declaration cX3_declaration 3 (Option.none : Option Jvm.ClassFile.FieldType)) 13 486 [rv D a0, rv D a1] h 0 r := by
  refine Sim.of (fin := fun (v : (Int × Int) × Hp) => v) (lsE := [(0, rv D a0), (1, rv D a1)]) hm rfl cwS_code (la_r (la_r la_n)) (ll_r (ll_r ll_n)) ?_
  intro p e s m below meth c X hcw hmm hcc hnm hname
  have hno := noh hcw hnm hmm hcc
  unfold m_X3_declaration
  refine g_aload_n (pc := 0) X (j := 1) (i := 1) (q := 1) (x := a1) rfl rfl (dl_at t_X3_declaration 0 rfl) ?_
  refine g_iconst (pc := 1) X (n := 1) (dl_at t_X3_declaration 1 rfl) ?_
  refine g_gd fun k2 => ?_
  refine r_callTv (pc := 2) X (fun _ hv => s_X2_needKind k2 (r32_c rfl) hv) cw_code q1975 q356 (in_Vk X (As := [iv 1]) kX2 k2 (Or.inr ⟨_, nw_in q1972 rfl⟩) q1974 qs33 cw_code q1975 ⟨by decide, by decide⟩ rfl (dl_at t_X3_declaration 2 rfl)) (dl_at t_X3_declaration 2 rfl) (cat24 (st := []) (Nat.le_of_ble_eq_true rfl)) (Nat.le_of_ble_eq_true rfl) (Nat.le_of_ble_eq_true rfl) (fun v2 h2 E2 => ?_) (fun _ _ ha _ => gt_at fun Q hQ => gt_out (Q := Q) X rfl ha (hno _) _ Q rfl hQ)
  refine g_aload_n (pc := 5) X (j := 1) (i := 1) (q := 1) (x := a1) rfl rfl (dl_at t_X3_declaration 3 rfl) ?_
  refine r_callRi (pc := 6) X (fun _ hv => s_X3_propertyOf hv) cw_code q2059 q357 (in_Sc X (As := [rv D a1]) (Or.inl q2057) q2058 q357 q2059 ⟨by decide, by decide⟩ rfl (dl_at t_X3_declaration 4 rfl)) (dl_at t_X3_declaration 4 rfl) (cat24 (st := []) (Nat.le_of_ble_eq_true rfl)) (Nat.le_of_ble_eq_true rfl) (Nat.le_of_ble_eq_true rfl) fun v6 g6 => ?_
  refine g_istore_nN (pc := 9) X (j := 2) (i := 2) (x := v6) (b := 1) (w := rv D a1) (rest := [(0, rv D a0)]) rfl (Nat.le_of_ble_eq_true rfl) [1, 0] rfl (by decide) rv_cat rfl (dl_at t_X3_declaration 5 rfl) ?_
  refine g_iload_n (pc := 10) X (j := 2) (i := 2) (q := 0) (x := v6) rfl rfl (dl_at t_X3_declaration 6 rfl) ?_
  refine g_iflt (pc := 11) X g6 (off := 13) (tgt := 24) rfl (dl_at t_X3_declaration 7 rfl) (fun _ => ?_) (fun _ => ?_)
  · refine g_aload_n (pc := 24) X (j := 1) (i := 1) (q := 1) (x := a1) rfl rfl (dl_at t_X3_declaration 12 rfl) ?_
    have k25 := kx E2 (by decide) k2
    refine r_callWr (pc := 25) X (fun _ hv => s_X2_broken k25 hv) cw_code q1825 q356 (in_Vk X (As := []) kX2 k25 (Or.inr ⟨_, nw_in q1985 rfl⟩) q1824 qs16 cw_code q1825 ⟨by decide, by decide⟩ rfl (dl_at t_X3_declaration 13 rfl)) (dl_at t_X3_declaration 13 rfl) (cat24 (st := []) (Nat.le_of_ble_eq_true rfl)) (Nat.le_of_ble_eq_true rfl) (Nat.le_of_ble_eq_true rfl) fun v25 h25 E25 => ?_
    refine g_gd fun p28 => ?_
    refine g_athrow (pc := 28) X (Int.ne_of_gt p28) (dl_at t_X3_declaration 14 rfl) ?_
    exact gt_at fun Q hQ => gt_out (Q := Q) X rfl p28 (hno _) _ Q rfl hQ
  refine g_aload_n (pc := 14) X (j := 0) (i := 0) (q := 2) (x := a0) rfl rfl (dl_at t_X3_declaration 8 rfl) ?_
  have k15 := kx E2 (by decide) hk
  refine r_geti (pc := 15) X fX3_20 k15 q560 (dl_at t_X3_declaration 9 rfl) fun g15 => ?_
  refine g_sipush (pc := 18) X (n := 600) rfl (dl_at t_X3_declaration 10 rfl) ?_
  refine g_icmpne (pc := 21) X g15 (r32_c rfl) (off := 8) (tgt := 29) rfl (dl_at t_X3_declaration 11 rfl) (fun _ => ?_) (fun _ => ?_)
  · refine g_aload_n (pc := 29) X (j := 0) (i := 0) (q := 2) (x := a0) rfl rfl (dl_at t_X3_declaration 15 rfl) ?_
    refine r_getr (pc := 30) X fX3_16 k15 q552 (dl_at t_X3_declaration 16 rfl) ?_
    refine g_aload_n (pc := 33) X (j := 0) (i := 0) (q := 2) (x := a0) rfl rfl (dl_at t_X3_declaration 17 rfl) ?_
    refine r_geti (pc := 34) X fX3_20 k15 q560 (dl_at t_X3_declaration 18 rfl) fun g34 => ?_
    refine g_iload_n (pc := 37) X (j := 2) (i := 2) (q := 0) (x := v6) rfl rfl (dl_at t_X3_declaration 19 rfl) ?_
    refine g_gd fun k38 => ?_
    refine r_iast (pc := 38) X g34 g6 k38 (dl_at t_X3_declaration 20 rfl) (fun h38 E38 => ?_)
    refine g_aload_n (pc := 39) X (j := 1) (i := 1) (q := 1) (x := a1) rfl rfl (dl_at t_X3_declaration 21 rfl) ?_
    have k40 := kx (E2.trans E38) (by decide) k2
    refine r_callV (pc := 40) X (fun _ hv => s_X2_next k40 hv) cw_code q1725 q356 (in_Vk X (As := []) kX2 k40 (Or.inr ⟨_, nw_in q1965 rfl⟩) q1724 qs8 cw_code q1725 ⟨by decide, by decide⟩ rfl (dl_at t_X3_declaration 22 rfl)) (dl_at t_X3_declaration 22 rfl) (cat24 (st := []) (Nat.le_of_ble_eq_true rfl)) (Nat.le_of_ble_eq_true rfl) (Nat.le_of_ble_eq_true rfl) fun h40 E40 => ?_
    refine g_aload_n (pc := 43) X (j := 1) (i := 1) (q := 1) (x := a1) rfl rfl (dl_at t_X3_declaration 23 rfl) ?_
    refine g_bipush (pc := 44) X (n := 58) rfl (dl_at t_X3_declaration 24 rfl) ?_
    have k46 := kx E40 (by decide) k40
    refine r_callTv (pc := 46) X (fun _ hv => s_X2_need k46 (r32_c rfl) hv) cw_code q1876 q356 (in_Vk X (As := [iv 58]) kX2 k46 (Or.inr ⟨_, nw_in q1970 rfl⟩) q1875 qs20 cw_code q1876 ⟨by decide, by decide⟩ rfl (dl_at t_X3_declaration 25 rfl)) (dl_at t_X3_declaration 25 rfl) (cat24 (st := []) (Nat.le_of_ble_eq_true rfl)) (Nat.le_of_ble_eq_true rfl) (Nat.le_of_ble_eq_true rfl) (fun v46 h46 E46 => ?_) (fun _ _ ha _ => gt_at fun Q hQ => gt_out (Q := Q) X rfl ha (hno _) _ Q rfl hQ)
    refine g_iload_n (pc := 49) X (j := 2) (i := 2) (q := 0) (x := v6) rfl rfl (dl_at t_X3_declaration 26 rfl) ?_
    refine g_join (γ := Hp) (fun q => Ext h46 q) 329 (fun q => [(0, rv D a0), (1, rv D a1)]) (fun q => []) (fun q => q) (fun q => m_X3_declaration_j329 a1 a0 q) ?_ ?_
    · rintro h_329 E_329
      try dsimp only
      unfold m_X3_declaration_j329
      refine g_aload_n (pc := 329) X (j := 1) (i := 1) (q := 1) (x := a1) rfl rfl (dl_at t_X3_declaration 121 rfl) ?_
      refine g_bipush (pc := 330) X (n := 59) rfl (dl_at t_X3_declaration 122 rfl) ?_
      have k332 := kx (E46.trans E_329) (by decide) k46
      refine r_callTv (pc := 332) X (fun _ hv => s_X2_need k332 (r32_c rfl) hv) cw_code q1876 q356 (in_Vk X (As := [iv 59]) kX2 k332 (Or.inr ⟨_, nw_in q1970 rfl⟩) q1875 qs20 cw_code q1876 ⟨by decide, by decide⟩ rfl (dl_at t_X3_declaration 123 rfl)) (dl_at t_X3_declaration 123 rfl) (cat24 (st := []) (Nat.le_of_ble_eq_true rfl)) (Nat.le_of_ble_eq_true rfl) (Nat.le_of_ble_eq_true rfl) (fun v332 h332 E332 => ?_) (fun _ _ ha _ => gt_at fun Q hQ => gt_out (Q := Q) X rfl ha (hno _) _ Q rfl hQ)
      refine g_aload_n (pc := 335) X (j := 0) (i := 0) (q := 0) (x := a0) rfl rfl (dl_at t_X3_declaration 124 rfl) ?_
      refine g_dup (pc := 336) X rv_cat (dl_at t_X3_declaration 125 rfl) ?_
      have k337 := kx (E38.trans (E40.trans (E46.trans (E_329.trans E332)))) (by decide) k15
      refine r_geti (pc := 337) X fX3_20 k337 q560 (dl_at t_X3_declaration 126 rfl) fun g337 => ?_
      refine g_iconst (pc := 340) X (n := 1) (dl_at t_X3_declaration 127 rfl) ?_
      refine g_iadd (pc := 341) X g337 (r32_c rfl) (dl_at t_X3_declaration 128 rfl) ?_
      refine r_puti (pc := 342) X fX3_20 k337 q560 rfl (dl_at t_X3_declaration 129 rfl) (r32_w _) (fun h342 E342 => ?_)
      exact g_vret (pc := 345) X (v := 0) rfl rfl (dl_at t_X3_declaration 130 rfl)
    intro J329
    refine g_case (fun w50 => ?_) (fun nw50 => ?_)
    · refine g_tabIn (pc := 50) X (off := 98) (tgt := 148) g6 w50 (by decide) (by decide) rfl rfl dS_X3_declaration_50 ?_
      refine g_aload_n (pc := 148) X (j := 0) (i := 0) (q := 2) (x := a0) rfl rfl (dl_at t_X3_declaration 27 rfl) ?_
      refine g_aload_n (pc := 149) X (j := 1) (i := 1) (q := 1) (x := a1) rfl rfl (dl_at t_X3_declaration 28 rfl) ?_
      have k150 := kx (E38.trans (E40.trans E46)) (by decide) k15
      refine r_callTv (pc := 150) X (fun _ hv => s_X3_size k150 hv) cw_code q2082 q357 (in_Vk X (As := [rv D a1]) kX3 k150 (Or.inl q2079) q2081 qs48 cw_code q2082 ⟨by decide, by decide⟩ rfl (dl_at t_X3_declaration 29 rfl)) (dl_at t_X3_declaration 29 rfl) (cat24 (st := []) (Nat.le_of_ble_eq_true rfl)) (Nat.le_of_ble_eq_true rfl) (Nat.le_of_ble_eq_true rfl) (fun v150 h150 E150 => ?_) (fun _ _ ha _ => gt_at fun Q hQ => gt_out (Q := Q) X rfl ha (hno _) _ Q rfl hQ)
      refine g_goto (pc := 153) X (off := 176) (tgt := 329) rfl (dl_at t_X3_declaration 30 rfl) ?_
      refine g_ls (ls2 := [(0, rv D a0), (1, rv D a1)]) [2, 1] rfl ?_
      exact J329 h150 E150
    refine g_case (fun w50_1 => ?_) (fun nw50_1 => ?_)
    · refine g_tabIn (pc := 50) X (off := 106) (tgt := 156) g6 w50_1 (by decide) (by decide) rfl rfl dS_X3_declaration_50 ?_
      refine g_aload_n (pc := 156) X (j := 0) (i := 0) (q := 2) (x := a0) rfl rfl (dl_at t_X3_declaration 31 rfl) ?_
      have k157 := kx (E38.trans (E40.trans E46)) (by decide) k15
      refine r_getr (pc := 157) X fX3_17 k157 q554 (dl_at t_X3_declaration 32 rfl) ?_
      refine g_aload_n (pc := 160) X (j := 0) (i := 0) (q := 2) (x := a0) rfl rfl (dl_at t_X3_declaration 33 rfl) ?_
      refine r_geti (pc := 161) X fX3_20 k157 q560 (dl_at t_X3_declaration 34 rfl) fun g161 => ?_
      refine g_aload_n (pc := 164) X (j := 1) (i := 1) (q := 1) (x := a1) rfl rfl (dl_at t_X3_declaration 35 rfl) ?_
      refine g_sipush (pc := 165) X (n := 1000) rfl (dl_at t_X3_declaration 36 rfl) ?_
      refine g_ldc (pc := 168) X (index := 238) (n := 200000) q2085 (dl_at t_X3_declaration 37 rfl) ?_
      have k170 := kx E46 (by decide) k46
      refine r_callTi (pc := 170) X (fun _ hv => s_X2_needNumber k170 (r32_c rfl) (r32_c rfl) hv) cw_code q1861 q356 (in_Vk X (As := [iv 1000, iv 200000]) kX2 k170 (Or.inr ⟨_, nw_in q1987 rfl⟩) q1860 qs17 cw_code q1861 ⟨by decide, by decide⟩ rfl (dl_at t_X3_declaration 38 rfl)) (dl_at t_X3_declaration 38 rfl) (cat24 (st := [iv (h46 a0 20), rv D (h46 a0 17)]) (Nat.le_of_ble_eq_true rfl)) (Nat.le_of_ble_eq_true rfl) (Nat.le_of_ble_eq_true rfl) (fun v170 h170 g170 E170 => ?_) (fun _ _ ha _ => gt_at fun Q hQ => gt_out (Q := Q) X rfl ha (hno _) _ Q rfl hQ)
      refine g_gd fun k173 => ?_
      refine r_iast (pc := 173) X g161 g170 k173 (dl_at t_X3_declaration 39 rfl) (fun h173 E173 => ?_)
      refine g_goto (pc := 174) X (off := 155) (tgt := 329) rfl (dl_at t_X3_declaration 40 rfl) ?_
      refine g_ls (ls2 := [(0, rv D a0), (1, rv D a1)]) [2, 1] rfl ?_
      exact J329 h173 (E170.trans E173)
    refine g_case (fun w50_2 => ?_) (fun nw50_2 => ?_)
    · refine g_tabIns (pc := 50) X (off := 127) (tgt := 177) [3, 4, 5, 6, 7] g6 w50_2 rfl rfl dS_X3_declaration_50 ?_
      refine g_aload_n (pc := 177) X (j := 0) (i := 0) (q := 2) (x := a0) rfl rfl (dl_at t_X3_declaration 41 rfl) ?_
      have k178 := kx (E38.trans (E40.trans E46)) (by decide) k15
      refine r_getr (pc := 178) X fX3_17 k178 q554 (dl_at t_X3_declaration 42 rfl) ?_
      refine g_aload_n (pc := 181) X (j := 0) (i := 0) (q := 2) (x := a0) rfl rfl (dl_at t_X3_declaration 43 rfl) ?_
      refine r_geti (pc := 182) X fX3_20 k178 q560 (dl_at t_X3_declaration 44 rfl) fun g182 => ?_
      refine g_aload_n (pc := 185) X (j := 1) (i := 1) (q := 1) (x := a1) rfl rfl (dl_at t_X3_declaration 45 rfl) ?_
      refine g_iconst (pc := 186) X (n := 0) (dl_at t_X3_declaration 46 rfl) ?_
      refine g_ldc (pc := 187) X (index := 239) (n := 500000) q2086 (dl_at t_X3_declaration 47 rfl) ?_
      have k189 := kx E46 (by decide) k46
      refine r_callTi (pc := 189) X (fun _ hv => s_X2_needNumber k189 (r32_c rfl) (r32_c rfl) hv) cw_code q1861 q356 (in_Vk X (As := [iv 0, iv 500000]) kX2 k189 (Or.inr ⟨_, nw_in q1987 rfl⟩) q1860 qs17 cw_code q1861 ⟨by decide, by decide⟩ rfl (dl_at t_X3_declaration 48 rfl)) (dl_at t_X3_declaration 48 rfl) (cat24 (st := [iv (h46 a0 20), rv D (h46 a0 17)]) (Nat.le_of_ble_eq_true rfl)) (Nat.le_of_ble_eq_true rfl) (Nat.le_of_ble_eq_true rfl) (fun v189 h189 g189 E189 => ?_) (fun _ _ ha _ => gt_at fun Q hQ => gt_out (Q := Q) X rfl ha (hno _) _ Q rfl hQ)
      refine g_gd fun k192 => ?_
      refine r_iast (pc := 192) X g182 g189 k192 (dl_at t_X3_declaration 49 rfl) (fun h192 E192 => ?_)
      refine g_goto (pc := 193) X (off := 136) (tgt := 329) rfl (dl_at t_X3_declaration 50 rfl) ?_
      refine g_ls (ls2 := [(0, rv D a0), (1, rv D a1)]) [2, 1] rfl ?_
      exact J329 h192 (E189.trans E192)
    refine g_case (fun w50_3 => ?_) (fun nw50_3 => ?_)
    · refine g_tabIn (pc := 50) X (off := 146) (tgt := 196) g6 w50_3 (by decide) (by decide) rfl rfl dS_X3_declaration_50 ?_
      refine g_aload_n (pc := 196) X (j := 0) (i := 0) (q := 2) (x := a0) rfl rfl (dl_at t_X3_declaration 51 rfl) ?_
      have k197 := kx (E38.trans (E40.trans E46)) (by decide) k15
      refine r_getr (pc := 197) X fX3_17 k197 q554 (dl_at t_X3_declaration 52 rfl) ?_
      refine g_aload_n (pc := 200) X (j := 0) (i := 0) (q := 2) (x := a0) rfl rfl (dl_at t_X3_declaration 53 rfl) ?_
      refine r_geti (pc := 201) X fX3_20 k197 q560 (dl_at t_X3_declaration 54 rfl) fun g201 => ?_
      refine g_aload_n (pc := 204) X (j := 1) (i := 1) (q := 1) (x := a1) rfl rfl (dl_at t_X3_declaration 55 rfl) ?_
      refine g_iconst (pc := 205) X (n := 1) (dl_at t_X3_declaration 56 rfl) ?_
      refine g_sipush (pc := 206) X (n := 10000) rfl (dl_at t_X3_declaration 57 rfl) ?_
      have k209 := kx E46 (by decide) k46
      refine r_callTi (pc := 209) X (fun _ hv => s_X2_needNumber k209 (r32_c rfl) (r32_c rfl) hv) cw_code q1861 q356 (in_Vk X (As := [iv 1, iv 10000]) kX2 k209 (Or.inr ⟨_, nw_in q1987 rfl⟩) q1860 qs17 cw_code q1861 ⟨by decide, by decide⟩ rfl (dl_at t_X3_declaration 58 rfl)) (dl_at t_X3_declaration 58 rfl) (cat24 (st := [iv (h46 a0 20), rv D (h46 a0 17)]) (Nat.le_of_ble_eq_true rfl)) (Nat.le_of_ble_eq_true rfl) (Nat.le_of_ble_eq_true rfl) (fun v209 h209 g209 E209 => ?_) (fun _ _ ha _ => gt_at fun Q hQ => gt_out (Q := Q) X rfl ha (hno _) _ Q rfl hQ)
      refine g_gd fun k212 => ?_
      refine r_iast (pc := 212) X g201 g209 k212 (dl_at t_X3_declaration 59 rfl) (fun h212 E212 => ?_)
      refine g_goto (pc := 213) X (off := 116) (tgt := 329) rfl (dl_at t_X3_declaration 60 rfl) ?_
      refine g_ls (ls2 := [(0, rv D a0), (1, rv D a1)]) [2, 1] rfl ?_
      exact J329 h212 (E209.trans E212)
    refine g_case (fun w50_4 => ?_) (fun nw50_4 => ?_)
    · refine g_tabIns (pc := 50) X (off := 166) (tgt := 216) [11, 12] g6 w50_4 rfl rfl dS_X3_declaration_50 ?_
      refine g_aload_n (pc := 216) X (j := 0) (i := 0) (q := 2) (x := a0) rfl rfl (dl_at t_X3_declaration 61 rfl) ?_
      have k217 := kx (E38.trans (E40.trans E46)) (by decide) k15
      refine r_getr (pc := 217) X fX3_17 k217 q554 (dl_at t_X3_declaration 62 rfl) ?_
      refine g_aload_n (pc := 220) X (j := 0) (i := 0) (q := 2) (x := a0) rfl rfl (dl_at t_X3_declaration 63 rfl) ?_
      refine r_geti (pc := 221) X fX3_20 k217 q560 (dl_at t_X3_declaration 64 rfl) fun g221 => ?_
      refine g_aload_n (pc := 224) X (j := 1) (i := 1) (q := 1) (x := a1) rfl rfl (dl_at t_X3_declaration 65 rfl) ?_
      refine g_iconst (pc := 225) X (n := 1) (dl_at t_X3_declaration 66 rfl) ?_
      refine g_bipush (pc := 226) X (n := 9) rfl (dl_at t_X3_declaration 67 rfl) ?_
      have k228 := kx E46 (by decide) k46
      refine r_callTi (pc := 228) X (fun _ hv => s_X2_needNumber k228 (r32_c rfl) (r32_c rfl) hv) cw_code q1861 q356 (in_Vk X (As := [iv 1, iv 9]) kX2 k228 (Or.inr ⟨_, nw_in q1987 rfl⟩) q1860 qs17 cw_code q1861 ⟨by decide, by decide⟩ rfl (dl_at t_X3_declaration 68 rfl)) (dl_at t_X3_declaration 68 rfl) (cat24 (st := [iv (h46 a0 20), rv D (h46 a0 17)]) (Nat.le_of_ble_eq_true rfl)) (Nat.le_of_ble_eq_true rfl) (Nat.le_of_ble_eq_true rfl) (fun v228 h228 g228 E228 => ?_) (fun _ _ ha _ => gt_at fun Q hQ => gt_out (Q := Q) X rfl ha (hno _) _ Q rfl hQ)
      refine g_gd fun k231 => ?_
      refine r_iast (pc := 231) X g221 g228 k231 (dl_at t_X3_declaration 69 rfl) (fun h231 E231 => ?_)
      refine g_goto (pc := 232) X (off := 97) (tgt := 329) rfl (dl_at t_X3_declaration 70 rfl) ?_
      refine g_ls (ls2 := [(0, rv D a0), (1, rv D a1)]) [2, 1] rfl ?_
      exact J329 h231 (E228.trans E231)
    refine g_case (fun w50_5 => ?_) (fun nw50_5 => ?_)
    · refine g_tabIns (pc := 50) X (off := 223) (tgt := 273) [15, 16] g6 w50_5 rfl rfl dS_X3_declaration_50 ?_
      refine g_aload_n (pc := 273) X (j := 0) (i := 0) (q := 2) (x := a0) rfl rfl (dl_at t_X3_declaration 91 rfl) ?_
      refine g_aload_n (pc := 274) X (j := 1) (i := 1) (q := 1) (x := a1) rfl rfl (dl_at t_X3_declaration 92 rfl) ?_
      have k275 := kx (E38.trans (E40.trans E46)) (by decide) k15
      refine r_callTv (pc := 275) X (fun _ hv => s_X3_counter k275 hv) cw_code q2090 q357 (in_Vk X (As := [rv D a1]) kX3 k275 (Or.inl q2087) q2089 qs49 cw_code q2090 ⟨by decide, by decide⟩ rfl (dl_at t_X3_declaration 93 rfl)) (dl_at t_X3_declaration 93 rfl) (cat24 (st := []) (Nat.le_of_ble_eq_true rfl)) (Nat.le_of_ble_eq_true rfl) (Nat.le_of_ble_eq_true rfl) (fun v275 h275 E275 => ?_) (fun _ _ ha _ => gt_at fun Q hQ => gt_out (Q := Q) X rfl ha (hno _) _ Q rfl hQ)
      refine g_goto (pc := 278) X (off := 51) (tgt := 329) rfl (dl_at t_X3_declaration 94 rfl) ?_
      refine g_ls (ls2 := [(0, rv D a0), (1, rv D a1)]) [2, 1] rfl ?_
      exact J329 h275 E275
    refine g_case (fun w50_6 => ?_) (fun nw50_6 => ?_)
    · refine g_tabIn (pc := 50) X (off := 231) (tgt := 281) g6 w50_6 (by decide) (by decide) rfl rfl dS_X3_declaration_50 ?_
      refine g_aload_n (pc := 281) X (j := 0) (i := 0) (q := 2) (x := a0) rfl rfl (dl_at t_X3_declaration 95 rfl) ?_
      refine g_aload_n (pc := 282) X (j := 1) (i := 1) (q := 1) (x := a1) rfl rfl (dl_at t_X3_declaration 96 rfl) ?_
      have k283 := kx (E38.trans (E40.trans E46)) (by decide) k15
      refine r_callTv (pc := 283) X (fun _ hv => s_X3_label k283 hv) cw_code q2096 q357 (in_Vk X (As := [rv D a1]) kX3 k283 (Or.inl q2093) q2095 qs50 cw_code q2096 ⟨by decide, by decide⟩ rfl (dl_at t_X3_declaration 97 rfl)) (dl_at t_X3_declaration 97 rfl) (cat24 (st := []) (Nat.le_of_ble_eq_true rfl)) (Nat.le_of_ble_eq_true rfl) (Nat.le_of_ble_eq_true rfl) (fun v283 h283 E283 => ?_) (fun _ _ ha _ => gt_at fun Q hQ => gt_out (Q := Q) X rfl ha (hno _) _ Q rfl hQ)
      refine g_goto (pc := 286) X (off := 43) (tgt := 329) rfl (dl_at t_X3_declaration 98 rfl) ?_
      refine g_ls (ls2 := [(0, rv D a0), (1, rv D a1)]) [2, 1] rfl ?_
      exact J329 h283 E283
    refine g_case (fun w50_7 => ?_) (fun nw50_7 => ?_)
    · refine g_tabIn (pc := 50) X (off := 185) (tgt := 235) g6 w50_7 (by decide) (by decide) rfl rfl dS_X3_declaration_50 ?_
      refine g_aload_n (pc := 235) X (j := 0) (i := 0) (q := 2) (x := a0) rfl rfl (dl_at t_X3_declaration 71 rfl) ?_
      have k236 := kx (E38.trans (E40.trans E46)) (by decide) k15
      refine r_getr (pc := 236) X fX3_17 k236 q554 (dl_at t_X3_declaration 72 rfl) ?_
      refine g_aload_n (pc := 239) X (j := 0) (i := 0) (q := 2) (x := a0) rfl rfl (dl_at t_X3_declaration 73 rfl) ?_
      refine r_geti (pc := 240) X fX3_20 k236 q560 (dl_at t_X3_declaration 74 rfl) fun g240 => ?_
      refine g_aload_n (pc := 243) X (j := 1) (i := 1) (q := 1) (x := a1) rfl rfl (dl_at t_X3_declaration 75 rfl) ?_
      refine g_iconst (pc := 244) X (n := 0) (dl_at t_X3_declaration 76 rfl) ?_
      refine g_bipush (pc := 245) X (n := 9) rfl (dl_at t_X3_declaration 77 rfl) ?_
      have k247 := kx E46 (by decide) k46
      refine r_callTi (pc := 247) X (fun _ hv => s_X2_needNumber k247 (r32_c rfl) (r32_c rfl) hv) cw_code q1861 q356 (in_Vk X (As := [iv 0, iv 9]) kX2 k247 (Or.inr ⟨_, nw_in q1987 rfl⟩) q1860 qs17 cw_code q1861 ⟨by decide, by decide⟩ rfl (dl_at t_X3_declaration 78 rfl)) (dl_at t_X3_declaration 78 rfl) (cat24 (st := [iv (h46 a0 20), rv D (h46 a0 17)]) (Nat.le_of_ble_eq_true rfl)) (Nat.le_of_ble_eq_true rfl) (Nat.le_of_ble_eq_true rfl) (fun v247 h247 g247 E247 => ?_) (fun _ _ ha _ => gt_at fun Q hQ => gt_out (Q := Q) X rfl ha (hno _) _ Q rfl hQ)
      refine g_gd fun k250 => ?_
      refine r_iast (pc := 250) X g240 g247 k250 (dl_at t_X3_declaration 79 rfl) (fun h250 E250 => ?_)
      refine g_goto (pc := 251) X (off := 78) (tgt := 329) rfl (dl_at t_X3_declaration 80 rfl) ?_
      refine g_ls (ls2 := [(0, rv D a0), (1, rv D a1)]) [2, 1] rfl ?_
      exact J329 h250 (E247.trans E250)
    refine g_case (fun w50_8 => ?_) (fun nw50_8 => ?_)
    · refine g_tabIn (pc := 50) X (off := 204) (tgt := 254) g6 w50_8 (by decide) (by decide) rfl rfl dS_X3_declaration_50 ?_
      refine g_aload_n (pc := 254) X (j := 0) (i := 0) (q := 2) (x := a0) rfl rfl (dl_at t_X3_declaration 81 rfl) ?_
      have k255 := kx (E38.trans (E40.trans E46)) (by decide) k15
      refine r_getr (pc := 255) X fX3_17 k255 q554 (dl_at t_X3_declaration 82 rfl) ?_
      refine g_aload_n (pc := 258) X (j := 0) (i := 0) (q := 2) (x := a0) rfl rfl (dl_at t_X3_declaration 83 rfl) ?_
      refine r_geti (pc := 259) X fX3_20 k255 q560 (dl_at t_X3_declaration 84 rfl) fun g259 => ?_
      refine g_aload_n (pc := 262) X (j := 1) (i := 1) (q := 1) (x := a1) rfl rfl (dl_at t_X3_declaration 85 rfl) ?_
      refine g_iconst (pc := 263) X (n := 0) (dl_at t_X3_declaration 86 rfl) ?_
      refine g_ldc (pc := 264) X (index := 158) (n := 1000000) q1986 (dl_at t_X3_declaration 87 rfl) ?_
      have k266 := kx E46 (by decide) k46
      refine r_callTi (pc := 266) X (fun _ hv => s_X2_needNumber k266 (r32_c rfl) (r32_c rfl) hv) cw_code q1861 q356 (in_Vk X (As := [iv 0, iv 1000000]) kX2 k266 (Or.inr ⟨_, nw_in q1987 rfl⟩) q1860 qs17 cw_code q1861 ⟨by decide, by decide⟩ rfl (dl_at t_X3_declaration 88 rfl)) (dl_at t_X3_declaration 88 rfl) (cat24 (st := [iv (h46 a0 20), rv D (h46 a0 17)]) (Nat.le_of_ble_eq_true rfl)) (Nat.le_of_ble_eq_true rfl) (Nat.le_of_ble_eq_true rfl) (fun v266 h266 g266 E266 => ?_) (fun _ _ ha _ => gt_at fun Q hQ => gt_out (Q := Q) X rfl ha (hno _) _ Q rfl hQ)
      refine g_gd fun k269 => ?_
      refine r_iast (pc := 269) X g259 g266 k269 (dl_at t_X3_declaration 89 rfl) (fun h269 E269 => ?_)
      refine g_goto (pc := 270) X (off := 59) (tgt := 329) rfl (dl_at t_X3_declaration 90 rfl) ?_
      refine g_ls (ls2 := [(0, rv D a0), (1, rv D a1)]) [2, 1] rfl ?_
      exact J329 h269 (E266.trans E269)
    have w50_9 : ¬ v6 ∈ ([1, 2, 3, 4, 5, 6, 7, 10, 11, 12, 15, 16, 17, 19, 21] : List Int) := by simp only [List.mem_cons, List.not_mem_nil, or_false, not_or] at *; simp only [*, not_false_eq_true, and_self]
    refine g_tabElse (pc := 50) X (tgt := 289) [1, 2, 3, 4, 5, 6, 7, 10, 11, 12, 15, 16, 17, 19, 21] g6 w50_9 rfl rfl dS_X3_declaration_50 ?_
    refine g_aload_n (pc := 289) X (j := 1) (i := 1) (q := 1) (x := a1) rfl rfl (dl_at t_X3_declaration 99 rfl) ?_
    refine g_iconst (pc := 290) X (n := 1) (dl_at t_X3_declaration 100 rfl) ?_
    have k291 := kx E46 (by decide) k46
    refine r_callTv (pc := 291) X (fun _ hv => s_X2_needKind k291 (r32_c rfl) hv) cw_code q1975 q356 (in_Vk X (As := [iv 1]) kX2 k291 (Or.inr ⟨_, nw_in q1972 rfl⟩) q1974 qs33 cw_code q1975 ⟨by decide, by decide⟩ rfl (dl_at t_X3_declaration 101 rfl)) (dl_at t_X3_declaration 101 rfl) (cat24 (st := []) (Nat.le_of_ble_eq_true rfl)) (Nat.le_of_ble_eq_true rfl) (Nat.le_of_ble_eq_true rfl) (fun v291 h291 E291 => ?_) (fun _ _ ha _ => gt_at fun Q hQ => gt_out (Q := Q) X rfl ha (hno _) _ Q rfl hQ)
    refine g_aload_n (pc := 294) X (j := 0) (i := 0) (q := 2) (x := a0) rfl rfl (dl_at t_X3_declaration 102 rfl) ?_
    have k295 := kx (E38.trans (E40.trans (E46.trans E291))) (by decide) k15
    refine r_getr (pc := 295) X fX3_17 k295 q554 (dl_at t_X3_declaration 103 rfl) ?_
    refine g_aload_n (pc := 298) X (j := 0) (i := 0) (q := 2) (x := a0) rfl rfl (dl_at t_X3_declaration 104 rfl) ?_
    refine r_geti (pc := 299) X fX3_20 k295 q560 (dl_at t_X3_declaration 105 rfl) fun g299 => ?_
    refine g_iload_n (pc := 302) X (j := 2) (i := 2) (q := 0) (x := v6) rfl rfl (dl_at t_X3_declaration 106 rfl) ?_
    refine g_aload_n (pc := 303) X (j := 1) (i := 1) (q := 1) (x := a1) rfl rfl (dl_at t_X3_declaration 107 rfl) ?_
    refine r_callRi (pc := 304) X (fun _ hv => s_X3_wordOf g6 hv) cw_code q2099 q357 (in_Sc X (As := [iv v6, rv D a1]) (Or.inl q2097) q2098 q357 q2099 ⟨by decide, by decide⟩ rfl (dl_at t_X3_declaration 108 rfl)) (dl_at t_X3_declaration 108 rfl) (cat24 (st := [iv (h291 a0 20), rv D (h291 a0 17)]) (Nat.le_of_ble_eq_true rfl)) (Nat.le_of_ble_eq_true rfl) (Nat.le_of_ble_eq_true rfl) fun v304 g304 => ?_
    refine g_gd fun k307 => ?_
    refine r_iast (pc := 307) X g299 g304 k307 (dl_at t_X3_declaration 109 rfl) (fun h307 E307 => ?_)
    refine g_aload_n (pc := 308) X (j := 0) (i := 0) (q := 2) (x := a0) rfl rfl (dl_at t_X3_declaration 110 rfl) ?_
    have k309 := kx E307 (by decide) k295
    refine r_getr (pc := 309) X fX3_17 k309 q554 (dl_at t_X3_declaration 111 rfl) ?_
    refine g_aload_n (pc := 312) X (j := 0) (i := 0) (q := 2) (x := a0) rfl rfl (dl_at t_X3_declaration 112 rfl) ?_
    refine r_geti (pc := 313) X fX3_20 k309 q560 (dl_at t_X3_declaration 113 rfl) fun g313 => ?_
    refine g_gd fun k316 => ?_
    refine g_iald (pc := 316) X g313 k316 (dl_at t_X3_declaration 114 rfl) fun g316 => ?_
    refine g_ifge (pc := 317) X g316 (off := 8) (tgt := 325) rfl (dl_at t_X3_declaration 115 rfl) (fun _ => ?_) (fun _ => ?_)
    · refine g_aload_n (pc := 325) X (j := 1) (i := 1) (q := 1) (x := a1) rfl rfl (dl_at t_X3_declaration 119 rfl) ?_
      have k326 := kx (E291.trans E307) (by decide) k291
      refine r_callV (pc := 326) X (fun _ hv => s_X2_next k326 hv) cw_code q1725 q356 (in_Vk X (As := []) kX2 k326 (Or.inr ⟨_, nw_in q1965 rfl⟩) q1724 qs8 cw_code q1725 ⟨by decide, by decide⟩ rfl (dl_at t_X3_declaration 120 rfl)) (dl_at t_X3_declaration 120 rfl) (cat24 (st := []) (Nat.le_of_ble_eq_true rfl)) (Nat.le_of_ble_eq_true rfl) (Nat.le_of_ble_eq_true rfl) fun h326 E326 => ?_
      refine g_ls (ls2 := [(0, rv D a0), (1, rv D a1)]) [2, 1] rfl ?_
      exact J329 h326 (E291.trans (E307.trans E326))
    refine g_aload_n (pc := 320) X (j := 1) (i := 1) (q := 1) (x := a1) rfl rfl (dl_at t_X3_declaration 116 rfl) ?_
    have k321 := kx (E291.trans E307) (by decide) k291
    refine r_callWr (pc := 321) X (fun _ hv => s_X2_broken k321 hv) cw_code q1825 q356 (in_Vk X (As := []) kX2 k321 (Or.inr ⟨_, nw_in q1985 rfl⟩) q1824 qs16 cw_code q1825 ⟨by decide, by decide⟩ rfl (dl_at t_X3_declaration 117 rfl)) (dl_at t_X3_declaration 117 rfl) (cat24 (st := []) (Nat.le_of_ble_eq_true rfl)) (Nat.le_of_ble_eq_true rfl) (Nat.le_of_ble_eq_true rfl) fun v321 h321 E321 => ?_
    refine g_gd fun p324 => ?_
    refine g_athrow (pc := 324) X (Int.ne_of_gt p324) (dl_at t_X3_declaration 118 rfl) ?_
    exact gt_at fun Q hQ => gt_out (Q := Q) X rfl p324 (hno _) _ Q rfl hQ
  refine g_aload_n (pc := 24) X (j := 1) (i := 1) (q := 1) (x := a1) rfl rfl (dl_at t_X3_declaration 12 rfl) ?_
  have k25_1 := kx E2 (by decide) k2
  refine r_callWr (pc := 25) X (fun _ hv => s_X2_broken k25_1 hv) cw_code q1825 q356 (in_Vk X (As := []) kX2 k25_1 (Or.inr ⟨_, nw_in q1985 rfl⟩) q1824 qs16 cw_code q1825 ⟨by decide, by decide⟩ rfl (dl_at t_X3_declaration 13 rfl)) (dl_at t_X3_declaration 13 rfl) (cat24 (st := []) (Nat.le_of_ble_eq_true rfl)) (Nat.le_of_ble_eq_true rfl) (Nat.le_of_ble_eq_true rfl) fun v25_1 h25_1 E25_1 => ?_
  refine g_gd fun p28_1 => ?_
  refine g_athrow (pc := 28) X (Int.ne_of_gt p28_1) (dl_at t_X3_declaration 14 rfl) ?_
  exact gt_at fun Q hQ => gt_out (Q := Q) X rfl p28_1 (hno _) _ Q rfl hQ
def k_X3_rule : List (Nat × Instr × Nat) := [(0, .aload_n 0, 1), (1, .getfield 74, 3), (4, .aload_n 0, 1), (5, .getfield 97, 3), (8, .aload_n 0, 1), (9, .getfield 94, 3), (12, .iastore, 1), (13, .iconst 1, 1), (14, .istore_n 2, 1), (15, .iload_n 2, 1), (16, .ifCond .eq 18, 3), (19, .aload_n 0, 1), (20, .aload_n 1, 1), (21, .invokevirtual 174, 3), (24, .aload_n 1, 1), (25, .bipush 44, 2), (27, .invokevirtual 143, 3), (30, .istore_n 2, 1), (31, .goto (-16), 3), (34, .aload_n 1, 1), (35, .bipush 123, 2), (37, .invokevirtual 140, 3), (40, .aload_n 1, 1), (41, .bipush 125, 2), (43, .invokevirtual 143, 3), (46, .ifCond .ne 11, 3), (49, .aload_n 0, 1), (50, .aload_n 1, 1), (51, .invokevirtual 177, 3), (54, .goto (-14), 3), (57, .aload_n 0, 1), (58, .dup, 1), (59, .getfield 97, 3), (62, .iconst 1, 1), (63, .iadd, 1), (64, .putfield 97, 3), (67, .return_, 1)]
theorem t_X3_rule : ∀ q ∈ k_X3_rule, decode cX3_rule q.1 = .ok q.2 := dl_all (by decide +kernel)
noncomputable def m_X3_rule_l15 (a0 a1 x2_15 : Int) (h_15 : Hp) : Option ((Int × Hp) ⊕ ((Hp) ⊕ (((Int × Int) × Hp)))) :=
  if x2_15 = 0 then (some (.inr (.inl h_15)))
  else (bT (m_X3_selector a0 a1 h_15) (fun _ h21 =>
  gd (h21 a1 (-2) = 32) (bW (m_X2_take a1 44 h21) fun v27 h27 =>
  some (.inl (v27, h27)))) (fun a_ h_ => some (.inr (.inr ((1, a_), h_)))))
noncomputable def m_X3_rule_l40 (a0 a1 : Int) (h_40 : Hp) : Option ((Hp) ⊕ (((Int × Int) × Hp))) :=
  bW (m_X2_take a1 125 h_40) fun v43 h43 =>
  if v43 ≠ 0 then (pt h43 a0 22 (w32 ((h43 a0 22) + 1)) fun h64 =>
  some (.inr ((0, 0), h64)))
  else (bT (m_X3_declaration a0 a1 h43) (fun _ h51 =>
  some (.inl h51)) (fun a_ h_ => some (.inr ((1, a_), h_))))
noncomputable def m_X3_rule (a0 a1 : Int) (h : Hp) : Option ((Int × Int) × Hp) :=
  gd (h (h a0 21) (-2) % 16 = 1 ∧ (0 : Int) ≤ (h a0 22) ∧ (h a0 22) < h (h a0 21) (-1)) (pt h (h a0 21) (h a0 22) (h a0 20) fun h12 =>
  lt_ 1 fun x2_14 =>
  (lp (fun (q : Int × Hp) => m_X3_rule_l15 a0 a1 q.1 q.2) (x2_14, h12)).bind (sE (fun (y34 : Hp) => gd (y34 a1 (-2) = 32) (bT (m_X2_need a1 123 y34) (fun _ h37 =>
  (lp (fun (q : Hp) => m_X3_rule_l40 a0 a1 q) h37).bind (fun (x : (Int × Int) × Hp) => some x)) (fun a_ h_ => some ((1, a_), h_)))) (fun (x : (Int × Int) × Hp) => some x)))
theorem s_X3_rule {l : Launch} [NoTr l] {D : SD} {a0 a1 : Int} {h : Hp} (hk : h a0 (-2) = 48) {r : (Int × Int) × Hp} (hm : m_X3_rule a0 a1 h = some r) : Sim l D yX3_rule (Cond.code yX3_rule cX3_rule 3 (Option.none : Option Jvm.ClassFile.FieldType)) 15 566 [rv D a0, rv D a1] h 0 r := by
  refine Sim.of (fin := fun (v : (Int × Int) × Hp) => v) (lsE := [(0, rv D a0), (1, rv D a1)]) hm rfl cwS_code (la_r (la_r la_n)) (ll_r (ll_r ll_n)) ?_
  intro p e s m below meth c X hcw hmm hcc hnm hname
  have hno := noh hcw hnm hmm hcc
  unfold m_X3_rule
  refine g_aload_n (pc := 0) X (j := 0) (i := 0) (q := 0) (x := a0) rfl rfl (dl_at t_X3_rule 0 rfl) ?_
  refine r_getr (pc := 1) X fX3_21 hk q561 (dl_at t_X3_rule 1 rfl) ?_
  refine g_aload_n (pc := 4) X (j := 0) (i := 0) (q := 0) (x := a0) rfl rfl (dl_at t_X3_rule 2 rfl) ?_
  refine r_geti (pc := 5) X fX3_22 hk q563 (dl_at t_X3_rule 3 rfl) fun g5 => ?_
  refine g_aload_n (pc := 8) X (j := 0) (i := 0) (q := 0) (x := a0) rfl rfl (dl_at t_X3_rule 4 rfl) ?_
  refine r_geti (pc := 9) X fX3_20 hk q560 (dl_at t_X3_rule 5 rfl) fun g9 => ?_
  refine g_gd fun k12 => ?_
  refine r_iast (pc := 12) X g5 g9 k12 (dl_at t_X3_rule 6 rfl) (fun h12 E12 => ?_)
  refine g_iconst (pc := 13) X (n := 1) (dl_at t_X3_rule 7 rfl) ?_
  refine g_ltz (Or.inr rfl) fun x2_14 r2_14 => ?_
  refine g_istore_nN (pc := 14) X (j := 2) (i := 2) (x := x2_14) (b := 1) (w := rv D a1) (rest := [(0, rv D a0)]) rfl (Nat.le_of_ble_eq_true rfl) [1, 0] rfl (by decide) rv_cat rfl (dl_at t_X3_rule 8 rfl) ?_
  refine g_ls (ls2 := [(0, rv D a0), (1, rv D a1), (2, iv x2_14)]) [2, 1, 0] rfl ?_
  refine g_loop1F (fun (q : Int × Hp) => [(0, rv D a0), (1, rv D a1), (2, iv q.1)]) (fun (q : Int × Hp) => q.2) (fun (q : Int × Hp) => (q.1 = 0 ∨ q.1 = 1) ∧ Ext h12 q.2) 34 (fun (y34 : Hp) => [(0, rv D a0), (1, rv D a1)]) (fun (y34 : Hp) => y34) (fun (y34 : Hp) => Ext h12 y34) (x2_14, h12) ⟨r2_14, (Ext.refl _)⟩ ?_ ?_ (fun _ => rfl)
  · rintro ⟨x2_15, h_15⟩ ⟨r2_15, E_15⟩
    try dsimp only
    unfold m_X3_rule_l15
    refine g_iload_n (pc := 15) X (j := 2) (i := 2) (q := 2) (x := x2_15) rfl rfl (dl_at t_X3_rule 9 rfl) ?_
    refine g_ifeq (pc := 16) X (r32_z r2_15) (off := 18) (tgt := 34) rfl (dl_at t_X3_rule 10 rfl) (fun _ => ?_) (fun _ => ?_)
    · refine g_ls (ls2 := [(0, rv D a0), (1, rv D a1)]) [0, 1] rfl ?_
      exact g_at fun Q hQ => hQ E_15
    refine g_aload_n (pc := 19) X (j := 0) (i := 0) (q := 0) (x := a0) rfl rfl (dl_at t_X3_rule 11 rfl) ?_
    refine g_aload_n (pc := 20) X (j := 1) (i := 1) (q := 1) (x := a1) rfl rfl (dl_at t_X3_rule 12 rfl) ?_
    have k21 := kx (E12.trans E_15) (by decide) hk
    refine r_callTv (pc := 21) X (fun _ hv => s_X3_selector k21 hv) cw_code q1998 q357 (in_Vk X (As := [rv D a1]) kX3 k21 (Or.inl q1995) q1997 qs35 cw_code q1998 ⟨by decide, by decide⟩ rfl (dl_at t_X3_rule 13 rfl)) (dl_at t_X3_rule 13 rfl) (cat24 (st := []) (Nat.le_of_ble_eq_true rfl)) (Nat.le_of_ble_eq_true rfl) (Nat.le_of_ble_eq_true rfl) (fun v21 h21 E21 => ?_) (fun _ _ ha _ => gt_at fun Q hQ => gt_out (Q := Q) X rfl ha (hno _) _ Q rfl hQ)
    refine g_aload_n (pc := 24) X (j := 1) (i := 1) (q := 1) (x := a1) rfl rfl (dl_at t_X3_rule 14 rfl) ?_
    refine g_bipush (pc := 25) X (n := 44) rfl (dl_at t_X3_rule 15 rfl) ?_
    refine g_gd fun k27 => ?_
    refine r_callWz (pc := 27) X (fun _ hv => s_X2_take k27 (r32_c rfl) hv) cw_code q1867 q356 (in_Vk X (As := [iv 44]) kX2 k27 (Or.inr ⟨_, nw_in q1971 rfl⟩) q1866 qs18 cw_code q1867 ⟨by decide, by decide⟩ rfl (dl_at t_X3_rule 16 rfl)) (dl_at t_X3_rule 16 rfl) (cat24 (st := []) (Nat.le_of_ble_eq_true rfl)) (Nat.le_of_ble_eq_true rfl) (Nat.le_of_ble_eq_true rfl) fun v27 h27 g27 E27 => ?_
    refine g_istore_nN (pc := 30) X (j := 2) (i := 2) (x := v27) (b := 1) (w := rv D a1) (rest := [(0, rv D a0)]) rfl (Nat.le_of_ble_eq_true rfl) [1, 0] rfl (by decide) rv_cat rfl (dl_at t_X3_rule 17 rfl) ?_
    refine g_goto (pc := 31) X (off := (-16)) (tgt := 15) rfl (dl_at t_X3_rule 18 rfl) ?_
    refine g_ls (ls2 := [(0, rv D a0), (1, rv D a1), (2, iv v27)]) [2, 1, 0] rfl ?_
    exact g_at fun Q hQ => hQ ⟨g27, (E_15.trans (E21.trans E27))⟩
  · rintro h_34 E_34
    try dsimp only [sE]
    refine g_aload_n (pc := 34) X (j := 1) (i := 1) (q := 1) (x := a1) rfl rfl (dl_at t_X3_rule 19 rfl) ?_
    refine g_bipush (pc := 35) X (n := 123) rfl (dl_at t_X3_rule 20 rfl) ?_
    refine g_gd fun k37 => ?_
    refine r_callTv (pc := 37) X (fun _ hv => s_X2_need k37 (r32_c rfl) hv) cw_code q1876 q356 (in_Vk X (As := [iv 123]) kX2 k37 (Or.inr ⟨_, nw_in q1970 rfl⟩) q1875 qs20 cw_code q1876 ⟨by decide, by decide⟩ rfl (dl_at t_X3_rule 21 rfl)) (dl_at t_X3_rule 21 rfl) (cat24 (st := []) (Nat.le_of_ble_eq_true rfl)) (Nat.le_of_ble_eq_true rfl) (Nat.le_of_ble_eq_true rfl) (fun v37 h37 E37 => ?_) (fun _ _ ha _ => gt_at fun Q hQ => gt_out (Q := Q) X rfl ha (hno _) _ Q rfl hQ)
    refine g_loop0F (fun (q : Hp) => [(0, rv D a0), (1, rv D a1)]) (fun (q : Hp) => q) (fun (q : Hp) => Ext h37 q) h37 (Ext.refl _) ?_ (fun _ => rfl)
    · rintro h_40 E_40
      try dsimp only
      unfold m_X3_rule_l40
      refine g_aload_n (pc := 40) X (j := 1) (i := 1) (q := 1) (x := a1) rfl rfl (dl_at t_X3_rule 22 rfl) ?_
      refine g_bipush (pc := 41) X (n := 125) rfl (dl_at t_X3_rule 23 rfl) ?_
      have k43 := kx (E37.trans E_40) (by decide) k37
      refine r_callWz (pc := 43) X (fun _ hv => s_X2_take k43 (r32_c rfl) hv) cw_code q1867 q356 (in_Vk X (As := [iv 125]) kX2 k43 (Or.inr ⟨_, nw_in q1971 rfl⟩) q1866 qs18 cw_code q1867 ⟨by decide, by decide⟩ rfl (dl_at t_X3_rule 24 rfl)) (dl_at t_X3_rule 24 rfl) (cat24 (st := []) (Nat.le_of_ble_eq_true rfl)) (Nat.le_of_ble_eq_true rfl) (Nat.le_of_ble_eq_true rfl) fun v43 h43 g43 E43 => ?_
      refine g_ifne (pc := 46) X (r32_z g43) (off := 11) (tgt := 57) rfl (dl_at t_X3_rule 25 rfl) (fun _ => ?_) (fun _ => ?_)
      · refine g_aload_n (pc := 57) X (j := 0) (i := 0) (q := 0) (x := a0) rfl rfl (dl_at t_X3_rule 30 rfl) ?_
        refine g_dup (pc := 58) X rv_cat (dl_at t_X3_rule 31 rfl) ?_
        have k59 := kx (E12.trans (E_34.trans (E37.trans (E_40.trans E43)))) (by decide) hk
        refine r_geti (pc := 59) X fX3_22 k59 q563 (dl_at t_X3_rule 32 rfl) fun g59 => ?_
        refine g_iconst (pc := 62) X (n := 1) (dl_at t_X3_rule 33 rfl) ?_
        refine g_iadd (pc := 63) X g59 (r32_c rfl) (dl_at t_X3_rule 34 rfl) ?_
        refine r_puti (pc := 64) X fX3_22 k59 q563 rfl (dl_at t_X3_rule 35 rfl) (r32_w _) (fun h64 E64 => ?_)
        exact g_at fun Q hQ => (g_vret (pc := 67) X (v := 0) rfl rfl (dl_at t_X3_rule 36 rfl)) _ Q rfl hQ
      refine g_aload_n (pc := 49) X (j := 0) (i := 0) (q := 0) (x := a0) rfl rfl (dl_at t_X3_rule 26 rfl) ?_
      refine g_aload_n (pc := 50) X (j := 1) (i := 1) (q := 1) (x := a1) rfl rfl (dl_at t_X3_rule 27 rfl) ?_
      have k51 := kx (E12.trans (E_34.trans (E37.trans (E_40.trans E43)))) (by decide) hk
      refine r_callTv (pc := 51) X (fun _ hv => s_X3_declaration k51 hv) cw_code q2056 q357 (in_Vk X (As := [rv D a1]) kX3 k51 (Or.inl q2053) q2055 qs47 cw_code q2056 ⟨by decide, by decide⟩ rfl (dl_at t_X3_rule 28 rfl)) (dl_at t_X3_rule 28 rfl) (cat24 (st := []) (Nat.le_of_ble_eq_true rfl)) (Nat.le_of_ble_eq_true rfl) (Nat.le_of_ble_eq_true rfl) (fun v51 h51 E51 => ?_) (fun _ _ ha _ => gt_at fun Q hQ => gt_out (Q := Q) X rfl ha (hno _) _ Q rfl hQ)
      refine g_goto (pc := 54) X (off := (-14)) (tgt := 40) rfl (dl_at t_X3_rule 29 rfl) ?_
      exact g_at fun Q hQ => hQ (E_40.trans (E43.trans E51))
def k_X3_read : List (Nat × Instr × Nat) := [(0, .aload_n 0, 1), (1, .invokevirtual 77, 3), (4, .aload_n 1, 1), (5, .invokevirtual 120, 3), (8, .ifCond .ne 32, 3), (11, .aload_n 1, 1), (12, .ldc 126, 2), (14, .invokevirtual 128, 3), (17, .ifCond .eq 15, 3), (20, .aload_n 1, 1), (21, .invokevirtual 132, 3), (24, .aload_n 0, 1), (25, .aload_n 1, 1), (26, .invokevirtual 135, 3), (29, .goto (-25), 3), (32, .aload_n 0, 1), (33, .aload_n 1, 1), (34, .invokevirtual 138, 3), (37, .goto (-33), 3), (40, .aload_n 0, 1), (41, .getfield 52, 3), (44, .aload_n 0, 1), (45, .getfield 91, 3), (48, .aload_n 0, 1), (49, .getfield 85, 3), (52, .iastore, 1), (53, .aload_n 0, 1), (54, .getfield 37, 3), (57, .aload_n 0, 1), (58, .getfield 85, 3), (61, .aload_n 0, 1), (62, .getfield 88, 3), (65, .iastore, 1), (66, .aload_n 0, 1), (67, .getfield 74, 3), (70, .aload_n 0, 1), (71, .getfield 97, 3), (74, .aload_n 0, 1), (75, .getfield 94, 3), (78, .iastore, 1), (79, .return_, 1)]
theorem t_X3_read : ∀ q ∈ k_X3_read, decode cX3_read q.1 = .ok q.2 := dl_all (by decide +kernel)
noncomputable def m_X3_read_l4 (a0 a1 : Int) (h_4 : Hp) : Option ((Hp) ⊕ ((Hp) ⊕ (((Int × Int) × Hp)))) :=
  gd (h_4 a1 (-2) = 32) ((m_X2_isEnd a1 h_4).bind fun v5 =>
  if v5 ≠ 0 then (some (.inr (.inl h_4)))
  else ((m_X2_isName a1 (-20) h_4).bind fun v14 =>
  if v14 = 0 then (bT (m_X3_rule a0 a1 h_4) (fun _ h34 =>
  some (.inl h34)) (fun a_ h_ => some (.inr (.inr ((1, a_), h_)))))
  else ((m_X2_next a1 h_4).bind fun h21 =>
  bT (m_X3_page a0 a1 h21) (fun _ h26 =>
  some (.inl h26)) (fun a_ h_ => some (.inr (.inr ((1, a_), h_)))))))
noncomputable def m_X3_read (a0 a1 : Int) (h : Hp) : Option ((Int × Int) × Hp) :=
  (m_X3_clear a0 h).bind fun h1 =>
  (lp (fun (q : Hp) => m_X3_read_l4 a0 a1 q) h1).bind (sE (fun (y40 : Hp) => gd (y40 (y40 a0 12) (-2) % 16 = 1 ∧ (0 : Int) ≤ (y40 a0 15) ∧ (y40 a0 15) < y40 (y40 a0 12) (-1)) (pt y40 (y40 a0 12) (y40 a0 15) (y40 a0 6) fun h52 =>
  gd (h52 (h52 a0 5) (-2) % 16 = 1 ∧ (0 : Int) ≤ (h52 a0 6) ∧ (h52 a0 6) < h52 (h52 a0 5) (-1)) (pt h52 (h52 a0 5) (h52 a0 6) (h52 a0 11) fun h65 =>
  gd (h65 (h65 a0 21) (-2) % 16 = 1 ∧ (0 : Int) ≤ (h65 a0 22) ∧ (h65 a0 22) < h65 (h65 a0 21) (-1)) (pt h65 (h65 a0 21) (h65 a0 22) (h65 a0 20) fun h78 =>
  some ((0, 0), h78))))) (fun (x : (Int × Int) × Hp) => some x))
theorem s_X3_read {l : Launch} [NoTr l] {D : SD} {a0 a1 : Int} {h : Hp} (hk : h a0 (-2) = 48) {r : (Int × Int) × Hp} (hm : m_X3_read a0 a1 h = some r) : Sim l D yX3_read (Cond.code yX3_read cX3_read 2 (Option.none : Option Jvm.ClassFile.FieldType)) 16 604 [rv D a0, rv D a1] h 0 r := by
  refine Sim.of (fin := fun (v : (Int × Int) × Hp) => v) (lsE := [(0, rv D a0), (1, rv D a1)]) hm rfl cwS_code (la_r (la_r la_n)) (ll_r (ll_r ll_n)) ?_
  intro p e s m below meth c X hcw hmm hcc hnm hname
  have hno := noh hcw hnm hmm hcc
  unfold m_X3_read
  refine g_aload_n (pc := 0) X (j := 0) (i := 0) (q := 0) (x := a0) rfl rfl (dl_at t_X3_read 0 rfl) ?_
  refine r_callV (pc := 1) X (fun _ hv => s_X3_clear hk hv) cw_code q518 q357 (in_Vk X (As := []) kX3 hk (Or.inl q515) q517 qs1 cw_code q518 ⟨by decide, by decide⟩ rfl (dl_at t_X3_read 1 rfl)) (dl_at t_X3_read 1 rfl) (cat24 (st := []) (Nat.le_of_ble_eq_true rfl)) (Nat.le_of_ble_eq_true rfl) (Nat.le_of_ble_eq_true rfl) fun h1 E1 => ?_
  refine g_loop1F (fun (q : Hp) => [(0, rv D a0), (1, rv D a1)]) (fun (q : Hp) => q) (fun (q : Hp) => Ext h1 q) 40 (fun (y40 : Hp) => [(0, rv D a0)]) (fun (y40 : Hp) => y40) (fun (y40 : Hp) => Ext h1 y40) h1 (Ext.refl _) ?_ ?_ (fun _ => rfl)
  · rintro h_4 E_4
    try dsimp only
    unfold m_X3_read_l4
    refine g_aload_n (pc := 4) X (j := 1) (i := 1) (q := 1) (x := a1) rfl rfl (dl_at t_X3_read 2 rfl) ?_
    refine g_gd fun k5 => ?_
    refine r_callRz (pc := 5) X (fun _ hv => s_X2_isEnd k5 hv) cw_code q1761 q356 (in_Vk X (As := []) kX2 k5 (Or.inr ⟨_, nw_in q1962 rfl⟩) q1760 qs14 cw_code q1761 ⟨by decide, by decide⟩ rfl (dl_at t_X3_read 3 rfl)) (dl_at t_X3_read 3 rfl) (cat24 (st := []) (Nat.le_of_ble_eq_true rfl)) (Nat.le_of_ble_eq_true rfl) (Nat.le_of_ble_eq_true rfl) fun v5 g5 => ?_
    refine g_ifne (pc := 8) X (r32_z g5) (off := 32) (tgt := 40) rfl (dl_at t_X3_read 4 rfl) (fun _ => ?_) (fun _ => ?_)
    · refine g_ls (ls2 := [(0, rv D a0)]) [0] rfl ?_
      exact g_at fun Q hQ => hQ E_4
    refine g_aload_n (pc := 11) X (j := 1) (i := 1) (q := 1) (x := a1) rfl rfl (dl_at t_X3_read 5 rfl) ?_
    refine g_ldcS (pc := 12) X (index := 126) (id := (-20)) 18 rfl rfl (dl_at t_X3_read 6 rfl) ?_
    refine r_callRz (pc := 14) X (fun _ hv => s_X2_isName k5 hv) cw_code q1766 q356 (in_Vk X (As := [rv D (-20)]) kX2 k5 (Or.inr ⟨_, nw_in q1964 rfl⟩) q1765 qs15 cw_code q1766 ⟨by decide, by decide⟩ rfl (dl_at t_X3_read 7 rfl)) (dl_at t_X3_read 7 rfl) (cat24 (st := []) (Nat.le_of_ble_eq_true rfl)) (Nat.le_of_ble_eq_true rfl) (Nat.le_of_ble_eq_true rfl) fun v14 g14 => ?_
    refine g_ifeq (pc := 17) X (r32_z g14) (off := 15) (tgt := 32) rfl (dl_at t_X3_read 8 rfl) (fun _ => ?_) (fun _ => ?_)
    · refine g_aload_n (pc := 32) X (j := 0) (i := 0) (q := 0) (x := a0) rfl rfl (dl_at t_X3_read 15 rfl) ?_
      refine g_aload_n (pc := 33) X (j := 1) (i := 1) (q := 1) (x := a1) rfl rfl (dl_at t_X3_read 16 rfl) ?_
      have k34 := kx (E1.trans E_4) (by decide) hk
      refine r_callTv (pc := 34) X (fun _ hv => s_X3_rule k34 hv) cw_code q1994 q357 (in_Vk X (As := [rv D a1]) kX3 k34 (Or.inl q1991) q1993 qs34 cw_code q1994 ⟨by decide, by decide⟩ rfl (dl_at t_X3_read 17 rfl)) (dl_at t_X3_read 17 rfl) (cat24 (st := []) (Nat.le_of_ble_eq_true rfl)) (Nat.le_of_ble_eq_true rfl) (Nat.le_of_ble_eq_true rfl) (fun v34 h34 E34 => ?_) (fun _ _ ha _ => gt_at fun Q hQ => gt_out (Q := Q) X rfl ha (hno _) _ Q rfl hQ)
      refine g_goto (pc := 37) X (off := (-33)) (tgt := 4) rfl (dl_at t_X3_read 18 rfl) ?_
      exact g_at fun Q hQ => hQ (E_4.trans E34)
    refine g_aload_n (pc := 20) X (j := 1) (i := 1) (q := 1) (x := a1) rfl rfl (dl_at t_X3_read 9 rfl) ?_
    refine r_callV (pc := 21) X (fun _ hv => s_X2_next k5 hv) cw_code q1725 q356 (in_Vk X (As := []) kX2 k5 (Or.inr ⟨_, nw_in q1965 rfl⟩) q1724 qs8 cw_code q1725 ⟨by decide, by decide⟩ rfl (dl_at t_X3_read 10 rfl)) (dl_at t_X3_read 10 rfl) (cat24 (st := []) (Nat.le_of_ble_eq_true rfl)) (Nat.le_of_ble_eq_true rfl) (Nat.le_of_ble_eq_true rfl) fun h21 E21 => ?_
    refine g_aload_n (pc := 24) X (j := 0) (i := 0) (q := 0) (x := a0) rfl rfl (dl_at t_X3_read 11 rfl) ?_
    refine g_aload_n (pc := 25) X (j := 1) (i := 1) (q := 1) (x := a1) rfl rfl (dl_at t_X3_read 12 rfl) ?_
    have k26 := kx (E1.trans (E_4.trans E21)) (by decide) hk
    refine r_callTv (pc := 26) X (fun _ hv => s_X3_page k26 hv) cw_code q1969 q357 (in_Vk X (As := [rv D a1]) kX3 k26 (Or.inl q1966) q1968 qs32 cw_code q1969 ⟨by decide, by decide⟩ rfl (dl_at t_X3_read 13 rfl)) (dl_at t_X3_read 13 rfl) (cat24 (st := []) (Nat.le_of_ble_eq_true rfl)) (Nat.le_of_ble_eq_true rfl) (Nat.le_of_ble_eq_true rfl) (fun v26 h26 E26 => ?_) (fun _ _ ha _ => gt_at fun Q hQ => gt_out (Q := Q) X rfl ha (hno _) _ Q rfl hQ)
    refine g_goto (pc := 29) X (off := (-25)) (tgt := 4) rfl (dl_at t_X3_read 14 rfl) ?_
    exact g_at fun Q hQ => hQ (E_4.trans (E21.trans E26))
  · rintro h_40 E_40
    try dsimp only [sE]
    refine g_aload_n (pc := 40) X (j := 0) (i := 0) (q := 0) (x := a0) rfl rfl (dl_at t_X3_read 19 rfl) ?_
    have k41 := kx (E1.trans E_40) (by decide) hk
    refine r_getr (pc := 41) X fX3_12 k41 q543 (dl_at t_X3_read 20 rfl) ?_
    refine g_aload_n (pc := 44) X (j := 0) (i := 0) (q := 0) (x := a0) rfl rfl (dl_at t_X3_read 21 rfl) ?_
    refine r_geti (pc := 45) X fX3_15 k41 q549 (dl_at t_X3_read 22 rfl) fun g45 => ?_
    refine g_aload_n (pc := 48) X (j := 0) (i := 0) (q := 0) (x := a0) rfl rfl (dl_at t_X3_read 23 rfl) ?_
    refine r_geti (pc := 49) X fX3_6 k41 q533 (dl_at t_X3_read 24 rfl) fun g49 => ?_
    refine g_gd fun k52 => ?_
    refine r_iast (pc := 52) X g45 g49 k52 (dl_at t_X3_read 25 rfl) (fun h52 E52 => ?_)
    refine g_aload_n (pc := 53) X (j := 0) (i := 0) (q := 0) (x := a0) rfl rfl (dl_at t_X3_read 26 rfl) ?_
    have k54 := kx E52 (by decide) k41
    refine r_getr (pc := 54) X fX3_5 k54 q531 (dl_at t_X3_read 27 rfl) ?_
    refine g_aload_n (pc := 57) X (j := 0) (i := 0) (q := 0) (x := a0) rfl rfl (dl_at t_X3_read 28 rfl) ?_
    refine r_geti (pc := 58) X fX3_6 k54 q533 (dl_at t_X3_read 29 rfl) fun g58 => ?_
    refine g_aload_n (pc := 61) X (j := 0) (i := 0) (q := 0) (x := a0) rfl rfl (dl_at t_X3_read 30 rfl) ?_
    refine r_geti (pc := 62) X fX3_11 k54 q542 (dl_at t_X3_read 31 rfl) fun g62 => ?_
    refine g_gd fun k65 => ?_
    refine r_iast (pc := 65) X g58 g62 k65 (dl_at t_X3_read 32 rfl) (fun h65 E65 => ?_)
    refine g_aload_n (pc := 66) X (j := 0) (i := 0) (q := 0) (x := a0) rfl rfl (dl_at t_X3_read 33 rfl) ?_
    have k67 := kx E65 (by decide) k54
    refine r_getr (pc := 67) X fX3_21 k67 q561 (dl_at t_X3_read 34 rfl) ?_
    refine g_aload_n (pc := 70) X (j := 0) (i := 0) (q := 0) (x := a0) rfl rfl (dl_at t_X3_read 35 rfl) ?_
    refine r_geti (pc := 71) X fX3_22 k67 q563 (dl_at t_X3_read 36 rfl) fun g71 => ?_
    refine g_aload_n (pc := 74) X (j := 0) (i := 0) (q := 0) (x := a0) rfl rfl (dl_at t_X3_read 37 rfl) ?_
    refine r_geti (pc := 75) X fX3_20 k67 q560 (dl_at t_X3_read 38 rfl) fun g75 => ?_
    refine g_gd fun k78 => ?_
    refine r_iast (pc := 78) X g71 g75 k78 (dl_at t_X3_read 39 rfl) (fun h78 E78 => ?_)
    exact g_vret (pc := 79) X (v := 0) rfl rfl (dl_at t_X3_read 40 rfl)
def k_X1_style : List (Nat × Instr × Nat) := [(0, .aload_n 0, 1), (1, .getfield 31, 3), (4, .aload_n 0, 1), (5, .invokevirtual 143, 3), (8, .invokevirtual 147, 3), (11, .iconst 0, 1), (12, .istore_n 1, 1), (13, .aload_n 0, 1), (14, .getfield 38, 3), (17, .iload_n 1, 1), (18, .aaload, 1), (19, .aload_n 0, 1), (20, .getfield 56, 3), (23, .if_acmp .eq 26, 3), (26, .aload_n 0, 1), (27, .getfield 169, 3), (30, .ifnull 25, 3), (33, .aload_n 0, 1), (34, .getfield 38, 3), (37, .iload_n 1, 1), (38, .aaload, 1), (39, .aload_n 0, 1), (40, .getfield 169, 3), (43, .getfield 173, 3), (46, .if_acmp .ne 9, 3), (49, .iinc 1 1, 3), (52, .goto (-39), 3), (55, .aload_n 0, 1), (56, .getfield 38, 3), (59, .iload_n 1, 1), (60, .aaload, 1), (61, .aload_n 0, 1), (62, .getfield 31, 3), (65, .invokevirtual 174, 3), (68, .goto 10, 3), (71, .astore_n 2, 1), (72, .aload_n 0, 1), (73, .aload_n 2, 1), (74, .invokevirtual 154, 3), (77, .athrow, 1), (78, .aload_n 0, 1), (79, .aload_n 0, 1), (80, .getfield 38, 3), (83, .iload_n 1, 1), (84, .aaload, 1), (85, .putfield 56, 3), (88, .aload_n 0, 1), (89, .iconst 0, 1), (90, .putfield 175, 3), (93, .aload_n 0, 1), (94, .getfield 56, 3), (97, .getfield 179, 3), (100, .ireturn, 1)]
theorem t_X1_style : ∀ q ∈ k_X1_style, decode cX1_style q.1 = .ok q.2 := dl_all (by decide +kernel)
noncomputable def m_X1_style_j49 (x1_13 : Int) : Option ((Int) ⊕ ((Int))) :=
  lt_ (w32 (x1_13 + 1)) fun x1_49 =>
  some (.inl x1_49)
noncomputable def m_X1_style_l13 (a0 x1_13 : Int) (h8 : Hp) : Option ((Int) ⊕ ((Int))) :=
  gd (h8 (h8 a0 3) (-2) % 16 = 5 ∧ (0 : Int) ≤ x1_13 ∧ x1_13 < h8 (h8 a0 3) (-1)) (gd (0 ≤ (h8 (h8 a0 3) x1_13) ∧ 0 ≤ (h8 a0 6)) (if (h8 (h8 a0 3) x1_13) = (h8 a0 6) then (m_X1_style_j49 x1_13)
  else (if (h8 a0 18) = 0 then (some (.inr x1_13))
  else (gd (h8 (h8 a0 18) (-2) = 224) (gd (0 ≤ (h8 (h8 a0 3) x1_13) ∧ 0 ≤ (h8 (h8 a0 18) 3)) (if (h8 (h8 a0 3) x1_13) ≠ (h8 (h8 a0 18) 3) then (some (.inr x1_13))
  else (m_X1_style_j49 x1_13)))))))
noncomputable def m_X1_style (a0 : Int) (h : Hp) : Option ((Int × Int) × Hp) :=
  bW (m_X1_take a0 h) fun v5 h5 =>
  gd (h5 (h a0 2) (-2) = 32) ((m_X2_begin (h a0 2) v5 h5).bind fun h8 =>
  lt_ 0 fun x1_12 =>
  (lp (fun (q : Int) => m_X1_style_l13 a0 q h8) x1_12).bind (fun (y55 : Int) => gd (h8 (h8 a0 3) (-2) % 16 = 5 ∧ (0 : Int) ≤ y55 ∧ y55 < h8 (h8 a0 3) (-1)) (gd (h8 (h8 (h8 a0 3) y55) (-2) = 48) (bT (m_X3_read (h8 (h8 a0 3) y55) (h8 a0 2) h8) (fun _ h65_1 =>
  gd (h65_1 (h65_1 a0 3) (-2) % 16 = 5 ∧ (0 : Int) ≤ y55 ∧ y55 < h65_1 (h65_1 a0 3) (-1)) (pt h65_1 a0 6 (h65_1 (h65_1 a0 3) y55) fun h85 =>
  pt h85 a0 13 0 fun h90 =>
  gd (h90 (h90 a0 6) (-2) = 48) (some ((0, (h90 (h90 a0 6) 15)), h90)))) (fun a65 h65 => if h65 a65 (-2) = 432 then (bW (m_X1_broken a0 a65 h65) fun v74 h74 =>
  gd (0 < v74) (some ((1, v74), h74)))
  else (none))))))
theorem s_X1_style {l : Launch} [NoTr l] {D : SD} {a0 : Int} {h : Hp} (hk : h a0 (-2) = 16) {r : (Int × Int) × Hp} (hm : m_X1_style a0 h = some r) : Sim l D yX1_style (Cond.codeWith yX1_style cX1_style 3 (Option.some Jvm.ClassFile.FieldType.int) [((55 : Nat), (68 : Nat), (71 : Nat), (138 : Nat))]) 17 641 [rv D a0] h 1 r := by
  refine Sim.of (fin := fun (v : (Int × Int) × Hp) => v) (lsE := [(0, rv D a0)]) hm rfl cwS_with (la_r la_n) (ll_r ll_n) ?_
  intro p e s m below meth c X hcw hmm hcc hnm hname
  have htb := tabW hcw hnm hmm hcc
  unfold m_X1_style
  refine g_aload_n (pc := 0) X (j := 0) (i := 0) (q := 0) (x := a0) rfl rfl (dl_at t_X1_style 0 rfl) ?_
  refine r_getr (pc := 1) X fX1_2 hk q1490 (dl_at t_X1_style 1 rfl) ?_
  refine g_aload_n (pc := 4) X (j := 0) (i := 0) (q := 0) (x := a0) rfl rfl (dl_at t_X1_style 2 rfl) ?_
  refine r_callWi (pc := 5) X (fun _ hv => s_X1_take hk hv) cw_code q1717 q355 (in_Vk X (As := []) kX1 hk (Or.inl q1714) q1716 qs6 cw_code q1717 ⟨by decide, by decide⟩ rfl (dl_at t_X1_style 3 rfl)) (dl_at t_X1_style 3 rfl) (cat24 (st := [rv D (h a0 2)]) (Nat.le_of_ble_eq_true rfl)) (Nat.le_of_ble_eq_true rfl) (Nat.le_of_ble_eq_true rfl) fun v5 h5 g5 E5 => ?_
  refine g_gd fun k8 => ?_
  refine r_callV (pc := 8) X (fun _ hv => s_X2_begin k8 g5 hv) cw_code q1721 q356 (in_Vk X (As := [iv v5]) kX2 k8 (Or.inr ⟨_, nw_in q1718 rfl⟩) q1720 qs7 cw_code q1721 ⟨by decide, by decide⟩ rfl (dl_at t_X1_style 4 rfl)) (dl_at t_X1_style 4 rfl) (cat24 (st := []) (Nat.le_of_ble_eq_true rfl)) (Nat.le_of_ble_eq_true rfl) (Nat.le_of_ble_eq_true rfl) fun h8 E8 => ?_
  refine g_iconst (pc := 11) X (n := 0) (dl_at t_X1_style 5 rfl) ?_
  refine g_ltz (Or.inl rfl) fun x1_12 r1_12 => ?_
  refine g_istore_nN (pc := 12) X (j := 1) (i := 1) (x := x1_12) (b := 0) (w := rv D a0) (rest := []) rfl (Nat.le_of_ble_eq_true rfl) [0] rfl (by decide) rv_cat rfl (dl_at t_X1_style 6 rfl) ?_
  refine g_ls (ls2 := [(0, rv D a0), (1, iv x1_12)]) [1, 0] rfl ?_
  refine g_loop1 (fun (q : Int) => [(0, rv D a0), (1, iv q)]) (fun (q : Int) => h8) (fun (q : Int) => r32 q) 55 (fun (y55 : Int) => [(0, rv D a0), (1, iv y55)]) (fun (y55 : Int) => h8) (fun (y55 : Int) => r32 y55) x1_12 (r32_z r1_12) ?_ ?_
  · rintro x1_13 r1_13
    try dsimp only
    unfold m_X1_style_l13
    refine g_aload_n (pc := 13) X (j := 0) (i := 0) (q := 0) (x := a0) rfl rfl (dl_at t_X1_style 7 rfl) ?_
    have k14 := kx (E5.trans E8) (by decide) hk
    refine r_getr (pc := 14) X fX1_3 k14 q1491 (dl_at t_X1_style 8 rfl) ?_
    refine g_iload_n (pc := 17) X (j := 1) (i := 1) (q := 1) (x := x1_13) rfl rfl (dl_at t_X1_style 9 rfl) ?_
    refine g_gd fun k18 => ?_
    refine g_aald (pc := 18) X 5 (Nat.le_of_ble_eq_true rfl) (Nat.le_of_ble_eq_true rfl) r1_13 rfl k18 (dl_at t_X1_style 10 rfl) ?_
    refine g_aload_n (pc := 19) X (j := 0) (i := 0) (q := 0) (x := a0) rfl rfl (dl_at t_X1_style 11 rfl) ?_
    refine r_getr (pc := 20) X fX1_6 k14 q1494 (dl_at t_X1_style 12 rfl) ?_
    refine g_join (γ := Unit) (fun q => True) 49 (fun q => [(0, rv D a0), (1, iv x1_13)]) (fun q => []) (fun q => h8) (fun q => m_X1_style_j49 x1_13) ?_ ?_
    · rintro _ _
      try dsimp only
      unfold m_X1_style_j49
      refine r_iincN (pc := 49) X (i := 1) (q := 1) (n := 1) (x := x1_13) (b := 0) (w := rv D a0) (rest := []) rfl r1_13 (r32_c rfl) (Nat.le_of_ble_eq_true rfl) [0] rfl (by decide) rv_cat rfl (dl_at t_X1_style 25 rfl) fun x1_49 r1_49 => ?_
      refine g_goto (pc := 52) X (off := (-39)) (tgt := 13) rfl (dl_at t_X1_style 26 rfl) ?_
      refine g_ls (ls2 := [(0, rv D a0), (1, iv x1_49)]) [1, 0] rfl ?_
      exact g_at fun Q hQ => hQ r1_49
    intro J49
    refine g_gd fun z23 => ?_
    refine g_acmpeq (pc := 23) X z23 (off := 26) (tgt := 49) rfl (dl_at t_X1_style 13 rfl) (fun _ => ?_) (fun _ => ?_)
    · exact J49 () trivial
    refine g_aload_n (pc := 26) X (j := 0) (i := 0) (q := 0) (x := a0) rfl rfl (dl_at t_X1_style 14 rfl) ?_
    refine r_getr (pc := 27) X fX1_18 k14 q1506 (dl_at t_X1_style 15 rfl) ?_
    refine g_ifnull (pc := 30) X (off := 25) (tgt := 55) rfl (dl_at t_X1_style 16 rfl) (fun _ => ?_) (fun _ => ?_)
    · exact g_at fun Q hQ => hQ r1_13
    refine g_aload_n (pc := 33) X (j := 0) (i := 0) (q := 0) (x := a0) rfl rfl (dl_at t_X1_style 17 rfl) ?_
    refine r_getr (pc := 34) X fX1_3 k14 q1491 (dl_at t_X1_style 18 rfl) ?_
    refine g_iload_n (pc := 37) X (j := 1) (i := 1) (q := 1) (x := x1_13) rfl rfl (dl_at t_X1_style 19 rfl) ?_
    refine g_aald (pc := 38) X 5 (Nat.le_of_ble_eq_true rfl) (Nat.le_of_ble_eq_true rfl) r1_13 rfl k18 (dl_at t_X1_style 20 rfl) ?_
    refine g_aload_n (pc := 39) X (j := 0) (i := 0) (q := 0) (x := a0) rfl rfl (dl_at t_X1_style 21 rfl) ?_
    refine r_getr (pc := 40) X fX1_18 k14 q1506 (dl_at t_X1_style 22 rfl) ?_
    refine g_gd fun k43 => ?_
    refine r_getrN (pc := 43) X fX14_3 k43 (nw_in q1246 rfl) (dl_at t_X1_style 23 rfl) ?_
    refine g_gd fun z46 => ?_
    refine g_acmpne (pc := 46) X z46 (off := 9) (tgt := 55) rfl (dl_at t_X1_style 24 rfl) (fun _ => ?_) (fun _ => ?_)
    · exact g_at fun Q hQ => hQ r1_13
    exact J49 () trivial
  · rintro x1_55 r1_55
    try dsimp only [sE]
    refine g_aload_n (pc := 55) X (j := 0) (i := 0) (q := 0) (x := a0) rfl rfl (dl_at t_X1_style 27 rfl) ?_
    have k56 := kx (E5.trans E8) (by decide) hk
    refine r_getr (pc := 56) X fX1_3 k56 q1491 (dl_at t_X1_style 28 rfl) ?_
    refine g_iload_n (pc := 59) X (j := 1) (i := 1) (q := 1) (x := x1_55) rfl rfl (dl_at t_X1_style 29 rfl) ?_
    refine g_gd fun k60 => ?_
    refine g_aald (pc := 60) X 5 (Nat.le_of_ble_eq_true rfl) (Nat.le_of_ble_eq_true rfl) r1_55 rfl k60 (dl_at t_X1_style 30 rfl) ?_
    refine g_aload_n (pc := 61) X (j := 0) (i := 0) (q := 0) (x := a0) rfl rfl (dl_at t_X1_style 31 rfl) ?_
    refine r_getr (pc := 62) X fX1_2 k56 q1490 (dl_at t_X1_style 32 rfl) ?_
    refine g_gd fun k65 => ?_
    refine r_callTv (pc := 65) X (fun _ hv => s_X3_read k65 hv) cw_code q1961 q357 (in_Vk X (As := [rv D (h8 a0 2)]) kX3 k65 (Or.inr ⟨_, nw_in q1958 rfl⟩) q1960 qs31 cw_code q1961 ⟨by decide, by decide⟩ rfl (dl_at t_X1_style 33 rfl)) (dl_at t_X1_style 33 rfl) (cat24 (st := []) (Nat.le_of_ble_eq_true rfl)) (Nat.le_of_ble_eq_true rfl) (Nat.le_of_ble_eq_true rfl) (fun v65 h65_1 E65_1 => ?_) (fun a65 h65 p65 E65 => ?_)
    · refine g_goto (pc := 68) X (off := 10) (tgt := 78) rfl (dl_at t_X1_style 34 rfl) ?_
      refine g_aload_n (pc := 78) X (j := 0) (i := 0) (q := 0) (x := a0) rfl rfl (dl_at t_X1_style 40 rfl) ?_
      refine g_aload_n (pc := 79) X (j := 0) (i := 0) (q := 0) (x := a0) rfl rfl (dl_at t_X1_style 41 rfl) ?_
      have k80 := kx E65_1 (by decide) k56
      refine r_getr (pc := 80) X fX1_3 k80 q1491 (dl_at t_X1_style 42 rfl) ?_
      refine g_iload_n (pc := 83) X (j := 1) (i := 1) (q := 1) (x := x1_55) rfl rfl (dl_at t_X1_style 43 rfl) ?_
      refine g_gd fun k84 => ?_
      refine g_aald (pc := 84) X 5 (Nat.le_of_ble_eq_true rfl) (Nat.le_of_ble_eq_true rfl) r1_55 rfl k84 (dl_at t_X1_style 44 rfl) ?_
      refine r_putr (pc := 85) X fX1_6 k80 q1494 rfl (dl_at t_X1_style 45 rfl)  (fun h85 E85 => ?_)
      refine g_aload_n (pc := 88) X (j := 0) (i := 0) (q := 0) (x := a0) rfl rfl (dl_at t_X1_style 46 rfl) ?_
      refine g_iconst (pc := 89) X (n := 0) (dl_at t_X1_style 47 rfl) ?_
      have k90 := kx E85 (by decide) k80
      refine r_putz (pc := 90) X fX1_13 k90 q1501 rfl (dl_at t_X1_style 48 rfl) (Or.inl rfl) (fun h90 E90 => ?_)
      refine g_aload_n (pc := 93) X (j := 0) (i := 0) (q := 0) (x := a0) rfl rfl (dl_at t_X1_style 49 rfl) ?_
      have k94 := kx E90 (by decide) k90
      refine r_getr (pc := 94) X fX1_6 k94 q1494 (dl_at t_X1_style 50 rfl) ?_
      refine g_gd fun k97 => ?_
      refine r_getiN (pc := 97) X fX3_15 k97 (nw_in q551 rfl) (dl_at t_X1_style 51 rfl) fun g97 => ?_
      exact g_iret (pc := 100) X g97 rfl rfl (dl_at t_X1_style 52 rfl)
    refine gt_case (fun k65_1 => ?_) (fun _ => ?_)
    · refine gt_catch (pc := 65) X kX26 k65_1 [((55, 68, 71, 138), "ScholarsPress$Broken", true)] (hp := 71) rfl (by decide +kernel) (List.forall_mem_cons.mpr ⟨⟨q1713, by decide⟩, fun _ h => absurd h List.not_mem_nil⟩) htb ?_
      refine g_astore_n (pc := 71) X (j := 2) (i := 2) (x := a65) (rest := [(0, rv D a0)]) rfl (Nat.le_of_ble_eq_true rfl) [0] rfl rfl (dl_at t_X1_style 35 rfl) ?_
      refine g_aload_n (pc := 72) X (j := 0) (i := 0) (q := 1) (x := a0) rfl rfl (dl_at t_X1_style 36 rfl) ?_
      refine g_aload_n (pc := 73) X (j := 2) (i := 2) (q := 0) (x := a65) rfl rfl (dl_at t_X1_style 37 rfl) ?_
      have k74 := kx E65 (by decide) k56
      refine r_callWr (pc := 74) X (fun _ hv => s_X1_broken k74 hv) cw_code q1881 q355 (in_Vk X (As := [rv D a65]) kX1 k74 (Or.inl q1878) q1880 qs21 cw_code q1881 ⟨by decide, by decide⟩ rfl (dl_at t_X1_style 38 rfl)) (dl_at t_X1_style 38 rfl) (cat24 (st := []) (Nat.le_of_ble_eq_true rfl)) (Nat.le_of_ble_eq_true rfl) (Nat.le_of_ble_eq_true rfl) fun v74 h74 E74 => ?_
      refine g_gd fun p77 => ?_
      refine g_athrow (pc := 77) X (Int.ne_of_gt p77) (dl_at t_X1_style 39 rfl) ?_
      exact gt_at fun Q hQ => gt_out (Q := Q) X rfl p77 (noc (pc := 77) htb rfl) _ Q rfl hQ
    exact gt_none
def k_X0_style : List (Nat × Instr × Nat) := [(0, .aload_n 1, 1), (1, .iconst 0, 1), (2, .aload_n 0, 1), (3, .invokevirtual 30, 3), (6, .i2l, 1), (7, .lastore, 1), (8, .goto 6, 3), (11, .astore_n 2, 1), (12, .iconst 1, 1), (13, .ireturn, 1), (14, .iconst 0, 1), (15, .ireturn, 1)]
theorem t_X0_style : ∀ q ∈ k_X0_style, decode cX0_style q.1 = .ok q.2 := dl_all (by decide +kernel)
noncomputable def m_X0_style (a0 a1 : Int) (h : Hp) : Option (Int × Hp) :=
  gd (h a0 (-2) = 16) (bT (m_X1_style a0 h) (fun v3 h3_1 =>
  gd (h3_1 a1 (-2) % 16 = 4 ∧ (0 : Int) ≤ 0 ∧ 0 < h3_1 a1 (-1)) (pt h3_1 a1 0 v3 fun h7 =>
  some (0, h7))) (fun a3 h3 => if h3 a3 (-2) = 432 then (some (1, h3))
  else (if h3 a3 (-2) = 512 then (some (1, h3))
  else (none))))
theorem s_X0_style {l : Launch} [NoTr l] {D : SD} {a0 a1 : Int} {h : Hp}  {r : Int × Hp} (hm : m_X0_style a0 a1 h = some r) : Sim l D yX0_style (Cond.codeWith yX0_style cX0_style 3 (Option.some Jvm.ClassFile.FieldType.int) [((0 : Nat), (8 : Nat), (11 : Nat), (25 : Nat))]) 18 679 [rv D a0, rv D a1] h 1 ((0, r.1), r.2) := by
  refine Sim.of (fin := fun (v : Int × Hp) => ((0, v.1), v.2)) (lsE := [(0, rv D a0), (1, rv D a1)]) hm rfl cwS_with (la_r (la_r la_n)) (ll_r (ll_r ll_n)) ?_
  intro p e s m below meth c X hcw hmm hcc hnm hname
  have htb := tabW hcw hnm hmm hcc
  unfold m_X0_style
  refine g_aload_n (pc := 0) X (j := 1) (i := 1) (q := 1) (x := a1) rfl rfl (dl_at t_X0_style 0 rfl) ?_
  refine g_iconst (pc := 1) X (n := 0) (dl_at t_X0_style 1 rfl) ?_
  refine g_aload_n (pc := 2) X (j := 0) (i := 0) (q := 0) (x := a0) rfl rfl (dl_at t_X0_style 2 rfl) ?_
  refine g_gd fun k3 => ?_
  refine r_callTi (pc := 3) X (fun _ hv => s_X1_style k3 hv) cw_with q1957 q355 (in_Vk X (As := []) kX1 k3 (Or.inl q1954) q1955 q1956 cw_with q1957 ⟨by decide, by decide⟩ rfl (dl_at t_X0_style 3 rfl)) (dl_at t_X0_style 3 rfl) (cat24 (st := [iv 0, rv D a1]) (Nat.le_of_ble_eq_true rfl)) (Nat.le_of_ble_eq_true rfl) (Nat.le_of_ble_eq_true rfl) (fun v3 h3_1 g3 E3_1 => ?_) (fun a3 h3 p3 E3 => ?_)
  · refine g_i2l (pc := 6) X g3 (dl_at t_X0_style 4 rfl) ?_
    refine g_gd fun k7 => ?_
    refine r_last (pc := 7) X (r32_c rfl) (r64_of g3) k7 (dl_at t_X0_style 5 rfl) (fun h7 E7 => ?_)
    refine g_goto (pc := 8) X (off := 6) (tgt := 14) rfl (dl_at t_X0_style 6 rfl) ?_
    refine g_iconst (pc := 14) X (n := 0) (dl_at t_X0_style 10 rfl) ?_
    exact g_iret (pc := 15) X (r32_c rfl) rfl rfl (dl_at t_X0_style 11 rfl)
  refine gt_case (fun k3_1 => ?_) (fun _ => ?_)
  · refine gt_catch (pc := 3) X kX26 k3_1 [((0, 8, 11, 25), "java/lang/UnsupportedOperationException", true)] (hp := 11) rfl (by decide +kernel) (List.forall_mem_cons.mpr ⟨⟨q1708, by decide⟩, fun _ h => absurd h List.not_mem_nil⟩) htb ?_
    refine g_astore_n (pc := 11) X (j := 2) (i := 2) (x := a3) (rest := []) rfl (Nat.le_of_ble_eq_true rfl) [] rfl rfl (dl_at t_X0_style 7 rfl) ?_
    refine g_iconst (pc := 12) X (n := 1) (dl_at t_X0_style 8 rfl) ?_
    exact g_iret (pc := 13) X (r32_c rfl) rfl rfl (dl_at t_X0_style 9 rfl)
  refine gt_case (fun k3_2 => ?_) (fun _ => ?_)
  · refine gt_catch (pc := 3) X kJ10 k3_2 [((0, 8, 11, 25), "java/lang/UnsupportedOperationException", true)] (hp := 11) rfl (by decide +kernel) (List.forall_mem_cons.mpr ⟨⟨q1708, by decide⟩, fun _ h => absurd h List.not_mem_nil⟩) htb ?_
    refine g_astore_n (pc := 11) X (j := 2) (i := 2) (x := a3) (rest := []) rfl (Nat.le_of_ble_eq_true rfl) [] rfl rfl (dl_at t_X0_style 7 rfl) ?_
    refine g_iconst (pc := 12) X (n := 1) (dl_at t_X0_style 8 rfl) ?_
    exact g_iret (pc := 13) X (r32_c rfl) rfl rfl (dl_at t_X0_style 9 rfl)
  exact gt_none
def k_X1_freeSource : List (Nat × Instr × Nat) := [(0, .iconst 0, 1), (1, .istore_n 1, 1), (2, .aload_n 0, 1), (3, .getfield 45, 3), (6, .iload_n 1, 1), (7, .aaload, 1), (8, .aload_n 0, 1), (9, .getfield 182, 3), (12, .if_acmp .eq 26, 3), (15, .aload_n 0, 1), (16, .getfield 169, 3), (19, .ifnull 25, 3), (22, .aload_n 0, 1), (23, .getfield 45, 3), (26, .iload_n 1, 1), (27, .aaload, 1), (28, .aload_n 0, 1), (29, .getfield 169, 3), (32, .getfield 186, 3), (35, .if_acmp .ne 9, 3), (38, .iinc 1 1, 3), (41, .goto (-39), 3), (44, .aload_n 0, 1), (45, .getfield 45, 3), (48, .iload_n 1, 1), (49, .aaload, 1), (50, .areturn, 1)]
theorem t_X1_freeSource : ∀ q ∈ k_X1_freeSource, decode cX1_freeSource q.1 = .ok q.2 := dl_all (by decide +kernel)
noncomputable def m_X1_freeSource_j38 (x1_2 : Int) : Option ((Int) ⊕ ((Int))) :=
  lt_ (w32 (x1_2 + 1)) fun x1_38 =>
  some (.inl x1_38)
noncomputable def m_X1_freeSource_l2 (a0 x1_2 : Int) (h : Hp) : Option ((Int) ⊕ ((Int))) :=
  gd (h (h a0 4) (-2) % 16 = 6 ∧ (0 : Int) ≤ x1_2 ∧ x1_2 < h (h a0 4) (-1)) (gd (0 ≤ (h (h a0 4) x1_2) ∧ 0 ≤ (h a0 11)) (if (h (h a0 4) x1_2) = (h a0 11) then (m_X1_freeSource_j38 x1_2)
  else (if (h a0 18) = 0 then (some (.inr (h (h a0 4) x1_2)))
  else (gd (h (h a0 18) (-2) = 224) (gd (0 ≤ (h (h a0 4) x1_2) ∧ 0 ≤ (h (h a0 18) 6)) (if (h (h a0 4) x1_2) ≠ (h (h a0 18) 6) then (some (.inr (h (h a0 4) x1_2)))
  else (m_X1_freeSource_j38 x1_2)))))))
noncomputable def m_X1_freeSource (a0 : Int) (h : Hp) : Option (Int) :=
  lt_ 0 fun x1_1 =>
  (lp (fun (q : Int) => m_X1_freeSource_l2 a0 q h) x1_1).bind (fun (x : Int) => some x)
theorem s_X1_freeSource {l : Launch} [NoTr l] {D : SD} {a0 : Int} {h : Hp} (hk : h a0 (-2) = 16) {r : Int} (hm : m_X1_freeSource a0 h = some r) : Sim l D yX1_freeSource (Cond.code yX1_freeSource cX1_freeSource 2 (Option.some (Jvm.ClassFile.FieldType.object "ScholarsPress$Source"))) 0 0 [rv D a0] h 5 ((0, r), h) := by
  refine Sim.of (fin := fun (v : Int) => ((0, v), h)) (lsE := [(0, rv D a0)]) hm rfl cwS_code (la_r la_n) (ll_r ll_n) ?_
  intro p e s m below meth c X hcw hmm hcc hnm hname
  unfold m_X1_freeSource
  refine g_iconst (pc := 0) X (n := 0) (dl_at t_X1_freeSource 0 rfl) ?_
  refine g_ltz (Or.inl rfl) fun x1_1 r1_1 => ?_
  refine g_istore_nN (pc := 1) X (j := 1) (i := 1) (x := x1_1) (b := 0) (w := rv D a0) (rest := []) rfl (Nat.le_of_ble_eq_true rfl) [0] rfl (by decide) rv_cat rfl (dl_at t_X1_freeSource 1 rfl) ?_
  refine g_ls (ls2 := [(0, rv D a0), (1, iv x1_1)]) [1, 0] rfl ?_
  refine g_loop0F (fun (q : Int) => [(0, rv D a0), (1, iv q)]) (fun (q : Int) => h) (fun (q : Int) => r32 q) x1_1 (r32_z r1_1) ?_ (fun _ => rfl)
  · rintro x1_2 r1_2
    try dsimp only
    unfold m_X1_freeSource_l2
    refine g_aload_n (pc := 2) X (j := 0) (i := 0) (q := 0) (x := a0) rfl rfl (dl_at t_X1_freeSource 2 rfl) ?_
    refine r_getr (pc := 3) X fX1_4 hk q1492 (dl_at t_X1_freeSource 3 rfl) ?_
    refine g_iload_n (pc := 6) X (j := 1) (i := 1) (q := 1) (x := x1_2) rfl rfl (dl_at t_X1_freeSource 4 rfl) ?_
    refine g_gd fun k7 => ?_
    refine g_aald (pc := 7) X 6 (Nat.le_of_ble_eq_true rfl) (Nat.le_of_ble_eq_true rfl) r1_2 rfl k7 (dl_at t_X1_freeSource 5 rfl) ?_
    refine g_aload_n (pc := 8) X (j := 0) (i := 0) (q := 0) (x := a0) rfl rfl (dl_at t_X1_freeSource 6 rfl) ?_
    refine r_getr (pc := 9) X fX1_11 hk q1499 (dl_at t_X1_freeSource 7 rfl) ?_
    refine g_join (γ := Unit) (fun q => True) 38 (fun q => [(0, rv D a0), (1, iv x1_2)]) (fun q => []) (fun q => h) (fun q => m_X1_freeSource_j38 x1_2) ?_ ?_
    · rintro _ _
      try dsimp only
      unfold m_X1_freeSource_j38
      refine r_iincN (pc := 38) X (i := 1) (q := 1) (n := 1) (x := x1_2) (b := 0) (w := rv D a0) (rest := []) rfl r1_2 (r32_c rfl) (Nat.le_of_ble_eq_true rfl) [0] rfl (by decide) rv_cat rfl (dl_at t_X1_freeSource 20 rfl) fun x1_38 r1_38 => ?_
      refine g_goto (pc := 41) X (off := (-39)) (tgt := 2) rfl (dl_at t_X1_freeSource 21 rfl) ?_
      refine g_ls (ls2 := [(0, rv D a0), (1, iv x1_38)]) [1, 0] rfl ?_
      exact g_at fun Q hQ => hQ r1_38
    intro J38
    refine g_gd fun z12 => ?_
    refine g_acmpeq (pc := 12) X z12 (off := 26) (tgt := 38) rfl (dl_at t_X1_freeSource 8 rfl) (fun _ => ?_) (fun _ => ?_)
    · exact J38 () trivial
    refine g_aload_n (pc := 15) X (j := 0) (i := 0) (q := 0) (x := a0) rfl rfl (dl_at t_X1_freeSource 9 rfl) ?_
    refine r_getr (pc := 16) X fX1_18 hk q1506 (dl_at t_X1_freeSource 10 rfl) ?_
    refine g_ifnull (pc := 19) X (off := 25) (tgt := 44) rfl (dl_at t_X1_freeSource 11 rfl) (fun _ => ?_) (fun _ => ?_)
    · refine g_aload_n (pc := 44) X (j := 0) (i := 0) (q := 0) (x := a0) rfl rfl (dl_at t_X1_freeSource 22 rfl) ?_
      refine r_getr (pc := 45) X fX1_4 hk q1492 (dl_at t_X1_freeSource 23 rfl) ?_
      refine g_iload_n (pc := 48) X (j := 1) (i := 1) (q := 1) (x := x1_2) rfl rfl (dl_at t_X1_freeSource 24 rfl) ?_
      refine g_aald (pc := 49) X 6 (Nat.le_of_ble_eq_true rfl) (Nat.le_of_ble_eq_true rfl) r1_2 rfl k7 (dl_at t_X1_freeSource 25 rfl) ?_
      exact g_at fun Q hQ => (g_aret (pc := 50) X (Or.inl ⟨_, rfl⟩) rfl rfl (dl_at t_X1_freeSource 26 rfl)) _ Q rfl hQ
    refine g_aload_n (pc := 22) X (j := 0) (i := 0) (q := 0) (x := a0) rfl rfl (dl_at t_X1_freeSource 12 rfl) ?_
    refine r_getr (pc := 23) X fX1_4 hk q1492 (dl_at t_X1_freeSource 13 rfl) ?_
    refine g_iload_n (pc := 26) X (j := 1) (i := 1) (q := 1) (x := x1_2) rfl rfl (dl_at t_X1_freeSource 14 rfl) ?_
    refine g_aald (pc := 27) X 6 (Nat.le_of_ble_eq_true rfl) (Nat.le_of_ble_eq_true rfl) r1_2 rfl k7 (dl_at t_X1_freeSource 15 rfl) ?_
    refine g_aload_n (pc := 28) X (j := 0) (i := 0) (q := 0) (x := a0) rfl rfl (dl_at t_X1_freeSource 16 rfl) ?_
    refine r_getr (pc := 29) X fX1_18 hk q1506 (dl_at t_X1_freeSource 17 rfl) ?_
    refine g_gd fun k32 => ?_
    refine r_getrN (pc := 32) X fX14_6 k32 (nw_in q1250 rfl) (dl_at t_X1_freeSource 18 rfl) ?_
    refine g_gd fun z35 => ?_
    refine g_acmpne (pc := 35) X z35 (off := 9) (tgt := 44) rfl (dl_at t_X1_freeSource 19 rfl) (fun _ => ?_) (fun _ => ?_)
    · refine g_aload_n (pc := 44) X (j := 0) (i := 0) (q := 0) (x := a0) rfl rfl (dl_at t_X1_freeSource 22 rfl) ?_
      refine r_getr (pc := 45) X fX1_4 hk q1492 (dl_at t_X1_freeSource 23 rfl) ?_
      refine g_iload_n (pc := 48) X (j := 1) (i := 1) (q := 1) (x := x1_2) rfl rfl (dl_at t_X1_freeSource 24 rfl) ?_
      refine g_aald (pc := 49) X 6 (Nat.le_of_ble_eq_true rfl) (Nat.le_of_ble_eq_true rfl) r1_2 rfl k7 (dl_at t_X1_freeSource 25 rfl) ?_
      exact g_at fun Q hQ => (g_aret (pc := 50) X (Or.inl ⟨_, rfl⟩) rfl rfl (dl_at t_X1_freeSource 26 rfl)) _ Q rfl hQ
    exact J38 () trivial
def k_X6_byteAt : List (Nat × Instr × Nat) := [(0, .iload_n 1, 1), (1, .aload_n 0, 1), (2, .getfield 86, 3), (5, .if_icmp .ge 16, 3), (8, .aload_n 0, 1), (9, .getfield 9, 3), (12, .iload_n 1, 1), (13, .baload, 1), (14, .sipush 255, 3), (17, .iand, 1), (18, .goto 4, 3), (21, .iconst (-1), 1), (22, .ireturn, 1)]
theorem t_X6_byteAt : ∀ q ∈ k_X6_byteAt, decode cX6_byteAt q.1 = .ok q.2 := dl_all (by decide +kernel)
noncomputable def m_X6_byteAt (a0 a1 : Int) (h : Hp) : Option (Int) :=
  if (h a0 1) ≤ a1 then (some (-1))
  else (gd (h (h a0 0) (-2) % 16 = 2 ∧ (0 : Int) ≤ a1 ∧ a1 < h (h a0 0) (-1)) (some (iand_ (h (h a0 0) a1) 255)))
theorem s_X6_byteAt {l : Launch} [NoTr l] {D : SD} {a0 a1 : Int} {h : Hp} (hk : h a0 (-2) = 96) (r1 : r32 a1) {r : Int} (hm : m_X6_byteAt a0 a1 h = some r) : Sim l D yX6_byteAt (Cond.code yX6_byteAt cX6_byteAt 2 (Option.some Jvm.ClassFile.FieldType.int)) 0 0 [rv D a0, iv a1] h 1 ((0, r), h) := by
  refine Sim.of (fin := fun (v : Int) => ((0, v), h)) (lsE := [(0, rv D a0), (1, iv a1)]) hm rfl cwS_code (la_r (la_i la_n)) (ll_r (ll_i ll_n)) ?_
  intro p e s m below meth c X hcw hmm hcc hnm hname
  unfold m_X6_byteAt
  refine g_iload_n (pc := 0) X (j := 1) (i := 1) (q := 1) (x := a1) rfl rfl (dl_at t_X6_byteAt 0 rfl) ?_
  refine g_aload_n (pc := 1) X (j := 0) (i := 0) (q := 0) (x := a0) rfl rfl (dl_at t_X6_byteAt 1 rfl) ?_
  refine r_geti (pc := 2) X fX6_1 hk q649 (dl_at t_X6_byteAt 2 rfl) fun g2 => ?_
  refine g_icmpge (pc := 5) X r1 g2 (off := 16) (tgt := 21) rfl (dl_at t_X6_byteAt 3 rfl) (fun _ => ?_) (fun _ => ?_)
  · refine g_iconst (pc := 21) X (n := (-1)) (dl_at t_X6_byteAt 11 rfl) ?_
    exact g_iret (pc := 22) X (r32_c rfl) rfl rfl (dl_at t_X6_byteAt 12 rfl)
  refine g_aload_n (pc := 8) X (j := 0) (i := 0) (q := 0) (x := a0) rfl rfl (dl_at t_X6_byteAt 4 rfl) ?_
  refine r_getr (pc := 9) X fX6_0 hk q645 (dl_at t_X6_byteAt 5 rfl) ?_
  refine g_iload_n (pc := 12) X (j := 1) (i := 1) (q := 1) (x := a1) rfl rfl (dl_at t_X6_byteAt 6 rfl) ?_
  refine g_gd fun k13 => ?_
  refine g_bald (pc := 13) X r1 k13 (dl_at t_X6_byteAt 7 rfl) fun g13 => ?_
  refine g_sipush (pc := 14) X (n := 255) rfl (dl_at t_X6_byteAt 8 rfl) ?_
  refine g_iand (pc := 17) X (dl_at t_X6_byteAt 9 rfl) ?_
  refine g_goto (pc := 18) X (off := 4) (tgt := 22) rfl (dl_at t_X6_byteAt 10 rfl) ?_
  exact g_iret (pc := 22) X (r32_iand _ _) rfl rfl (dl_at t_X6_byteAt 12 rfl)
def k_X6_broken : List (Nat × Instr × Nat) := [(0, .new 117, 3), (3, .dup, 1), (4, .aload_n 0, 1), (5, .getfield 90, 3), (8, .aload_n 0, 1), (9, .getfield 86, 3), (12, .if_icmp .ge 10, 3), (15, .aload_n 0, 1), (16, .getfield 90, 3), (19, .goto 7, 3), (22, .aload_n 0, 1), (23, .getfield 86, 3), (26, .invokespecial 119, 3), (29, .areturn, 1)]
theorem t_X6_broken : ∀ q ∈ k_X6_broken, decode cX6_broken q.1 = .ok q.2 := dl_all (by decide +kernel)
noncomputable def m_X6_broken (a0 : Int) (h : Hp) : Option (Int × Hp) :=
  al h 432 7 fun a0_1 h0 =>
  if (h0 a0 1) ≤ (h0 a0 2) then ((x_broken a0_1 (h0 a0 1) h0).bind fun h26 =>
  some (a0_1, h26))
  else ((x_broken a0_1 (h0 a0 2) h0).bind fun h26_1 =>
  some (a0_1, h26_1))
theorem s_X6_broken {l : Launch} [NoTr l] {D : SD} {a0 : Int} {h : Hp} (hk : h a0 (-2) = 96) {r : Int × Hp} (hm : m_X6_broken a0 h = some r) : Sim l D yX6_broken (Cond.code yX6_broken cX6_broken 1 (Option.some (Jvm.ClassFile.FieldType.object "ScholarsPress$Broken"))) 9 337 [rv D a0] h 5 ((0, r.1), r.2) := by
  refine Sim.of (fin := fun (v : Int × Hp) => ((0, v.1), v.2)) (lsE := [(0, rv D a0)]) hm rfl cwS_code (la_r la_n) (ll_r ll_n) ?_
  intro p e s m below meth c X hcw hmm hcc hnm hname
  unfold m_X6_broken
  refine r_new (pc := 0) X kX26 q2163 (dl_at t_X6_broken 0 rfl) fun a0_1 h0 p0 k0 E0 => ?_
  refine g_dup (pc := 3) X rv_cat (dl_at t_X6_broken 1 rfl) ?_
  refine g_aload_n (pc := 4) X (j := 0) (i := 0) (q := 0) (x := a0) rfl rfl (dl_at t_X6_broken 2 rfl) ?_
  have k5 := kx E0 (by decide) hk
  refine r_geti (pc := 5) X fX6_2 k5 q651 (dl_at t_X6_broken 3 rfl) fun g5 => ?_
  refine g_aload_n (pc := 8) X (j := 0) (i := 0) (q := 0) (x := a0) rfl rfl (dl_at t_X6_broken 4 rfl) ?_
  refine r_geti (pc := 9) X fX6_1 k5 q649 (dl_at t_X6_broken 5 rfl) fun g9 => ?_
  refine g_icmpge (pc := 12) X g5 g9 (off := 10) (tgt := 22) rfl (dl_at t_X6_broken 6 rfl) (fun _ => ?_) (fun _ => ?_)
  · refine g_aload_n (pc := 22) X (j := 0) (i := 0) (q := 0) (x := a0) rfl rfl (dl_at t_X6_broken 10 rfl) ?_
    refine r_geti (pc := 23) X fX6_1 k5 q649 (dl_at t_X6_broken 11 rfl) fun g23 => ?_
    refine r_callV (pc := 26) X (fun _ hv => sx_ScholarsPress_Broken_init_I_V k0 g23 hv) cw_code q1839 q391 (in_I X (As := [iv (h0 a0 1)]) (Int.ne_of_gt p0) rfl (Or.inr ⟨_, nw_in q2164 rfl⟩) q1838 q1839 ⟨by decide, by decide⟩ rfl (dl_at t_X6_broken 12 rfl)) (dl_at t_X6_broken 12 rfl) (cat24 (st := [rv D a0_1]) (Nat.le_of_ble_eq_true rfl)) (Nat.le_of_ble_eq_true rfl) (Nat.le_of_ble_eq_true rfl) fun h26 E26 => ?_
    exact g_aret (pc := 29) X (Or.inl ⟨_, rfl⟩) rfl rfl (dl_at t_X6_broken 13 rfl)
  refine g_aload_n (pc := 15) X (j := 0) (i := 0) (q := 0) (x := a0) rfl rfl (dl_at t_X6_broken 7 rfl) ?_
  refine r_geti (pc := 16) X fX6_2 k5 q651 (dl_at t_X6_broken 8 rfl) fun g16 => ?_
  refine g_goto (pc := 19) X (off := 7) (tgt := 26) rfl (dl_at t_X6_broken 9 rfl) ?_
  refine r_callV (pc := 26) X (fun _ hv => sx_ScholarsPress_Broken_init_I_V k0 g16 hv) cw_code q1839 q391 (in_I X (As := [iv (h0 a0 2)]) (Int.ne_of_gt p0) rfl (Or.inr ⟨_, nw_in q2164 rfl⟩) q1838 q1839 ⟨by decide, by decide⟩ rfl (dl_at t_X6_broken 12 rfl)) (dl_at t_X6_broken 12 rfl) (cat24 (st := [rv D a0_1]) (Nat.le_of_ble_eq_true rfl)) (Nat.le_of_ble_eq_true rfl) (Nat.le_of_ble_eq_true rfl) fun h26_1 E26_1 => ?_
  exact g_aret (pc := 29) X (Or.inl ⟨_, rfl⟩) rfl rfl (dl_at t_X6_broken 13 rfl)
def k_X6_comment : List (Nat × Instr × Nat) := [(0, .aload_n 0, 1), (1, .dup, 1), (2, .getfield 90, 3), (5, .iconst 1, 1), (6, .iadd, 1), (7, .putfield 90, 3), (10, .aload_n 0, 1), (11, .aload_n 0, 1), (12, .getfield 90, 3), (15, .invokevirtual 128, 3), (18, .bipush 45, 2), (20, .if_icmp .eq 8, 3), (23, .aload_n 0, 1), (24, .invokevirtual 142, 3), (27, .athrow, 1), (28, .aload_n 0, 1), (29, .getfield 90, 3), (32, .iconst 1, 1), (33, .iadd, 1), (34, .istore_n 1, 1), (35, .iload_n 1, 1), (36, .aload_n 0, 1), (37, .getfield 86, 3), (40, .if_icmp .ge 44, 3), (43, .aload_n 0, 1), (44, .getfield 9, 3), (47, .iload_n 1, 1), (48, .baload, 1), (49, .bipush 45, 2), (51, .if_icmp .ne 27, 3), (54, .aload_n 0, 1), (55, .iload_n 1, 1), (56, .iconst 1, 1), (57, .iadd, 1), (58, .invokevirtual 128, 3), (61, .bipush 45, 2), (63, .if_icmp .ne 15, 3), (66, .aload_n 0, 1), (67, .iload_n 1, 1), (68, .iconst 2, 1), (69, .iadd, 1), (70, .invokevirtual 128, 3), (73, .bipush 62, 2), (75, .if_icmp .eq 9, 3), (78, .iinc 1 1, 3), (81, .goto (-46), 3), (84, .aload_n 0, 1), (85, .iload_n 1, 1), (86, .putfield 90, 3), (89, .aload_n 0, 1), (90, .getfield 90, 3), (93, .aload_n 0, 1), (94, .getfield 86, 3), (97, .if_icmp .lt 8, 3), (100, .aload_n 0, 1), (101, .invokevirtual 142, 3), (104, .athrow, 1), (105, .aload_n 0, 1), (106, .dup, 1), (107, .getfield 90, 3), (110, .iconst 3, 1), (111, .iadd, 1), (112, .putfield 90, 3), (115, .return_, 1)]
theorem t_X6_comment : ∀ q ∈ k_X6_comment, decode cX6_comment q.1 = .ok q.2 := dl_all (by decide +kernel)
noncomputable def m_X6_comment_j78 (x1_35 : Int) : Option ((Int) ⊕ ((Int))) :=
  lt_ (w32 (x1_35 + 1)) fun x1_78 =>
  some (.inl x1_78)
noncomputable def m_X6_comment_l35 (a0 x1_35 : Int) (h7 : Hp) : Option ((Int) ⊕ ((Int))) :=
  if (h7 a0 1) ≤ x1_35 then (some (.inr x1_35))
  else (gd (h7 (h7 a0 0) (-2) % 16 = 2 ∧ (0 : Int) ≤ x1_35 ∧ x1_35 < h7 (h7 a0 0) (-1)) (if (h7 (h7 a0 0) x1_35) ≠ 45 then (m_X6_comment_j78 x1_35)
  else ((m_X6_byteAt a0 (w32 (x1_35 + 1)) h7).bind fun v58 =>
  if v58 ≠ 45 then (m_X6_comment_j78 x1_35)
  else ((m_X6_byteAt a0 (w32 (x1_35 + 2)) h7).bind fun v70 =>
  if v70 = 62 then (some (.inr x1_35))
  else (m_X6_comment_j78 x1_35)))))
noncomputable def m_X6_comment (a0 : Int) (h : Hp) : Option ((Int × Int) × Hp) :=
  pt h a0 2 (w32 ((h a0 2) + 1)) fun h7 =>
  (m_X6_byteAt a0 (h7 a0 2) h7).bind fun v15 =>
  if v15 = 45 then (lt_ (w32 ((h7 a0 2) + 1)) fun x1_34 =>
  (lp (fun (q : Int) => m_X6_comment_l35 a0 q h7) x1_34).bind (fun (y84 : Int) => pt h7 a0 2 y84 fun h86 =>
  if (h86 a0 2) < (h86 a0 1) then (pt h86 a0 2 (w32 ((h86 a0 2) + 3)) fun h112 =>
  some ((0, 0), h112))
  else (bW (m_X6_broken a0 h86) fun v101 h101 =>
  gd (0 < v101) (some ((1, v101), h101)))))
  else (bW (m_X6_broken a0 h7) fun v24 h24 =>
  gd (0 < v24) (some ((1, v24), h24)))
theorem s_X6_comment {l : Launch} [NoTr l] {D : SD} {a0 : Int} {h : Hp} (hk : h a0 (-2) = 96) {r : (Int × Int) × Hp} (hm : m_X6_comment a0 h = some r) : Sim l D yX6_comment (Cond.code yX6_comment cX6_comment 2 (Option.none : Option Jvm.ClassFile.FieldType)) 10 373 [rv D a0] h 0 r := by
  refine Sim.of (fin := fun (v : (Int × Int) × Hp) => v) (lsE := [(0, rv D a0)]) hm rfl cwS_code (la_r la_n) (ll_r ll_n) ?_
  intro p e s m below meth c X hcw hmm hcc hnm hname
  have hno := noh hcw hnm hmm hcc
  unfold m_X6_comment
  refine g_aload_n (pc := 0) X (j := 0) (i := 0) (q := 0) (x := a0) rfl rfl (dl_at t_X6_comment 0 rfl) ?_
  refine g_dup (pc := 1) X rv_cat (dl_at t_X6_comment 1 rfl) ?_
  refine r_geti (pc := 2) X fX6_2 hk q651 (dl_at t_X6_comment 2 rfl) fun g2 => ?_
  refine g_iconst (pc := 5) X (n := 1) (dl_at t_X6_comment 3 rfl) ?_
  refine g_iadd (pc := 6) X g2 (r32_c rfl) (dl_at t_X6_comment 4 rfl) ?_
  refine r_puti (pc := 7) X fX6_2 hk q651 rfl (dl_at t_X6_comment 5 rfl) (r32_w _) (fun h7 E7 => ?_)
  refine g_aload_n (pc := 10) X (j := 0) (i := 0) (q := 0) (x := a0) rfl rfl (dl_at t_X6_comment 6 rfl) ?_
  refine g_aload_n (pc := 11) X (j := 0) (i := 0) (q := 0) (x := a0) rfl rfl (dl_at t_X6_comment 7 rfl) ?_
  have k12 := kx E7 (by decide) hk
  refine r_geti (pc := 12) X fX6_2 k12 q651 (dl_at t_X6_comment 8 rfl) fun g12 => ?_
  refine r_callRi (pc := 15) X (fun _ hv => s_X6_byteAt k12 g12 hv) cw_code q2150 q360 (in_Vk X (As := [iv (h7 a0 2)]) kX6 k12 (Or.inl q2147) q2149 qs55 cw_code q2150 ⟨by decide, by decide⟩ rfl (dl_at t_X6_comment 9 rfl)) (dl_at t_X6_comment 9 rfl) (cat24 (st := []) (Nat.le_of_ble_eq_true rfl)) (Nat.le_of_ble_eq_true rfl) (Nat.le_of_ble_eq_true rfl) fun v15 g15 => ?_
  refine g_bipush (pc := 18) X (n := 45) rfl (dl_at t_X6_comment 10 rfl) ?_
  refine g_icmpeq (pc := 20) X g15 (r32_c rfl) (off := 8) (tgt := 28) rfl (dl_at t_X6_comment 11 rfl) (fun _ => ?_) (fun _ => ?_)
  · refine g_aload_n (pc := 28) X (j := 0) (i := 0) (q := 0) (x := a0) rfl rfl (dl_at t_X6_comment 15 rfl) ?_
    refine r_geti (pc := 29) X fX6_2 k12 q651 (dl_at t_X6_comment 16 rfl) fun g29 => ?_
    refine g_iconst (pc := 32) X (n := 1) (dl_at t_X6_comment 17 rfl) ?_
    refine g_iadd (pc := 33) X g29 (r32_c rfl) (dl_at t_X6_comment 18 rfl) ?_
    refine g_lti (r32_w _) fun x1_34 r1_34 => ?_
    refine g_istore_nN (pc := 34) X (j := 1) (i := 1) (x := x1_34) (b := 0) (w := rv D a0) (rest := []) rfl (Nat.le_of_ble_eq_true rfl) [0] rfl (by decide) rv_cat rfl (dl_at t_X6_comment 19 rfl) ?_
    refine g_ls (ls2 := [(0, rv D a0), (1, iv x1_34)]) [1, 0] rfl ?_
    refine g_loop1 (fun (q : Int) => [(0, rv D a0), (1, iv q)]) (fun (q : Int) => h7) (fun (q : Int) => r32 q) 84 (fun (y84 : Int) => [(0, rv D a0), (1, iv y84)]) (fun (y84 : Int) => h7) (fun (y84 : Int) => r32 y84) x1_34 r1_34 ?_ ?_
    · rintro x1_35 r1_35
      try dsimp only
      unfold m_X6_comment_l35
      refine g_iload_n (pc := 35) X (j := 1) (i := 1) (q := 1) (x := x1_35) rfl rfl (dl_at t_X6_comment 20 rfl) ?_
      refine g_aload_n (pc := 36) X (j := 0) (i := 0) (q := 0) (x := a0) rfl rfl (dl_at t_X6_comment 21 rfl) ?_
      refine r_geti (pc := 37) X fX6_1 k12 q649 (dl_at t_X6_comment 22 rfl) fun g37 => ?_
      refine g_icmpge (pc := 40) X r1_35 g37 (off := 44) (tgt := 84) rfl (dl_at t_X6_comment 23 rfl) (fun _ => ?_) (fun _ => ?_)
      · exact g_at fun Q hQ => hQ r1_35
      refine g_aload_n (pc := 43) X (j := 0) (i := 0) (q := 0) (x := a0) rfl rfl (dl_at t_X6_comment 24 rfl) ?_
      refine r_getr (pc := 44) X fX6_0 k12 q645 (dl_at t_X6_comment 25 rfl) ?_
      refine g_iload_n (pc := 47) X (j := 1) (i := 1) (q := 1) (x := x1_35) rfl rfl (dl_at t_X6_comment 26 rfl) ?_
      refine g_gd fun k48 => ?_
      refine g_bald (pc := 48) X r1_35 k48 (dl_at t_X6_comment 27 rfl) fun g48 => ?_
      refine g_bipush (pc := 49) X (n := 45) rfl (dl_at t_X6_comment 28 rfl) ?_
      refine g_join (γ := Unit) (fun q => True) 78 (fun q => [(0, rv D a0), (1, iv x1_35)]) (fun q => []) (fun q => h7) (fun q => m_X6_comment_j78 x1_35) ?_ ?_
      · rintro _ _
        try dsimp only
        unfold m_X6_comment_j78
        refine r_iincN (pc := 78) X (i := 1) (q := 1) (n := 1) (x := x1_35) (b := 0) (w := rv D a0) (rest := []) rfl r1_35 (r32_c rfl) (Nat.le_of_ble_eq_true rfl) [0] rfl (by decide) rv_cat rfl (dl_at t_X6_comment 44 rfl) fun x1_78 r1_78 => ?_
        refine g_goto (pc := 81) X (off := (-46)) (tgt := 35) rfl (dl_at t_X6_comment 45 rfl) ?_
        refine g_ls (ls2 := [(0, rv D a0), (1, iv x1_78)]) [1, 0] rfl ?_
        exact g_at fun Q hQ => hQ r1_78
      intro J78
      refine g_icmpne (pc := 51) X (r32_b g48) (r32_c rfl) (off := 27) (tgt := 78) rfl (dl_at t_X6_comment 29 rfl) (fun _ => ?_) (fun _ => ?_)
      · exact J78 () trivial
      refine g_aload_n (pc := 54) X (j := 0) (i := 0) (q := 0) (x := a0) rfl rfl (dl_at t_X6_comment 30 rfl) ?_
      refine g_iload_n (pc := 55) X (j := 1) (i := 1) (q := 1) (x := x1_35) rfl rfl (dl_at t_X6_comment 31 rfl) ?_
      refine g_iconst (pc := 56) X (n := 1) (dl_at t_X6_comment 32 rfl) ?_
      refine g_iadd (pc := 57) X r1_35 (r32_c rfl) (dl_at t_X6_comment 33 rfl) ?_
      refine r_callRi (pc := 58) X (fun _ hv => s_X6_byteAt k12 (r32_w _) hv) cw_code q2150 q360 (in_Vk X (As := [iv (w32 (x1_35 + 1))]) kX6 k12 (Or.inl q2147) q2149 qs55 cw_code q2150 ⟨by decide, by decide⟩ rfl (dl_at t_X6_comment 34 rfl)) (dl_at t_X6_comment 34 rfl) (cat24 (st := []) (Nat.le_of_ble_eq_true rfl)) (Nat.le_of_ble_eq_true rfl) (Nat.le_of_ble_eq_true rfl) fun v58 g58 => ?_
      refine g_bipush (pc := 61) X (n := 45) rfl (dl_at t_X6_comment 35 rfl) ?_
      refine g_icmpne (pc := 63) X g58 (r32_c rfl) (off := 15) (tgt := 78) rfl (dl_at t_X6_comment 36 rfl) (fun _ => ?_) (fun _ => ?_)
      · exact J78 () trivial
      refine g_aload_n (pc := 66) X (j := 0) (i := 0) (q := 0) (x := a0) rfl rfl (dl_at t_X6_comment 37 rfl) ?_
      refine g_iload_n (pc := 67) X (j := 1) (i := 1) (q := 1) (x := x1_35) rfl rfl (dl_at t_X6_comment 38 rfl) ?_
      refine g_iconst (pc := 68) X (n := 2) (dl_at t_X6_comment 39 rfl) ?_
      refine g_iadd (pc := 69) X r1_35 (r32_c rfl) (dl_at t_X6_comment 40 rfl) ?_
      refine r_callRi (pc := 70) X (fun _ hv => s_X6_byteAt k12 (r32_w _) hv) cw_code q2150 q360 (in_Vk X (As := [iv (w32 (x1_35 + 2))]) kX6 k12 (Or.inl q2147) q2149 qs55 cw_code q2150 ⟨by decide, by decide⟩ rfl (dl_at t_X6_comment 41 rfl)) (dl_at t_X6_comment 41 rfl) (cat24 (st := []) (Nat.le_of_ble_eq_true rfl)) (Nat.le_of_ble_eq_true rfl) (Nat.le_of_ble_eq_true rfl) fun v70 g70 => ?_
      refine g_bipush (pc := 73) X (n := 62) rfl (dl_at t_X6_comment 42 rfl) ?_
      refine g_icmpeq (pc := 75) X g70 (r32_c rfl) (off := 9) (tgt := 84) rfl (dl_at t_X6_comment 43 rfl) (fun _ => ?_) (fun _ => ?_)
      · exact g_at fun Q hQ => hQ r1_35
      exact J78 () trivial
    · rintro x1_84 r1_84
      try dsimp only [sE]
      refine g_aload_n (pc := 84) X (j := 0) (i := 0) (q := 0) (x := a0) rfl rfl (dl_at t_X6_comment 46 rfl) ?_
      refine g_iload_n (pc := 85) X (j := 1) (i := 1) (q := 1) (x := x1_84) rfl rfl (dl_at t_X6_comment 47 rfl) ?_
      refine r_puti (pc := 86) X fX6_2 k12 q651 rfl (dl_at t_X6_comment 48 rfl) r1_84 (fun h86 E86 => ?_)
      refine g_aload_n (pc := 89) X (j := 0) (i := 0) (q := 0) (x := a0) rfl rfl (dl_at t_X6_comment 49 rfl) ?_
      have k90 := kx E86 (by decide) k12
      refine r_geti (pc := 90) X fX6_2 k90 q651 (dl_at t_X6_comment 50 rfl) fun g90 => ?_
      refine g_aload_n (pc := 93) X (j := 0) (i := 0) (q := 0) (x := a0) rfl rfl (dl_at t_X6_comment 51 rfl) ?_
      refine r_geti (pc := 94) X fX6_1 k90 q649 (dl_at t_X6_comment 52 rfl) fun g94 => ?_
      refine g_icmplt (pc := 97) X g90 g94 (off := 8) (tgt := 105) rfl (dl_at t_X6_comment 53 rfl) (fun _ => ?_) (fun _ => ?_)
      · refine g_aload_n (pc := 105) X (j := 0) (i := 0) (q := 0) (x := a0) rfl rfl (dl_at t_X6_comment 57 rfl) ?_
        refine g_dup (pc := 106) X rv_cat (dl_at t_X6_comment 58 rfl) ?_
        refine r_geti (pc := 107) X fX6_2 k90 q651 (dl_at t_X6_comment 59 rfl) fun g107 => ?_
        refine g_iconst (pc := 110) X (n := 3) (dl_at t_X6_comment 60 rfl) ?_
        refine g_iadd (pc := 111) X g107 (r32_c rfl) (dl_at t_X6_comment 61 rfl) ?_
        refine r_puti (pc := 112) X fX6_2 k90 q651 rfl (dl_at t_X6_comment 62 rfl) (r32_w _) (fun h112 E112 => ?_)
        exact g_vret (pc := 115) X (v := 0) rfl rfl (dl_at t_X6_comment 63 rfl)
      refine g_aload_n (pc := 100) X (j := 0) (i := 0) (q := 0) (x := a0) rfl rfl (dl_at t_X6_comment 54 rfl) ?_
      refine r_callWr (pc := 101) X (fun _ hv => s_X6_broken k90 hv) cw_code q2162 q360 (in_Vk X (As := []) kX6 k90 (Or.inl q2159) q2161 qs58 cw_code q2162 ⟨by decide, by decide⟩ rfl (dl_at t_X6_comment 55 rfl)) (dl_at t_X6_comment 55 rfl) (cat24 (st := []) (Nat.le_of_ble_eq_true rfl)) (Nat.le_of_ble_eq_true rfl) (Nat.le_of_ble_eq_true rfl) fun v101 h101 E101 => ?_
      refine g_gd fun p104 => ?_
      refine g_athrow (pc := 104) X (Int.ne_of_gt p104) (dl_at t_X6_comment 56 rfl) ?_
      exact gt_at fun Q hQ => gt_out (Q := Q) X rfl p104 (hno _) _ Q rfl hQ
  refine g_aload_n (pc := 23) X (j := 0) (i := 0) (q := 0) (x := a0) rfl rfl (dl_at t_X6_comment 12 rfl) ?_
  refine r_callWr (pc := 24) X (fun _ hv => s_X6_broken k12 hv) cw_code q2162 q360 (in_Vk X (As := []) kX6 k12 (Or.inl q2159) q2161 qs58 cw_code q2162 ⟨by decide, by decide⟩ rfl (dl_at t_X6_comment 13 rfl)) (dl_at t_X6_comment 13 rfl) (cat24 (st := []) (Nat.le_of_ble_eq_true rfl)) (Nat.le_of_ble_eq_true rfl) (Nat.le_of_ble_eq_true rfl) fun v24 h24 E24 => ?_
  refine g_gd fun p27 => ?_
  refine g_athrow (pc := 27) X (Int.ne_of_gt p27) (dl_at t_X6_comment 14 rfl) ?_
  exact gt_at fun Q hQ => gt_out (Q := Q) X rfl p27 (hno _) _ Q rfl hQ
def k_X6_nameEnd : List (Nat × Instr × Nat) := [(0, .aload_n 0, 1), (1, .getfield 90, 3), (4, .istore_n 1, 1), (5, .aload_n 0, 1), (6, .iload_n 1, 1), (7, .invokevirtual 128, 3), (10, .invokestatic 153, 3), (13, .ifCond .ne 8, 3), (16, .aload_n 0, 1), (17, .invokevirtual 142, 3), (20, .athrow, 1), (21, .aload_n 0, 1), (22, .iload_n 1, 1), (23, .invokevirtual 128, 3), (26, .invokestatic 153, 3), (29, .ifCond .ne 14, 3), (32, .aload_n 0, 1), (33, .iload_n 1, 1), (34, .invokevirtual 128, 3), (37, .invokestatic 156, 3), (40, .ifCond .eq 9, 3), (43, .iinc 1 1, 3), (46, .goto (-25), 3), (49, .iload_n 1, 1), (50, .aload_n 0, 1), (51, .getfield 90, 3), (54, .isub, 1), (55, .bipush 12, 2), (57, .if_icmp .le 8, 3), (60, .aload_n 0, 1), (61, .invokevirtual 142, 3), (64, .athrow, 1), (65, .iload_n 1, 1), (66, .ireturn, 1)]
theorem t_X6_nameEnd : ∀ q ∈ k_X6_nameEnd, decode cX6_nameEnd q.1 = .ok q.2 := dl_all (by decide +kernel)
noncomputable def m_X6_nameEnd_j43 (x1_21 : Int) : Option ((Int) ⊕ ((Int))) :=
  lt_ (w32 (x1_21 + 1)) fun x1_43 =>
  some (.inl x1_43)
noncomputable def m_X6_nameEnd_l21 (a0 x1_21 : Int) (h : Hp) : Option ((Int) ⊕ ((Int))) :=
  (m_X6_byteAt a0 x1_21 h).bind fun v23 =>
  (m_X1_isSmall v23).bind fun v26 =>
  if v26 ≠ 0 then (m_X6_nameEnd_j43 x1_21)
  else ((m_X6_byteAt a0 x1_21 h).bind fun v34 =>
  (m_X1_isDigit v34).bind fun v37 =>
  if v37 = 0 then (some (.inr x1_21))
  else (m_X6_nameEnd_j43 x1_21))
noncomputable def m_X6_nameEnd (a0 : Int) (h : Hp) : Option ((Int × Int) × Hp) :=
  lt_ (h a0 2) fun x1_4 =>
  (m_X6_byteAt a0 x1_4 h).bind fun v7 =>
  (m_X1_isSmall v7).bind fun v10 =>
  if v10 ≠ 0 then ((lp (fun (q : Int) => m_X6_nameEnd_l21 a0 q h) x1_4).bind (fun (y49 : Int) => if (w32 (y49 - (h a0 2))) ≤ 12 then (some ((0, y49), h))
  else (bW (m_X6_broken a0 h) fun v61 h61 =>
  gd (0 < v61) (some ((1, v61), h61)))))
  else (bW (m_X6_broken a0 h) fun v17 h17 =>
  gd (0 < v17) (some ((1, v17), h17)))
theorem s_X6_nameEnd {l : Launch} [NoTr l] {D : SD} {a0 : Int} {h : Hp} (hk : h a0 (-2) = 96) {r : (Int × Int) × Hp} (hm : m_X6_nameEnd a0 h = some r) : Sim l D yX6_nameEnd (Cond.code yX6_nameEnd cX6_nameEnd 2 (Option.some Jvm.ClassFile.FieldType.int)) 10 373 [rv D a0] h 1 r := by
  refine Sim.of (fin := fun (v : (Int × Int) × Hp) => v) (lsE := [(0, rv D a0)]) hm rfl cwS_code (la_r la_n) (ll_r ll_n) ?_
  intro p e s m below meth c X hcw hmm hcc hnm hname
  have hno := noh hcw hnm hmm hcc
  unfold m_X6_nameEnd
  refine g_aload_n (pc := 0) X (j := 0) (i := 0) (q := 0) (x := a0) rfl rfl (dl_at t_X6_nameEnd 0 rfl) ?_
  refine r_geti (pc := 1) X fX6_2 hk q651 (dl_at t_X6_nameEnd 1 rfl) fun g1 => ?_
  refine g_lti g1 fun x1_4 r1_4 => ?_
  refine g_istore_nN (pc := 4) X (j := 1) (i := 1) (x := x1_4) (b := 0) (w := rv D a0) (rest := []) rfl (Nat.le_of_ble_eq_true rfl) [0] rfl (by decide) rv_cat rfl (dl_at t_X6_nameEnd 2 rfl) ?_
  refine g_aload_n (pc := 5) X (j := 0) (i := 0) (q := 1) (x := a0) rfl rfl (dl_at t_X6_nameEnd 3 rfl) ?_
  refine g_iload_n (pc := 6) X (j := 1) (i := 1) (q := 0) (x := x1_4) rfl rfl (dl_at t_X6_nameEnd 4 rfl) ?_
  refine r_callRi (pc := 7) X (fun _ hv => s_X6_byteAt hk r1_4 hv) cw_code q2150 q360 (in_Vk X (As := [iv x1_4]) kX6 hk (Or.inl q2147) q2149 qs55 cw_code q2150 ⟨by decide, by decide⟩ rfl (dl_at t_X6_nameEnd 5 rfl)) (dl_at t_X6_nameEnd 5 rfl) (cat24 (st := []) (Nat.le_of_ble_eq_true rfl)) (Nat.le_of_ble_eq_true rfl) (Nat.le_of_ble_eq_true rfl) fun v7 g7 => ?_
  refine r_callRz (pc := 10) X (fun _ hv => s_X1_isSmall g7 hv) cw_code q1735 q355 (in_Sc X (As := [iv v7]) (Or.inr ⟨_, nw_in q2173 rfl⟩) q1734 q355 q1735 ⟨by decide, by decide⟩ rfl (dl_at t_X6_nameEnd 6 rfl)) (dl_at t_X6_nameEnd 6 rfl) (cat24 (st := []) (Nat.le_of_ble_eq_true rfl)) (Nat.le_of_ble_eq_true rfl) (Nat.le_of_ble_eq_true rfl) fun v10 g10 => ?_
  refine g_ifne (pc := 13) X (r32_z g10) (off := 8) (tgt := 21) rfl (dl_at t_X6_nameEnd 7 rfl) (fun _ => ?_) (fun _ => ?_)
  · refine g_ls (ls2 := [(0, rv D a0), (1, iv x1_4)]) [1, 0] rfl ?_
    refine g_loop1 (fun (q : Int) => [(0, rv D a0), (1, iv q)]) (fun (q : Int) => h) (fun (q : Int) => r32 q) 49 (fun (y49 : Int) => [(0, rv D a0), (1, iv y49)]) (fun (y49 : Int) => h) (fun (y49 : Int) => r32 y49) x1_4 r1_4 ?_ ?_
    · rintro x1_21 r1_21
      try dsimp only
      unfold m_X6_nameEnd_l21
      refine g_aload_n (pc := 21) X (j := 0) (i := 0) (q := 0) (x := a0) rfl rfl (dl_at t_X6_nameEnd 11 rfl) ?_
      refine g_iload_n (pc := 22) X (j := 1) (i := 1) (q := 1) (x := x1_21) rfl rfl (dl_at t_X6_nameEnd 12 rfl) ?_
      refine r_callRi (pc := 23) X (fun _ hv => s_X6_byteAt hk r1_21 hv) cw_code q2150 q360 (in_Vk X (As := [iv x1_21]) kX6 hk (Or.inl q2147) q2149 qs55 cw_code q2150 ⟨by decide, by decide⟩ rfl (dl_at t_X6_nameEnd 13 rfl)) (dl_at t_X6_nameEnd 13 rfl) (cat24 (st := []) (Nat.le_of_ble_eq_true rfl)) (Nat.le_of_ble_eq_true rfl) (Nat.le_of_ble_eq_true rfl) fun v23 g23 => ?_
      refine r_callRz (pc := 26) X (fun _ hv => s_X1_isSmall g23 hv) cw_code q1735 q355 (in_Sc X (As := [iv v23]) (Or.inr ⟨_, nw_in q2173 rfl⟩) q1734 q355 q1735 ⟨by decide, by decide⟩ rfl (dl_at t_X6_nameEnd 14 rfl)) (dl_at t_X6_nameEnd 14 rfl) (cat24 (st := []) (Nat.le_of_ble_eq_true rfl)) (Nat.le_of_ble_eq_true rfl) (Nat.le_of_ble_eq_true rfl) fun v26 g26 => ?_
      refine g_join (γ := Unit) (fun q => True) 43 (fun q => [(0, rv D a0), (1, iv x1_21)]) (fun q => []) (fun q => h) (fun q => m_X6_nameEnd_j43 x1_21) ?_ ?_
      · rintro _ _
        try dsimp only
        unfold m_X6_nameEnd_j43
        refine r_iincN (pc := 43) X (i := 1) (q := 1) (n := 1) (x := x1_21) (b := 0) (w := rv D a0) (rest := []) rfl r1_21 (r32_c rfl) (Nat.le_of_ble_eq_true rfl) [0] rfl (by decide) rv_cat rfl (dl_at t_X6_nameEnd 21 rfl) fun x1_43 r1_43 => ?_
        refine g_goto (pc := 46) X (off := (-25)) (tgt := 21) rfl (dl_at t_X6_nameEnd 22 rfl) ?_
        refine g_ls (ls2 := [(0, rv D a0), (1, iv x1_43)]) [1, 0] rfl ?_
        exact g_at fun Q hQ => hQ r1_43
      intro J43
      refine g_ifne (pc := 29) X (r32_z g26) (off := 14) (tgt := 43) rfl (dl_at t_X6_nameEnd 15 rfl) (fun _ => ?_) (fun _ => ?_)
      · exact J43 () trivial
      refine g_aload_n (pc := 32) X (j := 0) (i := 0) (q := 0) (x := a0) rfl rfl (dl_at t_X6_nameEnd 16 rfl) ?_
      refine g_iload_n (pc := 33) X (j := 1) (i := 1) (q := 1) (x := x1_21) rfl rfl (dl_at t_X6_nameEnd 17 rfl) ?_
      refine r_callRi (pc := 34) X (fun _ hv => s_X6_byteAt hk r1_21 hv) cw_code q2150 q360 (in_Vk X (As := [iv x1_21]) kX6 hk (Or.inl q2147) q2149 qs55 cw_code q2150 ⟨by decide, by decide⟩ rfl (dl_at t_X6_nameEnd 18 rfl)) (dl_at t_X6_nameEnd 18 rfl) (cat24 (st := []) (Nat.le_of_ble_eq_true rfl)) (Nat.le_of_ble_eq_true rfl) (Nat.le_of_ble_eq_true rfl) fun v34 g34 => ?_
      refine r_callRz (pc := 37) X (fun _ hv => s_X1_isDigit g34 hv) cw_code q1742 q355 (in_Sc X (As := [iv v34]) (Or.inr ⟨_, nw_in q2174 rfl⟩) q1741 q355 q1742 ⟨by decide, by decide⟩ rfl (dl_at t_X6_nameEnd 19 rfl)) (dl_at t_X6_nameEnd 19 rfl) (cat24 (st := []) (Nat.le_of_ble_eq_true rfl)) (Nat.le_of_ble_eq_true rfl) (Nat.le_of_ble_eq_true rfl) fun v37 g37 => ?_
      refine g_ifeq (pc := 40) X (r32_z g37) (off := 9) (tgt := 49) rfl (dl_at t_X6_nameEnd 20 rfl) (fun _ => ?_) (fun _ => ?_)
      · exact g_at fun Q hQ => hQ r1_21
      exact J43 () trivial
    · rintro x1_49 r1_49
      try dsimp only [sE]
      refine g_iload_n (pc := 49) X (j := 1) (i := 1) (q := 1) (x := x1_49) rfl rfl (dl_at t_X6_nameEnd 23 rfl) ?_
      refine g_aload_n (pc := 50) X (j := 0) (i := 0) (q := 0) (x := a0) rfl rfl (dl_at t_X6_nameEnd 24 rfl) ?_
      refine r_geti (pc := 51) X fX6_2 hk q651 (dl_at t_X6_nameEnd 25 rfl) fun g51 => ?_
      refine g_isub (pc := 54) X r1_49 g51 (dl_at t_X6_nameEnd 26 rfl) ?_
      refine g_bipush (pc := 55) X (n := 12) rfl (dl_at t_X6_nameEnd 27 rfl) ?_
      refine g_icmple (pc := 57) X (r32_w _) (r32_c rfl) (off := 8) (tgt := 65) rfl (dl_at t_X6_nameEnd 28 rfl) (fun _ => ?_) (fun _ => ?_)
      · refine g_iload_n (pc := 65) X (j := 1) (i := 1) (q := 1) (x := x1_49) rfl rfl (dl_at t_X6_nameEnd 32 rfl) ?_
        exact g_iret (pc := 66) X r1_49 rfl rfl (dl_at t_X6_nameEnd 33 rfl)
      refine g_aload_n (pc := 60) X (j := 0) (i := 0) (q := 0) (x := a0) rfl rfl (dl_at t_X6_nameEnd 29 rfl) ?_
      refine r_callWr (pc := 61) X (fun _ hv => s_X6_broken hk hv) cw_code q2162 q360 (in_Vk X (As := []) kX6 hk (Or.inl q2159) q2161 qs58 cw_code q2162 ⟨by decide, by decide⟩ rfl (dl_at t_X6_nameEnd 30 rfl)) (dl_at t_X6_nameEnd 30 rfl) (cat24 (st := []) (Nat.le_of_ble_eq_true rfl)) (Nat.le_of_ble_eq_true rfl) (Nat.le_of_ble_eq_true rfl) fun v61 h61 E61 => ?_
      refine g_gd fun p64 => ?_
      refine g_athrow (pc := 64) X (Int.ne_of_gt p64) (dl_at t_X6_nameEnd 31 rfl) ?_
      exact gt_at fun Q hQ => gt_out (Q := Q) X rfl p64 (hno _) _ Q rfl hQ
  refine g_aload_n (pc := 16) X (j := 0) (i := 0) (q := 1) (x := a0) rfl rfl (dl_at t_X6_nameEnd 8 rfl) ?_
  refine r_callWr (pc := 17) X (fun _ hv => s_X6_broken hk hv) cw_code q2162 q360 (in_Vk X (As := []) kX6 hk (Or.inl q2159) q2161 qs58 cw_code q2162 ⟨by decide, by decide⟩ rfl (dl_at t_X6_nameEnd 9 rfl)) (dl_at t_X6_nameEnd 9 rfl) (cat24 (st := []) (Nat.le_of_ble_eq_true rfl)) (Nat.le_of_ble_eq_true rfl) (Nat.le_of_ble_eq_true rfl) fun v17 h17 E17 => ?_
  refine g_gd fun p20 => ?_
  refine g_athrow (pc := 20) X (Int.ne_of_gt p20) (dl_at t_X6_nameEnd 10 rfl) ?_
  exact gt_at fun Q hQ => gt_out (Q := Q) X rfl p20 (hno _) _ Q rfl hQ
def k_X6_isWord : List (Nat × Instr × Nat) := [(0, .iload_n 2, 1), (1, .iload_n 1, 1), (2, .isub, 1), (3, .aload_n 3, 1), (4, .invokevirtual 159, 3), (7, .if_icmp .eq 5, 3), (10, .iconst 0, 1), (11, .ireturn, 1), (12, .iconst 0, 1), (13, .istore 4, 2), (15, .iload 4, 2), (17, .aload_n 3, 1), (18, .invokevirtual 159, 3), (21, .if_icmp .ge 29, 3), (24, .aload_n 0, 1), (25, .getfield 9, 3), (28, .iload_n 1, 1), (29, .iload 4, 2), (31, .iadd, 1), (32, .baload, 1), (33, .aload_n 3, 1), (34, .iload 4, 2), (36, .invokevirtual 163, 3), (39, .if_icmp .eq 5, 3), (42, .iconst 0, 1), (43, .ireturn, 1), (44, .iinc 4 1, 3), (47, .goto (-32), 3), (50, .iconst 1, 1), (51, .ireturn, 1)]
theorem t_X6_isWord : ∀ q ∈ k_X6_isWord, decode cX6_isWord q.1 = .ok q.2 := dl_all (by decide +kernel)
noncomputable def m_X6_isWord_l15 (a0 a1 a3 x4_15 : Int) (h : Hp) : Option ((Int) ⊕ ((Int))) :=
  (x_slen a3).bind fun v18 =>
  if v18 ≤ x4_15 then (some (.inr 1))
  else (gd (h (h a0 0) (-2) % 16 = 2 ∧ (0 : Int) ≤ (w32 (a1 + x4_15)) ∧ (w32 (a1 + x4_15)) < h (h a0 0) (-1)) ((x_sat a3 x4_15).bind fun v36 =>
  if (h (h a0 0) (w32 (a1 + x4_15))) = v36 then (lt_ (w32 (x4_15 + 1)) fun x4_44 =>
  some (.inl x4_44))
  else (some (.inr 0))))
noncomputable def m_X6_isWord (a0 a1 a2 a3 : Int) (h : Hp) : Option (Int) :=
  (x_slen a3).bind fun v4 =>
  if (w32 (a2 - a1)) = v4 then (lt_ 0 fun x4_13 =>
  (lp (fun (q : Int) => m_X6_isWord_l15 a0 a1 a3 q h) x4_13).bind (fun (x : Int) => some x))
  else (some 0)
theorem s_X6_isWord {l : Launch} [NoTr l] {D : SD} {a0 a1 a2 a3 : Int} {h : Hp} (hk : h a0 (-2) = 96) (r1 : r32 a1) (r2 : r32 a2) {r : Int} (hm : m_X6_isWord a0 a1 a2 a3 h = some r) : Sim l D yX6_isWord (Cond.code yX6_isWord cX6_isWord 5 (Option.some Jvm.ClassFile.FieldType.boolean)) 4 200 [rv D a0, iv a1, iv a2, rv D a3] h 3 ((0, r), h) := by
  refine Sim.of (fin := fun (v : Int) => ((0, v), h)) (lsE := [(0, rv D a0), (1, iv a1), (2, iv a2), (3, rv D a3)]) hm rfl cwS_code (la_r (la_i (la_i (la_r la_n)))) (ll_r (ll_i (ll_i (ll_r ll_n)))) ?_
  intro p e s m below meth c X hcw hmm hcc hnm hname
  unfold m_X6_isWord
  refine g_iload_n (pc := 0) X (j := 2) (i := 2) (q := 2) (x := a2) rfl rfl (dl_at t_X6_isWord 0 rfl) ?_
  refine g_iload_n (pc := 1) X (j := 1) (i := 1) (q := 1) (x := a1) rfl rfl (dl_at t_X6_isWord 1 rfl) ?_
  refine g_isub (pc := 2) X r2 r1 (dl_at t_X6_isWord 2 rfl) ?_
  refine g_aload_n (pc := 3) X (j := 3) (i := 3) (q := 3) (x := a3) rfl rfl (dl_at t_X6_isWord 3 rfl) ?_
  refine r_slen (pc := 4) X q2180 (cat24 (st := [iv (w32 (a2 - a1))]) (Nat.le_of_ble_eq_true rfl)) (Nat.le_of_ble_eq_true rfl) (Nat.le_of_ble_eq_true rfl) (dl_at t_X6_isWord 4 rfl) fun v4 g4 => ?_
  refine g_icmpeq (pc := 7) X (r32_w _) g4 (off := 5) (tgt := 12) rfl (dl_at t_X6_isWord 5 rfl) (fun _ => ?_) (fun _ => ?_)
  · refine g_iconst (pc := 12) X (n := 0) (dl_at t_X6_isWord 8 rfl) ?_
    refine g_ltz (Or.inl rfl) fun x4_13 r4_13 => ?_
    refine g_istoreN (pc := 13) X (i := 4) (x := x4_13) (b := 3) (w := rv D a3) (rest := [(0, rv D a0), (1, iv a1)]) (Nat.le_of_ble_eq_true rfl) [3, 0, 1] rfl (by decide) rv_cat rfl (dl_at t_X6_isWord 9 rfl) ?_
    refine g_ls (ls2 := [(0, rv D a0), (1, iv a1), (3, rv D a3), (4, iv x4_13)]) [2, 3, 1, 0] rfl ?_
    refine g_loop0F (fun (q : Int) => [(0, rv D a0), (1, iv a1), (3, rv D a3), (4, iv q)]) (fun (q : Int) => h) (fun (q : Int) => r32 q) x4_13 (r32_z r4_13) ?_ (fun _ => rfl)
    · rintro x4_15 r4_15
      try dsimp only
      unfold m_X6_isWord_l15
      refine g_iload (pc := 15) X (i := 4) (q := 3) (x := x4_15) rfl (dl_at t_X6_isWord 10 rfl) ?_
      refine g_aload_n (pc := 17) X (j := 3) (i := 3) (q := 2) (x := a3) rfl rfl (dl_at t_X6_isWord 11 rfl) ?_
      refine r_slen (pc := 18) X q2180 (cat24 (st := [iv x4_15]) (Nat.le_of_ble_eq_true rfl)) (Nat.le_of_ble_eq_true rfl) (Nat.le_of_ble_eq_true rfl) (dl_at t_X6_isWord 12 rfl) fun v18 g18 => ?_
      refine g_icmpge (pc := 21) X r4_15 g18 (off := 29) (tgt := 50) rfl (dl_at t_X6_isWord 13 rfl) (fun _ => ?_) (fun _ => ?_)
      · refine g_iconst (pc := 50) X (n := 1) (dl_at t_X6_isWord 28 rfl) ?_
        exact g_at fun Q hQ => (g_zret (pc := 51) X (Or.inr rfl) rfl rfl (dl_at t_X6_isWord 29 rfl)) _ Q rfl hQ
      refine g_aload_n (pc := 24) X (j := 0) (i := 0) (q := 0) (x := a0) rfl rfl (dl_at t_X6_isWord 14 rfl) ?_
      refine r_getr (pc := 25) X fX6_0 hk q645 (dl_at t_X6_isWord 15 rfl) ?_
      refine g_iload_n (pc := 28) X (j := 1) (i := 1) (q := 1) (x := a1) rfl rfl (dl_at t_X6_isWord 16 rfl) ?_
      refine g_iload (pc := 29) X (i := 4) (q := 3) (x := x4_15) rfl (dl_at t_X6_isWord 17 rfl) ?_
      refine g_iadd (pc := 31) X r1 r4_15 (dl_at t_X6_isWord 18 rfl) ?_
      refine g_gd fun k32 => ?_
      refine g_bald (pc := 32) X (r32_w _) k32 (dl_at t_X6_isWord 19 rfl) fun g32 => ?_
      refine g_aload_n (pc := 33) X (j := 3) (i := 3) (q := 2) (x := a3) rfl rfl (dl_at t_X6_isWord 20 rfl) ?_
      refine g_iload (pc := 34) X (i := 4) (q := 3) (x := x4_15) rfl (dl_at t_X6_isWord 21 rfl) ?_
      refine r_sat (pc := 36) X r4_15 q2181 (cat24 (st := [iv (h (h a0 0) (w32 (a1 + x4_15)))]) (Nat.le_of_ble_eq_true rfl)) (Nat.le_of_ble_eq_true rfl) (Nat.le_of_ble_eq_true rfl) (dl_at t_X6_isWord 22 rfl) fun v36 g36 => ?_
      refine g_icmpeq (pc := 39) X (r32_b g32) g36 (off := 5) (tgt := 44) rfl (dl_at t_X6_isWord 23 rfl) (fun _ => ?_) (fun _ => ?_)
      · refine r_iincN (pc := 44) X (i := 4) (q := 3) (n := 1) (x := x4_15) (b := 3) (w := rv D a3) (rest := [(0, rv D a0), (1, iv a1)]) rfl r4_15 (r32_c rfl) (Nat.le_of_ble_eq_true rfl) [2, 0, 1] rfl (by decide) rv_cat rfl (dl_at t_X6_isWord 26 rfl) fun x4_44 r4_44 => ?_
        refine g_goto (pc := 47) X (off := (-32)) (tgt := 15) rfl (dl_at t_X6_isWord 27 rfl) ?_
        refine g_ls (ls2 := [(0, rv D a0), (1, iv a1), (3, rv D a3), (4, iv x4_44)]) [2, 3, 1, 0] rfl ?_
        exact g_at fun Q hQ => hQ r4_44
      refine g_iconst (pc := 42) X (n := 0) (dl_at t_X6_isWord 24 rfl) ?_
      exact g_at fun Q hQ => (g_zret (pc := 43) X (Or.inl rfl) rfl rfl (dl_at t_X6_isWord 25 rfl)) _ Q rfl hQ
  refine g_iconst (pc := 10) X (n := 0) (dl_at t_X6_isWord 6 rfl) ?_
  exact g_zret (pc := 11) X (Or.inl rfl) rfl rfl (dl_at t_X6_isWord 7 rfl)
def k_X6_blanks : List (Nat × Instr × Nat) := [(0, .aload_n 0, 1), (1, .aload_n 0, 1), (2, .getfield 90, 3), (5, .invokevirtual 128, 3), (8, .invokestatic 182, 3), (11, .ifCond .eq 16, 3), (14, .aload_n 0, 1), (15, .dup, 1), (16, .getfield 90, 3), (19, .iconst 1, 1), (20, .iadd, 1), (21, .putfield 90, 3), (24, .goto (-24), 3), (27, .return_, 1)]
theorem t_X6_blanks : ∀ q ∈ k_X6_blanks, decode cX6_blanks q.1 = .ok q.2 := dl_all (by decide +kernel)
noncomputable def m_X6_blanks_l0 (a0 : Int) (h_0 : Hp) : Option ((Hp) ⊕ ((Hp))) :=
  (m_X6_byteAt a0 (h_0 a0 2) h_0).bind fun v5 =>
  (m_X1_isBlank v5).bind fun v8 =>
  if v8 = 0 then (some (.inr h_0))
  else (pt h_0 a0 2 (w32 ((h_0 a0 2) + 1)) fun h21 =>
  some (.inl h21))
noncomputable def m_X6_blanks (a0 : Int) (h : Hp) : Option (Hp) :=
  (lp (fun (q : Hp) => m_X6_blanks_l0 a0 q) h).bind (fun (x : Hp) => some x)
theorem s_X6_blanks {l : Launch} [NoTr l] {D : SD} {a0 : Int} {h : Hp} (hk : h a0 (-2) = 96) {r : Hp} (hm : m_X6_blanks a0 h = some r) : Sim l D yX6_blanks (Cond.code yX6_blanks cX6_blanks 1 (Option.none : Option Jvm.ClassFile.FieldType)) 1 37 [rv D a0] h 0 ((0, 0), r) := by
  refine Sim.of (fin := fun (v : Hp) => ((0, 0), v)) (lsE := [(0, rv D a0)]) hm rfl cwS_code (la_r la_n) (ll_r ll_n) ?_
  intro p e s m below meth c X hcw hmm hcc hnm hname
  unfold m_X6_blanks
  refine g_loop0F (fun (q : Hp) => [(0, rv D a0)]) (fun (q : Hp) => q) (fun (q : Hp) => Ext h q) h (Ext.refl _) ?_ (fun _ => rfl)
  · rintro h_0 E_0
    try dsimp only
    unfold m_X6_blanks_l0
    refine g_aload_n (pc := 0) X (j := 0) (i := 0) (q := 0) (x := a0) rfl rfl (dl_at t_X6_blanks 0 rfl) ?_
    refine g_aload_n (pc := 1) X (j := 0) (i := 0) (q := 0) (x := a0) rfl rfl (dl_at t_X6_blanks 1 rfl) ?_
    have k2 := kx E_0 (by decide) hk
    refine r_geti (pc := 2) X fX6_2 k2 q651 (dl_at t_X6_blanks 2 rfl) fun g2 => ?_
    refine r_callRi (pc := 5) X (fun _ hv => s_X6_byteAt k2 g2 hv) cw_code q2150 q360 (in_Vk X (As := [iv (h_0 a0 2)]) kX6 k2 (Or.inl q2147) q2149 qs55 cw_code q2150 ⟨by decide, by decide⟩ rfl (dl_at t_X6_blanks 3 rfl)) (dl_at t_X6_blanks 3 rfl) (cat24 (st := []) (Nat.le_of_ble_eq_true rfl)) (Nat.le_of_ble_eq_true rfl) (Nat.le_of_ble_eq_true rfl) fun v5 g5 => ?_
    refine r_callRz (pc := 8) X (fun _ hv => s_X1_isBlank g5 hv) cw_code q1732 q355 (in_Sc X (As := [iv v5]) (Or.inr ⟨_, nw_in q2188 rfl⟩) q1731 q355 q1732 ⟨by decide, by decide⟩ rfl (dl_at t_X6_blanks 4 rfl)) (dl_at t_X6_blanks 4 rfl) (cat24 (st := []) (Nat.le_of_ble_eq_true rfl)) (Nat.le_of_ble_eq_true rfl) (Nat.le_of_ble_eq_true rfl) fun v8 g8 => ?_
    refine g_ifeq (pc := 11) X (r32_z g8) (off := 16) (tgt := 27) rfl (dl_at t_X6_blanks 5 rfl) (fun _ => ?_) (fun _ => ?_)
    · exact g_at fun Q hQ => (g_vret (pc := 27) X (v := 0) rfl rfl (dl_at t_X6_blanks 13 rfl)) _ Q rfl hQ
    refine g_aload_n (pc := 14) X (j := 0) (i := 0) (q := 0) (x := a0) rfl rfl (dl_at t_X6_blanks 6 rfl) ?_
    refine g_dup (pc := 15) X rv_cat (dl_at t_X6_blanks 7 rfl) ?_
    refine r_geti (pc := 16) X fX6_2 k2 q651 (dl_at t_X6_blanks 8 rfl) fun g16 => ?_
    refine g_iconst (pc := 19) X (n := 1) (dl_at t_X6_blanks 9 rfl) ?_
    refine g_iadd (pc := 20) X g16 (r32_c rfl) (dl_at t_X6_blanks 10 rfl) ?_
    refine r_puti (pc := 21) X fX6_2 k2 q651 rfl (dl_at t_X6_blanks 11 rfl) (r32_w _) (fun h21 E21 => ?_)
    refine g_goto (pc := 24) X (off := (-24)) (tgt := 0) rfl (dl_at t_X6_blanks 12 rfl) ?_
    exact g_at fun Q hQ => hQ (E_0.trans E21)
def k_X6_string : List (Nat × Instr × Nat) := [(0, .aload_n 0, 1), (1, .aload_n 0, 1), (2, .getfield 90, 3), (5, .invokevirtual 128, 3), (8, .bipush 34, 2), (10, .if_icmp .eq 8, 3), (13, .aload_n 0, 1), (14, .invokevirtual 142, 3), (17, .athrow, 1), (18, .aload_n 0, 1), (19, .getfield 90, 3), (22, .iconst 1, 1), (23, .iadd, 1), (24, .istore_n 1, 1), (25, .aload_n 0, 1), (26, .iload_n 1, 1), (27, .invokevirtual 128, 3), (30, .invokestatic 150, 3), (33, .ifCond .eq 19, 3), (36, .aload_n 0, 1), (37, .iload_n 1, 1), (38, .invokevirtual 128, 3), (41, .bipush 34, 2), (43, .if_icmp .eq 9, 3), (46, .iinc 1 1, 3), (49, .goto (-24), 3), (52, .aload_n 0, 1), (53, .iload_n 1, 1), (54, .invokevirtual 128, 3), (57, .bipush 34, 2), (59, .if_icmp .eq 8, 3), (62, .aload_n 0, 1), (63, .invokevirtual 142, 3), (66, .athrow, 1), (67, .iload_n 1, 1), (68, .aload_n 0, 1), (69, .getfield 90, 3), (72, .isub, 1), (73, .iconst 1, 1), (74, .isub, 1), (75, .ireturn, 1)]
theorem t_X6_string : ∀ q ∈ k_X6_string, decode cX6_string q.1 = .ok q.2 := dl_all (by decide +kernel)
noncomputable def m_X6_string_l25 (a0 x1_25 : Int) (h : Hp) : Option ((Int) ⊕ ((Int))) :=
  (m_X6_byteAt a0 x1_25 h).bind fun v27 =>
  (m_X1_isPlain v27).bind fun v30 =>
  if v30 = 0 then (some (.inr x1_25))
  else ((m_X6_byteAt a0 x1_25 h).bind fun v38 =>
  if v38 = 34 then (some (.inr x1_25))
  else (lt_ (w32 (x1_25 + 1)) fun x1_46 =>
  some (.inl x1_46)))
noncomputable def m_X6_string (a0 : Int) (h : Hp) : Option ((Int × Int) × Hp) :=
  (m_X6_byteAt a0 (h a0 2) h).bind fun v5 =>
  if v5 = 34 then (lt_ (w32 ((h a0 2) + 1)) fun x1_24 =>
  (lp (fun (q : Int) => m_X6_string_l25 a0 q h) x1_24).bind (fun (y52 : Int) => (m_X6_byteAt a0 y52 h).bind fun v54 =>
  if v54 = 34 then (some ((0, (w32 ((w32 (y52 - (h a0 2))) - 1))), h))
  else (bW (m_X6_broken a0 h) fun v63 h63 =>
  gd (0 < v63) (some ((1, v63), h63)))))
  else (bW (m_X6_broken a0 h) fun v14 h14 =>
  gd (0 < v14) (some ((1, v14), h14)))
theorem s_X6_string {l : Launch} [NoTr l] {D : SD} {a0 : Int} {h : Hp} (hk : h a0 (-2) = 96) {r : (Int × Int) × Hp} (hm : m_X6_string a0 h = some r) : Sim l D yX6_string (Cond.code yX6_string cX6_string 2 (Option.some Jvm.ClassFile.FieldType.int)) 10 373 [rv D a0] h 1 r := by
  refine Sim.of (fin := fun (v : (Int × Int) × Hp) => v) (lsE := [(0, rv D a0)]) hm rfl cwS_code (la_r la_n) (ll_r ll_n) ?_
  intro p e s m below meth c X hcw hmm hcc hnm hname
  have hno := noh hcw hnm hmm hcc
  unfold m_X6_string
  refine g_aload_n (pc := 0) X (j := 0) (i := 0) (q := 0) (x := a0) rfl rfl (dl_at t_X6_string 0 rfl) ?_
  refine g_aload_n (pc := 1) X (j := 0) (i := 0) (q := 0) (x := a0) rfl rfl (dl_at t_X6_string 1 rfl) ?_
  refine r_geti (pc := 2) X fX6_2 hk q651 (dl_at t_X6_string 2 rfl) fun g2 => ?_
  refine r_callRi (pc := 5) X (fun _ hv => s_X6_byteAt hk g2 hv) cw_code q2150 q360 (in_Vk X (As := [iv (h a0 2)]) kX6 hk (Or.inl q2147) q2149 qs55 cw_code q2150 ⟨by decide, by decide⟩ rfl (dl_at t_X6_string 3 rfl)) (dl_at t_X6_string 3 rfl) (cat24 (st := []) (Nat.le_of_ble_eq_true rfl)) (Nat.le_of_ble_eq_true rfl) (Nat.le_of_ble_eq_true rfl) fun v5 g5 => ?_
  refine g_bipush (pc := 8) X (n := 34) rfl (dl_at t_X6_string 4 rfl) ?_
  refine g_icmpeq (pc := 10) X g5 (r32_c rfl) (off := 8) (tgt := 18) rfl (dl_at t_X6_string 5 rfl) (fun _ => ?_) (fun _ => ?_)
  · refine g_aload_n (pc := 18) X (j := 0) (i := 0) (q := 0) (x := a0) rfl rfl (dl_at t_X6_string 9 rfl) ?_
    refine r_geti (pc := 19) X fX6_2 hk q651 (dl_at t_X6_string 10 rfl) fun g19 => ?_
    refine g_iconst (pc := 22) X (n := 1) (dl_at t_X6_string 11 rfl) ?_
    refine g_iadd (pc := 23) X g19 (r32_c rfl) (dl_at t_X6_string 12 rfl) ?_
    refine g_lti (r32_w _) fun x1_24 r1_24 => ?_
    refine g_istore_nN (pc := 24) X (j := 1) (i := 1) (x := x1_24) (b := 0) (w := rv D a0) (rest := []) rfl (Nat.le_of_ble_eq_true rfl) [0] rfl (by decide) rv_cat rfl (dl_at t_X6_string 13 rfl) ?_
    refine g_ls (ls2 := [(0, rv D a0), (1, iv x1_24)]) [1, 0] rfl ?_
    refine g_loop1 (fun (q : Int) => [(0, rv D a0), (1, iv q)]) (fun (q : Int) => h) (fun (q : Int) => r32 q) 52 (fun (y52 : Int) => [(0, rv D a0), (1, iv y52)]) (fun (y52 : Int) => h) (fun (y52 : Int) => r32 y52) x1_24 r1_24 ?_ ?_
    · rintro x1_25 r1_25
      try dsimp only
      unfold m_X6_string_l25
      refine g_aload_n (pc := 25) X (j := 0) (i := 0) (q := 0) (x := a0) rfl rfl (dl_at t_X6_string 14 rfl) ?_
      refine g_iload_n (pc := 26) X (j := 1) (i := 1) (q := 1) (x := x1_25) rfl rfl (dl_at t_X6_string 15 rfl) ?_
      refine r_callRi (pc := 27) X (fun _ hv => s_X6_byteAt hk r1_25 hv) cw_code q2150 q360 (in_Vk X (As := [iv x1_25]) kX6 hk (Or.inl q2147) q2149 qs55 cw_code q2150 ⟨by decide, by decide⟩ rfl (dl_at t_X6_string 16 rfl)) (dl_at t_X6_string 16 rfl) (cat24 (st := []) (Nat.le_of_ble_eq_true rfl)) (Nat.le_of_ble_eq_true rfl) (Nat.le_of_ble_eq_true rfl) fun v27 g27 => ?_
      refine r_callRz (pc := 30) X (fun _ hv => s_X1_isPlain g27 hv) cw_code q1753 q355 (in_Sc X (As := [iv v27]) (Or.inr ⟨_, nw_in q2193 rfl⟩) q1752 q355 q1753 ⟨by decide, by decide⟩ rfl (dl_at t_X6_string 17 rfl)) (dl_at t_X6_string 17 rfl) (cat24 (st := []) (Nat.le_of_ble_eq_true rfl)) (Nat.le_of_ble_eq_true rfl) (Nat.le_of_ble_eq_true rfl) fun v30 g30 => ?_
      refine g_ifeq (pc := 33) X (r32_z g30) (off := 19) (tgt := 52) rfl (dl_at t_X6_string 18 rfl) (fun _ => ?_) (fun _ => ?_)
      · exact g_at fun Q hQ => hQ r1_25
      refine g_aload_n (pc := 36) X (j := 0) (i := 0) (q := 0) (x := a0) rfl rfl (dl_at t_X6_string 19 rfl) ?_
      refine g_iload_n (pc := 37) X (j := 1) (i := 1) (q := 1) (x := x1_25) rfl rfl (dl_at t_X6_string 20 rfl) ?_
      refine r_callRi (pc := 38) X (fun _ hv => s_X6_byteAt hk r1_25 hv) cw_code q2150 q360 (in_Vk X (As := [iv x1_25]) kX6 hk (Or.inl q2147) q2149 qs55 cw_code q2150 ⟨by decide, by decide⟩ rfl (dl_at t_X6_string 21 rfl)) (dl_at t_X6_string 21 rfl) (cat24 (st := []) (Nat.le_of_ble_eq_true rfl)) (Nat.le_of_ble_eq_true rfl) (Nat.le_of_ble_eq_true rfl) fun v38 g38 => ?_
      refine g_bipush (pc := 41) X (n := 34) rfl (dl_at t_X6_string 22 rfl) ?_
      refine g_icmpeq (pc := 43) X g38 (r32_c rfl) (off := 9) (tgt := 52) rfl (dl_at t_X6_string 23 rfl) (fun _ => ?_) (fun _ => ?_)
      · exact g_at fun Q hQ => hQ r1_25
      refine r_iincN (pc := 46) X (i := 1) (q := 1) (n := 1) (x := x1_25) (b := 0) (w := rv D a0) (rest := []) rfl r1_25 (r32_c rfl) (Nat.le_of_ble_eq_true rfl) [0] rfl (by decide) rv_cat rfl (dl_at t_X6_string 24 rfl) fun x1_46 r1_46 => ?_
      refine g_goto (pc := 49) X (off := (-24)) (tgt := 25) rfl (dl_at t_X6_string 25 rfl) ?_
      refine g_ls (ls2 := [(0, rv D a0), (1, iv x1_46)]) [1, 0] rfl ?_
      exact g_at fun Q hQ => hQ r1_46
    · rintro x1_52 r1_52
      try dsimp only [sE]
      refine g_aload_n (pc := 52) X (j := 0) (i := 0) (q := 0) (x := a0) rfl rfl (dl_at t_X6_string 26 rfl) ?_
      refine g_iload_n (pc := 53) X (j := 1) (i := 1) (q := 1) (x := x1_52) rfl rfl (dl_at t_X6_string 27 rfl) ?_
      refine r_callRi (pc := 54) X (fun _ hv => s_X6_byteAt hk r1_52 hv) cw_code q2150 q360 (in_Vk X (As := [iv x1_52]) kX6 hk (Or.inl q2147) q2149 qs55 cw_code q2150 ⟨by decide, by decide⟩ rfl (dl_at t_X6_string 28 rfl)) (dl_at t_X6_string 28 rfl) (cat24 (st := []) (Nat.le_of_ble_eq_true rfl)) (Nat.le_of_ble_eq_true rfl) (Nat.le_of_ble_eq_true rfl) fun v54 g54 => ?_
      refine g_bipush (pc := 57) X (n := 34) rfl (dl_at t_X6_string 29 rfl) ?_
      refine g_icmpeq (pc := 59) X g54 (r32_c rfl) (off := 8) (tgt := 67) rfl (dl_at t_X6_string 30 rfl) (fun _ => ?_) (fun _ => ?_)
      · refine g_iload_n (pc := 67) X (j := 1) (i := 1) (q := 1) (x := x1_52) rfl rfl (dl_at t_X6_string 34 rfl) ?_
        refine g_aload_n (pc := 68) X (j := 0) (i := 0) (q := 0) (x := a0) rfl rfl (dl_at t_X6_string 35 rfl) ?_
        refine r_geti (pc := 69) X fX6_2 hk q651 (dl_at t_X6_string 36 rfl) fun g69 => ?_
        refine g_isub (pc := 72) X r1_52 g69 (dl_at t_X6_string 37 rfl) ?_
        refine g_iconst (pc := 73) X (n := 1) (dl_at t_X6_string 38 rfl) ?_
        refine g_isub (pc := 74) X (r32_w _) (r32_c rfl) (dl_at t_X6_string 39 rfl) ?_
        exact g_iret (pc := 75) X (r32_w _) rfl rfl (dl_at t_X6_string 40 rfl)
      refine g_aload_n (pc := 62) X (j := 0) (i := 0) (q := 0) (x := a0) rfl rfl (dl_at t_X6_string 31 rfl) ?_
      refine r_callWr (pc := 63) X (fun _ hv => s_X6_broken hk hv) cw_code q2162 q360 (in_Vk X (As := []) kX6 hk (Or.inl q2159) q2161 qs58 cw_code q2162 ⟨by decide, by decide⟩ rfl (dl_at t_X6_string 32 rfl)) (dl_at t_X6_string 32 rfl) (cat24 (st := []) (Nat.le_of_ble_eq_true rfl)) (Nat.le_of_ble_eq_true rfl) (Nat.le_of_ble_eq_true rfl) fun v63 h63 E63 => ?_
      refine g_gd fun p66 => ?_
      refine g_athrow (pc := 66) X (Int.ne_of_gt p66) (dl_at t_X6_string 33 rfl) ?_
      exact gt_at fun Q hQ => gt_out (Q := Q) X rfl p66 (hno _) _ Q rfl hQ
  refine g_aload_n (pc := 13) X (j := 0) (i := 0) (q := 0) (x := a0) rfl rfl (dl_at t_X6_string 6 rfl) ?_
  refine r_callWr (pc := 14) X (fun _ hv => s_X6_broken hk hv) cw_code q2162 q360 (in_Vk X (As := []) kX6 hk (Or.inl q2159) q2161 qs58 cw_code q2162 ⟨by decide, by decide⟩ rfl (dl_at t_X6_string 7 rfl)) (dl_at t_X6_string 7 rfl) (cat24 (st := []) (Nat.le_of_ble_eq_true rfl)) (Nat.le_of_ble_eq_true rfl) (Nat.le_of_ble_eq_true rfl) fun v14 h14 E14 => ?_
  refine g_gd fun p17 => ?_
  refine g_athrow (pc := 17) X (Int.ne_of_gt p17) (dl_at t_X6_string 8 rfl) ?_
  exact gt_at fun Q hQ => gt_out (Q := Q) X rfl p17 (hno _) _ Q rfl hQ
def k_X6_define : List (Nat × Instr × Nat) := [(0, .aload_n 0, 1), (1, .getfield 90, 3), (4, .istore_n 1, 1), (5, .aload_n 0, 1), (6, .invokevirtual 167, 3), (9, .istore_n 2, 1), (10, .aload_n 0, 1), (11, .iload_n 1, 1), (12, .iload_n 2, 1), (13, .ldc 170, 2), (15, .invokevirtual 172, 3), (18, .ifCond .ne 32, 3), (21, .aload_n 0, 1), (22, .iload_n 1, 1), (23, .iload_n 2, 1), (24, .ldc 176, 2), (26, .invokevirtual 172, 3), (29, .ifCond .ne 21, 3), (32, .aload_n 0, 1), (33, .getfield 74, 3), (36, .aload_n 0, 1), (37, .getfield 9, 3), (40, .iload_n 1, 1), (41, .iload_n 2, 1), (42, .iload_n 1, 1), (43, .isub, 1), (44, .invokevirtual 178, 3), (47, .ifCond .lt 7, 3), (50, .iconst 1, 1), (51, .goto 4, 3), (54, .iconst 0, 1), (55, .istore_n 3, 1), (56, .iload_n 3, 1), (57, .ifCond .ne 15, 3), (60, .aload_n 0, 1), (61, .getfield 74, 3), (64, .getfield 197, 3), (67, .bipush 40, 2), (69, .if_icmp .ne 8, 3), (72, .aload_n 0, 1), (73, .invokevirtual 142, 3), (76, .athrow, 1), (77, .aload_n 0, 1), (78, .iload_n 2, 1), (79, .putfield 90, 3), (82, .aload_n 0, 1), (83, .invokevirtual 198, 3), (86, .aload_n 0, 1), (87, .invokevirtual 201, 3), (90, .istore 4, 2), (92, .aload_n 0, 1), (93, .getfield 90, 3), (96, .iconst 1, 1), (97, .iadd, 1), (98, .istore 5, 2), (100, .iload 5, 2), (102, .aload_n 0, 1), (103, .getfield 90, 3), (106, .iconst 1, 1), (107, .iadd, 1), (108, .iload 4, 2), (110, .iadd, 1), (111, .if_icmp .ge 38, 3), (114, .aload_n 0, 1), (115, .getfield 9, 3), (118, .iload 5, 2), (120, .baload, 1), (121, .bipush 60, 2), (123, .if_icmp .eq 15, 3), (126, .aload_n 0, 1), (127, .getfield 9, 3), (130, .iload 5, 2), (132, .baload, 1), (133, .bipush 38, 2), (135, .if_icmp .ne 8, 3), (138, .aload_n 0, 1), (139, .invokevirtual 142, 3), (142, .athrow, 1), (143, .iinc 5 1, 3), (146, .goto (-46), 3), (149, .aload_n 0, 1), (150, .getfield 74, 3), (153, .aload_n 0, 1), (154, .getfield 9, 3), (157, .iload_n 1, 1), (158, .iload_n 2, 1), (159, .iload_n 1, 1), (160, .isub, 1), (161, .invokevirtual 204, 3), (164, .istore 5, 2), (166, .aload_n 0, 1), (167, .getfield 77, 3), (170, .iload 5, 2), (172, .aload_n 0, 1), (173, .getfield 90, 3), (176, .iconst 1, 1), (177, .iadd, 1), (178, .iastore, 1), (179, .aload_n 0, 1), (180, .getfield 80, 3), (183, .iload 5, 2), (185, .iload 4, 2), (187, .iastore, 1), (188, .aload_n 0, 1), (189, .dup, 1), (190, .getfield 90, 3), (193, .iload 4, 2), (195, .iconst 2, 1), (196, .iadd, 1), (197, .iadd, 1), (198, .putfield 90, 3), (201, .aload_n 0, 1), (202, .invokevirtual 198, 3), (205, .aload_n 0, 1), (206, .aload_n 0, 1), (207, .getfield 90, 3), (210, .invokevirtual 128, 3), (213, .bipush 62, 2), (215, .if_icmp .eq 8, 3), (218, .aload_n 0, 1), (219, .invokevirtual 142, 3), (222, .athrow, 1), (223, .aload_n 0, 1), (224, .dup, 1), (225, .getfield 90, 3), (228, .iconst 1, 1), (229, .iadd, 1), (230, .putfield 90, 3), (233, .return_, 1)]
theorem t_X6_define : ∀ q ∈ k_X6_define, decode cX6_define q.1 = .ok q.2 := dl_all (by decide +kernel)
noncomputable def m_X6_define_l100 (a0 v87 x5_100 : Int) (h87 : Hp) : Option ((Int) ⊕ ((Unit) ⊕ (((Int × Int) × Hp)))) :=
  if (w32 ((w32 ((h87 a0 2) + 1)) + v87)) ≤ x5_100 then (some (.inr (.inl ())))
  else (gd (h87 (h87 a0 0) (-2) % 16 = 2 ∧ (0 : Int) ≤ x5_100 ∧ x5_100 < h87 (h87 a0 0) (-1)) (if (h87 (h87 a0 0) x5_100) = 60 then (bW (m_X6_broken a0 h87) fun v139 h139 =>
  gd (0 < v139) (some (.inr (.inr ((1, v139), h139)))))
  else (if (h87 (h87 a0 0) x5_100) ≠ 38 then (lt_ (w32 (x5_100 + 1)) fun x5_143 =>
  some (.inl x5_143))
  else (bW (m_X6_broken a0 h87) fun v139_1 h139_1 =>
  gd (0 < v139_1) (some (.inr (.inr ((1, v139_1), h139_1))))))))
noncomputable def m_X6_define_j55 (v6 x1_4 a0 s0_55 : Int) (h6 : Hp) : Option ((Int × Int) × Hp) :=
  if s0_55 ≠ 0 then (bW (m_X6_broken a0 h6) fun v73 h73 =>
  gd (0 < v73) (some ((1, v73), h73)))
  else (gd (h6 (h6 a0 25) (-2) = 64) (if (h6 (h6 a0 25) 3) ≠ 40 then (pt h6 a0 2 v6 fun h79 =>
  (m_X6_blanks a0 h79).bind fun h83 =>
  bT (m_X6_string a0 h83) (fun v87 h87 =>
  lt_ (w32 ((h87 a0 2) + 1)) fun x5_98 =>
  (lp (fun (q : Int) => m_X6_define_l100 a0 v87 q h87) x5_98).bind (sE (fun (_ : Unit) => gd (h87 (h87 a0 25) (-2) = 64) (bW (m_X4_add (h87 a0 25) (h87 a0 0) x1_4 (w32 (v6 - x1_4)) h87) fun v161 h161 =>
  gd (h161 (h161 a0 26) (-2) % 16 = 1 ∧ (0 : Int) ≤ v161 ∧ v161 < h161 (h161 a0 26) (-1)) (pt h161 (h161 a0 26) v161 (w32 ((h161 a0 2) + 1)) fun h178 =>
  gd (h178 (h178 a0 27) (-2) % 16 = 1 ∧ (0 : Int) ≤ v161 ∧ v161 < h178 (h178 a0 27) (-1)) (pt h178 (h178 a0 27) v161 v87 fun h187 =>
  pt h187 a0 2 (w32 ((h187 a0 2) + (w32 (v87 + 2)))) fun h198 =>
  (m_X6_blanks a0 h198).bind fun h202 =>
  (m_X6_byteAt a0 (h202 a0 2) h202).bind fun v210 =>
  if v210 = 62 then (pt h202 a0 2 (w32 ((h202 a0 2) + 1)) fun h230 =>
  some ((0, 0), h230))
  else (bW (m_X6_broken a0 h202) fun v219 h219 =>
  gd (0 < v219) (some ((1, v219), h219))))))) (fun (x : (Int × Int) × Hp) => some x))) (fun a_ h_ => some ((1, a_), h_)))
  else (bW (m_X6_broken a0 h6) fun v73_1 h73_1 =>
  gd (0 < v73_1) (some ((1, v73_1), h73_1)))))
noncomputable def m_X6_define_j50 (v6 x1_4 a0 : Int) (h6 : Hp) : Option ((Int × Int) × Hp) :=
  m_X6_define_j55 v6 x1_4 a0 1 h6
noncomputable def m_X6_define (a0 : Int) (h : Hp) : Option ((Int × Int) × Hp) :=
  lt_ (h a0 2) fun x1_4 =>
  bT (m_X6_nameEnd a0 h) (fun v6 h6 =>
  (m_X6_isWord a0 x1_4 v6 (-17) h6).bind fun v15 =>
  if v15 ≠ 0 then (m_X6_define_j50 v6 x1_4 a0 h6)
  else ((m_X6_isWord a0 x1_4 v6 (-18) h6).bind fun v26 =>
  if v26 ≠ 0 then (m_X6_define_j50 v6 x1_4 a0 h6)
  else (gd (h6 (h6 a0 25) (-2) = 64) ((m_X4_find (h6 a0 25) (h6 a0 0) x1_4 (w32 (v6 - x1_4)) h6).bind fun v44 =>
  if v44 < 0 then (m_X6_define_j55 v6 x1_4 a0 0 h6)
  else (m_X6_define_j50 v6 x1_4 a0 h6))))) (fun a_ h_ => some ((1, a_), h_))
theorem s_X6_define {l : Launch} [NoTr l] {D : SD} {a0 : Int} {h : Hp} (hk : h a0 (-2) = 96) {r : (Int × Int) × Hp} (hm : m_X6_define a0 h = some r) : Sim l D yX6_define (Cond.code yX6_define cX6_define 6 (Option.none : Option Jvm.ClassFile.FieldType)) 11 410 [rv D a0] h 0 r := by
  refine Sim.of (fin := fun (v : (Int × Int) × Hp) => v) (lsE := [(0, rv D a0)]) hm rfl cwS_code (la_r la_n) (ll_r ll_n) ?_
  intro p e s m below meth c X hcw hmm hcc hnm hname
  have hno := noh hcw hnm hmm hcc
  unfold m_X6_define
  refine g_aload_n (pc := 0) X (j := 0) (i := 0) (q := 0) (x := a0) rfl rfl (dl_at t_X6_define 0 rfl) ?_
  refine r_geti (pc := 1) X fX6_2 hk q651 (dl_at t_X6_define 1 rfl) fun g1 => ?_
  refine g_lti g1 fun x1_4 r1_4 => ?_
  refine g_istore_nN (pc := 4) X (j := 1) (i := 1) (x := x1_4) (b := 0) (w := rv D a0) (rest := []) rfl (Nat.le_of_ble_eq_true rfl) [0] rfl (by decide) rv_cat rfl (dl_at t_X6_define 2 rfl) ?_
  refine g_aload_n (pc := 5) X (j := 0) (i := 0) (q := 1) (x := a0) rfl rfl (dl_at t_X6_define 3 rfl) ?_
  refine r_callTi (pc := 6) X (fun _ hv => s_X6_nameEnd hk hv) cw_code q2172 q360 (in_Vk X (As := []) kX6 hk (Or.inl q2169) q2171 qs60 cw_code q2172 ⟨by decide, by decide⟩ rfl (dl_at t_X6_define 4 rfl)) (dl_at t_X6_define 4 rfl) (cat24 (st := []) (Nat.le_of_ble_eq_true rfl)) (Nat.le_of_ble_eq_true rfl) (Nat.le_of_ble_eq_true rfl) (fun v6 h6 g6 E6 => ?_) (fun _ _ ha _ => gt_at fun Q hQ => gt_out (Q := Q) X rfl ha (hno _) _ Q rfl hQ)
  refine g_istore_nN (pc := 9) X (j := 2) (i := 2) (x := v6) (b := 1) (w := iv x1_4) (rest := [(0, rv D a0)]) rfl (Nat.le_of_ble_eq_true rfl) [0, 1] rfl (by decide) rfl rfl (dl_at t_X6_define 5 rfl) ?_
  refine g_aload_n (pc := 10) X (j := 0) (i := 0) (q := 2) (x := a0) rfl rfl (dl_at t_X6_define 6 rfl) ?_
  refine g_iload_n (pc := 11) X (j := 1) (i := 1) (q := 1) (x := x1_4) rfl rfl (dl_at t_X6_define 7 rfl) ?_
  refine g_iload_n (pc := 12) X (j := 2) (i := 2) (q := 0) (x := v6) rfl rfl (dl_at t_X6_define 8 rfl) ?_
  refine g_ldcS (pc := 13) X (index := 170) (id := (-17)) 15 rfl rfl (dl_at t_X6_define 9 rfl) ?_
  have k15 := kx E6 (by decide) hk
  refine r_callRz (pc := 15) X (fun _ hv => s_X6_isWord k15 r1_4 g6 hv) cw_code q2179 q360 (in_Vk X (As := [iv x1_4, iv v6, rv D (-17)]) kX6 k15 (Or.inl q2176) q2178 qs61 cw_code q2179 ⟨by decide, by decide⟩ rfl (dl_at t_X6_define 10 rfl)) (dl_at t_X6_define 10 rfl) (cat24 (st := []) (Nat.le_of_ble_eq_true rfl)) (Nat.le_of_ble_eq_true rfl) (Nat.le_of_ble_eq_true rfl) fun v15 g15 => ?_
  refine g_join (γ := Int) (fun q => (q = 0 ∨ q = 1)) 55 (fun q => [(0, rv D a0), (1, iv x1_4), (2, iv v6)]) (fun q => [iv q]) (fun q => h6) (fun q => m_X6_define_j55 v6 x1_4 a0 q h6) ?_ ?_
  · rintro s0_55 rs0_55
    try dsimp only
    unfold m_X6_define_j55
    refine g_istore_nN (pc := 55) X (j := 3) (i := 3) (x := s0_55) (b := 2) (w := iv v6) (rest := [(0, rv D a0), (1, iv x1_4)]) rfl (Nat.le_of_ble_eq_true rfl) [2, 0, 1] rfl (by decide) rfl rfl (dl_at t_X6_define 31 rfl) ?_
    refine g_iload_n (pc := 56) X (j := 3) (i := 3) (q := 0) (x := s0_55) rfl rfl (dl_at t_X6_define 32 rfl) ?_
    refine g_ifne (pc := 57) X (r32_z rs0_55) (off := 15) (tgt := 72) rfl (dl_at t_X6_define 33 rfl) (fun _ => ?_) (fun _ => ?_)
    · refine g_aload_n (pc := 72) X (j := 0) (i := 0) (q := 2) (x := a0) rfl rfl (dl_at t_X6_define 39 rfl) ?_
      refine r_callWr (pc := 73) X (fun _ hv => s_X6_broken k15 hv) cw_code q2162 q360 (in_Vk X (As := []) kX6 k15 (Or.inl q2159) q2161 qs58 cw_code q2162 ⟨by decide, by decide⟩ rfl (dl_at t_X6_define 40 rfl)) (dl_at t_X6_define 40 rfl) (cat24 (st := []) (Nat.le_of_ble_eq_true rfl)) (Nat.le_of_ble_eq_true rfl) (Nat.le_of_ble_eq_true rfl) fun v73 h73 E73 => ?_
      refine g_gd fun p76 => ?_
      refine g_athrow (pc := 76) X (Int.ne_of_gt p76) (dl_at t_X6_define 41 rfl) ?_
      exact gt_at fun Q hQ => gt_out (Q := Q) X rfl p76 (hno _) _ Q rfl hQ
    refine g_aload_n (pc := 60) X (j := 0) (i := 0) (q := 2) (x := a0) rfl rfl (dl_at t_X6_define 34 rfl) ?_
    refine r_getr (pc := 61) X fX6_25 k15 q702 (dl_at t_X6_define 35 rfl) ?_
    refine g_gd fun k64 => ?_
    refine r_getiN (pc := 64) X fX4_3 k64 (nw_in q475 rfl) (dl_at t_X6_define 36 rfl) fun g64 => ?_
    refine g_bipush (pc := 67) X (n := 40) rfl (dl_at t_X6_define 37 rfl) ?_
    refine g_icmpne (pc := 69) X g64 (r32_c rfl) (off := 8) (tgt := 77) rfl (dl_at t_X6_define 38 rfl) (fun _ => ?_) (fun _ => ?_)
    · refine g_aload_n (pc := 77) X (j := 0) (i := 0) (q := 2) (x := a0) rfl rfl (dl_at t_X6_define 42 rfl) ?_
      refine g_iload_n (pc := 78) X (j := 2) (i := 2) (q := 1) (x := v6) rfl rfl (dl_at t_X6_define 43 rfl) ?_
      refine r_puti (pc := 79) X fX6_2 k15 q651 rfl (dl_at t_X6_define 44 rfl) g6 (fun h79 E79 => ?_)
      refine g_aload_n (pc := 82) X (j := 0) (i := 0) (q := 2) (x := a0) rfl rfl (dl_at t_X6_define 45 rfl) ?_
      have k83 := kx E79 (by decide) k15
      refine r_callV (pc := 83) X (fun _ hv => s_X6_blanks k83 hv) cw_code q2187 q360 (in_Vk X (As := []) kX6 k83 (Or.inl q2184) q2186 qs62 cw_code q2187 ⟨by decide, by decide⟩ rfl (dl_at t_X6_define 46 rfl)) (dl_at t_X6_define 46 rfl) (cat24 (st := []) (Nat.le_of_ble_eq_true rfl)) (Nat.le_of_ble_eq_true rfl) (Nat.le_of_ble_eq_true rfl) fun h83 E83 => ?_
      refine g_aload_n (pc := 86) X (j := 0) (i := 0) (q := 2) (x := a0) rfl rfl (dl_at t_X6_define 47 rfl) ?_
      have k87 := kx E83 (by decide) k83
      refine r_callTi (pc := 87) X (fun _ hv => s_X6_string k87 hv) cw_code q2192 q360 (in_Vk X (As := []) kX6 k87 (Or.inl q2189) q2191 qs63 cw_code q2192 ⟨by decide, by decide⟩ rfl (dl_at t_X6_define 48 rfl)) (dl_at t_X6_define 48 rfl) (cat24 (st := []) (Nat.le_of_ble_eq_true rfl)) (Nat.le_of_ble_eq_true rfl) (Nat.le_of_ble_eq_true rfl) (fun v87 h87 g87 E87 => ?_) (fun _ _ ha _ => gt_at fun Q hQ => gt_out (Q := Q) X rfl ha (hno _) _ Q rfl hQ)
      refine g_istore (pc := 90) X (i := 4) (x := v87) (rest := [(2, iv v6), (0, rv D a0), (1, iv x1_4)]) (Nat.le_of_ble_eq_true rfl) [1, 2, 3] rfl rfl (dl_at t_X6_define 49 rfl) ?_
      refine g_aload_n (pc := 92) X (j := 0) (i := 0) (q := 2) (x := a0) rfl rfl (dl_at t_X6_define 50 rfl) ?_
      have k93 := kx E87 (by decide) k87
      refine r_geti (pc := 93) X fX6_2 k93 q651 (dl_at t_X6_define 51 rfl) fun g93 => ?_
      refine g_iconst (pc := 96) X (n := 1) (dl_at t_X6_define 52 rfl) ?_
      refine g_iadd (pc := 97) X g93 (r32_c rfl) (dl_at t_X6_define 53 rfl) ?_
      refine g_lti (r32_w _) fun x5_98 r5_98 => ?_
      refine g_istoreN (pc := 98) X (i := 5) (x := x5_98) (b := 4) (w := iv v87) (rest := [(2, iv v6), (0, rv D a0), (1, iv x1_4)]) (Nat.le_of_ble_eq_true rfl) [0, 1, 2, 3] rfl (by decide) rfl rfl (dl_at t_X6_define 54 rfl) ?_
      refine g_ls (ls2 := [(0, rv D a0), (1, iv x1_4), (2, iv v6), (4, iv v87), (5, iv x5_98)]) [3, 4, 2, 1, 0] rfl ?_
      refine g_loop1F (fun (q : Int) => [(0, rv D a0), (1, iv x1_4), (2, iv v6), (4, iv v87), (5, iv q)]) (fun (q : Int) => h87) (fun (q : Int) => r32 q) 149 (fun (y149 : Unit) => [(0, rv D a0), (1, iv x1_4), (2, iv v6), (4, iv v87)]) (fun (y149 : Unit) => h87) (fun (y149 : Unit) => True) x5_98 r5_98 ?_ ?_ (fun _ => rfl)
      · rintro x5_100 r5_100
        try dsimp only
        unfold m_X6_define_l100
        refine g_iload (pc := 100) X (i := 5) (q := 4) (x := x5_100) rfl (dl_at t_X6_define 55 rfl) ?_
        refine g_aload_n (pc := 102) X (j := 0) (i := 0) (q := 0) (x := a0) rfl rfl (dl_at t_X6_define 56 rfl) ?_
        refine r_geti (pc := 103) X fX6_2 k93 q651 (dl_at t_X6_define 57 rfl) fun g103 => ?_
        refine g_iconst (pc := 106) X (n := 1) (dl_at t_X6_define 58 rfl) ?_
        refine g_iadd (pc := 107) X g103 (r32_c rfl) (dl_at t_X6_define 59 rfl) ?_
        refine g_iload (pc := 108) X (i := 4) (q := 3) (x := v87) rfl (dl_at t_X6_define 60 rfl) ?_
        refine g_iadd (pc := 110) X (r32_w _) g87 (dl_at t_X6_define 61 rfl) ?_
        refine g_icmpge (pc := 111) X r5_100 (r32_w _) (off := 38) (tgt := 149) rfl (dl_at t_X6_define 62 rfl) (fun _ => ?_) (fun _ => ?_)
        · refine g_ls (ls2 := [(0, rv D a0), (1, iv x1_4), (2, iv v6), (4, iv v87)]) [0, 1, 2, 3] rfl ?_
          exact g_at fun Q hQ => hQ trivial
        refine g_aload_n (pc := 114) X (j := 0) (i := 0) (q := 0) (x := a0) rfl rfl (dl_at t_X6_define 63 rfl) ?_
        refine r_getr (pc := 115) X fX6_0 k93 q645 (dl_at t_X6_define 64 rfl) ?_
        refine g_iload (pc := 118) X (i := 5) (q := 4) (x := x5_100) rfl (dl_at t_X6_define 65 rfl) ?_
        refine g_gd fun k120 => ?_
        refine g_bald (pc := 120) X r5_100 k120 (dl_at t_X6_define 66 rfl) fun g120 => ?_
        refine g_bipush (pc := 121) X (n := 60) rfl (dl_at t_X6_define 67 rfl) ?_
        refine g_icmpeq (pc := 123) X (r32_b g120) (r32_c rfl) (off := 15) (tgt := 138) rfl (dl_at t_X6_define 68 rfl) (fun _ => ?_) (fun _ => ?_)
        · refine g_aload_n (pc := 138) X (j := 0) (i := 0) (q := 0) (x := a0) rfl rfl (dl_at t_X6_define 75 rfl) ?_
          refine r_callWr (pc := 139) X (fun _ hv => s_X6_broken k93 hv) cw_code q2162 q360 (in_Vk X (As := []) kX6 k93 (Or.inl q2159) q2161 qs58 cw_code q2162 ⟨by decide, by decide⟩ rfl (dl_at t_X6_define 76 rfl)) (dl_at t_X6_define 76 rfl) (cat24 (st := []) (Nat.le_of_ble_eq_true rfl)) (Nat.le_of_ble_eq_true rfl) (Nat.le_of_ble_eq_true rfl) fun v139 h139 E139 => ?_
          refine g_gd fun p142 => ?_
          refine g_athrow (pc := 142) X (Int.ne_of_gt p142) (dl_at t_X6_define 77 rfl) ?_
          exact gt_at fun Q hQ => gt_out (Q := Q) X rfl p142 (hno _) _ Q rfl hQ
        refine g_aload_n (pc := 126) X (j := 0) (i := 0) (q := 0) (x := a0) rfl rfl (dl_at t_X6_define 69 rfl) ?_
        refine r_getr (pc := 127) X fX6_0 k93 q645 (dl_at t_X6_define 70 rfl) ?_
        refine g_iload (pc := 130) X (i := 5) (q := 4) (x := x5_100) rfl (dl_at t_X6_define 71 rfl) ?_
        refine g_bald (pc := 132) X r5_100 k120 (dl_at t_X6_define 72 rfl) fun g132 => ?_
        refine g_bipush (pc := 133) X (n := 38) rfl (dl_at t_X6_define 73 rfl) ?_
        refine g_icmpne (pc := 135) X (r32_b g132) (r32_c rfl) (off := 8) (tgt := 143) rfl (dl_at t_X6_define 74 rfl) (fun _ => ?_) (fun _ => ?_)
        · refine r_iincN (pc := 143) X (i := 5) (q := 4) (n := 1) (x := x5_100) (b := 4) (w := iv v87) (rest := [(0, rv D a0), (1, iv x1_4), (2, iv v6)]) rfl r5_100 (r32_c rfl) (Nat.le_of_ble_eq_true rfl) [3, 0, 1, 2] rfl (by decide) rfl rfl (dl_at t_X6_define 78 rfl) fun x5_143 r5_143 => ?_
          refine g_goto (pc := 146) X (off := (-46)) (tgt := 100) rfl (dl_at t_X6_define 79 rfl) ?_
          refine g_ls (ls2 := [(0, rv D a0), (1, iv x1_4), (2, iv v6), (4, iv v87), (5, iv x5_143)]) [2, 3, 4, 1, 0] rfl ?_
          exact g_at fun Q hQ => hQ r5_143
        refine g_aload_n (pc := 138) X (j := 0) (i := 0) (q := 0) (x := a0) rfl rfl (dl_at t_X6_define 75 rfl) ?_
        refine r_callWr (pc := 139) X (fun _ hv => s_X6_broken k93 hv) cw_code q2162 q360 (in_Vk X (As := []) kX6 k93 (Or.inl q2159) q2161 qs58 cw_code q2162 ⟨by decide, by decide⟩ rfl (dl_at t_X6_define 76 rfl)) (dl_at t_X6_define 76 rfl) (cat24 (st := []) (Nat.le_of_ble_eq_true rfl)) (Nat.le_of_ble_eq_true rfl) (Nat.le_of_ble_eq_true rfl) fun v139_1 h139_1 E139_1 => ?_
        refine g_gd fun p142_1 => ?_
        refine g_athrow (pc := 142) X (Int.ne_of_gt p142_1) (dl_at t_X6_define 77 rfl) ?_
        exact gt_at fun Q hQ => gt_out (Q := Q) X rfl p142_1 (hno _) _ Q rfl hQ
      · rintro _ _
        try dsimp only [sE]
        refine g_aload_n (pc := 149) X (j := 0) (i := 0) (q := 0) (x := a0) rfl rfl (dl_at t_X6_define 80 rfl) ?_
        refine r_getr (pc := 150) X fX6_25 k93 q702 (dl_at t_X6_define 81 rfl) ?_
        refine g_aload_n (pc := 153) X (j := 0) (i := 0) (q := 0) (x := a0) rfl rfl (dl_at t_X6_define 82 rfl) ?_
        refine r_getr (pc := 154) X fX6_0 k93 q645 (dl_at t_X6_define 83 rfl) ?_
        refine g_iload_n (pc := 157) X (j := 1) (i := 1) (q := 1) (x := x1_4) rfl rfl (dl_at t_X6_define 84 rfl) ?_
        refine g_iload_n (pc := 158) X (j := 2) (i := 2) (q := 2) (x := v6) rfl rfl (dl_at t_X6_define 85 rfl) ?_
        refine g_iload_n (pc := 159) X (j := 1) (i := 1) (q := 1) (x := x1_4) rfl rfl (dl_at t_X6_define 86 rfl) ?_
        refine g_isub (pc := 160) X g6 r1_4 (dl_at t_X6_define 87 rfl) ?_
        refine g_gd fun k161 => ?_
        refine r_callWi (pc := 161) X (fun _ hv => s_X4_add k161 r1_4 (r32_w _) hv) cw_code q2007 q358 (in_Vk X (As := [rv D (h87 a0 0), iv x1_4, iv (w32 (v6 - x1_4))]) kX4 k161 (Or.inr ⟨_, nw_in q2194 rfl⟩) q2006 qs37 cw_code q2007 ⟨by decide, by decide⟩ rfl (dl_at t_X6_define 88 rfl)) (dl_at t_X6_define 88 rfl) (cat24 (st := []) (Nat.le_of_ble_eq_true rfl)) (Nat.le_of_ble_eq_true rfl) (Nat.le_of_ble_eq_true rfl) fun v161 h161 g161 E161 => ?_
        refine g_istoreN (pc := 164) X (i := 5) (x := v161) (b := 4) (w := iv v87) (rest := [(0, rv D a0)]) (Nat.le_of_ble_eq_true rfl) [3, 0] rfl (by decide) rfl rfl (dl_at t_X6_define 89 rfl) ?_
        refine g_aload_n (pc := 166) X (j := 0) (i := 0) (q := 2) (x := a0) rfl rfl (dl_at t_X6_define 90 rfl) ?_
        have k167 := kx E161 (by decide) k93
        refine r_getr (pc := 167) X fX6_26 k167 q704 (dl_at t_X6_define 91 rfl) ?_
        refine g_iload (pc := 170) X (i := 5) (q := 0) (x := v161) rfl (dl_at t_X6_define 92 rfl) ?_
        refine g_aload_n (pc := 172) X (j := 0) (i := 0) (q := 2) (x := a0) rfl rfl (dl_at t_X6_define 93 rfl) ?_
        refine r_geti (pc := 173) X fX6_2 k167 q651 (dl_at t_X6_define 94 rfl) fun g173 => ?_
        refine g_iconst (pc := 176) X (n := 1) (dl_at t_X6_define 95 rfl) ?_
        refine g_iadd (pc := 177) X g173 (r32_c rfl) (dl_at t_X6_define 96 rfl) ?_
        refine g_gd fun k178 => ?_
        refine r_iast (pc := 178) X g161 (r32_w _) k178 (dl_at t_X6_define 97 rfl) (fun h178 E178 => ?_)
        refine g_aload_n (pc := 179) X (j := 0) (i := 0) (q := 2) (x := a0) rfl rfl (dl_at t_X6_define 98 rfl) ?_
        have k180 := kx E178 (by decide) k167
        refine r_getr (pc := 180) X fX6_27 k180 q705 (dl_at t_X6_define 99 rfl) ?_
        refine g_iload (pc := 183) X (i := 5) (q := 0) (x := v161) rfl (dl_at t_X6_define 100 rfl) ?_
        refine g_iload (pc := 185) X (i := 4) (q := 1) (x := v87) rfl (dl_at t_X6_define 101 rfl) ?_
        refine g_gd fun k187 => ?_
        refine r_iast (pc := 187) X g161 g87 k187 (dl_at t_X6_define 102 rfl) (fun h187 E187 => ?_)
        refine g_aload_n (pc := 188) X (j := 0) (i := 0) (q := 2) (x := a0) rfl rfl (dl_at t_X6_define 103 rfl) ?_
        refine g_dup (pc := 189) X rv_cat (dl_at t_X6_define 104 rfl) ?_
        have k190 := kx E187 (by decide) k180
        refine r_geti (pc := 190) X fX6_2 k190 q651 (dl_at t_X6_define 105 rfl) fun g190 => ?_
        refine g_iload (pc := 193) X (i := 4) (q := 1) (x := v87) rfl (dl_at t_X6_define 106 rfl) ?_
        refine g_iconst (pc := 195) X (n := 2) (dl_at t_X6_define 107 rfl) ?_
        refine g_iadd (pc := 196) X g87 (r32_c rfl) (dl_at t_X6_define 108 rfl) ?_
        refine g_iadd (pc := 197) X g190 (r32_w _) (dl_at t_X6_define 109 rfl) ?_
        refine r_puti (pc := 198) X fX6_2 k190 q651 rfl (dl_at t_X6_define 110 rfl) (r32_w _) (fun h198 E198 => ?_)
        refine g_aload_n (pc := 201) X (j := 0) (i := 0) (q := 2) (x := a0) rfl rfl (dl_at t_X6_define 111 rfl) ?_
        have k202 := kx E198 (by decide) k190
        refine r_callV (pc := 202) X (fun _ hv => s_X6_blanks k202 hv) cw_code q2187 q360 (in_Vk X (As := []) kX6 k202 (Or.inl q2184) q2186 qs62 cw_code q2187 ⟨by decide, by decide⟩ rfl (dl_at t_X6_define 112 rfl)) (dl_at t_X6_define 112 rfl) (cat24 (st := []) (Nat.le_of_ble_eq_true rfl)) (Nat.le_of_ble_eq_true rfl) (Nat.le_of_ble_eq_true rfl) fun h202 E202 => ?_
        refine g_aload_n (pc := 205) X (j := 0) (i := 0) (q := 2) (x := a0) rfl rfl (dl_at t_X6_define 113 rfl) ?_
        refine g_aload_n (pc := 206) X (j := 0) (i := 0) (q := 2) (x := a0) rfl rfl (dl_at t_X6_define 114 rfl) ?_
        have k207 := kx E202 (by decide) k202
        refine r_geti (pc := 207) X fX6_2 k207 q651 (dl_at t_X6_define 115 rfl) fun g207 => ?_
        refine r_callRi (pc := 210) X (fun _ hv => s_X6_byteAt k207 g207 hv) cw_code q2150 q360 (in_Vk X (As := [iv (h202 a0 2)]) kX6 k207 (Or.inl q2147) q2149 qs55 cw_code q2150 ⟨by decide, by decide⟩ rfl (dl_at t_X6_define 116 rfl)) (dl_at t_X6_define 116 rfl) (cat24 (st := []) (Nat.le_of_ble_eq_true rfl)) (Nat.le_of_ble_eq_true rfl) (Nat.le_of_ble_eq_true rfl) fun v210 g210 => ?_
        refine g_bipush (pc := 213) X (n := 62) rfl (dl_at t_X6_define 117 rfl) ?_
        refine g_icmpeq (pc := 215) X g210 (r32_c rfl) (off := 8) (tgt := 223) rfl (dl_at t_X6_define 118 rfl) (fun _ => ?_) (fun _ => ?_)
        · refine g_aload_n (pc := 223) X (j := 0) (i := 0) (q := 2) (x := a0) rfl rfl (dl_at t_X6_define 122 rfl) ?_
          refine g_dup (pc := 224) X rv_cat (dl_at t_X6_define 123 rfl) ?_
          refine r_geti (pc := 225) X fX6_2 k207 q651 (dl_at t_X6_define 124 rfl) fun g225 => ?_
          refine g_iconst (pc := 228) X (n := 1) (dl_at t_X6_define 125 rfl) ?_
          refine g_iadd (pc := 229) X g225 (r32_c rfl) (dl_at t_X6_define 126 rfl) ?_
          refine r_puti (pc := 230) X fX6_2 k207 q651 rfl (dl_at t_X6_define 127 rfl) (r32_w _) (fun h230 E230 => ?_)
          exact g_vret (pc := 233) X (v := 0) rfl rfl (dl_at t_X6_define 128 rfl)
        refine g_aload_n (pc := 218) X (j := 0) (i := 0) (q := 2) (x := a0) rfl rfl (dl_at t_X6_define 119 rfl) ?_
        refine r_callWr (pc := 219) X (fun _ hv => s_X6_broken k207 hv) cw_code q2162 q360 (in_Vk X (As := []) kX6 k207 (Or.inl q2159) q2161 qs58 cw_code q2162 ⟨by decide, by decide⟩ rfl (dl_at t_X6_define 120 rfl)) (dl_at t_X6_define 120 rfl) (cat24 (st := []) (Nat.le_of_ble_eq_true rfl)) (Nat.le_of_ble_eq_true rfl) (Nat.le_of_ble_eq_true rfl) fun v219 h219 E219 => ?_
        refine g_gd fun p222 => ?_
        refine g_athrow (pc := 222) X (Int.ne_of_gt p222) (dl_at t_X6_define 121 rfl) ?_
        exact gt_at fun Q hQ => gt_out (Q := Q) X rfl p222 (hno _) _ Q rfl hQ
    refine g_aload_n (pc := 72) X (j := 0) (i := 0) (q := 2) (x := a0) rfl rfl (dl_at t_X6_define 39 rfl) ?_
    refine r_callWr (pc := 73) X (fun _ hv => s_X6_broken k15 hv) cw_code q2162 q360 (in_Vk X (As := []) kX6 k15 (Or.inl q2159) q2161 qs58 cw_code q2162 ⟨by decide, by decide⟩ rfl (dl_at t_X6_define 40 rfl)) (dl_at t_X6_define 40 rfl) (cat24 (st := []) (Nat.le_of_ble_eq_true rfl)) (Nat.le_of_ble_eq_true rfl) (Nat.le_of_ble_eq_true rfl) fun v73_1 h73_1 E73_1 => ?_
    refine g_gd fun p76_1 => ?_
    refine g_athrow (pc := 76) X (Int.ne_of_gt p76_1) (dl_at t_X6_define 41 rfl) ?_
    exact gt_at fun Q hQ => gt_out (Q := Q) X rfl p76_1 (hno _) _ Q rfl hQ
  intro J55
  refine g_join (γ := Unit) (fun q => True) 50 (fun q => [(0, rv D a0), (1, iv x1_4), (2, iv v6)]) (fun q => []) (fun q => h6) (fun q => m_X6_define_j50 v6 x1_4 a0 h6) ?_ ?_
  · rintro _ _
    try dsimp only
    unfold m_X6_define_j50
    refine g_iconst (pc := 50) X (n := 1) (dl_at t_X6_define 28 rfl) ?_
    refine g_goto (pc := 51) X (off := 4) (tgt := 55) rfl (dl_at t_X6_define 29 rfl) ?_
    exact J55 1 (Or.inr rfl)
  intro J50
  refine g_ifne (pc := 18) X (r32_z g15) (off := 32) (tgt := 50) rfl (dl_at t_X6_define 11 rfl) (fun _ => ?_) (fun _ => ?_)
  · refine g_ls (ls2 := [(0, rv D a0), (1, iv x1_4), (2, iv v6)]) [2, 1, 0] rfl ?_
    exact J50 () trivial
  refine g_aload_n (pc := 21) X (j := 0) (i := 0) (q := 2) (x := a0) rfl rfl (dl_at t_X6_define 12 rfl) ?_
  refine g_iload_n (pc := 22) X (j := 1) (i := 1) (q := 1) (x := x1_4) rfl rfl (dl_at t_X6_define 13 rfl) ?_
  refine g_iload_n (pc := 23) X (j := 2) (i := 2) (q := 0) (x := v6) rfl rfl (dl_at t_X6_define 14 rfl) ?_
  refine g_ldcS (pc := 24) X (index := 176) (id := (-18)) 16 rfl rfl (dl_at t_X6_define 15 rfl) ?_
  refine r_callRz (pc := 26) X (fun _ hv => s_X6_isWord k15 r1_4 g6 hv) cw_code q2179 q360 (in_Vk X (As := [iv x1_4, iv v6, rv D (-18)]) kX6 k15 (Or.inl q2176) q2178 qs61 cw_code q2179 ⟨by decide, by decide⟩ rfl (dl_at t_X6_define 16 rfl)) (dl_at t_X6_define 16 rfl) (cat24 (st := []) (Nat.le_of_ble_eq_true rfl)) (Nat.le_of_ble_eq_true rfl) (Nat.le_of_ble_eq_true rfl) fun v26 g26 => ?_
  refine g_ifne (pc := 29) X (r32_z g26) (off := 21) (tgt := 50) rfl (dl_at t_X6_define 17 rfl) (fun _ => ?_) (fun _ => ?_)
  · refine g_ls (ls2 := [(0, rv D a0), (1, iv x1_4), (2, iv v6)]) [2, 1, 0] rfl ?_
    exact J50 () trivial
  refine g_aload_n (pc := 32) X (j := 0) (i := 0) (q := 2) (x := a0) rfl rfl (dl_at t_X6_define 18 rfl) ?_
  refine r_getr (pc := 33) X fX6_25 k15 q702 (dl_at t_X6_define 19 rfl) ?_
  refine g_aload_n (pc := 36) X (j := 0) (i := 0) (q := 2) (x := a0) rfl rfl (dl_at t_X6_define 20 rfl) ?_
  refine r_getr (pc := 37) X fX6_0 k15 q645 (dl_at t_X6_define 21 rfl) ?_
  refine g_iload_n (pc := 40) X (j := 1) (i := 1) (q := 1) (x := x1_4) rfl rfl (dl_at t_X6_define 22 rfl) ?_
  refine g_iload_n (pc := 41) X (j := 2) (i := 2) (q := 0) (x := v6) rfl rfl (dl_at t_X6_define 23 rfl) ?_
  refine g_iload_n (pc := 42) X (j := 1) (i := 1) (q := 1) (x := x1_4) rfl rfl (dl_at t_X6_define 24 rfl) ?_
  refine g_isub (pc := 43) X g6 r1_4 (dl_at t_X6_define 25 rfl) ?_
  refine g_gd fun k44 => ?_
  refine r_callRi (pc := 44) X (fun _ hv => s_X4_find k44 r1_4 (r32_w _) hv) cw_code q2011 q358 (in_Vk X (As := [rv D (h6 a0 0), iv x1_4, iv (w32 (v6 - x1_4))]) kX4 k44 (Or.inr ⟨_, nw_in q2183 rfl⟩) q2010 qs38 cw_code q2011 ⟨by decide, by decide⟩ rfl (dl_at t_X6_define 26 rfl)) (dl_at t_X6_define 26 rfl) (cat24 (st := []) (Nat.le_of_ble_eq_true rfl)) (Nat.le_of_ble_eq_true rfl) (Nat.le_of_ble_eq_true rfl) fun v44 g44 => ?_
  refine g_iflt (pc := 47) X g44 (off := 7) (tgt := 54) rfl (dl_at t_X6_define 27 rfl) (fun _ => ?_) (fun _ => ?_)
  · refine g_iconst (pc := 54) X (n := 0) (dl_at t_X6_define 30 rfl) ?_
    refine g_ls (ls2 := [(0, rv D a0), (1, iv x1_4), (2, iv v6)]) [2, 1, 0] rfl ?_
    exact J55 0 (Or.inl rfl)
  refine g_ls (ls2 := [(0, rv D a0), (1, iv x1_4), (2, iv v6)]) [2, 1, 0] rfl ?_
  exact J50 () trivial
def k_X6_top : List (Nat × Instr × Nat) := [(0, .aload_n 0, 1), (1, .getfield 111, 3), (4, .ifCond .ne 7, 3), (7, .iconst (-1), 1), (8, .goto 14, 3), (11, .aload_n 0, 1), (12, .getfield 83, 3), (15, .aload_n 0, 1), (16, .getfield 111, 3), (19, .iconst 1, 1), (20, .isub, 1), (21, .iaload, 1), (22, .ireturn, 1)]
theorem t_X6_top : ∀ q ∈ k_X6_top, decode cX6_top q.1 = .ok q.2 := dl_all (by decide +kernel)
noncomputable def m_X6_top (a0 : Int) (h : Hp) : Option (Int) :=
  if (h a0 29) ≠ 0 then (gd (h (h a0 28) (-2) % 16 = 1 ∧ (0 : Int) ≤ (w32 ((h a0 29) - 1)) ∧ (w32 ((h a0 29) - 1)) < h (h a0 28) (-1)) (some (h (h a0 28) (w32 ((h a0 29) - 1)))))
  else (some (-1))
theorem s_X6_top {l : Launch} [NoTr l] {D : SD} {a0 : Int} {h : Hp} (hk : h a0 (-2) = 96) {r : Int} (hm : m_X6_top a0 h = some r) : Sim l D yX6_top (Cond.code yX6_top cX6_top 1 (Option.some Jvm.ClassFile.FieldType.int)) 0 0 [rv D a0] h 1 ((0, r), h) := by
  refine Sim.of (fin := fun (v : Int) => ((0, v), h)) (lsE := [(0, rv D a0)]) hm rfl cwS_code (la_r la_n) (ll_r ll_n) ?_
  intro p e s m below meth c X hcw hmm hcc hnm hname
  unfold m_X6_top
  refine g_aload_n (pc := 0) X (j := 0) (i := 0) (q := 0) (x := a0) rfl rfl (dl_at t_X6_top 0 rfl) ?_
  refine r_geti (pc := 1) X fX6_29 hk q707 (dl_at t_X6_top 1 rfl) fun g1 => ?_
  refine g_ifne (pc := 4) X g1 (off := 7) (tgt := 11) rfl (dl_at t_X6_top 2 rfl) (fun _ => ?_) (fun _ => ?_)
  · refine g_aload_n (pc := 11) X (j := 0) (i := 0) (q := 0) (x := a0) rfl rfl (dl_at t_X6_top 5 rfl) ?_
    refine r_getr (pc := 12) X fX6_28 hk q706 (dl_at t_X6_top 6 rfl) ?_
    refine g_aload_n (pc := 15) X (j := 0) (i := 0) (q := 0) (x := a0) rfl rfl (dl_at t_X6_top 7 rfl) ?_
    refine r_geti (pc := 16) X fX6_29 hk q707 (dl_at t_X6_top 8 rfl) fun g16 => ?_
    refine g_iconst (pc := 19) X (n := 1) (dl_at t_X6_top 9 rfl) ?_
    refine g_isub (pc := 20) X g16 (r32_c rfl) (dl_at t_X6_top 10 rfl) ?_
    refine g_gd fun k21 => ?_
    refine g_iald (pc := 21) X (r32_w _) k21 (dl_at t_X6_top 11 rfl) fun g21 => ?_
    exact g_iret (pc := 22) X g21 rfl rfl (dl_at t_X6_top 12 rfl)
  refine g_iconst (pc := 7) X (n := (-1)) (dl_at t_X6_top 3 rfl) ?_
  refine g_goto (pc := 8) X (off := 14) (tgt := 22) rfl (dl_at t_X6_top 4 rfl) ?_
  exact g_iret (pc := 22) X (r32_c rfl) rfl rfl (dl_at t_X6_top 12 rfl)
def k_X6_event : List (Nat × Instr × Nat) := [(0, .aload_n 0, 1), (1, .getfield 65, 3), (4, .aload_n 0, 1), (5, .getfield 108, 3), (8, .iload_n 1, 1), (9, .iastore, 1), (10, .aload_n 0, 1), (11, .getfield 68, 3), (14, .aload_n 0, 1), (15, .getfield 108, 3), (18, .iload_n 2, 1), (19, .iastore, 1), (20, .aload_n 0, 1), (21, .getfield 71, 3), (24, .aload_n 0, 1), (25, .getfield 108, 3), (28, .iload_n 3, 1), (29, .iastore, 1), (30, .aload_n 0, 1), (31, .dup, 1), (32, .getfield 108, 3), (35, .iconst 1, 1), (36, .iadd, 1), (37, .putfield 108, 3), (40, .return_, 1)]
theorem t_X6_event : ∀ q ∈ k_X6_event, decode cX6_event q.1 = .ok q.2 := dl_all (by decide +kernel)
noncomputable def m_X6_event (a0 a1 a2 a3 : Int) (h : Hp) : Option (Hp) :=
  gd (h (h a0 21) (-2) % 16 = 1 ∧ (0 : Int) ≤ (h a0 24) ∧ (h a0 24) < h (h a0 21) (-1)) (pt h (h a0 21) (h a0 24) a1 fun h9 =>
  gd (h9 (h9 a0 22) (-2) % 16 = 1 ∧ (0 : Int) ≤ (h9 a0 24) ∧ (h9 a0 24) < h9 (h9 a0 22) (-1)) (pt h9 (h9 a0 22) (h9 a0 24) a2 fun h19 =>
  gd (h19 (h19 a0 23) (-2) % 16 = 1 ∧ (0 : Int) ≤ (h19 a0 24) ∧ (h19 a0 24) < h19 (h19 a0 23) (-1)) (pt h19 (h19 a0 23) (h19 a0 24) a3 fun h29 =>
  pt h29 a0 24 (w32 ((h29 a0 24) + 1)) fun h37 =>
  some h37)))
theorem s_X6_event {l : Launch} [NoTr l] {D : SD} {a0 a1 a2 a3 : Int} {h : Hp} (hk : h a0 (-2) = 96) (r1 : r32 a1) (r2 : r32 a2) (r3 : r32 a3) {r : Hp} (hm : m_X6_event a0 a1 a2 a3 h = some r) : Sim l D yX6_event (Cond.code yX6_event cX6_event 4 (Option.none : Option Jvm.ClassFile.FieldType)) 0 0 [rv D a0, iv a1, iv a2, iv a3] h 0 ((0, 0), r) := by
  refine Sim.of (fin := fun (v : Hp) => ((0, 0), v)) (lsE := [(0, rv D a0), (1, iv a1), (2, iv a2), (3, iv a3)]) hm rfl cwS_code (la_r (la_i (la_i (la_i la_n)))) (ll_r (ll_i (ll_i (ll_i ll_n)))) ?_
  intro p e s m below meth c X hcw hmm hcc hnm hname
  unfold m_X6_event
  refine g_aload_n (pc := 0) X (j := 0) (i := 0) (q := 0) (x := a0) rfl rfl (dl_at t_X6_event 0 rfl) ?_
  refine r_getr (pc := 1) X fX6_21 hk q690 (dl_at t_X6_event 1 rfl) ?_
  refine g_aload_n (pc := 4) X (j := 0) (i := 0) (q := 0) (x := a0) rfl rfl (dl_at t_X6_event 2 rfl) ?_
  refine r_geti (pc := 5) X fX6_24 hk q699 (dl_at t_X6_event 3 rfl) fun g5 => ?_
  refine g_iload_n (pc := 8) X (j := 1) (i := 1) (q := 1) (x := a1) rfl rfl (dl_at t_X6_event 4 rfl) ?_
  refine g_gd fun k9 => ?_
  refine r_iast (pc := 9) X g5 r1 k9 (dl_at t_X6_event 5 rfl) (fun h9 E9 => ?_)
  refine g_aload_n (pc := 10) X (j := 0) (i := 0) (q := 0) (x := a0) rfl rfl (dl_at t_X6_event 6 rfl) ?_
  have k11 := kx E9 (by decide) hk
  refine r_getr (pc := 11) X fX6_22 k11 q693 (dl_at t_X6_event 7 rfl) ?_
  refine g_aload_n (pc := 14) X (j := 0) (i := 0) (q := 0) (x := a0) rfl rfl (dl_at t_X6_event 8 rfl) ?_
  refine r_geti (pc := 15) X fX6_24 k11 q699 (dl_at t_X6_event 9 rfl) fun g15 => ?_
  refine g_iload_n (pc := 18) X (j := 2) (i := 2) (q := 2) (x := a2) rfl rfl (dl_at t_X6_event 10 rfl) ?_
  refine g_gd fun k19 => ?_
  refine r_iast (pc := 19) X g15 r2 k19 (dl_at t_X6_event 11 rfl) (fun h19 E19 => ?_)
  refine g_aload_n (pc := 20) X (j := 0) (i := 0) (q := 0) (x := a0) rfl rfl (dl_at t_X6_event 12 rfl) ?_
  have k21 := kx E19 (by decide) k11
  refine r_getr (pc := 21) X fX6_23 k21 q696 (dl_at t_X6_event 13 rfl) ?_
  refine g_aload_n (pc := 24) X (j := 0) (i := 0) (q := 0) (x := a0) rfl rfl (dl_at t_X6_event 14 rfl) ?_
  refine r_geti (pc := 25) X fX6_24 k21 q699 (dl_at t_X6_event 15 rfl) fun g25 => ?_
  refine g_iload_n (pc := 28) X (j := 3) (i := 3) (q := 3) (x := a3) rfl rfl (dl_at t_X6_event 16 rfl) ?_
  refine g_gd fun k29 => ?_
  refine r_iast (pc := 29) X g25 r3 k29 (dl_at t_X6_event 17 rfl) (fun h29 E29 => ?_)
  refine g_aload_n (pc := 30) X (j := 0) (i := 0) (q := 0) (x := a0) rfl rfl (dl_at t_X6_event 18 rfl) ?_
  refine g_dup (pc := 31) X rv_cat (dl_at t_X6_event 19 rfl) ?_
  have k32 := kx E29 (by decide) k21
  refine r_geti (pc := 32) X fX6_24 k32 q699 (dl_at t_X6_event 20 rfl) fun g32 => ?_
  refine g_iconst (pc := 35) X (n := 1) (dl_at t_X6_event 21 rfl) ?_
  refine g_iadd (pc := 36) X g32 (r32_c rfl) (dl_at t_X6_event 22 rfl) ?_
  refine r_puti (pc := 37) X fX6_24 k32 q699 rfl (dl_at t_X6_event 23 rfl) (r32_w _) (fun h37 E37 => ?_)
  exact g_vret (pc := 40) X (v := 0) rfl rfl (dl_at t_X6_event 24 rfl)
def k_X6_close : List (Nat × Instr × Nat) := [(0, .aload_n 0, 1), (1, .getfield 34, 3), (4, .iload_n 1, 1), (5, .aload_n 0, 1), (6, .getfield 90, 3), (9, .iastore, 1), (10, .aload_n 0, 1), (11, .dup, 1), (12, .getfield 111, 3), (15, .iconst 1, 1), (16, .isub, 1), (17, .putfield 111, 3), (20, .aload_n 0, 1), (21, .iconst 1, 1), (22, .iload_n 1, 1), (23, .iconst 0, 1), (24, .invokevirtual 124, 3), (27, .return_, 1)]
theorem t_X6_close : ∀ q ∈ k_X6_close, decode cX6_close q.1 = .ok q.2 := dl_all (by decide +kernel)
noncomputable def m_X6_close (a0 a1 : Int) (h : Hp) : Option (Hp) :=
  gd (h (h a0 8) (-2) % 16 = 1 ∧ (0 : Int) ≤ a1 ∧ a1 < h (h a0 8) (-1)) (pt h (h a0 8) a1 (h a0 2) fun h9 =>
  pt h9 a0 29 (w32 ((h9 a0 29) - 1)) fun h17 =>
  (m_X6_event a0 1 a1 0 h17).bind fun h24 =>
  some h24)
theorem s_X6_close {l : Launch} [NoTr l] {D : SD} {a0 a1 : Int} {h : Hp} (hk : h a0 (-2) = 96) (r1 : r32 a1) {r : Hp} (hm : m_X6_close a0 a1 h = some r) : Sim l D yX6_close (Cond.code yX6_close cX6_close 2 (Option.none : Option Jvm.ClassFile.FieldType)) 1 39 [rv D a0, iv a1] h 0 ((0, 0), r) := by
  refine Sim.of (fin := fun (v : Hp) => ((0, 0), v)) (lsE := [(0, rv D a0), (1, iv a1)]) hm rfl cwS_code (la_r (la_i la_n)) (ll_r (ll_i ll_n)) ?_
  intro p e s m below meth c X hcw hmm hcc hnm hname
  unfold m_X6_close
  refine g_aload_n (pc := 0) X (j := 0) (i := 0) (q := 0) (x := a0) rfl rfl (dl_at t_X6_close 0 rfl) ?_
  refine r_getr (pc := 1) X fX6_8 hk q665 (dl_at t_X6_close 1 rfl) ?_
  refine g_iload_n (pc := 4) X (j := 1) (i := 1) (q := 1) (x := a1) rfl rfl (dl_at t_X6_close 2 rfl) ?_
  refine g_aload_n (pc := 5) X (j := 0) (i := 0) (q := 0) (x := a0) rfl rfl (dl_at t_X6_close 3 rfl) ?_
  refine r_geti (pc := 6) X fX6_2 hk q651 (dl_at t_X6_close 4 rfl) fun g6 => ?_
  refine g_gd fun k9 => ?_
  refine r_iast (pc := 9) X r1 g6 k9 (dl_at t_X6_close 5 rfl) (fun h9 E9 => ?_)
  refine g_aload_n (pc := 10) X (j := 0) (i := 0) (q := 0) (x := a0) rfl rfl (dl_at t_X6_close 6 rfl) ?_
  refine g_dup (pc := 11) X rv_cat (dl_at t_X6_close 7 rfl) ?_
  have k12 := kx E9 (by decide) hk
  refine r_geti (pc := 12) X fX6_29 k12 q707 (dl_at t_X6_close 8 rfl) fun g12 => ?_
  refine g_iconst (pc := 15) X (n := 1) (dl_at t_X6_close 9 rfl) ?_
  refine g_isub (pc := 16) X g12 (r32_c rfl) (dl_at t_X6_close 10 rfl) ?_
  refine r_puti (pc := 17) X fX6_29 k12 q707 rfl (dl_at t_X6_close 11 rfl) (r32_w _) (fun h17 E17 => ?_)
  refine g_aload_n (pc := 20) X (j := 0) (i := 0) (q := 0) (x := a0) rfl rfl (dl_at t_X6_close 12 rfl) ?_
  refine g_iconst (pc := 21) X (n := 1) (dl_at t_X6_close 13 rfl) ?_
  refine g_iload_n (pc := 22) X (j := 1) (i := 1) (q := 1) (x := a1) rfl rfl (dl_at t_X6_close 14 rfl) ?_
  refine g_iconst (pc := 23) X (n := 0) (dl_at t_X6_close 15 rfl) ?_
  have k24 := kx E17 (by decide) k12
  refine r_callV (pc := 24) X (fun _ hv => s_X6_event k24 (r32_c rfl) r1 (r32_c rfl) hv) cw_code q2210 q360 (in_Vk X (As := [iv 1, iv a1, iv 0]) kX6 k24 (Or.inl q2207) q2209 qs67 cw_code q2210 ⟨by decide, by decide⟩ rfl (dl_at t_X6_close 16 rfl)) (dl_at t_X6_close 16 rfl) (cat24 (st := []) (Nat.le_of_ble_eq_true rfl)) (Nat.le_of_ble_eq_true rfl) (Nat.le_of_ble_eq_true rfl) fun h24 E24 => ?_
  exact g_vret (pc := 27) X (v := 0) rfl rfl (dl_at t_X6_close 17 rfl)
def k_X6_end : List (Nat × Instr × Nat) := [(0, .aload_n 0, 1), (1, .getfield 90, 3), (4, .istore_n 1, 1), (5, .aload_n 0, 1), (6, .invokevirtual 167, 3), (9, .istore_n 2, 1), (10, .aload_n 0, 1), (11, .invokevirtual 120, 3), (14, .istore_n 3, 1), (15, .aload_n 0, 1), (16, .getfield 20, 3), (19, .aload_n 0, 1), (20, .getfield 9, 3), (23, .iload_n 1, 1), (24, .iload_n 2, 1), (25, .iload_n 1, 1), (26, .isub, 1), (27, .invokevirtual 178, 3), (30, .aload_n 0, 1), (31, .getfield 24, 3), (34, .iload_n 3, 1), (35, .iaload, 1), (36, .if_icmp .eq 8, 3), (39, .aload_n 0, 1), (40, .invokevirtual 142, 3), (43, .athrow, 1), (44, .aload_n 0, 1), (45, .iload_n 2, 1), (46, .putfield 90, 3), (49, .aload_n 0, 1), (50, .invokevirtual 198, 3), (53, .aload_n 0, 1), (54, .aload_n 0, 1), (55, .getfield 90, 3), (58, .invokevirtual 128, 3), (61, .bipush 62, 2), (63, .if_icmp .eq 8, 3), (66, .aload_n 0, 1), (67, .invokevirtual 142, 3), (70, .athrow, 1), (71, .aload_n 0, 1), (72, .dup, 1), (73, .getfield 90, 3), (76, .iconst 1, 1), (77, .iadd, 1), (78, .putfield 90, 3), (81, .aload_n 0, 1), (82, .iload_n 3, 1), (83, .invokevirtual 207, 3), (86, .return_, 1)]
theorem t_X6_end : ∀ q ∈ k_X6_end, decode cX6_end q.1 = .ok q.2 := dl_all (by decide +kernel)
noncomputable def m_X6_end (a0 : Int) (h : Hp) : Option ((Int × Int) × Hp) :=
  lt_ (h a0 2) fun x1_4 =>
  bT (m_X6_nameEnd a0 h) (fun v6 h6 =>
  (m_X6_top a0 h6).bind fun v11 =>
  gd (h6 (h6 a0 3) (-2) = 64) ((m_X4_find (h6 a0 3) (h6 a0 0) x1_4 (w32 (v6 - x1_4)) h6).bind fun v27 =>
  gd (h6 (h6 a0 5) (-2) % 16 = 1 ∧ (0 : Int) ≤ v11 ∧ v11 < h6 (h6 a0 5) (-1)) (if v27 = (h6 (h6 a0 5) v11) then (pt h6 a0 2 v6 fun h46 =>
  (m_X6_blanks a0 h46).bind fun h50 =>
  (m_X6_byteAt a0 (h50 a0 2) h50).bind fun v58 =>
  if v58 = 62 then (pt h50 a0 2 (w32 ((h50 a0 2) + 1)) fun h78 =>
  (m_X6_close a0 v11 h78).bind fun h83 =>
  some ((0, 0), h83))
  else (bW (m_X6_broken a0 h50) fun v67 h67 =>
  gd (0 < v67) (some ((1, v67), h67))))
  else (bW (m_X6_broken a0 h6) fun v40 h40 =>
  gd (0 < v40) (some ((1, v40), h40)))))) (fun a_ h_ => some ((1, a_), h_))
theorem s_X6_end {l : Launch} [NoTr l] {D : SD} {a0 : Int} {h : Hp} (hk : h a0 (-2) = 96) {r : (Int × Int) × Hp} (hm : m_X6_end a0 h = some r) : Sim l D yX6_end (Cond.code yX6_end cX6_end 4 (Option.none : Option Jvm.ClassFile.FieldType)) 11 410 [rv D a0] h 0 r := by
  refine Sim.of (fin := fun (v : (Int × Int) × Hp) => v) (lsE := [(0, rv D a0)]) hm rfl cwS_code (la_r la_n) (ll_r ll_n) ?_
  intro p e s m below meth c X hcw hmm hcc hnm hname
  have hno := noh hcw hnm hmm hcc
  unfold m_X6_end
  refine g_aload_n (pc := 0) X (j := 0) (i := 0) (q := 0) (x := a0) rfl rfl (dl_at t_X6_end 0 rfl) ?_
  refine r_geti (pc := 1) X fX6_2 hk q651 (dl_at t_X6_end 1 rfl) fun g1 => ?_
  refine g_lti g1 fun x1_4 r1_4 => ?_
  refine g_istore_nN (pc := 4) X (j := 1) (i := 1) (x := x1_4) (b := 0) (w := rv D a0) (rest := []) rfl (Nat.le_of_ble_eq_true rfl) [0] rfl (by decide) rv_cat rfl (dl_at t_X6_end 2 rfl) ?_
  refine g_aload_n (pc := 5) X (j := 0) (i := 0) (q := 1) (x := a0) rfl rfl (dl_at t_X6_end 3 rfl) ?_
  refine r_callTi (pc := 6) X (fun _ hv => s_X6_nameEnd hk hv) cw_code q2172 q360 (in_Vk X (As := []) kX6 hk (Or.inl q2169) q2171 qs60 cw_code q2172 ⟨by decide, by decide⟩ rfl (dl_at t_X6_end 4 rfl)) (dl_at t_X6_end 4 rfl) (cat24 (st := []) (Nat.le_of_ble_eq_true rfl)) (Nat.le_of_ble_eq_true rfl) (Nat.le_of_ble_eq_true rfl) (fun v6 h6 g6 E6 => ?_) (fun _ _ ha _ => gt_at fun Q hQ => gt_out (Q := Q) X rfl ha (hno _) _ Q rfl hQ)
  refine g_istore_nN (pc := 9) X (j := 2) (i := 2) (x := v6) (b := 1) (w := iv x1_4) (rest := [(0, rv D a0)]) rfl (Nat.le_of_ble_eq_true rfl) [0, 1] rfl (by decide) rfl rfl (dl_at t_X6_end 5 rfl) ?_
  refine g_aload_n (pc := 10) X (j := 0) (i := 0) (q := 2) (x := a0) rfl rfl (dl_at t_X6_end 6 rfl) ?_
  have k11 := kx E6 (by decide) hk
  refine r_callRi (pc := 11) X (fun _ hv => s_X6_top k11 hv) cw_code q2202 q360 (in_Vk X (As := []) kX6 k11 (Or.inl q2199) q2201 qs65 cw_code q2202 ⟨by decide, by decide⟩ rfl (dl_at t_X6_end 7 rfl)) (dl_at t_X6_end 7 rfl) (cat24 (st := []) (Nat.le_of_ble_eq_true rfl)) (Nat.le_of_ble_eq_true rfl) (Nat.le_of_ble_eq_true rfl) fun v11 g11 => ?_
  refine g_istore_nN (pc := 14) X (j := 3) (i := 3) (x := v11) (b := 2) (w := iv v6) (rest := [(1, iv x1_4), (0, rv D a0)]) rfl (Nat.le_of_ble_eq_true rfl) [0, 1, 2] rfl (by decide) rfl rfl (dl_at t_X6_end 8 rfl) ?_
  refine g_aload_n (pc := 15) X (j := 0) (i := 0) (q := 3) (x := a0) rfl rfl (dl_at t_X6_end 9 rfl) ?_
  refine r_getr (pc := 16) X fX6_3 k11 q652 (dl_at t_X6_end 10 rfl) ?_
  refine g_aload_n (pc := 19) X (j := 0) (i := 0) (q := 3) (x := a0) rfl rfl (dl_at t_X6_end 11 rfl) ?_
  refine r_getr (pc := 20) X fX6_0 k11 q645 (dl_at t_X6_end 12 rfl) ?_
  refine g_iload_n (pc := 23) X (j := 1) (i := 1) (q := 2) (x := x1_4) rfl rfl (dl_at t_X6_end 13 rfl) ?_
  refine g_iload_n (pc := 24) X (j := 2) (i := 2) (q := 1) (x := v6) rfl rfl (dl_at t_X6_end 14 rfl) ?_
  refine g_iload_n (pc := 25) X (j := 1) (i := 1) (q := 2) (x := x1_4) rfl rfl (dl_at t_X6_end 15 rfl) ?_
  refine g_isub (pc := 26) X g6 r1_4 (dl_at t_X6_end 16 rfl) ?_
  refine g_gd fun k27 => ?_
  refine r_callRi (pc := 27) X (fun _ hv => s_X4_find k27 r1_4 (r32_w _) hv) cw_code q2011 q358 (in_Vk X (As := [rv D (h6 a0 0), iv x1_4, iv (w32 (v6 - x1_4))]) kX4 k27 (Or.inr ⟨_, nw_in q2183 rfl⟩) q2010 qs38 cw_code q2011 ⟨by decide, by decide⟩ rfl (dl_at t_X6_end 17 rfl)) (dl_at t_X6_end 17 rfl) (cat24 (st := []) (Nat.le_of_ble_eq_true rfl)) (Nat.le_of_ble_eq_true rfl) (Nat.le_of_ble_eq_true rfl) fun v27 g27 => ?_
  refine g_aload_n (pc := 30) X (j := 0) (i := 0) (q := 3) (x := a0) rfl rfl (dl_at t_X6_end 18 rfl) ?_
  refine r_getr (pc := 31) X fX6_5 k11 q657 (dl_at t_X6_end 19 rfl) ?_
  refine g_iload_n (pc := 34) X (j := 3) (i := 3) (q := 0) (x := v11) rfl rfl (dl_at t_X6_end 20 rfl) ?_
  refine g_gd fun k35 => ?_
  refine g_iald (pc := 35) X g11 k35 (dl_at t_X6_end 21 rfl) fun g35 => ?_
  refine g_icmpeq (pc := 36) X g27 g35 (off := 8) (tgt := 44) rfl (dl_at t_X6_end 22 rfl) (fun _ => ?_) (fun _ => ?_)
  · refine g_aload_n (pc := 44) X (j := 0) (i := 0) (q := 3) (x := a0) rfl rfl (dl_at t_X6_end 26 rfl) ?_
    refine g_iload_n (pc := 45) X (j := 2) (i := 2) (q := 1) (x := v6) rfl rfl (dl_at t_X6_end 27 rfl) ?_
    refine r_puti (pc := 46) X fX6_2 k11 q651 rfl (dl_at t_X6_end 28 rfl) g6 (fun h46 E46 => ?_)
    refine g_aload_n (pc := 49) X (j := 0) (i := 0) (q := 3) (x := a0) rfl rfl (dl_at t_X6_end 29 rfl) ?_
    have k50 := kx E46 (by decide) k11
    refine r_callV (pc := 50) X (fun _ hv => s_X6_blanks k50 hv) cw_code q2187 q360 (in_Vk X (As := []) kX6 k50 (Or.inl q2184) q2186 qs62 cw_code q2187 ⟨by decide, by decide⟩ rfl (dl_at t_X6_end 30 rfl)) (dl_at t_X6_end 30 rfl) (cat24 (st := []) (Nat.le_of_ble_eq_true rfl)) (Nat.le_of_ble_eq_true rfl) (Nat.le_of_ble_eq_true rfl) fun h50 E50 => ?_
    refine g_aload_n (pc := 53) X (j := 0) (i := 0) (q := 3) (x := a0) rfl rfl (dl_at t_X6_end 31 rfl) ?_
    refine g_aload_n (pc := 54) X (j := 0) (i := 0) (q := 3) (x := a0) rfl rfl (dl_at t_X6_end 32 rfl) ?_
    have k55 := kx E50 (by decide) k50
    refine r_geti (pc := 55) X fX6_2 k55 q651 (dl_at t_X6_end 33 rfl) fun g55 => ?_
    refine r_callRi (pc := 58) X (fun _ hv => s_X6_byteAt k55 g55 hv) cw_code q2150 q360 (in_Vk X (As := [iv (h50 a0 2)]) kX6 k55 (Or.inl q2147) q2149 qs55 cw_code q2150 ⟨by decide, by decide⟩ rfl (dl_at t_X6_end 34 rfl)) (dl_at t_X6_end 34 rfl) (cat24 (st := []) (Nat.le_of_ble_eq_true rfl)) (Nat.le_of_ble_eq_true rfl) (Nat.le_of_ble_eq_true rfl) fun v58 g58 => ?_
    refine g_bipush (pc := 61) X (n := 62) rfl (dl_at t_X6_end 35 rfl) ?_
    refine g_icmpeq (pc := 63) X g58 (r32_c rfl) (off := 8) (tgt := 71) rfl (dl_at t_X6_end 36 rfl) (fun _ => ?_) (fun _ => ?_)
    · refine g_aload_n (pc := 71) X (j := 0) (i := 0) (q := 3) (x := a0) rfl rfl (dl_at t_X6_end 40 rfl) ?_
      refine g_dup (pc := 72) X rv_cat (dl_at t_X6_end 41 rfl) ?_
      refine r_geti (pc := 73) X fX6_2 k55 q651 (dl_at t_X6_end 42 rfl) fun g73 => ?_
      refine g_iconst (pc := 76) X (n := 1) (dl_at t_X6_end 43 rfl) ?_
      refine g_iadd (pc := 77) X g73 (r32_c rfl) (dl_at t_X6_end 44 rfl) ?_
      refine r_puti (pc := 78) X fX6_2 k55 q651 rfl (dl_at t_X6_end 45 rfl) (r32_w _) (fun h78 E78 => ?_)
      refine g_aload_n (pc := 81) X (j := 0) (i := 0) (q := 3) (x := a0) rfl rfl (dl_at t_X6_end 46 rfl) ?_
      refine g_iload_n (pc := 82) X (j := 3) (i := 3) (q := 0) (x := v11) rfl rfl (dl_at t_X6_end 47 rfl) ?_
      have k83 := kx E78 (by decide) k55
      refine r_callV (pc := 83) X (fun _ hv => s_X6_close k83 g11 hv) cw_code q2206 q360 (in_Vk X (As := [iv v11]) kX6 k83 (Or.inl q2203) q2205 qs66 cw_code q2206 ⟨by decide, by decide⟩ rfl (dl_at t_X6_end 48 rfl)) (dl_at t_X6_end 48 rfl) (cat24 (st := []) (Nat.le_of_ble_eq_true rfl)) (Nat.le_of_ble_eq_true rfl) (Nat.le_of_ble_eq_true rfl) fun h83 E83 => ?_
      exact g_vret (pc := 86) X (v := 0) rfl rfl (dl_at t_X6_end 49 rfl)
    refine g_aload_n (pc := 66) X (j := 0) (i := 0) (q := 3) (x := a0) rfl rfl (dl_at t_X6_end 37 rfl) ?_
    refine r_callWr (pc := 67) X (fun _ hv => s_X6_broken k55 hv) cw_code q2162 q360 (in_Vk X (As := []) kX6 k55 (Or.inl q2159) q2161 qs58 cw_code q2162 ⟨by decide, by decide⟩ rfl (dl_at t_X6_end 38 rfl)) (dl_at t_X6_end 38 rfl) (cat24 (st := []) (Nat.le_of_ble_eq_true rfl)) (Nat.le_of_ble_eq_true rfl) (Nat.le_of_ble_eq_true rfl) fun v67 h67 E67 => ?_
    refine g_gd fun p70 => ?_
    refine g_athrow (pc := 70) X (Int.ne_of_gt p70) (dl_at t_X6_end 39 rfl) ?_
    exact gt_at fun Q hQ => gt_out (Q := Q) X rfl p70 (hno _) _ Q rfl hQ
  refine g_aload_n (pc := 39) X (j := 0) (i := 0) (q := 3) (x := a0) rfl rfl (dl_at t_X6_end 23 rfl) ?_
  refine r_callWr (pc := 40) X (fun _ hv => s_X6_broken k11 hv) cw_code q2162 q360 (in_Vk X (As := []) kX6 k11 (Or.inl q2159) q2161 qs58 cw_code q2162 ⟨by decide, by decide⟩ rfl (dl_at t_X6_end 24 rfl)) (dl_at t_X6_end 24 rfl) (cat24 (st := []) (Nat.le_of_ble_eq_true rfl)) (Nat.le_of_ble_eq_true rfl) (Nat.le_of_ble_eq_true rfl) fun v40 h40 E40 => ?_
  refine g_gd fun p43 => ?_
  refine g_athrow (pc := 43) X (Int.ne_of_gt p43) (dl_at t_X6_end 25 rfl) ?_
  exact gt_at fun Q hQ => gt_out (Q := Q) X rfl p43 (hno _) _ Q rfl hQ
def k_X6_field : List (Nat × Instr × Nat) := [(0, .iload_n 1, 1), (1, .iconst 1, 1), (2, .iadd, 1), (3, .aload_n 0, 1), (4, .getfield 96, 3), (7, .if_icmp .ge 14, 3), (10, .aload_n 0, 1), (11, .getfield 53, 3), (14, .iload_n 1, 1), (15, .iconst 1, 1), (16, .iadd, 1), (17, .iaload, 1), (18, .goto 7, 3), (21, .aload_n 0, 1), (22, .getfield 99, 3), (25, .istore_n 3, 1), (26, .aload_n 0, 1), (27, .getfield 53, 3), (30, .iload_n 1, 1), (31, .iaload, 1), (32, .istore 4, 2), (34, .iload 4, 2), (36, .iload_n 3, 1), (37, .if_icmp .ge 23, 3), (40, .aload_n 0, 1), (41, .getfield 56, 3), (44, .iload 4, 2), (46, .iaload, 1), (47, .iload_n 2, 1), (48, .if_icmp .ne 6, 3), (51, .iload 4, 2), (53, .ireturn, 1), (54, .iinc 4 1, 3), (57, .goto (-23), 3), (60, .iconst (-1), 1), (61, .ireturn, 1)]
theorem t_X6_field : ∀ q ∈ k_X6_field, decode cX6_field q.1 = .ok q.2 := dl_all (by decide +kernel)
noncomputable def m_X6_field_l34 (a0 a2 s0_25 x4_34 : Int) (h : Hp) : Option ((Int) ⊕ ((Int))) :=
  if s0_25 ≤ x4_34 then (some (.inr (-1)))
  else (gd (h (h a0 15) (-2) % 16 = 1 ∧ (0 : Int) ≤ x4_34 ∧ x4_34 < h (h a0 15) (-1)) (if (h (h a0 15) x4_34) ≠ a2 then (lt_ (w32 (x4_34 + 1)) fun x4_54 =>
  some (.inl x4_54))
  else (some (.inr x4_34))))
noncomputable def m_X6_field_j25 (a0 a1 a2 s0_25 : Int) (h : Hp) : Option (Int) :=
  gd (h (h a0 14) (-2) % 16 = 1 ∧ (0 : Int) ≤ a1 ∧ a1 < h (h a0 14) (-1)) (lt_ (h (h a0 14) a1) fun x4_32 =>
  (lp (fun (q : Int) => m_X6_field_l34 a0 a2 s0_25 q h) x4_32).bind (fun (x : Int) => some x))
noncomputable def m_X6_field (a0 a1 a2 : Int) (h : Hp) : Option (Int) :=
  if (h a0 4) ≤ (w32 (a1 + 1)) then (m_X6_field_j25 a0 a1 a2 (h a0 18) h)
  else (gd (h (h a0 14) (-2) % 16 = 1 ∧ (0 : Int) ≤ (w32 (a1 + 1)) ∧ (w32 (a1 + 1)) < h (h a0 14) (-1)) (m_X6_field_j25 a0 a1 a2 (h (h a0 14) (w32 (a1 + 1))) h))
theorem s_X6_field {l : Launch} [NoTr l] {D : SD} {a0 a1 a2 : Int} {h : Hp} (hk : h a0 (-2) = 96) (r1 : r32 a1) (r2 : r32 a2) {r : Int} (hm : m_X6_field a0 a1 a2 h = some r) : Sim l D yX6_field (Cond.code yX6_field cX6_field 5 (Option.some Jvm.ClassFile.FieldType.int)) 0 0 [rv D a0, iv a1, iv a2] h 1 ((0, r), h) := by
  refine Sim.of (fin := fun (v : Int) => ((0, v), h)) (lsE := [(0, rv D a0), (1, iv a1), (2, iv a2)]) hm rfl cwS_code (la_r (la_i (la_i la_n))) (ll_r (ll_i (ll_i ll_n))) ?_
  intro p e s m below meth c X hcw hmm hcc hnm hname
  unfold m_X6_field
  refine g_iload_n (pc := 0) X (j := 1) (i := 1) (q := 1) (x := a1) rfl rfl (dl_at t_X6_field 0 rfl) ?_
  refine g_iconst (pc := 1) X (n := 1) (dl_at t_X6_field 1 rfl) ?_
  refine g_iadd (pc := 2) X r1 (r32_c rfl) (dl_at t_X6_field 2 rfl) ?_
  refine g_aload_n (pc := 3) X (j := 0) (i := 0) (q := 0) (x := a0) rfl rfl (dl_at t_X6_field 3 rfl) ?_
  refine r_geti (pc := 4) X fX6_4 hk q655 (dl_at t_X6_field 4 rfl) fun g4 => ?_
  refine g_join (γ := Int) (fun q => r32 q) 25 (fun q => [(0, rv D a0), (1, iv a1), (2, iv a2)]) (fun q => [iv q]) (fun q => h) (fun q => m_X6_field_j25 a0 a1 a2 q h) ?_ ?_
  · rintro s0_25 rs0_25
    try dsimp only
    unfold m_X6_field_j25
    refine g_istore_nN (pc := 25) X (j := 3) (i := 3) (x := s0_25) (b := 2) (w := iv a2) (rest := [(0, rv D a0), (1, iv a1)]) rfl (Nat.le_of_ble_eq_true rfl) [2, 0, 1] rfl (by decide) rfl rfl (dl_at t_X6_field 15 rfl) ?_
    refine g_aload_n (pc := 26) X (j := 0) (i := 0) (q := 2) (x := a0) rfl rfl (dl_at t_X6_field 16 rfl) ?_
    refine r_getr (pc := 27) X fX6_14 hk q676 (dl_at t_X6_field 17 rfl) ?_
    refine g_iload_n (pc := 30) X (j := 1) (i := 1) (q := 3) (x := a1) rfl rfl (dl_at t_X6_field 18 rfl) ?_
    refine g_gd fun k31 => ?_
    refine g_iald (pc := 31) X r1 k31 (dl_at t_X6_field 19 rfl) fun g31 => ?_
    refine g_lti g31 fun x4_32 r4_32 => ?_
    refine g_istoreN (pc := 32) X (i := 4) (x := x4_32) (b := 3) (w := iv s0_25) (rest := [(2, iv a2), (0, rv D a0)]) (Nat.le_of_ble_eq_true rfl) [0, 1, 2] rfl (by decide) rfl rfl (dl_at t_X6_field 20 rfl) ?_
    refine g_ls (ls2 := [(0, rv D a0), (2, iv a2), (3, iv s0_25), (4, iv x4_32)]) [3, 2, 1, 0] rfl ?_
    refine g_loop0F (fun (q : Int) => [(0, rv D a0), (2, iv a2), (3, iv s0_25), (4, iv q)]) (fun (q : Int) => h) (fun (q : Int) => r32 q) x4_32 r4_32 ?_ (fun _ => rfl)
    · rintro x4_34 r4_34
      try dsimp only
      unfold m_X6_field_l34
      refine g_iload (pc := 34) X (i := 4) (q := 3) (x := x4_34) rfl (dl_at t_X6_field 21 rfl) ?_
      refine g_iload_n (pc := 36) X (j := 3) (i := 3) (q := 2) (x := s0_25) rfl rfl (dl_at t_X6_field 22 rfl) ?_
      refine g_icmpge (pc := 37) X r4_34 rs0_25 (off := 23) (tgt := 60) rfl (dl_at t_X6_field 23 rfl) (fun _ => ?_) (fun _ => ?_)
      · refine g_iconst (pc := 60) X (n := (-1)) (dl_at t_X6_field 34 rfl) ?_
        exact g_at fun Q hQ => (g_iret (pc := 61) X (r32_c rfl) rfl rfl (dl_at t_X6_field 35 rfl)) _ Q rfl hQ
      refine g_aload_n (pc := 40) X (j := 0) (i := 0) (q := 0) (x := a0) rfl rfl (dl_at t_X6_field 24 rfl) ?_
      refine r_getr (pc := 41) X fX6_15 hk q678 (dl_at t_X6_field 25 rfl) ?_
      refine g_iload (pc := 44) X (i := 4) (q := 3) (x := x4_34) rfl (dl_at t_X6_field 26 rfl) ?_
      refine g_gd fun k46 => ?_
      refine g_iald (pc := 46) X r4_34 k46 (dl_at t_X6_field 27 rfl) fun g46 => ?_
      refine g_iload_n (pc := 47) X (j := 2) (i := 2) (q := 1) (x := a2) rfl rfl (dl_at t_X6_field 28 rfl) ?_
      refine g_icmpne (pc := 48) X g46 r2 (off := 6) (tgt := 54) rfl (dl_at t_X6_field 29 rfl) (fun _ => ?_) (fun _ => ?_)
      · refine r_iincN (pc := 54) X (i := 4) (q := 3) (n := 1) (x := x4_34) (b := 3) (w := iv s0_25) (rest := [(0, rv D a0), (2, iv a2)]) rfl r4_34 (r32_c rfl) (Nat.le_of_ble_eq_true rfl) [2, 0, 1] rfl (by decide) rfl rfl (dl_at t_X6_field 32 rfl) fun x4_54 r4_54 => ?_
        refine g_goto (pc := 57) X (off := (-23)) (tgt := 34) rfl (dl_at t_X6_field 33 rfl) ?_
        refine g_ls (ls2 := [(0, rv D a0), (2, iv a2), (3, iv s0_25), (4, iv x4_54)]) [2, 3, 1, 0] rfl ?_
        exact g_at fun Q hQ => hQ r4_54
      refine g_iload (pc := 51) X (i := 4) (q := 3) (x := x4_34) rfl (dl_at t_X6_field 30 rfl) ?_
      exact g_at fun Q hQ => (g_iret (pc := 53) X r4_34 rfl rfl (dl_at t_X6_field 31 rfl)) _ Q rfl hQ
  intro J25
  refine g_icmpge (pc := 7) X (r32_w _) g4 (off := 14) (tgt := 21) rfl (dl_at t_X6_field 5 rfl) (fun _ => ?_) (fun _ => ?_)
  · refine g_aload_n (pc := 21) X (j := 0) (i := 0) (q := 0) (x := a0) rfl rfl (dl_at t_X6_field 13 rfl) ?_
    refine r_geti (pc := 22) X fX6_18 hk q685 (dl_at t_X6_field 14 rfl) fun g22 => ?_
    exact J25 (h a0 18) g22
  refine g_aload_n (pc := 10) X (j := 0) (i := 0) (q := 0) (x := a0) rfl rfl (dl_at t_X6_field 6 rfl) ?_
  refine r_getr (pc := 11) X fX6_14 hk q676 (dl_at t_X6_field 7 rfl) ?_
  refine g_iload_n (pc := 14) X (j := 1) (i := 1) (q := 1) (x := a1) rfl rfl (dl_at t_X6_field 8 rfl) ?_
  refine g_iconst (pc := 15) X (n := 1) (dl_at t_X6_field 9 rfl) ?_
  refine g_iadd (pc := 16) X r1 (r32_c rfl) (dl_at t_X6_field 10 rfl) ?_
  refine g_gd fun k17 => ?_
  refine g_iald (pc := 17) X (r32_w _) k17 (dl_at t_X6_field 11 rfl) fun g17 => ?_
  refine g_goto (pc := 18) X (off := 7) (tgt := 25) rfl (dl_at t_X6_field 12 rfl) ?_
  exact J25 (h (h a0 14) (w32 (a1 + 1))) g17
def k_X6_fields : List (Nat × Instr × Nat) := [(0, .aload_n 0, 1), (1, .aload_n 0, 1), (2, .getfield 90, 3), (5, .invokevirtual 128, 3), (8, .invokestatic 182, 3), (11, .istore_n 2, 1), (12, .aload_n 0, 1), (13, .invokevirtual 198, 3), (16, .aload_n 0, 1), (17, .aload_n 0, 1), (18, .getfield 90, 3), (21, .invokevirtual 128, 3), (24, .invokestatic 153, 3), (27, .ifCond .eq 197, 3), (30, .iload_n 2, 1), (31, .ifCond .ne 8, 3), (34, .aload_n 0, 1), (35, .invokevirtual 142, 3), (38, .athrow, 1), (39, .aload_n 0, 1), (40, .invokevirtual 167, 3), (43, .istore_n 3, 1), (44, .aload_n 0, 1), (45, .getfield 20, 3), (48, .aload_n 0, 1), (49, .getfield 9, 3), (52, .aload_n 0, 1), (53, .getfield 90, 3), (56, .iload_n 3, 1), (57, .aload_n 0, 1), (58, .getfield 90, 3), (61, .isub, 1), (62, .invokevirtual 204, 3), (65, .istore 4, 2), (67, .aload_n 0, 1), (68, .iload_n 1, 1), (69, .iload 4, 2), (71, .invokevirtual 212, 3), (74, .ifCond .ge 19, 3), (77, .aload_n 0, 1), (78, .getfield 99, 3), (81, .aload_n 0, 1), (82, .getfield 53, 3), (85, .iload_n 1, 1), (86, .iaload, 1), (87, .isub, 1), (88, .bipush 6, 2), (90, .if_icmp .ne 8, 3), (93, .aload_n 0, 1), (94, .invokevirtual 142, 3), (97, .athrow, 1), (98, .aload_n 0, 1), (99, .iload_n 3, 1), (100, .putfield 90, 3), (103, .aload_n 0, 1), (104, .invokevirtual 198, 3), (107, .aload_n 0, 1), (108, .aload_n 0, 1), (109, .getfield 90, 3), (112, .invokevirtual 128, 3), (115, .bipush 61, 2), (117, .if_icmp .eq 8, 3), (120, .aload_n 0, 1), (121, .invokevirtual 142, 3), (124, .athrow, 1), (125, .aload_n 0, 1), (126, .dup, 1), (127, .getfield 90, 3), (130, .iconst 1, 1), (131, .iadd, 1), (132, .putfield 90, 3), (135, .aload_n 0, 1), (136, .invokevirtual 198, 3), (139, .aload_n 0, 1), (140, .invokevirtual 201, 3), (143, .istore 5, 2), (145, .aload_n 0, 1), (146, .getfield 56, 3), (149, .aload_n 0, 1), (150, .getfield 99, 3), (153, .iload 4, 2), (155, .iastore, 1), (156, .aload_n 0, 1), (157, .getfield 59, 3), (160, .aload_n 0, 1), (161, .getfield 99, 3), (164, .aload_n 0, 1), (165, .getfield 90, 3), (168, .iconst 1, 1), (169, .iadd, 1), (170, .iastore, 1), (171, .aload_n 0, 1), (172, .getfield 62, 3), (175, .aload_n 0, 1), (176, .getfield 99, 3), (179, .iload 5, 2), (181, .iastore, 1), (182, .aload_n 0, 1), (183, .dup, 1), (184, .getfield 99, 3), (187, .iconst 1, 1), (188, .iadd, 1), (189, .putfield 99, 3), (192, .aload_n 0, 1), (193, .dup, 1), (194, .getfield 90, 3), (197, .iload 5, 2), (199, .iconst 2, 1), (200, .iadd, 1), (201, .iadd, 1), (202, .putfield 90, 3), (205, .aload_n 0, 1), (206, .aload_n 0, 1), (207, .getfield 90, 3), (210, .invokevirtual 128, 3), (213, .invokestatic 182, 3), (216, .istore_n 2, 1), (217, .aload_n 0, 1), (218, .invokevirtual 198, 3), (221, .goto (-205), 3), (224, .return_, 1)]
theorem t_X6_fields : ∀ q ∈ k_X6_fields, decode cX6_fields q.1 = .ok q.2 := dl_all (by decide +kernel)
noncomputable def m_X6_fields_l16 (a0 a1 x2_16 : Int) (h_16 : Hp) : Option ((Int × Hp) ⊕ (((Int × Int) × Hp))) :=
  (m_X6_byteAt a0 (h_16 a0 2) h_16).bind fun v21 =>
  (m_X1_isSmall v21).bind fun v24 =>
  if v24 = 0 then (some (.inr ((0, 0), h_16)))
  else (if x2_16 ≠ 0 then (bT (m_X6_nameEnd a0 h_16) (fun v40 h40 =>
  gd (h40 (h40 a0 3) (-2) = 64) (bW (m_X4_add (h40 a0 3) (h40 a0 0) (h40 a0 2) (w32 (v40 - (h40 a0 2))) h40) fun v62 h62 =>
  (m_X6_field a0 a1 v62 h62).bind fun v71 =>
  if 0 ≤ v71 then (bW (m_X6_broken a0 h62) fun v94 h94 =>
  gd (0 < v94) (some (.inr ((1, v94), h94))))
  else (gd (h62 (h62 a0 14) (-2) % 16 = 1 ∧ (0 : Int) ≤ a1 ∧ a1 < h62 (h62 a0 14) (-1)) (if (w32 ((h62 a0 18) - (h62 (h62 a0 14) a1))) ≠ 6 then (pt h62 a0 2 v40 fun h100 =>
  (m_X6_blanks a0 h100).bind fun h104 =>
  (m_X6_byteAt a0 (h104 a0 2) h104).bind fun v112 =>
  if v112 = 61 then (pt h104 a0 2 (w32 ((h104 a0 2) + 1)) fun h132 =>
  (m_X6_blanks a0 h132).bind fun h136 =>
  bT (m_X6_string a0 h136) (fun v140 h140 =>
  gd (h140 (h140 a0 15) (-2) % 16 = 1 ∧ (0 : Int) ≤ (h140 a0 18) ∧ (h140 a0 18) < h140 (h140 a0 15) (-1)) (pt h140 (h140 a0 15) (h140 a0 18) v62 fun h155 =>
  gd (h155 (h155 a0 16) (-2) % 16 = 1 ∧ (0 : Int) ≤ (h155 a0 18) ∧ (h155 a0 18) < h155 (h155 a0 16) (-1)) (pt h155 (h155 a0 16) (h155 a0 18) (w32 ((h155 a0 2) + 1)) fun h170 =>
  gd (h170 (h170 a0 17) (-2) % 16 = 1 ∧ (0 : Int) ≤ (h170 a0 18) ∧ (h170 a0 18) < h170 (h170 a0 17) (-1)) (pt h170 (h170 a0 17) (h170 a0 18) v140 fun h181 =>
  pt h181 a0 18 (w32 ((h181 a0 18) + 1)) fun h189 =>
  pt h189 a0 2 (w32 ((h189 a0 2) + (w32 (v140 + 2)))) fun h202 =>
  (m_X6_byteAt a0 (h202 a0 2) h202).bind fun v210 =>
  (m_X1_isBlank v210).bind fun v213 =>
  (m_X6_blanks a0 h202).bind fun h218 =>
  some (.inl (v213, h218)))))) (fun a_ h_ => some (.inr ((1, a_), h_))))
  else (bW (m_X6_broken a0 h104) fun v121 h121 =>
  gd (0 < v121) (some (.inr ((1, v121), h121)))))
  else (bW (m_X6_broken a0 h62) fun v94_1 h94_1 =>
  gd (0 < v94_1) (some (.inr ((1, v94_1), h94_1)))))))) (fun a_ h_ => some (.inr ((1, a_), h_))))
  else (bW (m_X6_broken a0 h_16) fun v35 h35 =>
  gd (0 < v35) (some (.inr ((1, v35), h35)))))
noncomputable def m_X6_fields (a0 a1 : Int) (h : Hp) : Option ((Int × Int) × Hp) :=
  (m_X6_byteAt a0 (h a0 2) h).bind fun v5 =>
  (m_X1_isBlank v5).bind fun v8 =>
  (m_X6_blanks a0 h).bind fun h13 =>
  (lp (fun (q : Int × Hp) => m_X6_fields_l16 a0 a1 q.1 q.2) (v8, h13)).bind (fun (x : (Int × Int) × Hp) => some x)
theorem s_X6_fields {l : Launch} [NoTr l] {D : SD} {a0 a1 : Int} {h : Hp} (hk : h a0 (-2) = 96) (r1 : r32 a1) {r : (Int × Int) × Hp} (hm : m_X6_fields a0 a1 h = some r) : Sim l D yX6_fields (Cond.code yX6_fields cX6_fields 6 (Option.none : Option Jvm.ClassFile.FieldType)) 11 410 [rv D a0, iv a1] h 0 r := by
  refine Sim.of (fin := fun (v : (Int × Int) × Hp) => v) (lsE := [(0, rv D a0), (1, iv a1)]) hm rfl cwS_code (la_r (la_i la_n)) (ll_r (ll_i ll_n)) ?_
  intro p e s m below meth c X hcw hmm hcc hnm hname
  have hno := noh hcw hnm hmm hcc
  unfold m_X6_fields
  refine g_aload_n (pc := 0) X (j := 0) (i := 0) (q := 0) (x := a0) rfl rfl (dl_at t_X6_fields 0 rfl) ?_
  refine g_aload_n (pc := 1) X (j := 0) (i := 0) (q := 0) (x := a0) rfl rfl (dl_at t_X6_fields 1 rfl) ?_
  refine r_geti (pc := 2) X fX6_2 hk q651 (dl_at t_X6_fields 2 rfl) fun g2 => ?_
  refine r_callRi (pc := 5) X (fun _ hv => s_X6_byteAt hk g2 hv) cw_code q2150 q360 (in_Vk X (As := [iv (h a0 2)]) kX6 hk (Or.inl q2147) q2149 qs55 cw_code q2150 ⟨by decide, by decide⟩ rfl (dl_at t_X6_fields 3 rfl)) (dl_at t_X6_fields 3 rfl) (cat24 (st := []) (Nat.le_of_ble_eq_true rfl)) (Nat.le_of_ble_eq_true rfl) (Nat.le_of_ble_eq_true rfl) fun v5 g5 => ?_
  refine r_callRz (pc := 8) X (fun _ hv => s_X1_isBlank g5 hv) cw_code q1732 q355 (in_Sc X (As := [iv v5]) (Or.inr ⟨_, nw_in q2188 rfl⟩) q1731 q355 q1732 ⟨by decide, by decide⟩ rfl (dl_at t_X6_fields 4 rfl)) (dl_at t_X6_fields 4 rfl) (cat24 (st := []) (Nat.le_of_ble_eq_true rfl)) (Nat.le_of_ble_eq_true rfl) (Nat.le_of_ble_eq_true rfl) fun v8 g8 => ?_
  refine g_istore_nN (pc := 11) X (j := 2) (i := 2) (x := v8) (b := 1) (w := iv a1) (rest := [(0, rv D a0)]) rfl (Nat.le_of_ble_eq_true rfl) [1, 0] rfl (by decide) rfl rfl (dl_at t_X6_fields 5 rfl) ?_
  refine g_aload_n (pc := 12) X (j := 0) (i := 0) (q := 2) (x := a0) rfl rfl (dl_at t_X6_fields 6 rfl) ?_
  refine r_callV (pc := 13) X (fun _ hv => s_X6_blanks hk hv) cw_code q2187 q360 (in_Vk X (As := []) kX6 hk (Or.inl q2184) q2186 qs62 cw_code q2187 ⟨by decide, by decide⟩ rfl (dl_at t_X6_fields 7 rfl)) (dl_at t_X6_fields 7 rfl) (cat24 (st := []) (Nat.le_of_ble_eq_true rfl)) (Nat.le_of_ble_eq_true rfl) (Nat.le_of_ble_eq_true rfl) fun h13 E13 => ?_
  refine g_ls (ls2 := [(0, rv D a0), (1, iv a1), (2, iv v8)]) [2, 1, 0] rfl ?_
  refine g_loop0F (fun (q : Int × Hp) => [(0, rv D a0), (1, iv a1), (2, iv q.1)]) (fun (q : Int × Hp) => q.2) (fun (q : Int × Hp) => (q.1 = 0 ∨ q.1 = 1) ∧ Ext h13 q.2) (v8, h13) ⟨g8, (Ext.refl _)⟩ ?_ (fun _ => rfl)
  · rintro ⟨x2_16, h_16⟩ ⟨r2_16, E_16⟩
    try dsimp only
    unfold m_X6_fields_l16
    refine g_aload_n (pc := 16) X (j := 0) (i := 0) (q := 0) (x := a0) rfl rfl (dl_at t_X6_fields 8 rfl) ?_
    refine g_aload_n (pc := 17) X (j := 0) (i := 0) (q := 0) (x := a0) rfl rfl (dl_at t_X6_fields 9 rfl) ?_
    have k18 := kx (E13.trans E_16) (by decide) hk
    refine r_geti (pc := 18) X fX6_2 k18 q651 (dl_at t_X6_fields 10 rfl) fun g18 => ?_
    refine r_callRi (pc := 21) X (fun _ hv => s_X6_byteAt k18 g18 hv) cw_code q2150 q360 (in_Vk X (As := [iv (h_16 a0 2)]) kX6 k18 (Or.inl q2147) q2149 qs55 cw_code q2150 ⟨by decide, by decide⟩ rfl (dl_at t_X6_fields 11 rfl)) (dl_at t_X6_fields 11 rfl) (cat24 (st := []) (Nat.le_of_ble_eq_true rfl)) (Nat.le_of_ble_eq_true rfl) (Nat.le_of_ble_eq_true rfl) fun v21 g21 => ?_
    refine r_callRz (pc := 24) X (fun _ hv => s_X1_isSmall g21 hv) cw_code q1735 q355 (in_Sc X (As := [iv v21]) (Or.inr ⟨_, nw_in q2173 rfl⟩) q1734 q355 q1735 ⟨by decide, by decide⟩ rfl (dl_at t_X6_fields 12 rfl)) (dl_at t_X6_fields 12 rfl) (cat24 (st := []) (Nat.le_of_ble_eq_true rfl)) (Nat.le_of_ble_eq_true rfl) (Nat.le_of_ble_eq_true rfl) fun v24 g24 => ?_
    refine g_ifeq (pc := 27) X (r32_z g24) (off := 197) (tgt := 224) rfl (dl_at t_X6_fields 13 rfl) (fun _ => ?_) (fun _ => ?_)
    · exact g_at fun Q hQ => (g_vret (pc := 224) X (v := 0) rfl rfl (dl_at t_X6_fields 120 rfl)) _ Q rfl hQ
    refine g_iload_n (pc := 30) X (j := 2) (i := 2) (q := 2) (x := x2_16) rfl rfl (dl_at t_X6_fields 14 rfl) ?_
    refine g_ifne (pc := 31) X (r32_z r2_16) (off := 8) (tgt := 39) rfl (dl_at t_X6_fields 15 rfl) (fun _ => ?_) (fun _ => ?_)
    · refine g_aload_n (pc := 39) X (j := 0) (i := 0) (q := 0) (x := a0) rfl rfl (dl_at t_X6_fields 19 rfl) ?_
      refine r_callTi (pc := 40) X (fun _ hv => s_X6_nameEnd k18 hv) cw_code q2172 q360 (in_Vk X (As := []) kX6 k18 (Or.inl q2169) q2171 qs60 cw_code q2172 ⟨by decide, by decide⟩ rfl (dl_at t_X6_fields 20 rfl)) (dl_at t_X6_fields 20 rfl) (cat24 (st := []) (Nat.le_of_ble_eq_true rfl)) (Nat.le_of_ble_eq_true rfl) (Nat.le_of_ble_eq_true rfl) (fun v40 h40 g40 E40 => ?_) (fun _ _ ha _ => gt_at fun Q hQ => gt_out (Q := Q) X rfl ha (hno _) _ Q rfl hQ)
      refine g_istore_n (pc := 43) X (j := 3) (i := 3) (x := v40) (rest := [(0, rv D a0), (1, iv a1)]) rfl (Nat.le_of_ble_eq_true rfl) [0, 1] rfl rfl (dl_at t_X6_fields 21 rfl) ?_
      refine g_aload_n (pc := 44) X (j := 0) (i := 0) (q := 1) (x := a0) rfl rfl (dl_at t_X6_fields 22 rfl) ?_
      have k45 := kx E40 (by decide) k18
      refine r_getr (pc := 45) X fX6_3 k45 q652 (dl_at t_X6_fields 23 rfl) ?_
      refine g_aload_n (pc := 48) X (j := 0) (i := 0) (q := 1) (x := a0) rfl rfl (dl_at t_X6_fields 24 rfl) ?_
      refine r_getr (pc := 49) X fX6_0 k45 q645 (dl_at t_X6_fields 25 rfl) ?_
      refine g_aload_n (pc := 52) X (j := 0) (i := 0) (q := 1) (x := a0) rfl rfl (dl_at t_X6_fields 26 rfl) ?_
      refine r_geti (pc := 53) X fX6_2 k45 q651 (dl_at t_X6_fields 27 rfl) fun g53 => ?_
      refine g_iload_n (pc := 56) X (j := 3) (i := 3) (q := 0) (x := v40) rfl rfl (dl_at t_X6_fields 28 rfl) ?_
      refine g_aload_n (pc := 57) X (j := 0) (i := 0) (q := 1) (x := a0) rfl rfl (dl_at t_X6_fields 29 rfl) ?_
      refine r_geti (pc := 58) X fX6_2 k45 q651 (dl_at t_X6_fields 30 rfl) fun g58 => ?_
      refine g_isub (pc := 61) X g40 g58 (dl_at t_X6_fields 31 rfl) ?_
      refine g_gd fun k62 => ?_
      refine r_callWi (pc := 62) X (fun _ hv => s_X4_add k62 g53 (r32_w _) hv) cw_code q2007 q358 (in_Vk X (As := [rv D (h40 a0 0), iv (h40 a0 2), iv (w32 (v40 - (h40 a0 2)))]) kX4 k62 (Or.inr ⟨_, nw_in q2194 rfl⟩) q2006 qs37 cw_code q2007 ⟨by decide, by decide⟩ rfl (dl_at t_X6_fields 32 rfl)) (dl_at t_X6_fields 32 rfl) (cat24 (st := []) (Nat.le_of_ble_eq_true rfl)) (Nat.le_of_ble_eq_true rfl) (Nat.le_of_ble_eq_true rfl) fun v62 h62 g62 E62 => ?_
      refine g_istoreN (pc := 65) X (i := 4) (x := v62) (b := 3) (w := iv v40) (rest := [(0, rv D a0), (1, iv a1)]) (Nat.le_of_ble_eq_true rfl) [0, 1, 2] rfl (by decide) rfl rfl (dl_at t_X6_fields 33 rfl) ?_
      refine g_aload_n (pc := 67) X (j := 0) (i := 0) (q := 2) (x := a0) rfl rfl (dl_at t_X6_fields 34 rfl) ?_
      refine g_iload_n (pc := 68) X (j := 1) (i := 1) (q := 3) (x := a1) rfl rfl (dl_at t_X6_fields 35 rfl) ?_
      refine g_iload (pc := 69) X (i := 4) (q := 0) (x := v62) rfl (dl_at t_X6_fields 36 rfl) ?_
      have k71 := kx E62 (by decide) k45
      refine r_callRi (pc := 71) X (fun _ hv => s_X6_field k71 r1 g62 hv) cw_code q2222 q360 (in_Vk X (As := [iv a1, iv v62]) kX6 k71 (Or.inl q2219) q2221 qs70 cw_code q2222 ⟨by decide, by decide⟩ rfl (dl_at t_X6_fields 37 rfl)) (dl_at t_X6_fields 37 rfl) (cat24 (st := []) (Nat.le_of_ble_eq_true rfl)) (Nat.le_of_ble_eq_true rfl) (Nat.le_of_ble_eq_true rfl) fun v71 g71 => ?_
      refine g_ifge (pc := 74) X g71 (off := 19) (tgt := 93) rfl (dl_at t_X6_fields 38 rfl) (fun _ => ?_) (fun _ => ?_)
      · refine g_aload_n (pc := 93) X (j := 0) (i := 0) (q := 2) (x := a0) rfl rfl (dl_at t_X6_fields 48 rfl) ?_
        refine r_callWr (pc := 94) X (fun _ hv => s_X6_broken k71 hv) cw_code q2162 q360 (in_Vk X (As := []) kX6 k71 (Or.inl q2159) q2161 qs58 cw_code q2162 ⟨by decide, by decide⟩ rfl (dl_at t_X6_fields 49 rfl)) (dl_at t_X6_fields 49 rfl) (cat24 (st := []) (Nat.le_of_ble_eq_true rfl)) (Nat.le_of_ble_eq_true rfl) (Nat.le_of_ble_eq_true rfl) fun v94 h94 E94 => ?_
        refine g_gd fun p97 => ?_
        refine g_athrow (pc := 97) X (Int.ne_of_gt p97) (dl_at t_X6_fields 50 rfl) ?_
        exact gt_at fun Q hQ => gt_out (Q := Q) X rfl p97 (hno _) _ Q rfl hQ
      refine g_aload_n (pc := 77) X (j := 0) (i := 0) (q := 2) (x := a0) rfl rfl (dl_at t_X6_fields 39 rfl) ?_
      refine r_geti (pc := 78) X fX6_18 k71 q685 (dl_at t_X6_fields 40 rfl) fun g78 => ?_
      refine g_aload_n (pc := 81) X (j := 0) (i := 0) (q := 2) (x := a0) rfl rfl (dl_at t_X6_fields 41 rfl) ?_
      refine r_getr (pc := 82) X fX6_14 k71 q676 (dl_at t_X6_fields 42 rfl) ?_
      refine g_iload_n (pc := 85) X (j := 1) (i := 1) (q := 3) (x := a1) rfl rfl (dl_at t_X6_fields 43 rfl) ?_
      refine g_gd fun k86 => ?_
      refine g_iald (pc := 86) X r1 k86 (dl_at t_X6_fields 44 rfl) fun g86 => ?_
      refine g_isub (pc := 87) X g78 g86 (dl_at t_X6_fields 45 rfl) ?_
      refine g_bipush (pc := 88) X (n := 6) rfl (dl_at t_X6_fields 46 rfl) ?_
      refine g_icmpne (pc := 90) X (r32_w _) (r32_c rfl) (off := 8) (tgt := 98) rfl (dl_at t_X6_fields 47 rfl) (fun _ => ?_) (fun _ => ?_)
      · refine g_aload_n (pc := 98) X (j := 0) (i := 0) (q := 2) (x := a0) rfl rfl (dl_at t_X6_fields 51 rfl) ?_
        refine g_iload_n (pc := 99) X (j := 3) (i := 3) (q := 1) (x := v40) rfl rfl (dl_at t_X6_fields 52 rfl) ?_
        refine r_puti (pc := 100) X fX6_2 k71 q651 rfl (dl_at t_X6_fields 53 rfl) g40 (fun h100 E100 => ?_)
        refine g_aload_n (pc := 103) X (j := 0) (i := 0) (q := 2) (x := a0) rfl rfl (dl_at t_X6_fields 54 rfl) ?_
        have k104 := kx E100 (by decide) k71
        refine r_callV (pc := 104) X (fun _ hv => s_X6_blanks k104 hv) cw_code q2187 q360 (in_Vk X (As := []) kX6 k104 (Or.inl q2184) q2186 qs62 cw_code q2187 ⟨by decide, by decide⟩ rfl (dl_at t_X6_fields 55 rfl)) (dl_at t_X6_fields 55 rfl) (cat24 (st := []) (Nat.le_of_ble_eq_true rfl)) (Nat.le_of_ble_eq_true rfl) (Nat.le_of_ble_eq_true rfl) fun h104 E104 => ?_
        refine g_aload_n (pc := 107) X (j := 0) (i := 0) (q := 2) (x := a0) rfl rfl (dl_at t_X6_fields 56 rfl) ?_
        refine g_aload_n (pc := 108) X (j := 0) (i := 0) (q := 2) (x := a0) rfl rfl (dl_at t_X6_fields 57 rfl) ?_
        have k109 := kx E104 (by decide) k104
        refine r_geti (pc := 109) X fX6_2 k109 q651 (dl_at t_X6_fields 58 rfl) fun g109 => ?_
        refine r_callRi (pc := 112) X (fun _ hv => s_X6_byteAt k109 g109 hv) cw_code q2150 q360 (in_Vk X (As := [iv (h104 a0 2)]) kX6 k109 (Or.inl q2147) q2149 qs55 cw_code q2150 ⟨by decide, by decide⟩ rfl (dl_at t_X6_fields 59 rfl)) (dl_at t_X6_fields 59 rfl) (cat24 (st := []) (Nat.le_of_ble_eq_true rfl)) (Nat.le_of_ble_eq_true rfl) (Nat.le_of_ble_eq_true rfl) fun v112 g112 => ?_
        refine g_bipush (pc := 115) X (n := 61) rfl (dl_at t_X6_fields 60 rfl) ?_
        refine g_icmpeq (pc := 117) X g112 (r32_c rfl) (off := 8) (tgt := 125) rfl (dl_at t_X6_fields 61 rfl) (fun _ => ?_) (fun _ => ?_)
        · refine g_aload_n (pc := 125) X (j := 0) (i := 0) (q := 2) (x := a0) rfl rfl (dl_at t_X6_fields 65 rfl) ?_
          refine g_dup (pc := 126) X rv_cat (dl_at t_X6_fields 66 rfl) ?_
          refine r_geti (pc := 127) X fX6_2 k109 q651 (dl_at t_X6_fields 67 rfl) fun g127 => ?_
          refine g_iconst (pc := 130) X (n := 1) (dl_at t_X6_fields 68 rfl) ?_
          refine g_iadd (pc := 131) X g127 (r32_c rfl) (dl_at t_X6_fields 69 rfl) ?_
          refine r_puti (pc := 132) X fX6_2 k109 q651 rfl (dl_at t_X6_fields 70 rfl) (r32_w _) (fun h132 E132 => ?_)
          refine g_aload_n (pc := 135) X (j := 0) (i := 0) (q := 2) (x := a0) rfl rfl (dl_at t_X6_fields 71 rfl) ?_
          have k136 := kx E132 (by decide) k109
          refine r_callV (pc := 136) X (fun _ hv => s_X6_blanks k136 hv) cw_code q2187 q360 (in_Vk X (As := []) kX6 k136 (Or.inl q2184) q2186 qs62 cw_code q2187 ⟨by decide, by decide⟩ rfl (dl_at t_X6_fields 72 rfl)) (dl_at t_X6_fields 72 rfl) (cat24 (st := []) (Nat.le_of_ble_eq_true rfl)) (Nat.le_of_ble_eq_true rfl) (Nat.le_of_ble_eq_true rfl) fun h136 E136 => ?_
          refine g_aload_n (pc := 139) X (j := 0) (i := 0) (q := 2) (x := a0) rfl rfl (dl_at t_X6_fields 73 rfl) ?_
          have k140 := kx E136 (by decide) k136
          refine r_callTi (pc := 140) X (fun _ hv => s_X6_string k140 hv) cw_code q2192 q360 (in_Vk X (As := []) kX6 k140 (Or.inl q2189) q2191 qs63 cw_code q2192 ⟨by decide, by decide⟩ rfl (dl_at t_X6_fields 74 rfl)) (dl_at t_X6_fields 74 rfl) (cat24 (st := []) (Nat.le_of_ble_eq_true rfl)) (Nat.le_of_ble_eq_true rfl) (Nat.le_of_ble_eq_true rfl) (fun v140 h140 g140 E140 => ?_) (fun _ _ ha _ => gt_at fun Q hQ => gt_out (Q := Q) X rfl ha (hno _) _ Q rfl hQ)
          refine g_istoreN (pc := 143) X (i := 5) (x := v140) (b := 4) (w := iv v62) (rest := [(0, rv D a0), (1, iv a1)]) (Nat.le_of_ble_eq_true rfl) [0, 2, 3] rfl (by decide) rfl rfl (dl_at t_X6_fields 75 rfl) ?_
          refine g_aload_n (pc := 145) X (j := 0) (i := 0) (q := 2) (x := a0) rfl rfl (dl_at t_X6_fields 76 rfl) ?_
          have k146 := kx E140 (by decide) k140
          refine r_getr (pc := 146) X fX6_15 k146 q678 (dl_at t_X6_fields 77 rfl) ?_
          refine g_aload_n (pc := 149) X (j := 0) (i := 0) (q := 2) (x := a0) rfl rfl (dl_at t_X6_fields 78 rfl) ?_
          refine r_geti (pc := 150) X fX6_18 k146 q685 (dl_at t_X6_fields 79 rfl) fun g150 => ?_
          refine g_iload (pc := 153) X (i := 4) (q := 1) (x := v62) rfl (dl_at t_X6_fields 80 rfl) ?_
          refine g_gd fun k155 => ?_
          refine r_iast (pc := 155) X g150 g62 k155 (dl_at t_X6_fields 81 rfl) (fun h155 E155 => ?_)
          refine g_aload_n (pc := 156) X (j := 0) (i := 0) (q := 2) (x := a0) rfl rfl (dl_at t_X6_fields 82 rfl) ?_
          have k157 := kx E155 (by decide) k146
          refine r_getr (pc := 157) X fX6_16 k157 q679 (dl_at t_X6_fields 83 rfl) ?_
          refine g_aload_n (pc := 160) X (j := 0) (i := 0) (q := 2) (x := a0) rfl rfl (dl_at t_X6_fields 84 rfl) ?_
          refine r_geti (pc := 161) X fX6_18 k157 q685 (dl_at t_X6_fields 85 rfl) fun g161 => ?_
          refine g_aload_n (pc := 164) X (j := 0) (i := 0) (q := 2) (x := a0) rfl rfl (dl_at t_X6_fields 86 rfl) ?_
          refine r_geti (pc := 165) X fX6_2 k157 q651 (dl_at t_X6_fields 87 rfl) fun g165 => ?_
          refine g_iconst (pc := 168) X (n := 1) (dl_at t_X6_fields 88 rfl) ?_
          refine g_iadd (pc := 169) X g165 (r32_c rfl) (dl_at t_X6_fields 89 rfl) ?_
          refine g_gd fun k170 => ?_
          refine r_iast (pc := 170) X g161 (r32_w _) k170 (dl_at t_X6_fields 90 rfl) (fun h170 E170 => ?_)
          refine g_aload_n (pc := 171) X (j := 0) (i := 0) (q := 2) (x := a0) rfl rfl (dl_at t_X6_fields 91 rfl) ?_
          have k172 := kx E170 (by decide) k157
          refine r_getr (pc := 172) X fX6_17 k172 q682 (dl_at t_X6_fields 92 rfl) ?_
          refine g_aload_n (pc := 175) X (j := 0) (i := 0) (q := 2) (x := a0) rfl rfl (dl_at t_X6_fields 93 rfl) ?_
          refine r_geti (pc := 176) X fX6_18 k172 q685 (dl_at t_X6_fields 94 rfl) fun g176 => ?_
          refine g_iload (pc := 179) X (i := 5) (q := 0) (x := v140) rfl (dl_at t_X6_fields 95 rfl) ?_
          refine g_gd fun k181 => ?_
          refine r_iast (pc := 181) X g176 g140 k181 (dl_at t_X6_fields 96 rfl) (fun h181 E181 => ?_)
          refine g_aload_n (pc := 182) X (j := 0) (i := 0) (q := 2) (x := a0) rfl rfl (dl_at t_X6_fields 97 rfl) ?_
          refine g_dup (pc := 183) X rv_cat (dl_at t_X6_fields 98 rfl) ?_
          have k184 := kx E181 (by decide) k172
          refine r_geti (pc := 184) X fX6_18 k184 q685 (dl_at t_X6_fields 99 rfl) fun g184 => ?_
          refine g_iconst (pc := 187) X (n := 1) (dl_at t_X6_fields 100 rfl) ?_
          refine g_iadd (pc := 188) X g184 (r32_c rfl) (dl_at t_X6_fields 101 rfl) ?_
          refine r_puti (pc := 189) X fX6_18 k184 q685 rfl (dl_at t_X6_fields 102 rfl) (r32_w _) (fun h189 E189 => ?_)
          refine g_aload_n (pc := 192) X (j := 0) (i := 0) (q := 2) (x := a0) rfl rfl (dl_at t_X6_fields 103 rfl) ?_
          refine g_dup (pc := 193) X rv_cat (dl_at t_X6_fields 104 rfl) ?_
          have k194 := kx E189 (by decide) k184
          refine r_geti (pc := 194) X fX6_2 k194 q651 (dl_at t_X6_fields 105 rfl) fun g194 => ?_
          refine g_iload (pc := 197) X (i := 5) (q := 0) (x := v140) rfl (dl_at t_X6_fields 106 rfl) ?_
          refine g_iconst (pc := 199) X (n := 2) (dl_at t_X6_fields 107 rfl) ?_
          refine g_iadd (pc := 200) X g140 (r32_c rfl) (dl_at t_X6_fields 108 rfl) ?_
          refine g_iadd (pc := 201) X g194 (r32_w _) (dl_at t_X6_fields 109 rfl) ?_
          refine r_puti (pc := 202) X fX6_2 k194 q651 rfl (dl_at t_X6_fields 110 rfl) (r32_w _) (fun h202 E202 => ?_)
          refine g_aload_n (pc := 205) X (j := 0) (i := 0) (q := 2) (x := a0) rfl rfl (dl_at t_X6_fields 111 rfl) ?_
          refine g_aload_n (pc := 206) X (j := 0) (i := 0) (q := 2) (x := a0) rfl rfl (dl_at t_X6_fields 112 rfl) ?_
          have k207 := kx E202 (by decide) k194
          refine r_geti (pc := 207) X fX6_2 k207 q651 (dl_at t_X6_fields 113 rfl) fun g207 => ?_
          refine r_callRi (pc := 210) X (fun _ hv => s_X6_byteAt k207 g207 hv) cw_code q2150 q360 (in_Vk X (As := [iv (h202 a0 2)]) kX6 k207 (Or.inl q2147) q2149 qs55 cw_code q2150 ⟨by decide, by decide⟩ rfl (dl_at t_X6_fields 114 rfl)) (dl_at t_X6_fields 114 rfl) (cat24 (st := []) (Nat.le_of_ble_eq_true rfl)) (Nat.le_of_ble_eq_true rfl) (Nat.le_of_ble_eq_true rfl) fun v210 g210 => ?_
          refine r_callRz (pc := 213) X (fun _ hv => s_X1_isBlank g210 hv) cw_code q1732 q355 (in_Sc X (As := [iv v210]) (Or.inr ⟨_, nw_in q2188 rfl⟩) q1731 q355 q1732 ⟨by decide, by decide⟩ rfl (dl_at t_X6_fields 115 rfl)) (dl_at t_X6_fields 115 rfl) (cat24 (st := []) (Nat.le_of_ble_eq_true rfl)) (Nat.le_of_ble_eq_true rfl) (Nat.le_of_ble_eq_true rfl) fun v213 g213 => ?_
          refine g_istore_nN (pc := 216) X (j := 2) (i := 2) (x := v213) (b := 1) (w := iv a1) (rest := [(0, rv D a0)]) rfl (Nat.le_of_ble_eq_true rfl) [3, 2] rfl (by decide) rfl rfl (dl_at t_X6_fields 116 rfl) ?_
          refine g_aload_n (pc := 217) X (j := 0) (i := 0) (q := 2) (x := a0) rfl rfl (dl_at t_X6_fields 117 rfl) ?_
          refine r_callV (pc := 218) X (fun _ hv => s_X6_blanks k207 hv) cw_code q2187 q360 (in_Vk X (As := []) kX6 k207 (Or.inl q2184) q2186 qs62 cw_code q2187 ⟨by decide, by decide⟩ rfl (dl_at t_X6_fields 118 rfl)) (dl_at t_X6_fields 118 rfl) (cat24 (st := []) (Nat.le_of_ble_eq_true rfl)) (Nat.le_of_ble_eq_true rfl) (Nat.le_of_ble_eq_true rfl) fun h218 E218 => ?_
          refine g_goto (pc := 221) X (off := (-205)) (tgt := 16) rfl (dl_at t_X6_fields 119 rfl) ?_
          refine g_ls (ls2 := [(0, rv D a0), (1, iv a1), (2, iv v213)]) [2, 1, 0] rfl ?_
          exact g_at fun Q hQ => hQ ⟨g213, (E_16.trans (E40.trans (E62.trans (E100.trans (E104.trans (E132.trans (E136.trans (E140.trans (E155.trans (E170.trans (E181.trans (E189.trans (E202.trans E218)))))))))))))⟩
        refine g_aload_n (pc := 120) X (j := 0) (i := 0) (q := 2) (x := a0) rfl rfl (dl_at t_X6_fields 62 rfl) ?_
        refine r_callWr (pc := 121) X (fun _ hv => s_X6_broken k109 hv) cw_code q2162 q360 (in_Vk X (As := []) kX6 k109 (Or.inl q2159) q2161 qs58 cw_code q2162 ⟨by decide, by decide⟩ rfl (dl_at t_X6_fields 63 rfl)) (dl_at t_X6_fields 63 rfl) (cat24 (st := []) (Nat.le_of_ble_eq_true rfl)) (Nat.le_of_ble_eq_true rfl) (Nat.le_of_ble_eq_true rfl) fun v121 h121 E121 => ?_
        refine g_gd fun p124 => ?_
        refine g_athrow (pc := 124) X (Int.ne_of_gt p124) (dl_at t_X6_fields 64 rfl) ?_
        exact gt_at fun Q hQ => gt_out (Q := Q) X rfl p124 (hno _) _ Q rfl hQ
      refine g_aload_n (pc := 93) X (j := 0) (i := 0) (q := 2) (x := a0) rfl rfl (dl_at t_X6_fields 48 rfl) ?_
      refine r_callWr (pc := 94) X (fun _ hv => s_X6_broken k71 hv) cw_code q2162 q360 (in_Vk X (As := []) kX6 k71 (Or.inl q2159) q2161 qs58 cw_code q2162 ⟨by decide, by decide⟩ rfl (dl_at t_X6_fields 49 rfl)) (dl_at t_X6_fields 49 rfl) (cat24 (st := []) (Nat.le_of_ble_eq_true rfl)) (Nat.le_of_ble_eq_true rfl) (Nat.le_of_ble_eq_true rfl) fun v94_1 h94_1 E94_1 => ?_
      refine g_gd fun p97_1 => ?_
      refine g_athrow (pc := 97) X (Int.ne_of_gt p97_1) (dl_at t_X6_fields 50 rfl) ?_
      exact gt_at fun Q hQ => gt_out (Q := Q) X rfl p97_1 (hno _) _ Q rfl hQ
    refine g_aload_n (pc := 34) X (j := 0) (i := 0) (q := 0) (x := a0) rfl rfl (dl_at t_X6_fields 16 rfl) ?_
    refine r_callWr (pc := 35) X (fun _ hv => s_X6_broken k18 hv) cw_code q2162 q360 (in_Vk X (As := []) kX6 k18 (Or.inl q2159) q2161 qs58 cw_code q2162 ⟨by decide, by decide⟩ rfl (dl_at t_X6_fields 17 rfl)) (dl_at t_X6_fields 17 rfl) (cat24 (st := []) (Nat.le_of_ble_eq_true rfl)) (Nat.le_of_ble_eq_true rfl) (Nat.le_of_ble_eq_true rfl) fun v35 h35 E35 => ?_
    refine g_gd fun p38 => ?_
    refine g_athrow (pc := 38) X (Int.ne_of_gt p38) (dl_at t_X6_fields 18 rfl) ?_
    exact gt_at fun Q hQ => gt_out (Q := Q) X rfl p38 (hno _) _ Q rfl hQ
def k_X6_begin : List (Nat × Instr × Nat) := [(0, .aload_n 0, 1), (1, .invokevirtual 167, 3), (4, .istore_n 2, 1), (5, .aload_n 0, 1), (6, .getfield 96, 3), (9, .sipush 500, 3), (12, .if_icmp .eq 12, 3), (15, .aload_n 0, 1), (16, .getfield 111, 3), (19, .bipush 20, 2), (21, .if_icmp .ne 8, 3), (24, .aload_n 0, 1), (25, .invokevirtual 142, 3), (28, .athrow, 1), (29, .aload_n 0, 1), (30, .getfield 96, 3), (33, .istore_n 3, 1), (34, .aload_n 0, 1), (35, .getfield 24, 3), (38, .iload_n 3, 1), (39, .aload_n 0, 1), (40, .getfield 20, 3), (43, .aload_n 0, 1), (44, .getfield 9, 3), (47, .aload_n 0, 1), (48, .getfield 90, 3), (51, .iload_n 2, 1), (52, .aload_n 0, 1), (53, .getfield 90, 3), (56, .isub, 1), (57, .invokevirtual 204, 3), (60, .iastore, 1), (61, .aload_n 0, 1), (62, .getfield 28, 3), (65, .iload_n 3, 1), (66, .aload_n 0, 1), (67, .invokevirtual 120, 3), (70, .iastore, 1), (71, .aload_n 0, 1), (72, .getfield 31, 3), (75, .iload_n 3, 1), (76, .iload_n 1, 1), (77, .iastore, 1), (78, .aload_n 0, 1), (79, .getfield 43, 3), (82, .iload_n 3, 1), (83, .iconst 0, 1), (84, .iastore, 1), (85, .aload_n 0, 1), (86, .getfield 46, 3), (89, .iload_n 3, 1), (90, .iconst (-1), 1), (91, .iastore, 1), (92, .aload_n 0, 1), (93, .getfield 49, 3), (96, .iload_n 3, 1), (97, .iconst 0, 1), (98, .bastore, 1), (99, .aload_n 0, 1), (100, .getfield 28, 3), (103, .iload_n 3, 1), (104, .iaload, 1), (105, .istore 4, 2), (107, .aload_n 0, 1), (108, .getfield 40, 3), (111, .iload_n 3, 1), (112, .iload 4, 2), (114, .ifCond .ge 10, 3), (117, .aload_n 0, 1), (118, .getfield 105, 3), (121, .goto 10, 3), (124, .aload_n 0, 1), (125, .getfield 46, 3), (128, .iload 4, 2), (130, .iaload, 1), (131, .iastore, 1), (132, .iload 4, 2), (134, .ifCond .ge 31, 3), (137, .aload_n 0, 1), (138, .dup, 1), (139, .getfield 102, 3), (142, .iconst 1, 1), (143, .iadd, 1), (144, .putfield 102, 3), (147, .aload_n 0, 1), (148, .iload_n 3, 1), (149, .putfield 105, 3), (152, .aload_n 0, 1), (153, .getfield 37, 3), (156, .iload_n 3, 1), (157, .aload_n 0, 1), (158, .getfield 102, 3), (161, .iastore, 1), (162, .goto 43, 3), (165, .aload_n 0, 1), (166, .getfield 43, 3), (169, .iload 4, 2), (171, .dup2, 1), (172, .iaload, 1), (173, .iconst 1, 1), (174, .iadd, 1), (175, .iastore, 1), (176, .aload_n 0, 1), (177, .getfield 46, 3), (180, .iload 4, 2), (182, .iload_n 3, 1), (183, .iastore, 1), (184, .aload_n 0, 1), (185, .getfield 49, 3), (188, .iload 4, 2), (190, .iconst 1, 1), (191, .bastore, 1), (192, .aload_n 0, 1), (193, .getfield 37, 3), (196, .iload_n 3, 1), (197, .aload_n 0, 1), (198, .getfield 43, 3), (201, .iload 4, 2), (203, .iaload, 1), (204, .iastore, 1), (205, .aload_n 0, 1), (206, .getfield 53, 3), (209, .iload_n 3, 1), (210, .aload_n 0, 1), (211, .getfield 99, 3), (214, .iastore, 1), (215, .aload_n 0, 1), (216, .dup, 1), (217, .getfield 96, 3), (220, .iconst 1, 1), (221, .iadd, 1), (222, .putfield 96, 3), (225, .aload_n 0, 1), (226, .iload_n 2, 1), (227, .putfield 90, 3), (230, .aload_n 0, 1), (231, .iconst 0, 1), (232, .iload_n 3, 1), (233, .iconst 0, 1), (234, .invokevirtual 124, 3), (237, .aload_n 0, 1), (238, .getfield 83, 3), (241, .aload_n 0, 1), (242, .getfield 111, 3), (245, .iload_n 3, 1), (246, .iastore, 1), (247, .aload_n 0, 1), (248, .dup, 1), (249, .getfield 111, 3), (252, .iconst 1, 1), (253, .iadd, 1), (254, .putfield 111, 3), (257, .aload_n 0, 1), (258, .iload_n 3, 1), (259, .invokevirtual 210, 3), (262, .aload_n 0, 1), (263, .aload_n 0, 1), (264, .getfield 90, 3), (267, .invokevirtual 128, 3), (270, .bipush 47, 2), (272, .if_icmp .ne 53, 3), (275, .aload_n 0, 1), (276, .dup, 1), (277, .getfield 90, 3), (280, .iconst 1, 1), (281, .iadd, 1), (282, .putfield 90, 3), (285, .aload_n 0, 1), (286, .invokevirtual 198, 3), (289, .aload_n 0, 1), (290, .aload_n 0, 1), (291, .getfield 90, 3), (294, .invokevirtual 128, 3), (297, .bipush 62, 2), (299, .if_icmp .eq 8, 3), (302, .aload_n 0, 1), (303, .invokevirtual 142, 3), (306, .athrow, 1), (307, .aload_n 0, 1), (308, .dup, 1), (309, .getfield 90, 3), (312, .iconst 1, 1), (313, .iadd, 1), (314, .putfield 90, 3), (317, .aload_n 0, 1), (318, .iload_n 3, 1), (319, .invokevirtual 207, 3), (322, .goto 31, 3), (325, .aload_n 0, 1), (326, .aload_n 0, 1), (327, .getfield 90, 3), (330, .invokevirtual 128, 3), (333, .bipush 62, 2), (335, .if_icmp .eq 8, 3), (338, .aload_n 0, 1), (339, .invokevirtual 142, 3), (342, .athrow, 1), (343, .aload_n 0, 1), (344, .dup, 1), (345, .getfield 90, 3), (348, .iconst 1, 1), (349, .iadd, 1), (350, .putfield 90, 3), (353, .return_, 1)]
theorem t_X6_begin : ∀ q ∈ k_X6_begin, decode cX6_begin q.1 = .ok q.2 := dl_all (by decide +kernel)
noncomputable def m_X6_begin_j205 (a0 v1 x3_33 : Int) (h_205 : Hp) : Option ((Int × Int) × Hp) :=
  gd (h_205 (h_205 a0 14) (-2) % 16 = 1 ∧ (0 : Int) ≤ x3_33 ∧ x3_33 < h_205 (h_205 a0 14) (-1)) (pt h_205 (h_205 a0 14) x3_33 (h_205 a0 18) fun h214 =>
  pt h214 a0 4 (w32 ((h214 a0 4) + 1)) fun h222 =>
  pt h222 a0 2 v1 fun h227 =>
  (m_X6_event a0 0 x3_33 0 h227).bind fun h234 =>
  gd (h234 (h234 a0 28) (-2) % 16 = 1 ∧ (0 : Int) ≤ (h234 a0 29) ∧ (h234 a0 29) < h234 (h234 a0 28) (-1)) (pt h234 (h234 a0 28) (h234 a0 29) x3_33 fun h246 =>
  pt h246 a0 29 (w32 ((h246 a0 29) + 1)) fun h254 =>
  bT (m_X6_fields a0 x3_33 h254) (fun _ h259 =>
  (m_X6_byteAt a0 (h259 a0 2) h259).bind fun v267 =>
  if v267 ≠ 47 then ((m_X6_byteAt a0 (h259 a0 2) h259).bind fun v330 =>
  if v330 = 62 then (pt h259 a0 2 (w32 ((h259 a0 2) + 1)) fun h350 =>
  some ((0, 0), h350))
  else (bW (m_X6_broken a0 h259) fun v339 h339 =>
  gd (0 < v339) (some ((1, v339), h339))))
  else (pt h259 a0 2 (w32 ((h259 a0 2) + 1)) fun h282 =>
  (m_X6_blanks a0 h282).bind fun h286 =>
  (m_X6_byteAt a0 (h286 a0 2) h286).bind fun v294 =>
  if v294 = 62 then (pt h286 a0 2 (w32 ((h286 a0 2) + 1)) fun h314 =>
  (m_X6_close a0 x3_33 h314).bind fun h319 =>
  some ((0, 0), h319))
  else (bW (m_X6_broken a0 h286) fun v303 h303 =>
  gd (0 < v303) (some ((1, v303), h303))))) (fun a_ h_ => some ((1, a_), h_))))
noncomputable def m_X6_begin_j131 (x4_105 x3_33 v1 a0 s0_131 s2_131 : Int) (h98 : Hp) : Option ((Int × Int) × Hp) :=
  gd (h98 s0_131 (-2) % 16 = 1 ∧ (0 : Int) ≤ x3_33 ∧ x3_33 < h98 s0_131 (-1)) (pt h98 s0_131 x3_33 s2_131 fun h131 =>
  if 0 ≤ x4_105 then (gd (h131 (h131 a0 11) (-2) % 16 = 1 ∧ (0 : Int) ≤ x4_105 ∧ x4_105 < h131 (h131 a0 11) (-1)) (pt h131 (h131 a0 11) x4_105 (w32 ((h131 (h131 a0 11) x4_105) + 1)) fun h175 =>
  gd (h175 (h175 a0 12) (-2) % 16 = 1 ∧ (0 : Int) ≤ x4_105 ∧ x4_105 < h175 (h175 a0 12) (-1)) (pt h175 (h175 a0 12) x4_105 x3_33 fun h183 =>
  gd (h183 (h183 a0 13) (-2) % 16 = 3 ∧ (0 : Int) ≤ x4_105 ∧ x4_105 < h183 (h183 a0 13) (-1)) (pt h183 (h183 a0 13) x4_105 1 fun h191 =>
  gd (h191 (h191 a0 11) (-2) % 16 = 1 ∧ (0 : Int) ≤ x4_105 ∧ x4_105 < h191 (h191 a0 11) (-1)) (gd (h191 (h191 a0 9) (-2) % 16 = 1 ∧ (0 : Int) ≤ x3_33 ∧ x3_33 < h191 (h191 a0 9) (-1)) (pt h191 (h191 a0 9) x3_33 (h191 (h191 a0 11) x4_105) fun h204 =>
  m_X6_begin_j205 a0 v1 x3_33 h204))))))
  else (pt h131 a0 19 (w32 ((h131 a0 19) + 1)) fun h144 =>
  pt h144 a0 20 x3_33 fun h149 =>
  gd (h149 (h149 a0 9) (-2) % 16 = 1 ∧ (0 : Int) ≤ x3_33 ∧ x3_33 < h149 (h149 a0 9) (-1)) (pt h149 (h149 a0 9) x3_33 (h149 a0 19) fun h161 =>
  m_X6_begin_j205 a0 v1 x3_33 h161)))
noncomputable def m_X6_begin (a0 a1 : Int) (h : Hp) : Option ((Int × Int) × Hp) :=
  bT (m_X6_nameEnd a0 h) (fun v1 h1 =>
  if (h1 a0 4) = 500 then (bW (m_X6_broken a0 h1) fun v25 h25 =>
  gd (0 < v25) (some ((1, v25), h25)))
  else (if (h1 a0 29) ≠ 20 then (lt_ (h1 a0 4) fun x3_33 =>
  gd (h1 (h1 a0 3) (-2) = 64) (bW (m_X4_add (h1 a0 3) (h1 a0 0) (h1 a0 2) (w32 (v1 - (h1 a0 2))) h1) fun v57 h57 =>
  gd (h57 (h1 a0 5) (-2) % 16 = 1 ∧ (0 : Int) ≤ x3_33 ∧ x3_33 < h57 (h1 a0 5) (-1)) (pt h57 (h1 a0 5) x3_33 v57 fun h60 =>
  (m_X6_top a0 h60).bind fun v67 =>
  gd (h60 (h60 a0 6) (-2) % 16 = 1 ∧ (0 : Int) ≤ x3_33 ∧ x3_33 < h60 (h60 a0 6) (-1)) (pt h60 (h60 a0 6) x3_33 v67 fun h70 =>
  gd (h70 (h70 a0 7) (-2) % 16 = 1 ∧ (0 : Int) ≤ x3_33 ∧ x3_33 < h70 (h70 a0 7) (-1)) (pt h70 (h70 a0 7) x3_33 a1 fun h77 =>
  gd (h77 (h77 a0 11) (-2) % 16 = 1 ∧ (0 : Int) ≤ x3_33 ∧ x3_33 < h77 (h77 a0 11) (-1)) (pt h77 (h77 a0 11) x3_33 0 fun h84 =>
  gd (h84 (h84 a0 12) (-2) % 16 = 1 ∧ (0 : Int) ≤ x3_33 ∧ x3_33 < h84 (h84 a0 12) (-1)) (pt h84 (h84 a0 12) x3_33 (-1) fun h91 =>
  gd (h91 (h91 a0 13) (-2) % 16 = 3 ∧ (0 : Int) ≤ x3_33 ∧ x3_33 < h91 (h91 a0 13) (-1)) (pt h91 (h91 a0 13) x3_33 0 fun h98 =>
  gd (h98 (h98 a0 6) (-2) % 16 = 1 ∧ (0 : Int) ≤ x3_33 ∧ x3_33 < h98 (h98 a0 6) (-1)) (lt_ (h98 (h98 a0 6) x3_33) fun x4_105 =>
  if 0 ≤ x4_105 then (gd (h98 (h98 a0 12) (-2) % 16 = 1 ∧ (0 : Int) ≤ x4_105 ∧ x4_105 < h98 (h98 a0 12) (-1)) (m_X6_begin_j131 x4_105 x3_33 v1 a0 (h98 a0 10) (h98 (h98 a0 12) x4_105) h98))
  else (m_X6_begin_j131 x4_105 x3_33 v1 a0 (h98 a0 10) (h98 a0 20) h98))))))))))
  else (bW (m_X6_broken a0 h1) fun v25_1 h25_1 =>
  gd (0 < v25_1) (some ((1, v25_1), h25_1))))) (fun a_ h_ => some ((1, a_), h_))
theorem s_X6_begin {l : Launch} [NoTr l] {D : SD} {a0 a1 : Int} {h : Hp} (hk : h a0 (-2) = 96) (r1 : r32 a1) {r : (Int × Int) × Hp} (hm : m_X6_begin a0 a1 h = some r) : Sim l D yX6_begin (Cond.code yX6_begin cX6_begin 5 (Option.none : Option Jvm.ClassFile.FieldType)) 12 451 [rv D a0, iv a1] h 0 r := by
  refine Sim.of (fin := fun (v : (Int × Int) × Hp) => v) (lsE := [(0, rv D a0), (1, iv a1)]) hm rfl cwS_code (la_r (la_i la_n)) (ll_r (ll_i ll_n)) ?_
  intro p e s m below meth c X hcw hmm hcc hnm hname
  have hno := noh hcw hnm hmm hcc
  unfold m_X6_begin
  refine g_aload_n (pc := 0) X (j := 0) (i := 0) (q := 0) (x := a0) rfl rfl (dl_at t_X6_begin 0 rfl) ?_
  refine r_callTi (pc := 1) X (fun _ hv => s_X6_nameEnd hk hv) cw_code q2172 q360 (in_Vk X (As := []) kX6 hk (Or.inl q2169) q2171 qs60 cw_code q2172 ⟨by decide, by decide⟩ rfl (dl_at t_X6_begin 1 rfl)) (dl_at t_X6_begin 1 rfl) (cat24 (st := []) (Nat.le_of_ble_eq_true rfl)) (Nat.le_of_ble_eq_true rfl) (Nat.le_of_ble_eq_true rfl) (fun v1 h1 g1 E1 => ?_) (fun _ _ ha _ => gt_at fun Q hQ => gt_out (Q := Q) X rfl ha (hno _) _ Q rfl hQ)
  refine g_istore_nN (pc := 4) X (j := 2) (i := 2) (x := v1) (b := 1) (w := iv a1) (rest := [(0, rv D a0)]) rfl (Nat.le_of_ble_eq_true rfl) [1, 0] rfl (by decide) rfl rfl (dl_at t_X6_begin 2 rfl) ?_
  refine g_aload_n (pc := 5) X (j := 0) (i := 0) (q := 2) (x := a0) rfl rfl (dl_at t_X6_begin 3 rfl) ?_
  have k6 := kx E1 (by decide) hk
  refine r_geti (pc := 6) X fX6_4 k6 q655 (dl_at t_X6_begin 4 rfl) fun g6 => ?_
  refine g_sipush (pc := 9) X (n := 500) rfl (dl_at t_X6_begin 5 rfl) ?_
  refine g_icmpeq (pc := 12) X g6 (r32_c rfl) (off := 12) (tgt := 24) rfl (dl_at t_X6_begin 6 rfl) (fun _ => ?_) (fun _ => ?_)
  · refine g_aload_n (pc := 24) X (j := 0) (i := 0) (q := 2) (x := a0) rfl rfl (dl_at t_X6_begin 11 rfl) ?_
    refine r_callWr (pc := 25) X (fun _ hv => s_X6_broken k6 hv) cw_code q2162 q360 (in_Vk X (As := []) kX6 k6 (Or.inl q2159) q2161 qs58 cw_code q2162 ⟨by decide, by decide⟩ rfl (dl_at t_X6_begin 12 rfl)) (dl_at t_X6_begin 12 rfl) (cat24 (st := []) (Nat.le_of_ble_eq_true rfl)) (Nat.le_of_ble_eq_true rfl) (Nat.le_of_ble_eq_true rfl) fun v25 h25 E25 => ?_
    refine g_gd fun p28 => ?_
    refine g_athrow (pc := 28) X (Int.ne_of_gt p28) (dl_at t_X6_begin 13 rfl) ?_
    exact gt_at fun Q hQ => gt_out (Q := Q) X rfl p28 (hno _) _ Q rfl hQ
  refine g_aload_n (pc := 15) X (j := 0) (i := 0) (q := 2) (x := a0) rfl rfl (dl_at t_X6_begin 7 rfl) ?_
  refine r_geti (pc := 16) X fX6_29 k6 q707 (dl_at t_X6_begin 8 rfl) fun g16 => ?_
  refine g_bipush (pc := 19) X (n := 20) rfl (dl_at t_X6_begin 9 rfl) ?_
  refine g_icmpne (pc := 21) X g16 (r32_c rfl) (off := 8) (tgt := 29) rfl (dl_at t_X6_begin 10 rfl) (fun _ => ?_) (fun _ => ?_)
  · refine g_aload_n (pc := 29) X (j := 0) (i := 0) (q := 2) (x := a0) rfl rfl (dl_at t_X6_begin 14 rfl) ?_
    refine r_geti (pc := 30) X fX6_4 k6 q655 (dl_at t_X6_begin 15 rfl) fun g30 => ?_
    refine g_lti g30 fun x3_33 r3_33 => ?_
    refine g_istore_nN (pc := 33) X (j := 3) (i := 3) (x := x3_33) (b := 2) (w := iv v1) (rest := [(1, iv a1), (0, rv D a0)]) rfl (Nat.le_of_ble_eq_true rfl) [0, 1, 2] rfl (by decide) rfl rfl (dl_at t_X6_begin 16 rfl) ?_
    refine g_aload_n (pc := 34) X (j := 0) (i := 0) (q := 3) (x := a0) rfl rfl (dl_at t_X6_begin 17 rfl) ?_
    refine r_getr (pc := 35) X fX6_5 k6 q657 (dl_at t_X6_begin 18 rfl) ?_
    refine g_iload_n (pc := 38) X (j := 3) (i := 3) (q := 0) (x := x3_33) rfl rfl (dl_at t_X6_begin 19 rfl) ?_
    refine g_aload_n (pc := 39) X (j := 0) (i := 0) (q := 3) (x := a0) rfl rfl (dl_at t_X6_begin 20 rfl) ?_
    refine r_getr (pc := 40) X fX6_3 k6 q652 (dl_at t_X6_begin 21 rfl) ?_
    refine g_aload_n (pc := 43) X (j := 0) (i := 0) (q := 3) (x := a0) rfl rfl (dl_at t_X6_begin 22 rfl) ?_
    refine r_getr (pc := 44) X fX6_0 k6 q645 (dl_at t_X6_begin 23 rfl) ?_
    refine g_aload_n (pc := 47) X (j := 0) (i := 0) (q := 3) (x := a0) rfl rfl (dl_at t_X6_begin 24 rfl) ?_
    refine r_geti (pc := 48) X fX6_2 k6 q651 (dl_at t_X6_begin 25 rfl) fun g48 => ?_
    refine g_iload_n (pc := 51) X (j := 2) (i := 2) (q := 1) (x := v1) rfl rfl (dl_at t_X6_begin 26 rfl) ?_
    refine g_aload_n (pc := 52) X (j := 0) (i := 0) (q := 3) (x := a0) rfl rfl (dl_at t_X6_begin 27 rfl) ?_
    refine r_geti (pc := 53) X fX6_2 k6 q651 (dl_at t_X6_begin 28 rfl) fun g53 => ?_
    refine g_isub (pc := 56) X g1 g53 (dl_at t_X6_begin 29 rfl) ?_
    refine g_gd fun k57 => ?_
    refine r_callWi (pc := 57) X (fun _ hv => s_X4_add k57 g48 (r32_w _) hv) cw_code q2007 q358 (in_Vk X (As := [rv D (h1 a0 0), iv (h1 a0 2), iv (w32 (v1 - (h1 a0 2)))]) kX4 k57 (Or.inr ⟨_, nw_in q2194 rfl⟩) q2006 qs37 cw_code q2007 ⟨by decide, by decide⟩ rfl (dl_at t_X6_begin 30 rfl)) (dl_at t_X6_begin 30 rfl) (cat24 (st := [iv x3_33, rv D (h1 a0 5)]) (Nat.le_of_ble_eq_true rfl)) (Nat.le_of_ble_eq_true rfl) (Nat.le_of_ble_eq_true rfl) fun v57 h57 g57 E57 => ?_
    refine g_gd fun k60 => ?_
    refine r_iast (pc := 60) X r3_33 g57 k60 (dl_at t_X6_begin 31 rfl) (fun h60 E60 => ?_)
    refine g_aload_n (pc := 61) X (j := 0) (i := 0) (q := 3) (x := a0) rfl rfl (dl_at t_X6_begin 32 rfl) ?_
    have k62 := kx (E57.trans E60) (by decide) k6
    refine r_getr (pc := 62) X fX6_6 k62 q659 (dl_at t_X6_begin 33 rfl) ?_
    refine g_iload_n (pc := 65) X (j := 3) (i := 3) (q := 0) (x := x3_33) rfl rfl (dl_at t_X6_begin 34 rfl) ?_
    refine g_aload_n (pc := 66) X (j := 0) (i := 0) (q := 3) (x := a0) rfl rfl (dl_at t_X6_begin 35 rfl) ?_
    refine r_callRi (pc := 67) X (fun _ hv => s_X6_top k62 hv) cw_code q2202 q360 (in_Vk X (As := []) kX6 k62 (Or.inl q2199) q2201 qs65 cw_code q2202 ⟨by decide, by decide⟩ rfl (dl_at t_X6_begin 36 rfl)) (dl_at t_X6_begin 36 rfl) (cat24 (st := [iv x3_33, rv D (h60 a0 6)]) (Nat.le_of_ble_eq_true rfl)) (Nat.le_of_ble_eq_true rfl) (Nat.le_of_ble_eq_true rfl) fun v67 g67 => ?_
    refine g_gd fun k70 => ?_
    refine r_iast (pc := 70) X r3_33 g67 k70 (dl_at t_X6_begin 37 rfl) (fun h70 E70 => ?_)
    refine g_aload_n (pc := 71) X (j := 0) (i := 0) (q := 3) (x := a0) rfl rfl (dl_at t_X6_begin 38 rfl) ?_
    have k72 := kx E70 (by decide) k62
    refine r_getr (pc := 72) X fX6_7 k72 q663 (dl_at t_X6_begin 39 rfl) ?_
    refine g_iload_n (pc := 75) X (j := 3) (i := 3) (q := 0) (x := x3_33) rfl rfl (dl_at t_X6_begin 40 rfl) ?_
    refine g_iload_n (pc := 76) X (j := 1) (i := 1) (q := 2) (x := a1) rfl rfl (dl_at t_X6_begin 41 rfl) ?_
    refine g_gd fun k77 => ?_
    refine r_iast (pc := 77) X r3_33 r1 k77 (dl_at t_X6_begin 42 rfl) (fun h77 E77 => ?_)
    refine g_aload_n (pc := 78) X (j := 0) (i := 0) (q := 3) (x := a0) rfl rfl (dl_at t_X6_begin 43 rfl) ?_
    have k79 := kx E77 (by decide) k72
    refine r_getr (pc := 79) X fX6_11 k79 q671 (dl_at t_X6_begin 44 rfl) ?_
    refine g_iload_n (pc := 82) X (j := 3) (i := 3) (q := 0) (x := x3_33) rfl rfl (dl_at t_X6_begin 45 rfl) ?_
    refine g_iconst (pc := 83) X (n := 0) (dl_at t_X6_begin 46 rfl) ?_
    refine g_gd fun k84 => ?_
    refine r_iast (pc := 84) X r3_33 (r32_c rfl) k84 (dl_at t_X6_begin 47 rfl) (fun h84 E84 => ?_)
    refine g_aload_n (pc := 85) X (j := 0) (i := 0) (q := 3) (x := a0) rfl rfl (dl_at t_X6_begin 48 rfl) ?_
    have k86 := kx E84 (by decide) k79
    refine r_getr (pc := 86) X fX6_12 k86 q673 (dl_at t_X6_begin 49 rfl) ?_
    refine g_iload_n (pc := 89) X (j := 3) (i := 3) (q := 0) (x := x3_33) rfl rfl (dl_at t_X6_begin 50 rfl) ?_
    refine g_iconst (pc := 90) X (n := (-1)) (dl_at t_X6_begin 51 rfl) ?_
    refine g_gd fun k91 => ?_
    refine r_iast (pc := 91) X r3_33 (r32_c rfl) k91 (dl_at t_X6_begin 52 rfl) (fun h91 E91 => ?_)
    refine g_aload_n (pc := 92) X (j := 0) (i := 0) (q := 3) (x := a0) rfl rfl (dl_at t_X6_begin 53 rfl) ?_
    have k93 := kx E91 (by decide) k86
    refine r_getr (pc := 93) X fX6_13 k93 q674 (dl_at t_X6_begin 54 rfl) ?_
    refine g_iload_n (pc := 96) X (j := 3) (i := 3) (q := 0) (x := x3_33) rfl rfl (dl_at t_X6_begin 55 rfl) ?_
    refine g_iconst (pc := 97) X (n := 0) (dl_at t_X6_begin 56 rfl) ?_
    refine g_gd fun k98 => ?_
    refine r_zast (pc := 98) X r3_33 (Or.inl rfl) k98 (dl_at t_X6_begin 57 rfl) (fun h98 E98 => ?_)
    refine g_aload_n (pc := 99) X (j := 0) (i := 0) (q := 3) (x := a0) rfl rfl (dl_at t_X6_begin 58 rfl) ?_
    have k100 := kx E98 (by decide) k93
    refine r_getr (pc := 100) X fX6_6 k100 q659 (dl_at t_X6_begin 59 rfl) ?_
    refine g_iload_n (pc := 103) X (j := 3) (i := 3) (q := 0) (x := x3_33) rfl rfl (dl_at t_X6_begin 60 rfl) ?_
    refine g_gd fun k104 => ?_
    refine g_iald (pc := 104) X r3_33 k104 (dl_at t_X6_begin 61 rfl) fun g104 => ?_
    refine g_lti g104 fun x4_105 r4_105 => ?_
    refine g_istoreN (pc := 105) X (i := 4) (x := x4_105) (b := 3) (w := iv x3_33) (rest := [(2, iv v1), (0, rv D a0)]) (Nat.le_of_ble_eq_true rfl) [0, 1, 3] rfl (by decide) rfl rfl (dl_at t_X6_begin 62 rfl) ?_
    refine g_aload_n (pc := 107) X (j := 0) (i := 0) (q := 3) (x := a0) rfl rfl (dl_at t_X6_begin 63 rfl) ?_
    refine r_getr (pc := 108) X fX6_10 k100 q669 (dl_at t_X6_begin 64 rfl) ?_
    refine g_iload_n (pc := 111) X (j := 3) (i := 3) (q := 1) (x := x3_33) rfl rfl (dl_at t_X6_begin 65 rfl) ?_
    refine g_iload (pc := 112) X (i := 4) (q := 0) (x := x4_105) rfl (dl_at t_X6_begin 66 rfl) ?_
    refine g_join (γ := Int × Int) (fun q => r32 q.2) 131 (fun q => [(0, rv D a0), (2, iv v1), (3, iv x3_33), (4, iv x4_105)]) (fun q => [iv q.2, iv x3_33, rv D q.1]) (fun q => h98) (fun q => m_X6_begin_j131 x4_105 x3_33 v1 a0 q.1 q.2 h98) ?_ ?_
    · rintro ⟨s0_131, s2_131⟩ rs2_131
      try dsimp only
      unfold m_X6_begin_j131
      refine g_gd fun k131 => ?_
      refine r_iast (pc := 131) X r3_33 rs2_131 k131 (dl_at t_X6_begin 75 rfl) (fun h131 E131 => ?_)
      refine g_iload (pc := 132) X (i := 4) (q := 3) (x := x4_105) rfl (dl_at t_X6_begin 76 rfl) ?_
      refine g_join (γ := Hp) (fun q => Ext h131 q) 205 (fun q => [(0, rv D a0), (2, iv v1), (3, iv x3_33)]) (fun q => []) (fun q => q) (fun q => m_X6_begin_j205 a0 v1 x3_33 q) ?_ ?_
      · rintro h_205 E_205
        try dsimp only
        unfold m_X6_begin_j205
        refine g_aload_n (pc := 205) X (j := 0) (i := 0) (q := 0) (x := a0) rfl rfl (dl_at t_X6_begin 120 rfl) ?_
        have k206 := kx (E131.trans E_205) (by decide) k100
        refine r_getr (pc := 206) X fX6_14 k206 q676 (dl_at t_X6_begin 121 rfl) ?_
        refine g_iload_n (pc := 209) X (j := 3) (i := 3) (q := 2) (x := x3_33) rfl rfl (dl_at t_X6_begin 122 rfl) ?_
        refine g_aload_n (pc := 210) X (j := 0) (i := 0) (q := 0) (x := a0) rfl rfl (dl_at t_X6_begin 123 rfl) ?_
        refine r_geti (pc := 211) X fX6_18 k206 q685 (dl_at t_X6_begin 124 rfl) fun g211 => ?_
        refine g_gd fun k214 => ?_
        refine r_iast (pc := 214) X r3_33 g211 k214 (dl_at t_X6_begin 125 rfl) (fun h214 E214 => ?_)
        refine g_aload_n (pc := 215) X (j := 0) (i := 0) (q := 0) (x := a0) rfl rfl (dl_at t_X6_begin 126 rfl) ?_
        refine g_dup (pc := 216) X rv_cat (dl_at t_X6_begin 127 rfl) ?_
        have k217 := kx E214 (by decide) k206
        refine r_geti (pc := 217) X fX6_4 k217 q655 (dl_at t_X6_begin 128 rfl) fun g217 => ?_
        refine g_iconst (pc := 220) X (n := 1) (dl_at t_X6_begin 129 rfl) ?_
        refine g_iadd (pc := 221) X g217 (r32_c rfl) (dl_at t_X6_begin 130 rfl) ?_
        refine r_puti (pc := 222) X fX6_4 k217 q655 rfl (dl_at t_X6_begin 131 rfl) (r32_w _) (fun h222 E222 => ?_)
        refine g_aload_n (pc := 225) X (j := 0) (i := 0) (q := 0) (x := a0) rfl rfl (dl_at t_X6_begin 132 rfl) ?_
        refine g_iload_n (pc := 226) X (j := 2) (i := 2) (q := 1) (x := v1) rfl rfl (dl_at t_X6_begin 133 rfl) ?_
        have k227 := kx E222 (by decide) k217
        refine r_puti (pc := 227) X fX6_2 k227 q651 rfl (dl_at t_X6_begin 134 rfl) g1 (fun h227 E227 => ?_)
        refine g_aload_n (pc := 230) X (j := 0) (i := 0) (q := 0) (x := a0) rfl rfl (dl_at t_X6_begin 135 rfl) ?_
        refine g_iconst (pc := 231) X (n := 0) (dl_at t_X6_begin 136 rfl) ?_
        refine g_iload_n (pc := 232) X (j := 3) (i := 3) (q := 2) (x := x3_33) rfl rfl (dl_at t_X6_begin 137 rfl) ?_
        refine g_iconst (pc := 233) X (n := 0) (dl_at t_X6_begin 138 rfl) ?_
        have k234 := kx E227 (by decide) k227
        refine r_callV (pc := 234) X (fun _ hv => s_X6_event k234 (r32_c rfl) r3_33 (r32_c rfl) hv) cw_code q2210 q360 (in_Vk X (As := [iv 0, iv x3_33, iv 0]) kX6 k234 (Or.inl q2207) q2209 qs67 cw_code q2210 ⟨by decide, by decide⟩ rfl (dl_at t_X6_begin 139 rfl)) (dl_at t_X6_begin 139 rfl) (cat24 (st := []) (Nat.le_of_ble_eq_true rfl)) (Nat.le_of_ble_eq_true rfl) (Nat.le_of_ble_eq_true rfl) fun h234 E234 => ?_
        refine g_aload_n (pc := 237) X (j := 0) (i := 0) (q := 0) (x := a0) rfl rfl (dl_at t_X6_begin 140 rfl) ?_
        have k238 := kx E234 (by decide) k234
        refine r_getr (pc := 238) X fX6_28 k238 q706 (dl_at t_X6_begin 141 rfl) ?_
        refine g_aload_n (pc := 241) X (j := 0) (i := 0) (q := 0) (x := a0) rfl rfl (dl_at t_X6_begin 142 rfl) ?_
        refine r_geti (pc := 242) X fX6_29 k238 q707 (dl_at t_X6_begin 143 rfl) fun g242 => ?_
        refine g_iload_n (pc := 245) X (j := 3) (i := 3) (q := 2) (x := x3_33) rfl rfl (dl_at t_X6_begin 144 rfl) ?_
        refine g_gd fun k246 => ?_
        refine r_iast (pc := 246) X g242 r3_33 k246 (dl_at t_X6_begin 145 rfl) (fun h246 E246 => ?_)
        refine g_aload_n (pc := 247) X (j := 0) (i := 0) (q := 0) (x := a0) rfl rfl (dl_at t_X6_begin 146 rfl) ?_
        refine g_dup (pc := 248) X rv_cat (dl_at t_X6_begin 147 rfl) ?_
        have k249 := kx E246 (by decide) k238
        refine r_geti (pc := 249) X fX6_29 k249 q707 (dl_at t_X6_begin 148 rfl) fun g249 => ?_
        refine g_iconst (pc := 252) X (n := 1) (dl_at t_X6_begin 149 rfl) ?_
        refine g_iadd (pc := 253) X g249 (r32_c rfl) (dl_at t_X6_begin 150 rfl) ?_
        refine r_puti (pc := 254) X fX6_29 k249 q707 rfl (dl_at t_X6_begin 151 rfl) (r32_w _) (fun h254 E254 => ?_)
        refine g_aload_n (pc := 257) X (j := 0) (i := 0) (q := 0) (x := a0) rfl rfl (dl_at t_X6_begin 152 rfl) ?_
        refine g_iload_n (pc := 258) X (j := 3) (i := 3) (q := 2) (x := x3_33) rfl rfl (dl_at t_X6_begin 153 rfl) ?_
        have k259 := kx E254 (by decide) k249
        refine r_callTv (pc := 259) X (fun _ hv => s_X6_fields k259 r3_33 hv) cw_code q2218 q360 (in_Vk X (As := [iv x3_33]) kX6 k259 (Or.inl q2215) q2217 qs69 cw_code q2218 ⟨by decide, by decide⟩ rfl (dl_at t_X6_begin 154 rfl)) (dl_at t_X6_begin 154 rfl) (cat24 (st := []) (Nat.le_of_ble_eq_true rfl)) (Nat.le_of_ble_eq_true rfl) (Nat.le_of_ble_eq_true rfl) (fun v259 h259 E259 => ?_) (fun _ _ ha _ => gt_at fun Q hQ => gt_out (Q := Q) X rfl ha (hno _) _ Q rfl hQ)
        refine g_aload_n (pc := 262) X (j := 0) (i := 0) (q := 0) (x := a0) rfl rfl (dl_at t_X6_begin 155 rfl) ?_
        refine g_aload_n (pc := 263) X (j := 0) (i := 0) (q := 0) (x := a0) rfl rfl (dl_at t_X6_begin 156 rfl) ?_
        have k264 := kx E259 (by decide) k259
        refine r_geti (pc := 264) X fX6_2 k264 q651 (dl_at t_X6_begin 157 rfl) fun g264 => ?_
        refine r_callRi (pc := 267) X (fun _ hv => s_X6_byteAt k264 g264 hv) cw_code q2150 q360 (in_Vk X (As := [iv (h259 a0 2)]) kX6 k264 (Or.inl q2147) q2149 qs55 cw_code q2150 ⟨by decide, by decide⟩ rfl (dl_at t_X6_begin 158 rfl)) (dl_at t_X6_begin 158 rfl) (cat24 (st := []) (Nat.le_of_ble_eq_true rfl)) (Nat.le_of_ble_eq_true rfl) (Nat.le_of_ble_eq_true rfl) fun v267 g267 => ?_
        refine g_bipush (pc := 270) X (n := 47) rfl (dl_at t_X6_begin 159 rfl) ?_
        refine g_icmpne (pc := 272) X g267 (r32_c rfl) (off := 53) (tgt := 325) rfl (dl_at t_X6_begin 160 rfl) (fun _ => ?_) (fun _ => ?_)
        · refine g_aload_n (pc := 325) X (j := 0) (i := 0) (q := 0) (x := a0) rfl rfl (dl_at t_X6_begin 188 rfl) ?_
          refine g_aload_n (pc := 326) X (j := 0) (i := 0) (q := 0) (x := a0) rfl rfl (dl_at t_X6_begin 189 rfl) ?_
          refine r_geti (pc := 327) X fX6_2 k264 q651 (dl_at t_X6_begin 190 rfl) fun g327 => ?_
          refine r_callRi (pc := 330) X (fun _ hv => s_X6_byteAt k264 g327 hv) cw_code q2150 q360 (in_Vk X (As := [iv (h259 a0 2)]) kX6 k264 (Or.inl q2147) q2149 qs55 cw_code q2150 ⟨by decide, by decide⟩ rfl (dl_at t_X6_begin 191 rfl)) (dl_at t_X6_begin 191 rfl) (cat24 (st := []) (Nat.le_of_ble_eq_true rfl)) (Nat.le_of_ble_eq_true rfl) (Nat.le_of_ble_eq_true rfl) fun v330 g330 => ?_
          refine g_bipush (pc := 333) X (n := 62) rfl (dl_at t_X6_begin 192 rfl) ?_
          refine g_icmpeq (pc := 335) X g330 (r32_c rfl) (off := 8) (tgt := 343) rfl (dl_at t_X6_begin 193 rfl) (fun _ => ?_) (fun _ => ?_)
          · refine g_aload_n (pc := 343) X (j := 0) (i := 0) (q := 0) (x := a0) rfl rfl (dl_at t_X6_begin 197 rfl) ?_
            refine g_dup (pc := 344) X rv_cat (dl_at t_X6_begin 198 rfl) ?_
            refine r_geti (pc := 345) X fX6_2 k264 q651 (dl_at t_X6_begin 199 rfl) fun g345 => ?_
            refine g_iconst (pc := 348) X (n := 1) (dl_at t_X6_begin 200 rfl) ?_
            refine g_iadd (pc := 349) X g345 (r32_c rfl) (dl_at t_X6_begin 201 rfl) ?_
            refine r_puti (pc := 350) X fX6_2 k264 q651 rfl (dl_at t_X6_begin 202 rfl) (r32_w _) (fun h350 E350 => ?_)
            exact g_vret (pc := 353) X (v := 0) rfl rfl (dl_at t_X6_begin 203 rfl)
          refine g_aload_n (pc := 338) X (j := 0) (i := 0) (q := 0) (x := a0) rfl rfl (dl_at t_X6_begin 194 rfl) ?_
          refine r_callWr (pc := 339) X (fun _ hv => s_X6_broken k264 hv) cw_code q2162 q360 (in_Vk X (As := []) kX6 k264 (Or.inl q2159) q2161 qs58 cw_code q2162 ⟨by decide, by decide⟩ rfl (dl_at t_X6_begin 195 rfl)) (dl_at t_X6_begin 195 rfl) (cat24 (st := []) (Nat.le_of_ble_eq_true rfl)) (Nat.le_of_ble_eq_true rfl) (Nat.le_of_ble_eq_true rfl) fun v339 h339 E339 => ?_
          refine g_gd fun p342 => ?_
          refine g_athrow (pc := 342) X (Int.ne_of_gt p342) (dl_at t_X6_begin 196 rfl) ?_
          exact gt_at fun Q hQ => gt_out (Q := Q) X rfl p342 (hno _) _ Q rfl hQ
        refine g_aload_n (pc := 275) X (j := 0) (i := 0) (q := 0) (x := a0) rfl rfl (dl_at t_X6_begin 161 rfl) ?_
        refine g_dup (pc := 276) X rv_cat (dl_at t_X6_begin 162 rfl) ?_
        refine r_geti (pc := 277) X fX6_2 k264 q651 (dl_at t_X6_begin 163 rfl) fun g277 => ?_
        refine g_iconst (pc := 280) X (n := 1) (dl_at t_X6_begin 164 rfl) ?_
        refine g_iadd (pc := 281) X g277 (r32_c rfl) (dl_at t_X6_begin 165 rfl) ?_
        refine r_puti (pc := 282) X fX6_2 k264 q651 rfl (dl_at t_X6_begin 166 rfl) (r32_w _) (fun h282 E282 => ?_)
        refine g_aload_n (pc := 285) X (j := 0) (i := 0) (q := 0) (x := a0) rfl rfl (dl_at t_X6_begin 167 rfl) ?_
        have k286 := kx E282 (by decide) k264
        refine r_callV (pc := 286) X (fun _ hv => s_X6_blanks k286 hv) cw_code q2187 q360 (in_Vk X (As := []) kX6 k286 (Or.inl q2184) q2186 qs62 cw_code q2187 ⟨by decide, by decide⟩ rfl (dl_at t_X6_begin 168 rfl)) (dl_at t_X6_begin 168 rfl) (cat24 (st := []) (Nat.le_of_ble_eq_true rfl)) (Nat.le_of_ble_eq_true rfl) (Nat.le_of_ble_eq_true rfl) fun h286 E286 => ?_
        refine g_aload_n (pc := 289) X (j := 0) (i := 0) (q := 0) (x := a0) rfl rfl (dl_at t_X6_begin 169 rfl) ?_
        refine g_aload_n (pc := 290) X (j := 0) (i := 0) (q := 0) (x := a0) rfl rfl (dl_at t_X6_begin 170 rfl) ?_
        have k291 := kx E286 (by decide) k286
        refine r_geti (pc := 291) X fX6_2 k291 q651 (dl_at t_X6_begin 171 rfl) fun g291 => ?_
        refine r_callRi (pc := 294) X (fun _ hv => s_X6_byteAt k291 g291 hv) cw_code q2150 q360 (in_Vk X (As := [iv (h286 a0 2)]) kX6 k291 (Or.inl q2147) q2149 qs55 cw_code q2150 ⟨by decide, by decide⟩ rfl (dl_at t_X6_begin 172 rfl)) (dl_at t_X6_begin 172 rfl) (cat24 (st := []) (Nat.le_of_ble_eq_true rfl)) (Nat.le_of_ble_eq_true rfl) (Nat.le_of_ble_eq_true rfl) fun v294 g294 => ?_
        refine g_bipush (pc := 297) X (n := 62) rfl (dl_at t_X6_begin 173 rfl) ?_
        refine g_icmpeq (pc := 299) X g294 (r32_c rfl) (off := 8) (tgt := 307) rfl (dl_at t_X6_begin 174 rfl) (fun _ => ?_) (fun _ => ?_)
        · refine g_aload_n (pc := 307) X (j := 0) (i := 0) (q := 0) (x := a0) rfl rfl (dl_at t_X6_begin 178 rfl) ?_
          refine g_dup (pc := 308) X rv_cat (dl_at t_X6_begin 179 rfl) ?_
          refine r_geti (pc := 309) X fX6_2 k291 q651 (dl_at t_X6_begin 180 rfl) fun g309 => ?_
          refine g_iconst (pc := 312) X (n := 1) (dl_at t_X6_begin 181 rfl) ?_
          refine g_iadd (pc := 313) X g309 (r32_c rfl) (dl_at t_X6_begin 182 rfl) ?_
          refine r_puti (pc := 314) X fX6_2 k291 q651 rfl (dl_at t_X6_begin 183 rfl) (r32_w _) (fun h314 E314 => ?_)
          refine g_aload_n (pc := 317) X (j := 0) (i := 0) (q := 0) (x := a0) rfl rfl (dl_at t_X6_begin 184 rfl) ?_
          refine g_iload_n (pc := 318) X (j := 3) (i := 3) (q := 2) (x := x3_33) rfl rfl (dl_at t_X6_begin 185 rfl) ?_
          have k319 := kx E314 (by decide) k291
          refine r_callV (pc := 319) X (fun _ hv => s_X6_close k319 r3_33 hv) cw_code q2206 q360 (in_Vk X (As := [iv x3_33]) kX6 k319 (Or.inl q2203) q2205 qs66 cw_code q2206 ⟨by decide, by decide⟩ rfl (dl_at t_X6_begin 186 rfl)) (dl_at t_X6_begin 186 rfl) (cat24 (st := []) (Nat.le_of_ble_eq_true rfl)) (Nat.le_of_ble_eq_true rfl) (Nat.le_of_ble_eq_true rfl) fun h319 E319 => ?_
          refine g_goto (pc := 322) X (off := 31) (tgt := 353) rfl (dl_at t_X6_begin 187 rfl) ?_
          exact g_vret (pc := 353) X (v := 0) rfl rfl (dl_at t_X6_begin 203 rfl)
        refine g_aload_n (pc := 302) X (j := 0) (i := 0) (q := 0) (x := a0) rfl rfl (dl_at t_X6_begin 175 rfl) ?_
        refine r_callWr (pc := 303) X (fun _ hv => s_X6_broken k291 hv) cw_code q2162 q360 (in_Vk X (As := []) kX6 k291 (Or.inl q2159) q2161 qs58 cw_code q2162 ⟨by decide, by decide⟩ rfl (dl_at t_X6_begin 176 rfl)) (dl_at t_X6_begin 176 rfl) (cat24 (st := []) (Nat.le_of_ble_eq_true rfl)) (Nat.le_of_ble_eq_true rfl) (Nat.le_of_ble_eq_true rfl) fun v303 h303 E303 => ?_
        refine g_gd fun p306 => ?_
        refine g_athrow (pc := 306) X (Int.ne_of_gt p306) (dl_at t_X6_begin 177 rfl) ?_
        exact gt_at fun Q hQ => gt_out (Q := Q) X rfl p306 (hno _) _ Q rfl hQ
      intro J205
      refine g_ifge (pc := 134) X r4_105 (off := 31) (tgt := 165) rfl (dl_at t_X6_begin 77 rfl) (fun _ => ?_) (fun _ => ?_)
      · refine g_aload_n (pc := 165) X (j := 0) (i := 0) (q := 0) (x := a0) rfl rfl (dl_at t_X6_begin 94 rfl) ?_
        have k166 := kx E131 (by decide) k100
        refine r_getr (pc := 166) X fX6_11 k166 q671 (dl_at t_X6_begin 95 rfl) ?_
        refine g_iload (pc := 169) X (i := 4) (q := 3) (x := x4_105) rfl (dl_at t_X6_begin 96 rfl) ?_
        refine g_dup2 (pc := 171) X rfl rv_cat (dl_at t_X6_begin 97 rfl) ?_
        refine g_gd fun k172 => ?_
        refine g_iald (pc := 172) X r4_105 k172 (dl_at t_X6_begin 98 rfl) fun g172 => ?_
        refine g_iconst (pc := 173) X (n := 1) (dl_at t_X6_begin 99 rfl) ?_
        refine g_iadd (pc := 174) X g172 (r32_c rfl) (dl_at t_X6_begin 100 rfl) ?_
        refine r_iast (pc := 175) X r4_105 (r32_w _) k172 (dl_at t_X6_begin 101 rfl) (fun h175 E175 => ?_)
        refine g_aload_n (pc := 176) X (j := 0) (i := 0) (q := 0) (x := a0) rfl rfl (dl_at t_X6_begin 102 rfl) ?_
        have k177 := kx E175 (by decide) k166
        refine r_getr (pc := 177) X fX6_12 k177 q673 (dl_at t_X6_begin 103 rfl) ?_
        refine g_iload (pc := 180) X (i := 4) (q := 3) (x := x4_105) rfl (dl_at t_X6_begin 104 rfl) ?_
        refine g_iload_n (pc := 182) X (j := 3) (i := 3) (q := 2) (x := x3_33) rfl rfl (dl_at t_X6_begin 105 rfl) ?_
        refine g_gd fun k183 => ?_
        refine r_iast (pc := 183) X r4_105 r3_33 k183 (dl_at t_X6_begin 106 rfl) (fun h183 E183 => ?_)
        refine g_aload_n (pc := 184) X (j := 0) (i := 0) (q := 0) (x := a0) rfl rfl (dl_at t_X6_begin 107 rfl) ?_
        have k185 := kx E183 (by decide) k177
        refine r_getr (pc := 185) X fX6_13 k185 q674 (dl_at t_X6_begin 108 rfl) ?_
        refine g_iload (pc := 188) X (i := 4) (q := 3) (x := x4_105) rfl (dl_at t_X6_begin 109 rfl) ?_
        refine g_iconst (pc := 190) X (n := 1) (dl_at t_X6_begin 110 rfl) ?_
        refine g_gd fun k191 => ?_
        refine r_zast (pc := 191) X r4_105 (Or.inr rfl) k191 (dl_at t_X6_begin 111 rfl) (fun h191 E191 => ?_)
        refine g_aload_n (pc := 192) X (j := 0) (i := 0) (q := 0) (x := a0) rfl rfl (dl_at t_X6_begin 112 rfl) ?_
        have k193 := kx E191 (by decide) k185
        refine r_getr (pc := 193) X fX6_9 k193 q667 (dl_at t_X6_begin 113 rfl) ?_
        refine g_iload_n (pc := 196) X (j := 3) (i := 3) (q := 2) (x := x3_33) rfl rfl (dl_at t_X6_begin 114 rfl) ?_
        refine g_aload_n (pc := 197) X (j := 0) (i := 0) (q := 0) (x := a0) rfl rfl (dl_at t_X6_begin 115 rfl) ?_
        refine r_getr (pc := 198) X fX6_11 k193 q671 (dl_at t_X6_begin 116 rfl) ?_
        refine g_iload (pc := 201) X (i := 4) (q := 3) (x := x4_105) rfl (dl_at t_X6_begin 117 rfl) ?_
        refine g_gd fun k203 => ?_
        refine g_iald (pc := 203) X r4_105 k203 (dl_at t_X6_begin 118 rfl) fun g203 => ?_
        refine g_gd fun k204 => ?_
        refine r_iast (pc := 204) X r3_33 g203 k204 (dl_at t_X6_begin 119 rfl) (fun h204 E204 => ?_)
        refine g_ls (ls2 := [(0, rv D a0), (2, iv v1), (3, iv x3_33)]) [0, 1, 2] rfl ?_
        exact J205 h204 (E175.trans (E183.trans (E191.trans E204)))
      refine g_aload_n (pc := 137) X (j := 0) (i := 0) (q := 0) (x := a0) rfl rfl (dl_at t_X6_begin 78 rfl) ?_
      refine g_dup (pc := 138) X rv_cat (dl_at t_X6_begin 79 rfl) ?_
      have k139 := kx E131 (by decide) k100
      refine r_geti (pc := 139) X fX6_19 k139 q687 (dl_at t_X6_begin 80 rfl) fun g139 => ?_
      refine g_iconst (pc := 142) X (n := 1) (dl_at t_X6_begin 81 rfl) ?_
      refine g_iadd (pc := 143) X g139 (r32_c rfl) (dl_at t_X6_begin 82 rfl) ?_
      refine r_puti (pc := 144) X fX6_19 k139 q687 rfl (dl_at t_X6_begin 83 rfl) (r32_w _) (fun h144 E144 => ?_)
      refine g_aload_n (pc := 147) X (j := 0) (i := 0) (q := 0) (x := a0) rfl rfl (dl_at t_X6_begin 84 rfl) ?_
      refine g_iload_n (pc := 148) X (j := 3) (i := 3) (q := 2) (x := x3_33) rfl rfl (dl_at t_X6_begin 85 rfl) ?_
      have k149 := kx E144 (by decide) k139
      refine r_puti (pc := 149) X fX6_20 k149 q689 rfl (dl_at t_X6_begin 86 rfl) r3_33 (fun h149 E149 => ?_)
      refine g_aload_n (pc := 152) X (j := 0) (i := 0) (q := 0) (x := a0) rfl rfl (dl_at t_X6_begin 87 rfl) ?_
      have k153 := kx E149 (by decide) k149
      refine r_getr (pc := 153) X fX6_9 k153 q667 (dl_at t_X6_begin 88 rfl) ?_
      refine g_iload_n (pc := 156) X (j := 3) (i := 3) (q := 2) (x := x3_33) rfl rfl (dl_at t_X6_begin 89 rfl) ?_
      refine g_aload_n (pc := 157) X (j := 0) (i := 0) (q := 0) (x := a0) rfl rfl (dl_at t_X6_begin 90 rfl) ?_
      refine r_geti (pc := 158) X fX6_19 k153 q687 (dl_at t_X6_begin 91 rfl) fun g158 => ?_
      refine g_gd fun k161 => ?_
      refine r_iast (pc := 161) X r3_33 g158 k161 (dl_at t_X6_begin 92 rfl) (fun h161 E161 => ?_)
      refine g_goto (pc := 162) X (off := 43) (tgt := 205) rfl (dl_at t_X6_begin 93 rfl) ?_
      refine g_ls (ls2 := [(0, rv D a0), (2, iv v1), (3, iv x3_33)]) [0, 1, 2] rfl ?_
      exact J205 h161 (E144.trans (E149.trans E161))
    intro J131
    refine g_ifge (pc := 114) X r4_105 (off := 10) (tgt := 124) rfl (dl_at t_X6_begin 67 rfl) (fun _ => ?_) (fun _ => ?_)
    · refine g_aload_n (pc := 124) X (j := 0) (i := 0) (q := 3) (x := a0) rfl rfl (dl_at t_X6_begin 71 rfl) ?_
      refine r_getr (pc := 125) X fX6_12 k100 q673 (dl_at t_X6_begin 72 rfl) ?_
      refine g_iload (pc := 128) X (i := 4) (q := 0) (x := x4_105) rfl (dl_at t_X6_begin 73 rfl) ?_
      refine g_gd fun k130 => ?_
      refine g_iald (pc := 130) X r4_105 k130 (dl_at t_X6_begin 74 rfl) fun g130 => ?_
      refine g_ls (ls2 := [(0, rv D a0), (2, iv v1), (3, iv x3_33), (4, iv x4_105)]) [3, 2, 1, 0] rfl ?_
      exact J131 ((h98 a0 10), (h98 (h98 a0 12) x4_105)) g130
    refine g_aload_n (pc := 117) X (j := 0) (i := 0) (q := 3) (x := a0) rfl rfl (dl_at t_X6_begin 68 rfl) ?_
    refine r_geti (pc := 118) X fX6_20 k100 q689 (dl_at t_X6_begin 69 rfl) fun g118 => ?_
    refine g_goto (pc := 121) X (off := 10) (tgt := 131) rfl (dl_at t_X6_begin 70 rfl) ?_
    refine g_ls (ls2 := [(0, rv D a0), (2, iv v1), (3, iv x3_33), (4, iv x4_105)]) [3, 2, 1, 0] rfl ?_
    exact J131 ((h98 a0 10), (h98 a0 20)) g118
  refine g_aload_n (pc := 24) X (j := 0) (i := 0) (q := 2) (x := a0) rfl rfl (dl_at t_X6_begin 11 rfl) ?_
  refine r_callWr (pc := 25) X (fun _ hv => s_X6_broken k6 hv) cw_code q2162 q360 (in_Vk X (As := []) kX6 k6 (Or.inl q2159) q2161 qs58 cw_code q2162 ⟨by decide, by decide⟩ rfl (dl_at t_X6_begin 12 rfl)) (dl_at t_X6_begin 12 rfl) (cat24 (st := []) (Nat.le_of_ble_eq_true rfl)) (Nat.le_of_ble_eq_true rfl) (Nat.le_of_ble_eq_true rfl) fun v25_1 h25_1 E25_1 => ?_
  refine g_gd fun p28_1 => ?_
  refine g_athrow (pc := 28) X (Int.ne_of_gt p28_1) (dl_at t_X6_begin 13 rfl) ?_
  exact gt_at fun Q hQ => gt_out (Q := Q) X rfl p28_1 (hno _) _ Q rfl hQ
def k_X6_tag : List (Nat × Instr × Nat) := [(0, .aload_n 0, 1), (1, .getfield 90, 3), (4, .istore_n 1, 1), (5, .aload_n 0, 1), (6, .dup, 1), (7, .getfield 90, 3), (10, .iconst 1, 1), (11, .iadd, 1), (12, .putfield 90, 3), (15, .aload_n 0, 1), (16, .aload_n 0, 1), (17, .getfield 90, 3), (20, .invokevirtual 128, 3), (23, .istore_n 2, 1), (24, .iload_n 2, 1), (25, .bipush 33, 2), (27, .if_icmp .ne 40, 3), (30, .aload_n 0, 1), (31, .dup, 1), (32, .getfield 90, 3), (35, .iconst 1, 1), (36, .iadd, 1), (37, .putfield 90, 3), (40, .aload_n 0, 1), (41, .aload_n 0, 1), (42, .getfield 90, 3), (45, .invokevirtual 128, 3), (48, .bipush 45, 2), (50, .if_icmp .ne 10, 3), (53, .aload_n 0, 1), (54, .invokevirtual 185, 3), (57, .goto 50, 3), (60, .aload_n 0, 1), (61, .invokevirtual 188, 3), (64, .goto 43, 3), (67, .iload_n 2, 1), (68, .bipush 47, 2), (70, .if_icmp .ne 32, 3), (73, .aload_n 0, 1), (74, .getfield 111, 3), (77, .ifCond .ne 8, 3), (80, .aload_n 0, 1), (81, .invokevirtual 142, 3), (84, .athrow, 1), (85, .aload_n 0, 1), (86, .dup, 1), (87, .getfield 90, 3), (90, .iconst 1, 1), (91, .iadd, 1), (92, .putfield 90, 3), (95, .aload_n 0, 1), (96, .invokevirtual 191, 3), (99, .goto 8, 3), (102, .aload_n 0, 1), (103, .iload_n 1, 1), (104, .invokevirtual 194, 3), (107, .return_, 1)]
theorem t_X6_tag : ∀ q ∈ k_X6_tag, decode cX6_tag q.1 = .ok q.2 := dl_all (by decide +kernel)
noncomputable def m_X6_tag (a0 : Int) (h : Hp) : Option ((Int × Int) × Hp) :=
  lt_ (h a0 2) fun x1_4 =>
  pt h a0 2 (w32 ((h a0 2) + 1)) fun h12 =>
  (m_X6_byteAt a0 (h12 a0 2) h12).bind fun v20 =>
  if v20 ≠ 33 then (if v20 ≠ 47 then (bT (m_X6_begin a0 x1_4 h12) (fun _ h104 =>
  some ((0, 0), h104)) (fun a_ h_ => some ((1, a_), h_)))
  else (if (h12 a0 29) ≠ 0 then (pt h12 a0 2 (w32 ((h12 a0 2) + 1)) fun h92 =>
  bT (m_X6_end a0 h92) (fun _ h96 =>
  some ((0, 0), h96)) (fun a_ h_ => some ((1, a_), h_)))
  else (bW (m_X6_broken a0 h12) fun v81 h81 =>
  gd (0 < v81) (some ((1, v81), h81)))))
  else (pt h12 a0 2 (w32 ((h12 a0 2) + 1)) fun h37 =>
  (m_X6_byteAt a0 (h37 a0 2) h37).bind fun v45 =>
  if v45 ≠ 45 then (bT (m_X6_define a0 h37) (fun _ h61 =>
  some ((0, 0), h61)) (fun a_ h_ => some ((1, a_), h_)))
  else (bT (m_X6_comment a0 h37) (fun _ h54 =>
  some ((0, 0), h54)) (fun a_ h_ => some ((1, a_), h_))))
theorem s_X6_tag {l : Launch} [NoTr l] {D : SD} {a0 : Int} {h : Hp} (hk : h a0 (-2) = 96) {r : (Int × Int) × Hp} (hm : m_X6_tag a0 h = some r) : Sim l D yX6_tag (Cond.code yX6_tag cX6_tag 3 (Option.none : Option Jvm.ClassFile.FieldType)) 13 491 [rv D a0] h 0 r := by
  refine Sim.of (fin := fun (v : (Int × Int) × Hp) => v) (lsE := [(0, rv D a0)]) hm rfl cwS_code (la_r la_n) (ll_r ll_n) ?_
  intro p e s m below meth c X hcw hmm hcc hnm hname
  have hno := noh hcw hnm hmm hcc
  unfold m_X6_tag
  refine g_aload_n (pc := 0) X (j := 0) (i := 0) (q := 0) (x := a0) rfl rfl (dl_at t_X6_tag 0 rfl) ?_
  refine r_geti (pc := 1) X fX6_2 hk q651 (dl_at t_X6_tag 1 rfl) fun g1 => ?_
  refine g_lti g1 fun x1_4 r1_4 => ?_
  refine g_istore_nN (pc := 4) X (j := 1) (i := 1) (x := x1_4) (b := 0) (w := rv D a0) (rest := []) rfl (Nat.le_of_ble_eq_true rfl) [0] rfl (by decide) rv_cat rfl (dl_at t_X6_tag 2 rfl) ?_
  refine g_aload_n (pc := 5) X (j := 0) (i := 0) (q := 1) (x := a0) rfl rfl (dl_at t_X6_tag 3 rfl) ?_
  refine g_dup (pc := 6) X rv_cat (dl_at t_X6_tag 4 rfl) ?_
  refine r_geti (pc := 7) X fX6_2 hk q651 (dl_at t_X6_tag 5 rfl) fun g7 => ?_
  refine g_iconst (pc := 10) X (n := 1) (dl_at t_X6_tag 6 rfl) ?_
  refine g_iadd (pc := 11) X g7 (r32_c rfl) (dl_at t_X6_tag 7 rfl) ?_
  refine r_puti (pc := 12) X fX6_2 hk q651 rfl (dl_at t_X6_tag 8 rfl) (r32_w _) (fun h12 E12 => ?_)
  refine g_aload_n (pc := 15) X (j := 0) (i := 0) (q := 1) (x := a0) rfl rfl (dl_at t_X6_tag 9 rfl) ?_
  refine g_aload_n (pc := 16) X (j := 0) (i := 0) (q := 1) (x := a0) rfl rfl (dl_at t_X6_tag 10 rfl) ?_
  have k17 := kx E12 (by decide) hk
  refine r_geti (pc := 17) X fX6_2 k17 q651 (dl_at t_X6_tag 11 rfl) fun g17 => ?_
  refine r_callRi (pc := 20) X (fun _ hv => s_X6_byteAt k17 g17 hv) cw_code q2150 q360 (in_Vk X (As := [iv (h12 a0 2)]) kX6 k17 (Or.inl q2147) q2149 qs55 cw_code q2150 ⟨by decide, by decide⟩ rfl (dl_at t_X6_tag 12 rfl)) (dl_at t_X6_tag 12 rfl) (cat24 (st := []) (Nat.le_of_ble_eq_true rfl)) (Nat.le_of_ble_eq_true rfl) (Nat.le_of_ble_eq_true rfl) fun v20 g20 => ?_
  refine g_istore_nN (pc := 23) X (j := 2) (i := 2) (x := v20) (b := 1) (w := iv x1_4) (rest := [(0, rv D a0)]) rfl (Nat.le_of_ble_eq_true rfl) [0, 1] rfl (by decide) rfl rfl (dl_at t_X6_tag 13 rfl) ?_
  refine g_iload_n (pc := 24) X (j := 2) (i := 2) (q := 0) (x := v20) rfl rfl (dl_at t_X6_tag 14 rfl) ?_
  refine g_bipush (pc := 25) X (n := 33) rfl (dl_at t_X6_tag 15 rfl) ?_
  refine g_icmpne (pc := 27) X g20 (r32_c rfl) (off := 40) (tgt := 67) rfl (dl_at t_X6_tag 16 rfl) (fun _ => ?_) (fun _ => ?_)
  · refine g_iload_n (pc := 67) X (j := 2) (i := 2) (q := 0) (x := v20) rfl rfl (dl_at t_X6_tag 35 rfl) ?_
    refine g_bipush (pc := 68) X (n := 47) rfl (dl_at t_X6_tag 36 rfl) ?_
    refine g_icmpne (pc := 70) X g20 (r32_c rfl) (off := 32) (tgt := 102) rfl (dl_at t_X6_tag 37 rfl) (fun _ => ?_) (fun _ => ?_)
    · refine g_aload_n (pc := 102) X (j := 0) (i := 0) (q := 2) (x := a0) rfl rfl (dl_at t_X6_tag 53 rfl) ?_
      refine g_iload_n (pc := 103) X (j := 1) (i := 1) (q := 1) (x := x1_4) rfl rfl (dl_at t_X6_tag 54 rfl) ?_
      refine r_callTv (pc := 104) X (fun _ hv => s_X6_begin k17 r1_4 hv) cw_code q2214 q360 (in_Vk X (As := [iv x1_4]) kX6 k17 (Or.inl q2211) q2213 qs68 cw_code q2214 ⟨by decide, by decide⟩ rfl (dl_at t_X6_tag 55 rfl)) (dl_at t_X6_tag 55 rfl) (cat24 (st := []) (Nat.le_of_ble_eq_true rfl)) (Nat.le_of_ble_eq_true rfl) (Nat.le_of_ble_eq_true rfl) (fun v104 h104 E104 => ?_) (fun _ _ ha _ => gt_at fun Q hQ => gt_out (Q := Q) X rfl ha (hno _) _ Q rfl hQ)
      exact g_vret (pc := 107) X (v := 0) rfl rfl (dl_at t_X6_tag 56 rfl)
    refine g_aload_n (pc := 73) X (j := 0) (i := 0) (q := 2) (x := a0) rfl rfl (dl_at t_X6_tag 38 rfl) ?_
    refine r_geti (pc := 74) X fX6_29 k17 q707 (dl_at t_X6_tag 39 rfl) fun g74 => ?_
    refine g_ifne (pc := 77) X g74 (off := 8) (tgt := 85) rfl (dl_at t_X6_tag 40 rfl) (fun _ => ?_) (fun _ => ?_)
    · refine g_aload_n (pc := 85) X (j := 0) (i := 0) (q := 2) (x := a0) rfl rfl (dl_at t_X6_tag 44 rfl) ?_
      refine g_dup (pc := 86) X rv_cat (dl_at t_X6_tag 45 rfl) ?_
      refine r_geti (pc := 87) X fX6_2 k17 q651 (dl_at t_X6_tag 46 rfl) fun g87 => ?_
      refine g_iconst (pc := 90) X (n := 1) (dl_at t_X6_tag 47 rfl) ?_
      refine g_iadd (pc := 91) X g87 (r32_c rfl) (dl_at t_X6_tag 48 rfl) ?_
      refine r_puti (pc := 92) X fX6_2 k17 q651 rfl (dl_at t_X6_tag 49 rfl) (r32_w _) (fun h92 E92 => ?_)
      refine g_aload_n (pc := 95) X (j := 0) (i := 0) (q := 2) (x := a0) rfl rfl (dl_at t_X6_tag 50 rfl) ?_
      have k96 := kx E92 (by decide) k17
      refine r_callTv (pc := 96) X (fun _ hv => s_X6_end k96 hv) cw_code q2198 q360 (in_Vk X (As := []) kX6 k96 (Or.inl q2195) q2197 qs64 cw_code q2198 ⟨by decide, by decide⟩ rfl (dl_at t_X6_tag 51 rfl)) (dl_at t_X6_tag 51 rfl) (cat24 (st := []) (Nat.le_of_ble_eq_true rfl)) (Nat.le_of_ble_eq_true rfl) (Nat.le_of_ble_eq_true rfl) (fun v96 h96 E96 => ?_) (fun _ _ ha _ => gt_at fun Q hQ => gt_out (Q := Q) X rfl ha (hno _) _ Q rfl hQ)
      refine g_goto (pc := 99) X (off := 8) (tgt := 107) rfl (dl_at t_X6_tag 52 rfl) ?_
      exact g_vret (pc := 107) X (v := 0) rfl rfl (dl_at t_X6_tag 56 rfl)
    refine g_aload_n (pc := 80) X (j := 0) (i := 0) (q := 2) (x := a0) rfl rfl (dl_at t_X6_tag 41 rfl) ?_
    refine r_callWr (pc := 81) X (fun _ hv => s_X6_broken k17 hv) cw_code q2162 q360 (in_Vk X (As := []) kX6 k17 (Or.inl q2159) q2161 qs58 cw_code q2162 ⟨by decide, by decide⟩ rfl (dl_at t_X6_tag 42 rfl)) (dl_at t_X6_tag 42 rfl) (cat24 (st := []) (Nat.le_of_ble_eq_true rfl)) (Nat.le_of_ble_eq_true rfl) (Nat.le_of_ble_eq_true rfl) fun v81 h81 E81 => ?_
    refine g_gd fun p84 => ?_
    refine g_athrow (pc := 84) X (Int.ne_of_gt p84) (dl_at t_X6_tag 43 rfl) ?_
    exact gt_at fun Q hQ => gt_out (Q := Q) X rfl p84 (hno _) _ Q rfl hQ
  refine g_aload_n (pc := 30) X (j := 0) (i := 0) (q := 2) (x := a0) rfl rfl (dl_at t_X6_tag 17 rfl) ?_
  refine g_dup (pc := 31) X rv_cat (dl_at t_X6_tag 18 rfl) ?_
  refine r_geti (pc := 32) X fX6_2 k17 q651 (dl_at t_X6_tag 19 rfl) fun g32 => ?_
  refine g_iconst (pc := 35) X (n := 1) (dl_at t_X6_tag 20 rfl) ?_
  refine g_iadd (pc := 36) X g32 (r32_c rfl) (dl_at t_X6_tag 21 rfl) ?_
  refine r_puti (pc := 37) X fX6_2 k17 q651 rfl (dl_at t_X6_tag 22 rfl) (r32_w _) (fun h37 E37 => ?_)
  refine g_aload_n (pc := 40) X (j := 0) (i := 0) (q := 2) (x := a0) rfl rfl (dl_at t_X6_tag 23 rfl) ?_
  refine g_aload_n (pc := 41) X (j := 0) (i := 0) (q := 2) (x := a0) rfl rfl (dl_at t_X6_tag 24 rfl) ?_
  have k42 := kx E37 (by decide) k17
  refine r_geti (pc := 42) X fX6_2 k42 q651 (dl_at t_X6_tag 25 rfl) fun g42 => ?_
  refine r_callRi (pc := 45) X (fun _ hv => s_X6_byteAt k42 g42 hv) cw_code q2150 q360 (in_Vk X (As := [iv (h37 a0 2)]) kX6 k42 (Or.inl q2147) q2149 qs55 cw_code q2150 ⟨by decide, by decide⟩ rfl (dl_at t_X6_tag 26 rfl)) (dl_at t_X6_tag 26 rfl) (cat24 (st := []) (Nat.le_of_ble_eq_true rfl)) (Nat.le_of_ble_eq_true rfl) (Nat.le_of_ble_eq_true rfl) fun v45 g45 => ?_
  refine g_bipush (pc := 48) X (n := 45) rfl (dl_at t_X6_tag 27 rfl) ?_
  refine g_icmpne (pc := 50) X g45 (r32_c rfl) (off := 10) (tgt := 60) rfl (dl_at t_X6_tag 28 rfl) (fun _ => ?_) (fun _ => ?_)
  · refine g_aload_n (pc := 60) X (j := 0) (i := 0) (q := 2) (x := a0) rfl rfl (dl_at t_X6_tag 32 rfl) ?_
    refine r_callTv (pc := 61) X (fun _ hv => s_X6_define k42 hv) cw_code q2168 q360 (in_Vk X (As := []) kX6 k42 (Or.inl q2165) q2167 qs59 cw_code q2168 ⟨by decide, by decide⟩ rfl (dl_at t_X6_tag 33 rfl)) (dl_at t_X6_tag 33 rfl) (cat24 (st := []) (Nat.le_of_ble_eq_true rfl)) (Nat.le_of_ble_eq_true rfl) (Nat.le_of_ble_eq_true rfl) (fun v61 h61 E61 => ?_) (fun _ _ ha _ => gt_at fun Q hQ => gt_out (Q := Q) X rfl ha (hno _) _ Q rfl hQ)
    refine g_goto (pc := 64) X (off := 43) (tgt := 107) rfl (dl_at t_X6_tag 34 rfl) ?_
    exact g_vret (pc := 107) X (v := 0) rfl rfl (dl_at t_X6_tag 56 rfl)
  refine g_aload_n (pc := 53) X (j := 0) (i := 0) (q := 2) (x := a0) rfl rfl (dl_at t_X6_tag 29 rfl) ?_
  refine r_callTv (pc := 54) X (fun _ hv => s_X6_comment k42 hv) cw_code q2158 q360 (in_Vk X (As := []) kX6 k42 (Or.inl q2155) q2157 qs57 cw_code q2158 ⟨by decide, by decide⟩ rfl (dl_at t_X6_tag 30 rfl)) (dl_at t_X6_tag 30 rfl) (cat24 (st := []) (Nat.le_of_ble_eq_true rfl)) (Nat.le_of_ble_eq_true rfl) (Nat.le_of_ble_eq_true rfl) (fun v54 h54 E54 => ?_) (fun _ _ ha _ => gt_at fun Q hQ => gt_out (Q := Q) X rfl ha (hno _) _ Q rfl hQ)
  refine g_goto (pc := 57) X (off := 50) (tgt := 107) rfl (dl_at t_X6_tag 31 rfl) ?_
  exact g_vret (pc := 107) X (v := 0) rfl rfl (dl_at t_X6_tag 56 rfl)
def k_X6_stand : List (Nat × Instr × Nat) := [(0, .iload_n 2, 1), (1, .ifCond .ne 4, 3), (4, .return_, 1), (5, .aload_n 0, 1), (6, .getfield 111, 3), (9, .ifCond .le 13, 3), (12, .aload_n 0, 1), (13, .getfield 49, 3), (16, .aload_n 0, 1), (17, .invokevirtual 120, 3), (20, .iconst 1, 1), (21, .bastore, 1), (22, .aload_n 0, 1), (23, .iconst 2, 1), (24, .iload_n 1, 1), (25, .iload_n 2, 1), (26, .invokevirtual 124, 3), (29, .return_, 1)]
theorem t_X6_stand : ∀ q ∈ k_X6_stand, decode cX6_stand q.1 = .ok q.2 := dl_all (by decide +kernel)
noncomputable def m_X6_stand (a0 a1 a2 : Int) (h : Hp) : Option (Hp) :=
  if a2 ≠ 0 then (if (h a0 29) ≤ 0 then ((m_X6_event a0 2 a1 a2 h).bind fun h26 =>
  some h26)
  else ((m_X6_top a0 h).bind fun v17 =>
  gd (h (h a0 13) (-2) % 16 = 3 ∧ (0 : Int) ≤ v17 ∧ v17 < h (h a0 13) (-1)) (pt h (h a0 13) v17 1 fun h21 =>
  (m_X6_event a0 2 a1 a2 h21).bind fun h26_1 =>
  some h26_1)))
  else (some h)
theorem s_X6_stand {l : Launch} [NoTr l] {D : SD} {a0 a1 a2 : Int} {h : Hp} (hk : h a0 (-2) = 96) (r1 : r32 a1) (r2 : r32 a2) {r : Hp} (hm : m_X6_stand a0 a1 a2 h = some r) : Sim l D yX6_stand (Cond.code yX6_stand cX6_stand 3 (Option.none : Option Jvm.ClassFile.FieldType)) 1 39 [rv D a0, iv a1, iv a2] h 0 ((0, 0), r) := by
  refine Sim.of (fin := fun (v : Hp) => ((0, 0), v)) (lsE := [(0, rv D a0), (1, iv a1), (2, iv a2)]) hm rfl cwS_code (la_r (la_i (la_i la_n))) (ll_r (ll_i (ll_i ll_n))) ?_
  intro p e s m below meth c X hcw hmm hcc hnm hname
  unfold m_X6_stand
  refine g_iload_n (pc := 0) X (j := 2) (i := 2) (q := 2) (x := a2) rfl rfl (dl_at t_X6_stand 0 rfl) ?_
  refine g_ifne (pc := 1) X r2 (off := 4) (tgt := 5) rfl (dl_at t_X6_stand 1 rfl) (fun _ => ?_) (fun _ => ?_)
  · refine g_aload_n (pc := 5) X (j := 0) (i := 0) (q := 0) (x := a0) rfl rfl (dl_at t_X6_stand 3 rfl) ?_
    refine r_geti (pc := 6) X fX6_29 hk q707 (dl_at t_X6_stand 4 rfl) fun g6 => ?_
    refine g_ifle (pc := 9) X g6 (off := 13) (tgt := 22) rfl (dl_at t_X6_stand 5 rfl) (fun _ => ?_) (fun _ => ?_)
    · refine g_aload_n (pc := 22) X (j := 0) (i := 0) (q := 0) (x := a0) rfl rfl (dl_at t_X6_stand 12 rfl) ?_
      refine g_iconst (pc := 23) X (n := 2) (dl_at t_X6_stand 13 rfl) ?_
      refine g_iload_n (pc := 24) X (j := 1) (i := 1) (q := 1) (x := a1) rfl rfl (dl_at t_X6_stand 14 rfl) ?_
      refine g_iload_n (pc := 25) X (j := 2) (i := 2) (q := 2) (x := a2) rfl rfl (dl_at t_X6_stand 15 rfl) ?_
      refine r_callV (pc := 26) X (fun _ hv => s_X6_event hk (r32_c rfl) r1 r2 hv) cw_code q2210 q360 (in_Vk X (As := [iv 2, iv a1, iv a2]) kX6 hk (Or.inl q2207) q2209 qs67 cw_code q2210 ⟨by decide, by decide⟩ rfl (dl_at t_X6_stand 16 rfl)) (dl_at t_X6_stand 16 rfl) (cat24 (st := []) (Nat.le_of_ble_eq_true rfl)) (Nat.le_of_ble_eq_true rfl) (Nat.le_of_ble_eq_true rfl) fun h26 E26 => ?_
      exact g_vret (pc := 29) X (v := 0) rfl rfl (dl_at t_X6_stand 17 rfl)
    refine g_aload_n (pc := 12) X (j := 0) (i := 0) (q := 0) (x := a0) rfl rfl (dl_at t_X6_stand 6 rfl) ?_
    refine r_getr (pc := 13) X fX6_13 hk q674 (dl_at t_X6_stand 7 rfl) ?_
    refine g_aload_n (pc := 16) X (j := 0) (i := 0) (q := 0) (x := a0) rfl rfl (dl_at t_X6_stand 8 rfl) ?_
    refine r_callRi (pc := 17) X (fun _ hv => s_X6_top hk hv) cw_code q2202 q360 (in_Vk X (As := []) kX6 hk (Or.inl q2199) q2201 qs65 cw_code q2202 ⟨by decide, by decide⟩ rfl (dl_at t_X6_stand 9 rfl)) (dl_at t_X6_stand 9 rfl) (cat24 (st := [rv D (h a0 13)]) (Nat.le_of_ble_eq_true rfl)) (Nat.le_of_ble_eq_true rfl) (Nat.le_of_ble_eq_true rfl) fun v17 g17 => ?_
    refine g_iconst (pc := 20) X (n := 1) (dl_at t_X6_stand 10 rfl) ?_
    refine g_gd fun k21 => ?_
    refine r_zast (pc := 21) X g17 (Or.inr rfl) k21 (dl_at t_X6_stand 11 rfl) (fun h21 E21 => ?_)
    refine g_aload_n (pc := 22) X (j := 0) (i := 0) (q := 0) (x := a0) rfl rfl (dl_at t_X6_stand 12 rfl) ?_
    refine g_iconst (pc := 23) X (n := 2) (dl_at t_X6_stand 13 rfl) ?_
    refine g_iload_n (pc := 24) X (j := 1) (i := 1) (q := 1) (x := a1) rfl rfl (dl_at t_X6_stand 14 rfl) ?_
    refine g_iload_n (pc := 25) X (j := 2) (i := 2) (q := 2) (x := a2) rfl rfl (dl_at t_X6_stand 15 rfl) ?_
    have k26 := kx E21 (by decide) hk
    refine r_callV (pc := 26) X (fun _ hv => s_X6_event k26 (r32_c rfl) r1 r2 hv) cw_code q2210 q360 (in_Vk X (As := [iv 2, iv a1, iv a2]) kX6 k26 (Or.inl q2207) q2209 qs67 cw_code q2210 ⟨by decide, by decide⟩ rfl (dl_at t_X6_stand 16 rfl)) (dl_at t_X6_stand 16 rfl) (cat24 (st := []) (Nat.le_of_ble_eq_true rfl)) (Nat.le_of_ble_eq_true rfl) (Nat.le_of_ble_eq_true rfl) fun h26_1 E26_1 => ?_
    exact g_vret (pc := 29) X (v := 0) rfl rfl (dl_at t_X6_stand 17 rfl)
  exact g_vret (pc := 4) X (v := 0) rfl rfl (dl_at t_X6_stand 2 rfl)
def k_X6_entity : List (Nat × Instr × Nat) := [(0, .aload_n 0, 1), (1, .getfield 90, 3), (4, .istore_n 1, 1), (5, .aload_n 0, 1), (6, .invokevirtual 167, 3), (9, .istore_n 2, 1), (10, .aload_n 0, 1), (11, .iload_n 1, 1), (12, .iload_n 2, 1), (13, .ldc 170, 2), (15, .invokevirtual 172, 3), (18, .istore_n 3, 1), (19, .iload_n 3, 1), (20, .ifCond .ne 14, 3), (23, .aload_n 0, 1), (24, .iload_n 1, 1), (25, .iload_n 2, 1), (26, .ldc 176, 2), (28, .invokevirtual 172, 3), (31, .ifCond .eq 7, 3), (34, .iconst (-1), 1), (35, .goto 18, 3), (38, .aload_n 0, 1), (39, .getfield 74, 3), (42, .aload_n 0, 1), (43, .getfield 9, 3), (46, .iload_n 1, 1), (47, .iload_n 2, 1), (48, .iload_n 1, 1), (49, .isub, 1), (50, .invokevirtual 178, 3), (53, .istore 4, 2), (55, .iload 4, 2), (57, .ifCond .ge 23, 3), (60, .iload_n 3, 1), (61, .ifCond .ne 19, 3), (64, .aload_n 0, 1), (65, .iload_n 1, 1), (66, .iload_n 2, 1), (67, .ldc 176, 2), (69, .invokevirtual 172, 3), (72, .ifCond .ne 8, 3), (75, .aload_n 0, 1), (76, .invokevirtual 142, 3), (79, .athrow, 1), (80, .aload_n 0, 1), (81, .iload_n 2, 1), (82, .putfield 90, 3), (85, .aload_n 0, 1), (86, .aload_n 0, 1), (87, .getfield 90, 3), (90, .invokevirtual 128, 3), (93, .bipush 59, 2), (95, .if_icmp .eq 8, 3), (98, .aload_n 0, 1), (99, .invokevirtual 142, 3), (102, .athrow, 1), (103, .aload_n 0, 1), (104, .dup, 1), (105, .getfield 90, 3), (108, .iconst 1, 1), (109, .iadd, 1), (110, .putfield 90, 3), (113, .iload 4, 2), (115, .ifCond .lt 22, 3), (118, .aload_n 0, 1), (119, .aload_n 0, 1), (120, .getfield 77, 3), (123, .iload 4, 2), (125, .iaload, 1), (126, .aload_n 0, 1), (127, .getfield 80, 3), (130, .iload 4, 2), (132, .iaload, 1), (133, .invokevirtual 146, 3), (136, .return_, 1), (137, .aload_n 0, 1), (138, .iload_n 3, 1), (139, .ifCond .eq 8, 3), (142, .bipush (-61), 2), (144, .goto 5, 3), (147, .bipush (-39), 2), (149, .iconst 1, 1), (150, .invokevirtual 146, 3), (153, .return_, 1)]
theorem t_X6_entity : ∀ q ∈ k_X6_entity, decode cX6_entity q.1 = .ok q.2 := dl_all (by decide +kernel)
noncomputable def m_X6_entity_j80 (s0_53 v15 a0 v6 : Int) (h6 : Hp) : Option ((Int × Int) × Hp) :=
  pt h6 a0 2 v6 fun h82 =>
  (m_X6_byteAt a0 (h82 a0 2) h82).bind fun v90 =>
  if v90 = 59 then (pt h82 a0 2 (w32 ((h82 a0 2) + 1)) fun h110 =>
  if s0_53 < 0 then (if v15 = 0 then ((m_X6_stand a0 (-39) 1 h110).bind fun h150 =>
  some ((0, 0), h150))
  else ((m_X6_stand a0 (-61) 1 h110).bind fun h150_1 =>
  some ((0, 0), h150_1)))
  else (gd (h110 (h110 a0 26) (-2) % 16 = 1 ∧ (0 : Int) ≤ s0_53 ∧ s0_53 < h110 (h110 a0 26) (-1)) (gd (h110 (h110 a0 27) (-2) % 16 = 1 ∧ (0 : Int) ≤ s0_53 ∧ s0_53 < h110 (h110 a0 27) (-1)) ((m_X6_stand a0 (h110 (h110 a0 26) s0_53) (h110 (h110 a0 27) s0_53) h110).bind fun h133 =>
  some ((0, 0), h133)))))
  else (bW (m_X6_broken a0 h82) fun v99 h99 =>
  gd (0 < v99) (some ((1, v99), h99)))
noncomputable def m_X6_entity_j53 (v15 v6 x1_4 a0 s0_53 : Int) (h6 : Hp) : Option ((Int × Int) × Hp) :=
  if 0 ≤ s0_53 then (m_X6_entity_j80 s0_53 v15 a0 v6 h6)
  else (if v15 ≠ 0 then (m_X6_entity_j80 s0_53 v15 a0 v6 h6)
  else ((m_X6_isWord a0 x1_4 v6 (-18) h6).bind fun v69 =>
  if v69 ≠ 0 then (m_X6_entity_j80 s0_53 v15 a0 v6 h6)
  else (bW (m_X6_broken a0 h6) fun v76 h76 =>
  gd (0 < v76) (some ((1, v76), h76)))))
noncomputable def m_X6_entity_j34 (v15 v6 x1_4 a0 : Int) (h6 : Hp) : Option ((Int × Int) × Hp) :=
  m_X6_entity_j53 v15 v6 x1_4 a0 (-1) h6
noncomputable def m_X6_entity (a0 : Int) (h : Hp) : Option ((Int × Int) × Hp) :=
  lt_ (h a0 2) fun x1_4 =>
  bT (m_X6_nameEnd a0 h) (fun v6 h6 =>
  (m_X6_isWord a0 x1_4 v6 (-17) h6).bind fun v15 =>
  if v15 ≠ 0 then (m_X6_entity_j34 v15 v6 x1_4 a0 h6)
  else ((m_X6_isWord a0 x1_4 v6 (-18) h6).bind fun v28 =>
  if v28 = 0 then (gd (h6 (h6 a0 25) (-2) = 64) ((m_X4_find (h6 a0 25) (h6 a0 0) x1_4 (w32 (v6 - x1_4)) h6).bind fun v50 =>
  m_X6_entity_j53 v15 v6 x1_4 a0 v50 h6))
  else (m_X6_entity_j34 v15 v6 x1_4 a0 h6))) (fun a_ h_ => some ((1, a_), h_))
theorem s_X6_entity {l : Launch} [NoTr l] {D : SD} {a0 : Int} {h : Hp} (hk : h a0 (-2) = 96) {r : (Int × Int) × Hp} (hm : m_X6_entity a0 h = some r) : Sim l D yX6_entity (Cond.code yX6_entity cX6_entity 5 (Option.none : Option Jvm.ClassFile.FieldType)) 11 410 [rv D a0] h 0 r := by
  refine Sim.of (fin := fun (v : (Int × Int) × Hp) => v) (lsE := [(0, rv D a0)]) hm rfl cwS_code (la_r la_n) (ll_r ll_n) ?_
  intro p e s m below meth c X hcw hmm hcc hnm hname
  have hno := noh hcw hnm hmm hcc
  unfold m_X6_entity
  refine g_aload_n (pc := 0) X (j := 0) (i := 0) (q := 0) (x := a0) rfl rfl (dl_at t_X6_entity 0 rfl) ?_
  refine r_geti (pc := 1) X fX6_2 hk q651 (dl_at t_X6_entity 1 rfl) fun g1 => ?_
  refine g_lti g1 fun x1_4 r1_4 => ?_
  refine g_istore_nN (pc := 4) X (j := 1) (i := 1) (x := x1_4) (b := 0) (w := rv D a0) (rest := []) rfl (Nat.le_of_ble_eq_true rfl) [0] rfl (by decide) rv_cat rfl (dl_at t_X6_entity 2 rfl) ?_
  refine g_aload_n (pc := 5) X (j := 0) (i := 0) (q := 1) (x := a0) rfl rfl (dl_at t_X6_entity 3 rfl) ?_
  refine r_callTi (pc := 6) X (fun _ hv => s_X6_nameEnd hk hv) cw_code q2172 q360 (in_Vk X (As := []) kX6 hk (Or.inl q2169) q2171 qs60 cw_code q2172 ⟨by decide, by decide⟩ rfl (dl_at t_X6_entity 4 rfl)) (dl_at t_X6_entity 4 rfl) (cat24 (st := []) (Nat.le_of_ble_eq_true rfl)) (Nat.le_of_ble_eq_true rfl) (Nat.le_of_ble_eq_true rfl) (fun v6 h6 g6 E6 => ?_) (fun _ _ ha _ => gt_at fun Q hQ => gt_out (Q := Q) X rfl ha (hno _) _ Q rfl hQ)
  refine g_istore_nN (pc := 9) X (j := 2) (i := 2) (x := v6) (b := 1) (w := iv x1_4) (rest := [(0, rv D a0)]) rfl (Nat.le_of_ble_eq_true rfl) [0, 1] rfl (by decide) rfl rfl (dl_at t_X6_entity 5 rfl) ?_
  refine g_aload_n (pc := 10) X (j := 0) (i := 0) (q := 2) (x := a0) rfl rfl (dl_at t_X6_entity 6 rfl) ?_
  refine g_iload_n (pc := 11) X (j := 1) (i := 1) (q := 1) (x := x1_4) rfl rfl (dl_at t_X6_entity 7 rfl) ?_
  refine g_iload_n (pc := 12) X (j := 2) (i := 2) (q := 0) (x := v6) rfl rfl (dl_at t_X6_entity 8 rfl) ?_
  refine g_ldcS (pc := 13) X (index := 170) (id := (-17)) 15 rfl rfl (dl_at t_X6_entity 9 rfl) ?_
  have k15 := kx E6 (by decide) hk
  refine r_callRz (pc := 15) X (fun _ hv => s_X6_isWord k15 r1_4 g6 hv) cw_code q2179 q360 (in_Vk X (As := [iv x1_4, iv v6, rv D (-17)]) kX6 k15 (Or.inl q2176) q2178 qs61 cw_code q2179 ⟨by decide, by decide⟩ rfl (dl_at t_X6_entity 10 rfl)) (dl_at t_X6_entity 10 rfl) (cat24 (st := []) (Nat.le_of_ble_eq_true rfl)) (Nat.le_of_ble_eq_true rfl) (Nat.le_of_ble_eq_true rfl) fun v15 g15 => ?_
  refine g_istore_nN (pc := 18) X (j := 3) (i := 3) (x := v15) (b := 2) (w := iv v6) (rest := [(1, iv x1_4), (0, rv D a0)]) rfl (Nat.le_of_ble_eq_true rfl) [0, 1, 2] rfl (by decide) rfl rfl (dl_at t_X6_entity 11 rfl) ?_
  refine g_iload_n (pc := 19) X (j := 3) (i := 3) (q := 0) (x := v15) rfl rfl (dl_at t_X6_entity 12 rfl) ?_
  refine g_join (γ := Int) (fun q => r32 q) 53 (fun q => [(0, rv D a0), (1, iv x1_4), (2, iv v6), (3, iv v15)]) (fun q => [iv q]) (fun q => h6) (fun q => m_X6_entity_j53 v15 v6 x1_4 a0 q h6) ?_ ?_
  · rintro s0_53 rs0_53
    try dsimp only
    unfold m_X6_entity_j53
    refine g_istoreN (pc := 53) X (i := 4) (x := s0_53) (b := 3) (w := iv v15) (rest := [(0, rv D a0), (1, iv x1_4), (2, iv v6)]) (Nat.le_of_ble_eq_true rfl) [3, 0, 1, 2] rfl (by decide) rfl rfl (dl_at t_X6_entity 31 rfl) ?_
    refine g_iload (pc := 55) X (i := 4) (q := 0) (x := s0_53) rfl (dl_at t_X6_entity 32 rfl) ?_
    refine g_join (γ := Unit) (fun q => True) 80 (fun q => [(0, rv D a0), (2, iv v6), (3, iv v15), (4, iv s0_53)]) (fun q => []) (fun q => h6) (fun q => m_X6_entity_j80 s0_53 v15 a0 v6 h6) ?_ ?_
    · rintro _ _
      try dsimp only
      unfold m_X6_entity_j80
      refine g_aload_n (pc := 80) X (j := 0) (i := 0) (q := 0) (x := a0) rfl rfl (dl_at t_X6_entity 45 rfl) ?_
      refine g_iload_n (pc := 81) X (j := 2) (i := 2) (q := 1) (x := v6) rfl rfl (dl_at t_X6_entity 46 rfl) ?_
      refine r_puti (pc := 82) X fX6_2 k15 q651 rfl (dl_at t_X6_entity 47 rfl) g6 (fun h82 E82 => ?_)
      refine g_aload_n (pc := 85) X (j := 0) (i := 0) (q := 0) (x := a0) rfl rfl (dl_at t_X6_entity 48 rfl) ?_
      refine g_aload_n (pc := 86) X (j := 0) (i := 0) (q := 0) (x := a0) rfl rfl (dl_at t_X6_entity 49 rfl) ?_
      have k87 := kx E82 (by decide) k15
      refine r_geti (pc := 87) X fX6_2 k87 q651 (dl_at t_X6_entity 50 rfl) fun g87 => ?_
      refine r_callRi (pc := 90) X (fun _ hv => s_X6_byteAt k87 g87 hv) cw_code q2150 q360 (in_Vk X (As := [iv (h82 a0 2)]) kX6 k87 (Or.inl q2147) q2149 qs55 cw_code q2150 ⟨by decide, by decide⟩ rfl (dl_at t_X6_entity 51 rfl)) (dl_at t_X6_entity 51 rfl) (cat24 (st := []) (Nat.le_of_ble_eq_true rfl)) (Nat.le_of_ble_eq_true rfl) (Nat.le_of_ble_eq_true rfl) fun v90 g90 => ?_
      refine g_bipush (pc := 93) X (n := 59) rfl (dl_at t_X6_entity 52 rfl) ?_
      refine g_icmpeq (pc := 95) X g90 (r32_c rfl) (off := 8) (tgt := 103) rfl (dl_at t_X6_entity 53 rfl) (fun _ => ?_) (fun _ => ?_)
      · refine g_aload_n (pc := 103) X (j := 0) (i := 0) (q := 0) (x := a0) rfl rfl (dl_at t_X6_entity 57 rfl) ?_
        refine g_dup (pc := 104) X rv_cat (dl_at t_X6_entity 58 rfl) ?_
        refine r_geti (pc := 105) X fX6_2 k87 q651 (dl_at t_X6_entity 59 rfl) fun g105 => ?_
        refine g_iconst (pc := 108) X (n := 1) (dl_at t_X6_entity 60 rfl) ?_
        refine g_iadd (pc := 109) X g105 (r32_c rfl) (dl_at t_X6_entity 61 rfl) ?_
        refine r_puti (pc := 110) X fX6_2 k87 q651 rfl (dl_at t_X6_entity 62 rfl) (r32_w _) (fun h110 E110 => ?_)
        refine g_iload (pc := 113) X (i := 4) (q := 3) (x := s0_53) rfl (dl_at t_X6_entity 63 rfl) ?_
        refine g_iflt (pc := 115) X rs0_53 (off := 22) (tgt := 137) rfl (dl_at t_X6_entity 64 rfl) (fun _ => ?_) (fun _ => ?_)
        · refine g_aload_n (pc := 137) X (j := 0) (i := 0) (q := 0) (x := a0) rfl rfl (dl_at t_X6_entity 76 rfl) ?_
          refine g_iload_n (pc := 138) X (j := 3) (i := 3) (q := 2) (x := v15) rfl rfl (dl_at t_X6_entity 77 rfl) ?_
          refine g_ifeq (pc := 139) X (r32_z g15) (off := 8) (tgt := 147) rfl (dl_at t_X6_entity 78 rfl) (fun _ => ?_) (fun _ => ?_)
          · refine g_bipush (pc := 147) X (n := (-39)) rfl (dl_at t_X6_entity 81 rfl) ?_
            refine g_iconst (pc := 149) X (n := 1) (dl_at t_X6_entity 82 rfl) ?_
            have k150 := kx E110 (by decide) k87
            refine r_callV (pc := 150) X (fun _ hv => s_X6_stand k150 (r32_c rfl) (r32_c rfl) hv) cw_code q2230 q360 (in_Vk X (As := [iv (-39), iv 1]) kX6 k150 (Or.inl q2227) q2229 qs72 cw_code q2230 ⟨by decide, by decide⟩ rfl (dl_at t_X6_entity 83 rfl)) (dl_at t_X6_entity 83 rfl) (cat24 (st := []) (Nat.le_of_ble_eq_true rfl)) (Nat.le_of_ble_eq_true rfl) (Nat.le_of_ble_eq_true rfl) fun h150 E150 => ?_
            exact g_vret (pc := 153) X (v := 0) rfl rfl (dl_at t_X6_entity 84 rfl)
          refine g_bipush (pc := 142) X (n := (-61)) rfl (dl_at t_X6_entity 79 rfl) ?_
          refine g_goto (pc := 144) X (off := 5) (tgt := 149) rfl (dl_at t_X6_entity 80 rfl) ?_
          refine g_iconst (pc := 149) X (n := 1) (dl_at t_X6_entity 82 rfl) ?_
          have k150_1 := kx E110 (by decide) k87
          refine r_callV (pc := 150) X (fun _ hv => s_X6_stand k150_1 (r32_c rfl) (r32_c rfl) hv) cw_code q2230 q360 (in_Vk X (As := [iv (-61), iv 1]) kX6 k150_1 (Or.inl q2227) q2229 qs72 cw_code q2230 ⟨by decide, by decide⟩ rfl (dl_at t_X6_entity 83 rfl)) (dl_at t_X6_entity 83 rfl) (cat24 (st := []) (Nat.le_of_ble_eq_true rfl)) (Nat.le_of_ble_eq_true rfl) (Nat.le_of_ble_eq_true rfl) fun h150_1 E150_1 => ?_
          exact g_vret (pc := 153) X (v := 0) rfl rfl (dl_at t_X6_entity 84 rfl)
        refine g_aload_n (pc := 118) X (j := 0) (i := 0) (q := 0) (x := a0) rfl rfl (dl_at t_X6_entity 65 rfl) ?_
        refine g_aload_n (pc := 119) X (j := 0) (i := 0) (q := 0) (x := a0) rfl rfl (dl_at t_X6_entity 66 rfl) ?_
        have k120 := kx E110 (by decide) k87
        refine r_getr (pc := 120) X fX6_26 k120 q704 (dl_at t_X6_entity 67 rfl) ?_
        refine g_iload (pc := 123) X (i := 4) (q := 3) (x := s0_53) rfl (dl_at t_X6_entity 68 rfl) ?_
        refine g_gd fun k125 => ?_
        refine g_iald (pc := 125) X rs0_53 k125 (dl_at t_X6_entity 69 rfl) fun g125 => ?_
        refine g_aload_n (pc := 126) X (j := 0) (i := 0) (q := 0) (x := a0) rfl rfl (dl_at t_X6_entity 70 rfl) ?_
        refine r_getr (pc := 127) X fX6_27 k120 q705 (dl_at t_X6_entity 71 rfl) ?_
        refine g_iload (pc := 130) X (i := 4) (q := 3) (x := s0_53) rfl (dl_at t_X6_entity 72 rfl) ?_
        refine g_gd fun k132 => ?_
        refine g_iald (pc := 132) X rs0_53 k132 (dl_at t_X6_entity 73 rfl) fun g132 => ?_
        refine r_callV (pc := 133) X (fun _ hv => s_X6_stand k120 g125 g132 hv) cw_code q2230 q360 (in_Vk X (As := [iv (h110 (h110 a0 26) s0_53), iv (h110 (h110 a0 27) s0_53)]) kX6 k120 (Or.inl q2227) q2229 qs72 cw_code q2230 ⟨by decide, by decide⟩ rfl (dl_at t_X6_entity 74 rfl)) (dl_at t_X6_entity 74 rfl) (cat24 (st := []) (Nat.le_of_ble_eq_true rfl)) (Nat.le_of_ble_eq_true rfl) (Nat.le_of_ble_eq_true rfl) fun h133 E133 => ?_
        exact g_vret (pc := 136) X (v := 0) rfl rfl (dl_at t_X6_entity 75 rfl)
      refine g_aload_n (pc := 98) X (j := 0) (i := 0) (q := 0) (x := a0) rfl rfl (dl_at t_X6_entity 54 rfl) ?_
      refine r_callWr (pc := 99) X (fun _ hv => s_X6_broken k87 hv) cw_code q2162 q360 (in_Vk X (As := []) kX6 k87 (Or.inl q2159) q2161 qs58 cw_code q2162 ⟨by decide, by decide⟩ rfl (dl_at t_X6_entity 55 rfl)) (dl_at t_X6_entity 55 rfl) (cat24 (st := []) (Nat.le_of_ble_eq_true rfl)) (Nat.le_of_ble_eq_true rfl) (Nat.le_of_ble_eq_true rfl) fun v99 h99 E99 => ?_
      refine g_gd fun p102 => ?_
      refine g_athrow (pc := 102) X (Int.ne_of_gt p102) (dl_at t_X6_entity 56 rfl) ?_
      exact gt_at fun Q hQ => gt_out (Q := Q) X rfl p102 (hno _) _ Q rfl hQ
    intro J80
    refine g_ifge (pc := 57) X rs0_53 (off := 23) (tgt := 80) rfl (dl_at t_X6_entity 33 rfl) (fun _ => ?_) (fun _ => ?_)
    · refine g_ls (ls2 := [(0, rv D a0), (2, iv v6), (3, iv v15), (4, iv s0_53)]) [2, 4, 1, 0] rfl ?_
      exact J80 () trivial
    refine g_iload_n (pc := 60) X (j := 3) (i := 3) (q := 1) (x := v15) rfl rfl (dl_at t_X6_entity 34 rfl) ?_
    refine g_ifne (pc := 61) X (r32_z g15) (off := 19) (tgt := 80) rfl (dl_at t_X6_entity 35 rfl) (fun _ => ?_) (fun _ => ?_)
    · refine g_ls (ls2 := [(0, rv D a0), (2, iv v6), (3, iv v15), (4, iv s0_53)]) [2, 4, 1, 0] rfl ?_
      exact J80 () trivial
    refine g_aload_n (pc := 64) X (j := 0) (i := 0) (q := 2) (x := a0) rfl rfl (dl_at t_X6_entity 36 rfl) ?_
    refine g_iload_n (pc := 65) X (j := 1) (i := 1) (q := 3) (x := x1_4) rfl rfl (dl_at t_X6_entity 37 rfl) ?_
    refine g_iload_n (pc := 66) X (j := 2) (i := 2) (q := 4) (x := v6) rfl rfl (dl_at t_X6_entity 38 rfl) ?_
    refine g_ldcS (pc := 67) X (index := 176) (id := (-18)) 16 rfl rfl (dl_at t_X6_entity 39 rfl) ?_
    refine r_callRz (pc := 69) X (fun _ hv => s_X6_isWord k15 r1_4 g6 hv) cw_code q2179 q360 (in_Vk X (As := [iv x1_4, iv v6, rv D (-18)]) kX6 k15 (Or.inl q2176) q2178 qs61 cw_code q2179 ⟨by decide, by decide⟩ rfl (dl_at t_X6_entity 40 rfl)) (dl_at t_X6_entity 40 rfl) (cat24 (st := []) (Nat.le_of_ble_eq_true rfl)) (Nat.le_of_ble_eq_true rfl) (Nat.le_of_ble_eq_true rfl) fun v69 g69 => ?_
    refine g_ifne (pc := 72) X (r32_z g69) (off := 8) (tgt := 80) rfl (dl_at t_X6_entity 41 rfl) (fun _ => ?_) (fun _ => ?_)
    · refine g_ls (ls2 := [(0, rv D a0), (2, iv v6), (3, iv v15), (4, iv s0_53)]) [2, 4, 1, 0] rfl ?_
      exact J80 () trivial
    refine g_aload_n (pc := 75) X (j := 0) (i := 0) (q := 2) (x := a0) rfl rfl (dl_at t_X6_entity 42 rfl) ?_
    refine r_callWr (pc := 76) X (fun _ hv => s_X6_broken k15 hv) cw_code q2162 q360 (in_Vk X (As := []) kX6 k15 (Or.inl q2159) q2161 qs58 cw_code q2162 ⟨by decide, by decide⟩ rfl (dl_at t_X6_entity 43 rfl)) (dl_at t_X6_entity 43 rfl) (cat24 (st := []) (Nat.le_of_ble_eq_true rfl)) (Nat.le_of_ble_eq_true rfl) (Nat.le_of_ble_eq_true rfl) fun v76 h76 E76 => ?_
    refine g_gd fun p79 => ?_
    refine g_athrow (pc := 79) X (Int.ne_of_gt p79) (dl_at t_X6_entity 44 rfl) ?_
    exact gt_at fun Q hQ => gt_out (Q := Q) X rfl p79 (hno _) _ Q rfl hQ
  intro J53
  refine g_join (γ := Unit) (fun q => True) 34 (fun q => [(0, rv D a0), (1, iv x1_4), (2, iv v6), (3, iv v15)]) (fun q => []) (fun q => h6) (fun q => m_X6_entity_j34 v15 v6 x1_4 a0 h6) ?_ ?_
  · rintro _ _
    try dsimp only
    unfold m_X6_entity_j34
    refine g_iconst (pc := 34) X (n := (-1)) (dl_at t_X6_entity 20 rfl) ?_
    refine g_goto (pc := 35) X (off := 18) (tgt := 53) rfl (dl_at t_X6_entity 21 rfl) ?_
    exact J53 (-1) (r32_c rfl)
  intro J34
  refine g_ifne (pc := 20) X (r32_z g15) (off := 14) (tgt := 34) rfl (dl_at t_X6_entity 13 rfl) (fun _ => ?_) (fun _ => ?_)
  · refine g_ls (ls2 := [(0, rv D a0), (1, iv x1_4), (2, iv v6), (3, iv v15)]) [3, 2, 1, 0] rfl ?_
    exact J34 () trivial
  refine g_aload_n (pc := 23) X (j := 0) (i := 0) (q := 3) (x := a0) rfl rfl (dl_at t_X6_entity 14 rfl) ?_
  refine g_iload_n (pc := 24) X (j := 1) (i := 1) (q := 2) (x := x1_4) rfl rfl (dl_at t_X6_entity 15 rfl) ?_
  refine g_iload_n (pc := 25) X (j := 2) (i := 2) (q := 1) (x := v6) rfl rfl (dl_at t_X6_entity 16 rfl) ?_
  refine g_ldcS (pc := 26) X (index := 176) (id := (-18)) 16 rfl rfl (dl_at t_X6_entity 17 rfl) ?_
  refine r_callRz (pc := 28) X (fun _ hv => s_X6_isWord k15 r1_4 g6 hv) cw_code q2179 q360 (in_Vk X (As := [iv x1_4, iv v6, rv D (-18)]) kX6 k15 (Or.inl q2176) q2178 qs61 cw_code q2179 ⟨by decide, by decide⟩ rfl (dl_at t_X6_entity 18 rfl)) (dl_at t_X6_entity 18 rfl) (cat24 (st := []) (Nat.le_of_ble_eq_true rfl)) (Nat.le_of_ble_eq_true rfl) (Nat.le_of_ble_eq_true rfl) fun v28 g28 => ?_
  refine g_ifeq (pc := 31) X (r32_z g28) (off := 7) (tgt := 38) rfl (dl_at t_X6_entity 19 rfl) (fun _ => ?_) (fun _ => ?_)
  · refine g_aload_n (pc := 38) X (j := 0) (i := 0) (q := 3) (x := a0) rfl rfl (dl_at t_X6_entity 22 rfl) ?_
    refine r_getr (pc := 39) X fX6_25 k15 q702 (dl_at t_X6_entity 23 rfl) ?_
    refine g_aload_n (pc := 42) X (j := 0) (i := 0) (q := 3) (x := a0) rfl rfl (dl_at t_X6_entity 24 rfl) ?_
    refine r_getr (pc := 43) X fX6_0 k15 q645 (dl_at t_X6_entity 25 rfl) ?_
    refine g_iload_n (pc := 46) X (j := 1) (i := 1) (q := 2) (x := x1_4) rfl rfl (dl_at t_X6_entity 26 rfl) ?_
    refine g_iload_n (pc := 47) X (j := 2) (i := 2) (q := 1) (x := v6) rfl rfl (dl_at t_X6_entity 27 rfl) ?_
    refine g_iload_n (pc := 48) X (j := 1) (i := 1) (q := 2) (x := x1_4) rfl rfl (dl_at t_X6_entity 28 rfl) ?_
    refine g_isub (pc := 49) X g6 r1_4 (dl_at t_X6_entity 29 rfl) ?_
    refine g_gd fun k50 => ?_
    refine r_callRi (pc := 50) X (fun _ hv => s_X4_find k50 r1_4 (r32_w _) hv) cw_code q2011 q358 (in_Vk X (As := [rv D (h6 a0 0), iv x1_4, iv (w32 (v6 - x1_4))]) kX4 k50 (Or.inr ⟨_, nw_in q2183 rfl⟩) q2010 qs38 cw_code q2011 ⟨by decide, by decide⟩ rfl (dl_at t_X6_entity 30 rfl)) (dl_at t_X6_entity 30 rfl) (cat24 (st := []) (Nat.le_of_ble_eq_true rfl)) (Nat.le_of_ble_eq_true rfl) (Nat.le_of_ble_eq_true rfl) fun v50 g50 => ?_
    refine g_ls (ls2 := [(0, rv D a0), (1, iv x1_4), (2, iv v6), (3, iv v15)]) [3, 2, 1, 0] rfl ?_
    exact J53 v50 g50
  refine g_ls (ls2 := [(0, rv D a0), (1, iv x1_4), (2, iv v6), (3, iv v15)]) [3, 2, 1, 0] rfl ?_
  exact J34 () trivial
def k_X6_isPlace : List (Nat × Instr × Nat) := [(0, .iload_n 0, 1), (1, .bipush 60, 2), (3, .if_icmp .eq 26, 3), (6, .iload_n 0, 1), (7, .bipush 38, 2), (9, .if_icmp .eq 20, 3), (12, .iload_n 0, 1), (13, .bipush 10, 2), (15, .if_icmp .eq 10, 3), (18, .iload_n 0, 1), (19, .invokestatic 150, 3), (22, .ifCond .eq 7, 3), (25, .iconst 1, 1), (26, .goto 4, 3), (29, .iconst 0, 1), (30, .ireturn, 1)]
theorem t_X6_isPlace : ∀ q ∈ k_X6_isPlace, decode cX6_isPlace q.1 = .ok q.2 := dl_all (by decide +kernel)
noncomputable def m_X6_isPlace (a0 : Int) : Option (Int) :=
  if a0 = 60 then (some 0)
  else (if a0 = 38 then (some 0)
  else (if a0 = 10 then (some 1)
  else ((m_X1_isPlain a0).bind fun v19 =>
  if v19 = 0 then (some 0)
  else (some 1))))
theorem s_X6_isPlace {l : Launch} [NoTr l] {D : SD} {a0 : Int} {h : Hp} (r0 : r32 a0) {r : Int} (hm : m_X6_isPlace a0 = some r) : Sim l D yX6_isPlace (Cond.code yX6_isPlace cX6_isPlace 1 (Option.some Jvm.ClassFile.FieldType.boolean)) 1 36 [iv a0] h 3 ((0, r), h) := by
  refine Sim.of (fin := fun (v : Int) => ((0, v), h)) (lsE := [(0, iv a0)]) hm rfl cwS_code (la_i la_n) (ll_i ll_n) ?_
  intro p e s m below meth c X hcw hmm hcc hnm hname
  unfold m_X6_isPlace
  refine g_iload_n (pc := 0) X (j := 0) (i := 0) (q := 0) (x := a0) rfl rfl (dl_at t_X6_isPlace 0 rfl) ?_
  refine g_bipush (pc := 1) X (n := 60) rfl (dl_at t_X6_isPlace 1 rfl) ?_
  refine g_icmpeq (pc := 3) X r0 (r32_c rfl) (off := 26) (tgt := 29) rfl (dl_at t_X6_isPlace 2 rfl) (fun _ => ?_) (fun _ => ?_)
  · refine g_iconst (pc := 29) X (n := 0) (dl_at t_X6_isPlace 14 rfl) ?_
    exact g_zret (pc := 30) X (Or.inl rfl) rfl rfl (dl_at t_X6_isPlace 15 rfl)
  refine g_iload_n (pc := 6) X (j := 0) (i := 0) (q := 0) (x := a0) rfl rfl (dl_at t_X6_isPlace 3 rfl) ?_
  refine g_bipush (pc := 7) X (n := 38) rfl (dl_at t_X6_isPlace 4 rfl) ?_
  refine g_icmpeq (pc := 9) X r0 (r32_c rfl) (off := 20) (tgt := 29) rfl (dl_at t_X6_isPlace 5 rfl) (fun _ => ?_) (fun _ => ?_)
  · refine g_iconst (pc := 29) X (n := 0) (dl_at t_X6_isPlace 14 rfl) ?_
    exact g_zret (pc := 30) X (Or.inl rfl) rfl rfl (dl_at t_X6_isPlace 15 rfl)
  refine g_iload_n (pc := 12) X (j := 0) (i := 0) (q := 0) (x := a0) rfl rfl (dl_at t_X6_isPlace 6 rfl) ?_
  refine g_bipush (pc := 13) X (n := 10) rfl (dl_at t_X6_isPlace 7 rfl) ?_
  refine g_icmpeq (pc := 15) X r0 (r32_c rfl) (off := 10) (tgt := 25) rfl (dl_at t_X6_isPlace 8 rfl) (fun _ => ?_) (fun _ => ?_)
  · refine g_iconst (pc := 25) X (n := 1) (dl_at t_X6_isPlace 12 rfl) ?_
    refine g_goto (pc := 26) X (off := 4) (tgt := 30) rfl (dl_at t_X6_isPlace 13 rfl) ?_
    exact g_zret (pc := 30) X (Or.inr rfl) rfl rfl (dl_at t_X6_isPlace 15 rfl)
  refine g_iload_n (pc := 18) X (j := 0) (i := 0) (q := 0) (x := a0) rfl rfl (dl_at t_X6_isPlace 9 rfl) ?_
  refine r_callRz (pc := 19) X (fun _ hv => s_X1_isPlain r0 hv) cw_code q1753 q355 (in_Sc X (As := [iv a0]) (Or.inr ⟨_, nw_in q2193 rfl⟩) q1752 q355 q1753 ⟨by decide, by decide⟩ rfl (dl_at t_X6_isPlace 10 rfl)) (dl_at t_X6_isPlace 10 rfl) (cat24 (st := []) (Nat.le_of_ble_eq_true rfl)) (Nat.le_of_ble_eq_true rfl) (Nat.le_of_ble_eq_true rfl) fun v19 g19 => ?_
  refine g_ifeq (pc := 22) X (r32_z g19) (off := 7) (tgt := 29) rfl (dl_at t_X6_isPlace 11 rfl) (fun _ => ?_) (fun _ => ?_)
  · refine g_iconst (pc := 29) X (n := 0) (dl_at t_X6_isPlace 14 rfl) ?_
    exact g_zret (pc := 30) X (Or.inl rfl) rfl rfl (dl_at t_X6_isPlace 15 rfl)
  refine g_iconst (pc := 25) X (n := 1) (dl_at t_X6_isPlace 12 rfl) ?_
  refine g_goto (pc := 26) X (off := 4) (tgt := 30) rfl (dl_at t_X6_isPlace 13 rfl) ?_
  exact g_zret (pc := 30) X (Or.inr rfl) rfl rfl (dl_at t_X6_isPlace 15 rfl)
def k_X6_piece : List (Nat × Instr × Nat) := [(0, .aload_n 0, 1), (1, .aload_n 0, 1), (2, .getfield 90, 3), (5, .invokevirtual 128, 3), (8, .istore_n 1, 1), (9, .iload_n 1, 1), (10, .bipush 60, 2), (12, .if_icmp .ne 10, 3), (15, .aload_n 0, 1), (16, .invokevirtual 132, 3), (19, .goto 82, 3), (22, .iload_n 1, 1), (23, .bipush 38, 2), (25, .if_icmp .ne 20, 3), (28, .aload_n 0, 1), (29, .dup, 1), (30, .getfield 90, 3), (33, .iconst 1, 1), (34, .iadd, 1), (35, .putfield 90, 3), (38, .aload_n 0, 1), (39, .invokevirtual 135, 3), (42, .goto 59, 3), (45, .aload_n 0, 1), (46, .getfield 90, 3), (49, .istore_n 2, 1), (50, .aload_n 0, 1), (51, .aload_n 0, 1), (52, .getfield 90, 3), (55, .invokevirtual 128, 3), (58, .invokestatic 138, 3), (61, .ifCond .eq 16, 3), (64, .aload_n 0, 1), (65, .dup, 1), (66, .getfield 90, 3), (69, .iconst 1, 1), (70, .iadd, 1), (71, .putfield 90, 3), (74, .goto (-24), 3), (77, .aload_n 0, 1), (78, .getfield 90, 3), (81, .iload_n 2, 1), (82, .if_icmp .ne 8, 3), (85, .aload_n 0, 1), (86, .invokevirtual 142, 3), (89, .athrow, 1), (90, .aload_n 0, 1), (91, .iload_n 2, 1), (92, .aload_n 0, 1), (93, .getfield 90, 3), (96, .iload_n 2, 1), (97, .isub, 1), (98, .invokevirtual 146, 3), (101, .return_, 1)]
theorem t_X6_piece : ∀ q ∈ k_X6_piece, decode cX6_piece q.1 = .ok q.2 := dl_all (by decide +kernel)
noncomputable def m_X6_piece_l50 (a0 : Int) (h_50 : Hp) : Option ((Hp) ⊕ ((Hp))) :=
  (m_X6_byteAt a0 (h_50 a0 2) h_50).bind fun v55 =>
  (m_X6_isPlace v55).bind fun v58 =>
  if v58 = 0 then (some (.inr h_50))
  else (pt h_50 a0 2 (w32 ((h_50 a0 2) + 1)) fun h71 =>
  some (.inl h71))
noncomputable def m_X6_piece (a0 : Int) (h : Hp) : Option ((Int × Int) × Hp) :=
  (m_X6_byteAt a0 (h a0 2) h).bind fun v5 =>
  if v5 ≠ 60 then (if v5 ≠ 38 then (lt_ (h a0 2) fun x2_49 =>
  (lp (fun (q : Hp) => m_X6_piece_l50 a0 q) h).bind (fun (y77 : Hp) => if (y77 a0 2) ≠ x2_49 then ((m_X6_stand a0 x2_49 (w32 ((y77 a0 2) - x2_49)) y77).bind fun h98 =>
  some ((0, 0), h98))
  else (bW (m_X6_broken a0 y77) fun v86 h86 =>
  gd (0 < v86) (some ((1, v86), h86)))))
  else (pt h a0 2 (w32 ((h a0 2) + 1)) fun h35 =>
  bT (m_X6_entity a0 h35) (fun _ h39 =>
  some ((0, 0), h39)) (fun a_ h_ => some ((1, a_), h_))))
  else (bT (m_X6_tag a0 h) (fun _ h16 =>
  some ((0, 0), h16)) (fun a_ h_ => some ((1, a_), h_)))
theorem s_X6_piece {l : Launch} [NoTr l] {D : SD} {a0 : Int} {h : Hp} (hk : h a0 (-2) = 96) {r : (Int × Int) × Hp} (hm : m_X6_piece a0 h = some r) : Sim l D yX6_piece (Cond.code yX6_piece cX6_piece 3 (Option.none : Option Jvm.ClassFile.FieldType)) 14 529 [rv D a0] h 0 r := by
  refine Sim.of (fin := fun (v : (Int × Int) × Hp) => v) (lsE := [(0, rv D a0)]) hm rfl cwS_code (la_r la_n) (ll_r ll_n) ?_
  intro p e s m below meth c X hcw hmm hcc hnm hname
  have hno := noh hcw hnm hmm hcc
  unfold m_X6_piece
  refine g_aload_n (pc := 0) X (j := 0) (i := 0) (q := 0) (x := a0) rfl rfl (dl_at t_X6_piece 0 rfl) ?_
  refine g_aload_n (pc := 1) X (j := 0) (i := 0) (q := 0) (x := a0) rfl rfl (dl_at t_X6_piece 1 rfl) ?_
  refine r_geti (pc := 2) X fX6_2 hk q651 (dl_at t_X6_piece 2 rfl) fun g2 => ?_
  refine r_callRi (pc := 5) X (fun _ hv => s_X6_byteAt hk g2 hv) cw_code q2150 q360 (in_Vk X (As := [iv (h a0 2)]) kX6 hk (Or.inl q2147) q2149 qs55 cw_code q2150 ⟨by decide, by decide⟩ rfl (dl_at t_X6_piece 3 rfl)) (dl_at t_X6_piece 3 rfl) (cat24 (st := []) (Nat.le_of_ble_eq_true rfl)) (Nat.le_of_ble_eq_true rfl) (Nat.le_of_ble_eq_true rfl) fun v5 g5 => ?_
  refine g_istore_nN (pc := 8) X (j := 1) (i := 1) (x := v5) (b := 0) (w := rv D a0) (rest := []) rfl (Nat.le_of_ble_eq_true rfl) [0] rfl (by decide) rv_cat rfl (dl_at t_X6_piece 4 rfl) ?_
  refine g_iload_n (pc := 9) X (j := 1) (i := 1) (q := 0) (x := v5) rfl rfl (dl_at t_X6_piece 5 rfl) ?_
  refine g_bipush (pc := 10) X (n := 60) rfl (dl_at t_X6_piece 6 rfl) ?_
  refine g_icmpne (pc := 12) X g5 (r32_c rfl) (off := 10) (tgt := 22) rfl (dl_at t_X6_piece 7 rfl) (fun _ => ?_) (fun _ => ?_)
  · refine g_iload_n (pc := 22) X (j := 1) (i := 1) (q := 0) (x := v5) rfl rfl (dl_at t_X6_piece 11 rfl) ?_
    refine g_bipush (pc := 23) X (n := 38) rfl (dl_at t_X6_piece 12 rfl) ?_
    refine g_icmpne (pc := 25) X g5 (r32_c rfl) (off := 20) (tgt := 45) rfl (dl_at t_X6_piece 13 rfl) (fun _ => ?_) (fun _ => ?_)
    · refine g_aload_n (pc := 45) X (j := 0) (i := 0) (q := 1) (x := a0) rfl rfl (dl_at t_X6_piece 23 rfl) ?_
      refine r_geti (pc := 46) X fX6_2 hk q651 (dl_at t_X6_piece 24 rfl) fun g46 => ?_
      refine g_lti g46 fun x2_49 r2_49 => ?_
      refine g_istore_n (pc := 49) X (j := 2) (i := 2) (x := x2_49) (rest := [(0, rv D a0)]) rfl (Nat.le_of_ble_eq_true rfl) [1] rfl rfl (dl_at t_X6_piece 25 rfl) ?_
      refine g_ls (ls2 := [(0, rv D a0), (2, iv x2_49)]) [1, 0] rfl ?_
      refine g_loop1 (fun (q : Hp) => [(0, rv D a0), (2, iv x2_49)]) (fun (q : Hp) => q) (fun (q : Hp) => Ext h q) 77 (fun (y77 : Hp) => [(0, rv D a0), (2, iv x2_49)]) (fun (y77 : Hp) => y77) (fun (y77 : Hp) => Ext h y77) h (Ext.refl _) ?_ ?_
      · rintro h_50 E_50
        try dsimp only
        unfold m_X6_piece_l50
        refine g_aload_n (pc := 50) X (j := 0) (i := 0) (q := 0) (x := a0) rfl rfl (dl_at t_X6_piece 26 rfl) ?_
        refine g_aload_n (pc := 51) X (j := 0) (i := 0) (q := 0) (x := a0) rfl rfl (dl_at t_X6_piece 27 rfl) ?_
        have k52 := kx E_50 (by decide) hk
        refine r_geti (pc := 52) X fX6_2 k52 q651 (dl_at t_X6_piece 28 rfl) fun g52 => ?_
        refine r_callRi (pc := 55) X (fun _ hv => s_X6_byteAt k52 g52 hv) cw_code q2150 q360 (in_Vk X (As := [iv (h_50 a0 2)]) kX6 k52 (Or.inl q2147) q2149 qs55 cw_code q2150 ⟨by decide, by decide⟩ rfl (dl_at t_X6_piece 29 rfl)) (dl_at t_X6_piece 29 rfl) (cat24 (st := []) (Nat.le_of_ble_eq_true rfl)) (Nat.le_of_ble_eq_true rfl) (Nat.le_of_ble_eq_true rfl) fun v55 g55 => ?_
        refine r_callRz (pc := 58) X (fun _ hv => s_X6_isPlace g55 hv) cw_code q2233 q360 (in_Sc X (As := [iv v55]) (Or.inl q2231) q2232 q360 q2233 ⟨by decide, by decide⟩ rfl (dl_at t_X6_piece 30 rfl)) (dl_at t_X6_piece 30 rfl) (cat24 (st := []) (Nat.le_of_ble_eq_true rfl)) (Nat.le_of_ble_eq_true rfl) (Nat.le_of_ble_eq_true rfl) fun v58 g58 => ?_
        refine g_ifeq (pc := 61) X (r32_z g58) (off := 16) (tgt := 77) rfl (dl_at t_X6_piece 31 rfl) (fun _ => ?_) (fun _ => ?_)
        · exact g_at fun Q hQ => hQ E_50
        refine g_aload_n (pc := 64) X (j := 0) (i := 0) (q := 0) (x := a0) rfl rfl (dl_at t_X6_piece 32 rfl) ?_
        refine g_dup (pc := 65) X rv_cat (dl_at t_X6_piece 33 rfl) ?_
        refine r_geti (pc := 66) X fX6_2 k52 q651 (dl_at t_X6_piece 34 rfl) fun g66 => ?_
        refine g_iconst (pc := 69) X (n := 1) (dl_at t_X6_piece 35 rfl) ?_
        refine g_iadd (pc := 70) X g66 (r32_c rfl) (dl_at t_X6_piece 36 rfl) ?_
        refine r_puti (pc := 71) X fX6_2 k52 q651 rfl (dl_at t_X6_piece 37 rfl) (r32_w _) (fun h71 E71 => ?_)
        refine g_goto (pc := 74) X (off := (-24)) (tgt := 50) rfl (dl_at t_X6_piece 38 rfl) ?_
        exact g_at fun Q hQ => hQ (E_50.trans E71)
      · rintro h_77 E_77
        try dsimp only [sE]
        refine g_aload_n (pc := 77) X (j := 0) (i := 0) (q := 0) (x := a0) rfl rfl (dl_at t_X6_piece 39 rfl) ?_
        have k78 := kx E_77 (by decide) hk
        refine r_geti (pc := 78) X fX6_2 k78 q651 (dl_at t_X6_piece 40 rfl) fun g78 => ?_
        refine g_iload_n (pc := 81) X (j := 2) (i := 2) (q := 1) (x := x2_49) rfl rfl (dl_at t_X6_piece 41 rfl) ?_
        refine g_icmpne (pc := 82) X g78 r2_49 (off := 8) (tgt := 90) rfl (dl_at t_X6_piece 42 rfl) (fun _ => ?_) (fun _ => ?_)
        · refine g_aload_n (pc := 90) X (j := 0) (i := 0) (q := 0) (x := a0) rfl rfl (dl_at t_X6_piece 46 rfl) ?_
          refine g_iload_n (pc := 91) X (j := 2) (i := 2) (q := 1) (x := x2_49) rfl rfl (dl_at t_X6_piece 47 rfl) ?_
          refine g_aload_n (pc := 92) X (j := 0) (i := 0) (q := 0) (x := a0) rfl rfl (dl_at t_X6_piece 48 rfl) ?_
          refine r_geti (pc := 93) X fX6_2 k78 q651 (dl_at t_X6_piece 49 rfl) fun g93 => ?_
          refine g_iload_n (pc := 96) X (j := 2) (i := 2) (q := 1) (x := x2_49) rfl rfl (dl_at t_X6_piece 50 rfl) ?_
          refine g_isub (pc := 97) X g93 r2_49 (dl_at t_X6_piece 51 rfl) ?_
          refine r_callV (pc := 98) X (fun _ hv => s_X6_stand k78 r2_49 (r32_w _) hv) cw_code q2230 q360 (in_Vk X (As := [iv x2_49, iv (w32 ((h_77 a0 2) - x2_49))]) kX6 k78 (Or.inl q2227) q2229 qs72 cw_code q2230 ⟨by decide, by decide⟩ rfl (dl_at t_X6_piece 52 rfl)) (dl_at t_X6_piece 52 rfl) (cat24 (st := []) (Nat.le_of_ble_eq_true rfl)) (Nat.le_of_ble_eq_true rfl) (Nat.le_of_ble_eq_true rfl) fun h98 E98 => ?_
          exact g_vret (pc := 101) X (v := 0) rfl rfl (dl_at t_X6_piece 53 rfl)
        refine g_aload_n (pc := 85) X (j := 0) (i := 0) (q := 0) (x := a0) rfl rfl (dl_at t_X6_piece 43 rfl) ?_
        refine r_callWr (pc := 86) X (fun _ hv => s_X6_broken k78 hv) cw_code q2162 q360 (in_Vk X (As := []) kX6 k78 (Or.inl q2159) q2161 qs58 cw_code q2162 ⟨by decide, by decide⟩ rfl (dl_at t_X6_piece 44 rfl)) (dl_at t_X6_piece 44 rfl) (cat24 (st := []) (Nat.le_of_ble_eq_true rfl)) (Nat.le_of_ble_eq_true rfl) (Nat.le_of_ble_eq_true rfl) fun v86 h86 E86 => ?_
        refine g_gd fun p89 => ?_
        refine g_athrow (pc := 89) X (Int.ne_of_gt p89) (dl_at t_X6_piece 45 rfl) ?_
        exact gt_at fun Q hQ => gt_out (Q := Q) X rfl p89 (hno _) _ Q rfl hQ
    refine g_aload_n (pc := 28) X (j := 0) (i := 0) (q := 1) (x := a0) rfl rfl (dl_at t_X6_piece 14 rfl) ?_
    refine g_dup (pc := 29) X rv_cat (dl_at t_X6_piece 15 rfl) ?_
    refine r_geti (pc := 30) X fX6_2 hk q651 (dl_at t_X6_piece 16 rfl) fun g30 => ?_
    refine g_iconst (pc := 33) X (n := 1) (dl_at t_X6_piece 17 rfl) ?_
    refine g_iadd (pc := 34) X g30 (r32_c rfl) (dl_at t_X6_piece 18 rfl) ?_
    refine r_puti (pc := 35) X fX6_2 hk q651 rfl (dl_at t_X6_piece 19 rfl) (r32_w _) (fun h35 E35 => ?_)
    refine g_aload_n (pc := 38) X (j := 0) (i := 0) (q := 1) (x := a0) rfl rfl (dl_at t_X6_piece 20 rfl) ?_
    have k39 := kx E35 (by decide) hk
    refine r_callTv (pc := 39) X (fun _ hv => s_X6_entity k39 hv) cw_code q2226 q360 (in_Vk X (As := []) kX6 k39 (Or.inl q2223) q2225 qs71 cw_code q2226 ⟨by decide, by decide⟩ rfl (dl_at t_X6_piece 21 rfl)) (dl_at t_X6_piece 21 rfl) (cat24 (st := []) (Nat.le_of_ble_eq_true rfl)) (Nat.le_of_ble_eq_true rfl) (Nat.le_of_ble_eq_true rfl) (fun v39 h39 E39 => ?_) (fun _ _ ha _ => gt_at fun Q hQ => gt_out (Q := Q) X rfl ha (hno _) _ Q rfl hQ)
    refine g_goto (pc := 42) X (off := 59) (tgt := 101) rfl (dl_at t_X6_piece 22 rfl) ?_
    exact g_vret (pc := 101) X (v := 0) rfl rfl (dl_at t_X6_piece 53 rfl)
  refine g_aload_n (pc := 15) X (j := 0) (i := 0) (q := 1) (x := a0) rfl rfl (dl_at t_X6_piece 8 rfl) ?_
  refine r_callTv (pc := 16) X (fun _ hv => s_X6_tag hk hv) cw_code q2154 q360 (in_Vk X (As := []) kX6 hk (Or.inl q2151) q2153 qs56 cw_code q2154 ⟨by decide, by decide⟩ rfl (dl_at t_X6_piece 9 rfl)) (dl_at t_X6_piece 9 rfl) (cat24 (st := []) (Nat.le_of_ble_eq_true rfl)) (Nat.le_of_ble_eq_true rfl) (Nat.le_of_ble_eq_true rfl) (fun v16 h16 E16 => ?_) (fun _ _ ha _ => gt_at fun Q hQ => gt_out (Q := Q) X rfl ha (hno _) _ Q rfl hQ)
  refine g_goto (pc := 19) X (off := 82) (tgt := 101) rfl (dl_at t_X6_piece 10 rfl) ?_
  exact g_vret (pc := 101) X (v := 0) rfl rfl (dl_at t_X6_piece 53 rfl)
def k_X6_read : List (Nat × Instr × Nat) := [(0, .aload_n 0, 1), (1, .iload_n 1, 1), (2, .putfield 86, 3), (5, .aload_n 0, 1), (6, .iconst 0, 1), (7, .putfield 90, 3), (10, .aload_n 0, 1), (11, .getfield 20, 3), (14, .invokevirtual 93, 3), (17, .aload_n 0, 1), (18, .getfield 74, 3), (21, .invokevirtual 93, 3), (24, .aload_n 0, 1), (25, .iconst 0, 1), (26, .putfield 96, 3), (29, .aload_n 0, 1), (30, .iconst 0, 1), (31, .putfield 99, 3), (34, .aload_n 0, 1), (35, .iconst 0, 1), (36, .putfield 102, 3), (39, .aload_n 0, 1), (40, .iconst (-1), 1), (41, .putfield 105, 3), (44, .aload_n 0, 1), (45, .iconst 0, 1), (46, .putfield 108, 3), (49, .aload_n 0, 1), (50, .iconst 0, 1), (51, .putfield 111, 3), (54, .aload_n 0, 1), (55, .getfield 90, 3), (58, .aload_n 0, 1), (59, .getfield 86, 3), (62, .if_icmp .ge 10, 3), (65, .aload_n 0, 1), (66, .invokevirtual 114, 3), (69, .goto (-15), 3), (72, .aload_n 0, 1), (73, .getfield 111, 3), (76, .ifCond .le 15, 3), (79, .new 117, 3), (82, .dup, 1), (83, .aload_n 0, 1), (84, .getfield 86, 3), (87, .invokespecial 119, 3), (90, .athrow, 1), (91, .aload_n 0, 1), (92, .getfield 53, 3), (95, .aload_n 0, 1), (96, .getfield 96, 3), (99, .aload_n 0, 1), (100, .getfield 99, 3), (103, .iastore, 1), (104, .return_, 1)]
theorem t_X6_read : ∀ q ∈ k_X6_read, decode cX6_read q.1 = .ok q.2 := dl_all (by decide +kernel)
noncomputable def m_X6_read_l54 (a0 : Int) (h_54 : Hp) : Option ((Hp) ⊕ ((Hp) ⊕ (((Int × Int) × Hp)))) :=
  if (h_54 a0 1) ≤ (h_54 a0 2) then (some (.inr (.inl h_54)))
  else (bT (m_X6_piece a0 h_54) (fun _ h66 =>
  some (.inl h66)) (fun a_ h_ => some (.inr (.inr ((1, a_), h_)))))
noncomputable def m_X6_read (a0 a1 : Int) (h : Hp) : Option ((Int × Int) × Hp) :=
  pt h a0 1 a1 fun h2 =>
  pt h2 a0 2 0 fun h7 =>
  gd (h7 (h7 a0 3) (-2) = 64) ((m_X4_clear (h7 a0 3) h7).bind fun h14 =>
  gd (h14 (h14 a0 25) (-2) = 64) ((m_X4_clear (h14 a0 25) h14).bind fun h21 =>
  pt h21 a0 4 0 fun h26 =>
  pt h26 a0 18 0 fun h31 =>
  pt h31 a0 19 0 fun h36 =>
  pt h36 a0 20 (-1) fun h41 =>
  pt h41 a0 24 0 fun h46 =>
  pt h46 a0 29 0 fun h51 =>
  (lp (fun (q : Hp) => m_X6_read_l54 a0 q) h51).bind (sE (fun (y72 : Hp) => if (y72 a0 29) ≤ 0 then (gd (y72 (y72 a0 14) (-2) % 16 = 1 ∧ (0 : Int) ≤ (y72 a0 4) ∧ (y72 a0 4) < y72 (y72 a0 14) (-1)) (pt y72 (y72 a0 14) (y72 a0 4) (y72 a0 18) fun h103 =>
  some ((0, 0), h103)))
  else (al y72 432 7 fun a79 h79 =>
  (x_broken a79 (h79 a0 1) h79).bind fun h87 =>
  some ((1, a79), h87))) (fun (x : (Int × Int) × Hp) => some x))))
theorem s_X6_read {l : Launch} [NoTr l] {D : SD} {a0 a1 : Int} {h : Hp} (hk : h a0 (-2) = 96) (r1 : r32 a1) {r : (Int × Int) × Hp} (hm : m_X6_read a0 a1 h = some r) : Sim l D yX6_read (Cond.code yX6_read cX6_read 2 (Option.none : Option Jvm.ClassFile.FieldType)) 15 567 [rv D a0, iv a1] h 0 r := by
  refine Sim.of (fin := fun (v : (Int × Int) × Hp) => v) (lsE := [(0, rv D a0), (1, iv a1)]) hm rfl cwS_code (la_r (la_i la_n)) (ll_r (ll_i ll_n)) ?_
  intro p e s m below meth c X hcw hmm hcc hnm hname
  have hno := noh hcw hnm hmm hcc
  unfold m_X6_read
  refine g_aload_n (pc := 0) X (j := 0) (i := 0) (q := 0) (x := a0) rfl rfl (dl_at t_X6_read 0 rfl) ?_
  refine g_iload_n (pc := 1) X (j := 1) (i := 1) (q := 1) (x := a1) rfl rfl (dl_at t_X6_read 1 rfl) ?_
  refine r_puti (pc := 2) X fX6_1 hk q649 rfl (dl_at t_X6_read 2 rfl) r1 (fun h2 E2 => ?_)
  refine g_aload_n (pc := 5) X (j := 0) (i := 0) (q := 0) (x := a0) rfl rfl (dl_at t_X6_read 3 rfl) ?_
  refine g_iconst (pc := 6) X (n := 0) (dl_at t_X6_read 4 rfl) ?_
  have k7 := kx E2 (by decide) hk
  refine r_puti (pc := 7) X fX6_2 k7 q651 rfl (dl_at t_X6_read 5 rfl) (r32_c rfl) (fun h7 E7 => ?_)
  refine g_aload_n (pc := 10) X (j := 0) (i := 0) (q := 0) (x := a0) rfl rfl (dl_at t_X6_read 6 rfl) ?_
  have k11 := kx E7 (by decide) k7
  refine r_getr (pc := 11) X fX6_3 k11 q652 (dl_at t_X6_read 7 rfl) ?_
  refine g_gd fun k14 => ?_
  refine r_callV (pc := 14) X (fun _ hv => s_X4_clear k14 hv) cw_code q466 q358 (in_Vk X (As := []) kX4 k14 (Or.inr ⟨_, nw_in q2142 rfl⟩) q465 qs0 cw_code q466 ⟨by decide, by decide⟩ rfl (dl_at t_X6_read 8 rfl)) (dl_at t_X6_read 8 rfl) (cat24 (st := []) (Nat.le_of_ble_eq_true rfl)) (Nat.le_of_ble_eq_true rfl) (Nat.le_of_ble_eq_true rfl) fun h14 E14 => ?_
  refine g_aload_n (pc := 17) X (j := 0) (i := 0) (q := 0) (x := a0) rfl rfl (dl_at t_X6_read 9 rfl) ?_
  have k18 := kx E14 (by decide) k11
  refine r_getr (pc := 18) X fX6_25 k18 q702 (dl_at t_X6_read 10 rfl) ?_
  refine g_gd fun k21 => ?_
  refine r_callV (pc := 21) X (fun _ hv => s_X4_clear k21 hv) cw_code q466 q358 (in_Vk X (As := []) kX4 k21 (Or.inr ⟨_, nw_in q2142 rfl⟩) q465 qs0 cw_code q466 ⟨by decide, by decide⟩ rfl (dl_at t_X6_read 11 rfl)) (dl_at t_X6_read 11 rfl) (cat24 (st := []) (Nat.le_of_ble_eq_true rfl)) (Nat.le_of_ble_eq_true rfl) (Nat.le_of_ble_eq_true rfl) fun h21 E21 => ?_
  refine g_aload_n (pc := 24) X (j := 0) (i := 0) (q := 0) (x := a0) rfl rfl (dl_at t_X6_read 12 rfl) ?_
  refine g_iconst (pc := 25) X (n := 0) (dl_at t_X6_read 13 rfl) ?_
  have k26 := kx E21 (by decide) k18
  refine r_puti (pc := 26) X fX6_4 k26 q655 rfl (dl_at t_X6_read 14 rfl) (r32_c rfl) (fun h26 E26 => ?_)
  refine g_aload_n (pc := 29) X (j := 0) (i := 0) (q := 0) (x := a0) rfl rfl (dl_at t_X6_read 15 rfl) ?_
  refine g_iconst (pc := 30) X (n := 0) (dl_at t_X6_read 16 rfl) ?_
  have k31 := kx E26 (by decide) k26
  refine r_puti (pc := 31) X fX6_18 k31 q685 rfl (dl_at t_X6_read 17 rfl) (r32_c rfl) (fun h31 E31 => ?_)
  refine g_aload_n (pc := 34) X (j := 0) (i := 0) (q := 0) (x := a0) rfl rfl (dl_at t_X6_read 18 rfl) ?_
  refine g_iconst (pc := 35) X (n := 0) (dl_at t_X6_read 19 rfl) ?_
  have k36 := kx E31 (by decide) k31
  refine r_puti (pc := 36) X fX6_19 k36 q687 rfl (dl_at t_X6_read 20 rfl) (r32_c rfl) (fun h36 E36 => ?_)
  refine g_aload_n (pc := 39) X (j := 0) (i := 0) (q := 0) (x := a0) rfl rfl (dl_at t_X6_read 21 rfl) ?_
  refine g_iconst (pc := 40) X (n := (-1)) (dl_at t_X6_read 22 rfl) ?_
  have k41 := kx E36 (by decide) k36
  refine r_puti (pc := 41) X fX6_20 k41 q689 rfl (dl_at t_X6_read 23 rfl) (r32_c rfl) (fun h41 E41 => ?_)
  refine g_aload_n (pc := 44) X (j := 0) (i := 0) (q := 0) (x := a0) rfl rfl (dl_at t_X6_read 24 rfl) ?_
  refine g_iconst (pc := 45) X (n := 0) (dl_at t_X6_read 25 rfl) ?_
  have k46 := kx E41 (by decide) k41
  refine r_puti (pc := 46) X fX6_24 k46 q699 rfl (dl_at t_X6_read 26 rfl) (r32_c rfl) (fun h46 E46 => ?_)
  refine g_aload_n (pc := 49) X (j := 0) (i := 0) (q := 0) (x := a0) rfl rfl (dl_at t_X6_read 27 rfl) ?_
  refine g_iconst (pc := 50) X (n := 0) (dl_at t_X6_read 28 rfl) ?_
  have k51 := kx E46 (by decide) k46
  refine r_puti (pc := 51) X fX6_29 k51 q707 rfl (dl_at t_X6_read 29 rfl) (r32_c rfl) (fun h51 E51 => ?_)
  refine g_ls (ls2 := [(0, rv D a0)]) [0] rfl ?_
  refine g_loop1F (fun (q : Hp) => [(0, rv D a0)]) (fun (q : Hp) => q) (fun (q : Hp) => Ext h51 q) 72 (fun (y72 : Hp) => [(0, rv D a0)]) (fun (y72 : Hp) => y72) (fun (y72 : Hp) => Ext h51 y72) h51 (Ext.refl _) ?_ ?_ (fun _ => rfl)
  · rintro h_54 E_54
    try dsimp only
    unfold m_X6_read_l54
    refine g_aload_n (pc := 54) X (j := 0) (i := 0) (q := 0) (x := a0) rfl rfl (dl_at t_X6_read 30 rfl) ?_
    have k55 := kx (E51.trans E_54) (by decide) k51
    refine r_geti (pc := 55) X fX6_2 k55 q651 (dl_at t_X6_read 31 rfl) fun g55 => ?_
    refine g_aload_n (pc := 58) X (j := 0) (i := 0) (q := 0) (x := a0) rfl rfl (dl_at t_X6_read 32 rfl) ?_
    refine r_geti (pc := 59) X fX6_1 k55 q649 (dl_at t_X6_read 33 rfl) fun g59 => ?_
    refine g_icmpge (pc := 62) X g55 g59 (off := 10) (tgt := 72) rfl (dl_at t_X6_read 34 rfl) (fun _ => ?_) (fun _ => ?_)
    · exact g_at fun Q hQ => hQ E_54
    refine g_aload_n (pc := 65) X (j := 0) (i := 0) (q := 0) (x := a0) rfl rfl (dl_at t_X6_read 35 rfl) ?_
    refine r_callTv (pc := 66) X (fun _ hv => s_X6_piece k55 hv) cw_code q2146 q360 (in_Vk X (As := []) kX6 k55 (Or.inl q2143) q2145 qs54 cw_code q2146 ⟨by decide, by decide⟩ rfl (dl_at t_X6_read 36 rfl)) (dl_at t_X6_read 36 rfl) (cat24 (st := []) (Nat.le_of_ble_eq_true rfl)) (Nat.le_of_ble_eq_true rfl) (Nat.le_of_ble_eq_true rfl) (fun v66 h66 E66 => ?_) (fun _ _ ha _ => gt_at fun Q hQ => gt_out (Q := Q) X rfl ha (hno _) _ Q rfl hQ)
    refine g_goto (pc := 69) X (off := (-15)) (tgt := 54) rfl (dl_at t_X6_read 37 rfl) ?_
    exact g_at fun Q hQ => hQ (E_54.trans E66)
  · rintro h_72 E_72
    try dsimp only [sE]
    refine g_aload_n (pc := 72) X (j := 0) (i := 0) (q := 0) (x := a0) rfl rfl (dl_at t_X6_read 38 rfl) ?_
    have k73 := kx (E51.trans E_72) (by decide) k51
    refine r_geti (pc := 73) X fX6_29 k73 q707 (dl_at t_X6_read 39 rfl) fun g73 => ?_
    refine g_ifle (pc := 76) X g73 (off := 15) (tgt := 91) rfl (dl_at t_X6_read 40 rfl) (fun _ => ?_) (fun _ => ?_)
    · refine g_aload_n (pc := 91) X (j := 0) (i := 0) (q := 0) (x := a0) rfl rfl (dl_at t_X6_read 47 rfl) ?_
      refine r_getr (pc := 92) X fX6_14 k73 q676 (dl_at t_X6_read 48 rfl) ?_
      refine g_aload_n (pc := 95) X (j := 0) (i := 0) (q := 0) (x := a0) rfl rfl (dl_at t_X6_read 49 rfl) ?_
      refine r_geti (pc := 96) X fX6_4 k73 q655 (dl_at t_X6_read 50 rfl) fun g96 => ?_
      refine g_aload_n (pc := 99) X (j := 0) (i := 0) (q := 0) (x := a0) rfl rfl (dl_at t_X6_read 51 rfl) ?_
      refine r_geti (pc := 100) X fX6_18 k73 q685 (dl_at t_X6_read 52 rfl) fun g100 => ?_
      refine g_gd fun k103 => ?_
      refine r_iast (pc := 103) X g96 g100 k103 (dl_at t_X6_read 53 rfl) (fun h103 E103 => ?_)
      exact g_vret (pc := 104) X (v := 0) rfl rfl (dl_at t_X6_read 54 rfl)
    refine r_new (pc := 79) X kX26 q2163 (dl_at t_X6_read 41 rfl) fun a79 h79 p79 k79 E79 => ?_
    refine g_dup (pc := 82) X rv_cat (dl_at t_X6_read 42 rfl) ?_
    refine g_aload_n (pc := 83) X (j := 0) (i := 0) (q := 0) (x := a0) rfl rfl (dl_at t_X6_read 43 rfl) ?_
    have k84 := kx E79 (by decide) k73
    refine r_geti (pc := 84) X fX6_1 k84 q649 (dl_at t_X6_read 44 rfl) fun g84 => ?_
    refine r_callV (pc := 87) X (fun _ hv => sx_ScholarsPress_Broken_init_I_V k79 g84 hv) cw_code q1839 q391 (in_I X (As := [iv (h79 a0 1)]) (Int.ne_of_gt p79) rfl (Or.inr ⟨_, nw_in q2164 rfl⟩) q1838 q1839 ⟨by decide, by decide⟩ rfl (dl_at t_X6_read 45 rfl)) (dl_at t_X6_read 45 rfl) (cat24 (st := [rv D a79]) (Nat.le_of_ble_eq_true rfl)) (Nat.le_of_ble_eq_true rfl) (Nat.le_of_ble_eq_true rfl) fun h87 E87 => ?_
    refine g_athrow (pc := 90) X (Int.ne_of_gt p79) (dl_at t_X6_read 46 rfl) ?_
    exact gt_at fun Q hQ => gt_out (Q := Q) X rfl p79 (hno _) _ Q rfl hQ
def k_X1_load : List (Nat × Instr × Nat) := [(0, .aload_n 1, 1), (1, .iload_n 2, 1), (2, .invokevirtual 187, 3), (5, .goto 10, 3), (8, .astore_n 3, 1), (9, .aload_n 0, 1), (10, .aload_n 3, 1), (11, .invokevirtual 154, 3), (14, .athrow, 1), (15, .aload_n 0, 1), (16, .aload_n 1, 1), (17, .putfield 182, 3), (20, .aload_n 0, 1), (21, .iconst 0, 1), (22, .putfield 175, 3), (25, .aload_n 0, 1), (26, .getfield 182, 3), (29, .getfield 189, 3), (32, .ireturn, 1)]
theorem t_X1_load : ∀ q ∈ k_X1_load, decode cX1_load q.1 = .ok q.2 := dl_all (by decide +kernel)
noncomputable def m_X1_load (a0 a1 a2 : Int) (h : Hp) : Option ((Int × Int) × Hp) :=
  gd (h a1 (-2) = 96) (bT (m_X6_read a1 a2 h) (fun _ h2_1 =>
  pt h2_1 a0 11 a1 fun h17 =>
  pt h17 a0 13 0 fun h22 =>
  gd (h22 (h22 a0 11) (-2) = 96) (some ((0, (h22 (h22 a0 11) 4)), h22))) (fun a2_1 h2 => if h2 a2_1 (-2) = 432 then (bW (m_X1_broken a0 a2_1 h2) fun v11 h11 =>
  gd (0 < v11) (some ((1, v11), h11)))
  else (none)))
theorem s_X1_load {l : Launch} [NoTr l] {D : SD} {a0 a1 a2 : Int} {h : Hp} (hk : h a0 (-2) = 16) (r2 : r32 a2) {r : (Int × Int) × Hp} (hm : m_X1_load a0 a1 a2 h = some r) : Sim l D yX1_load (Cond.codeWith yX1_load cX1_load 4 (Option.some Jvm.ClassFile.FieldType.int) [((0 : Nat), (5 : Nat), (8 : Nat), (138 : Nat))]) 16 604 [rv D a0, rv D a1, iv a2] h 1 r := by
  refine Sim.of (fin := fun (v : (Int × Int) × Hp) => v) (lsE := [(0, rv D a0), (1, rv D a1), (2, iv a2)]) hm rfl cwS_with (la_r (la_r (la_i la_n))) (ll_r (ll_r (ll_i ll_n))) ?_
  intro p e s m below meth c X hcw hmm hcc hnm hname
  have htb := tabW hcw hnm hmm hcc
  unfold m_X1_load
  refine g_aload_n (pc := 0) X (j := 1) (i := 1) (q := 1) (x := a1) rfl rfl (dl_at t_X1_load 0 rfl) ?_
  refine g_iload_n (pc := 1) X (j := 2) (i := 2) (q := 2) (x := a2) rfl rfl (dl_at t_X1_load 1 rfl) ?_
  refine g_gd fun k2 => ?_
  refine r_callTv (pc := 2) X (fun _ hv => s_X6_read k2 r2 hv) cw_code q2141 q360 (in_Vk X (As := [iv a2]) kX6 k2 (Or.inr ⟨_, nw_in q2138 rfl⟩) q2140 qs53 cw_code q2141 ⟨by decide, by decide⟩ rfl (dl_at t_X1_load 2 rfl)) (dl_at t_X1_load 2 rfl) (cat24 (st := []) (Nat.le_of_ble_eq_true rfl)) (Nat.le_of_ble_eq_true rfl) (Nat.le_of_ble_eq_true rfl) (fun v2 h2_1 E2_1 => ?_) (fun a2_1 h2 p2 E2 => ?_)
  · refine g_goto (pc := 5) X (off := 10) (tgt := 15) rfl (dl_at t_X1_load 3 rfl) ?_
    refine g_aload_n (pc := 15) X (j := 0) (i := 0) (q := 0) (x := a0) rfl rfl (dl_at t_X1_load 9 rfl) ?_
    refine g_aload_n (pc := 16) X (j := 1) (i := 1) (q := 1) (x := a1) rfl rfl (dl_at t_X1_load 10 rfl) ?_
    have k17 := kx E2_1 (by decide) hk
    refine r_putr (pc := 17) X fX1_11 k17 q1499 rfl (dl_at t_X1_load 11 rfl)  (fun h17 E17 => ?_)
    refine g_aload_n (pc := 20) X (j := 0) (i := 0) (q := 0) (x := a0) rfl rfl (dl_at t_X1_load 12 rfl) ?_
    refine g_iconst (pc := 21) X (n := 0) (dl_at t_X1_load 13 rfl) ?_
    have k22 := kx E17 (by decide) k17
    refine r_putz (pc := 22) X fX1_13 k22 q1501 rfl (dl_at t_X1_load 14 rfl) (Or.inl rfl) (fun h22 E22 => ?_)
    refine g_aload_n (pc := 25) X (j := 0) (i := 0) (q := 0) (x := a0) rfl rfl (dl_at t_X1_load 15 rfl) ?_
    have k26 := kx E22 (by decide) k22
    refine r_getr (pc := 26) X fX1_11 k26 q1499 (dl_at t_X1_load 16 rfl) ?_
    refine g_gd fun k29 => ?_
    refine r_getiN (pc := 29) X fX6_4 k29 (nw_in q656 rfl) (dl_at t_X1_load 17 rfl) fun g29 => ?_
    exact g_iret (pc := 32) X g29 rfl rfl (dl_at t_X1_load 18 rfl)
  refine gt_case (fun k2_1 => ?_) (fun _ => ?_)
  · refine gt_catch (pc := 2) X kX26 k2_1 [((0, 5, 8, 138), "ScholarsPress$Broken", true)] (hp := 8) rfl (by decide +kernel) (List.forall_mem_cons.mpr ⟨⟨q1713, by decide⟩, fun _ h => absurd h List.not_mem_nil⟩) htb ?_
    refine g_astore_n (pc := 8) X (j := 3) (i := 3) (x := a2_1) (rest := [(0, rv D a0)]) rfl (Nat.le_of_ble_eq_true rfl) [0] rfl rfl (dl_at t_X1_load 4 rfl) ?_
    refine g_aload_n (pc := 9) X (j := 0) (i := 0) (q := 1) (x := a0) rfl rfl (dl_at t_X1_load 5 rfl) ?_
    refine g_aload_n (pc := 10) X (j := 3) (i := 3) (q := 0) (x := a2_1) rfl rfl (dl_at t_X1_load 6 rfl) ?_
    have k11 := kx E2 (by decide) hk
    refine r_callWr (pc := 11) X (fun _ hv => s_X1_broken k11 hv) cw_code q1881 q355 (in_Vk X (As := [rv D a2_1]) kX1 k11 (Or.inl q1878) q1880 qs21 cw_code q1881 ⟨by decide, by decide⟩ rfl (dl_at t_X1_load 7 rfl)) (dl_at t_X1_load 7 rfl) (cat24 (st := []) (Nat.le_of_ble_eq_true rfl)) (Nat.le_of_ble_eq_true rfl) (Nat.le_of_ble_eq_true rfl) fun v11 h11 E11 => ?_
    refine g_gd fun p14 => ?_
    refine g_athrow (pc := 14) X (Int.ne_of_gt p14) (dl_at t_X1_load 8 rfl) ?_
    exact gt_at fun Q hQ => gt_out (Q := Q) X rfl p14 (noc (pc := 14) htb rfl) _ Q rfl hQ
  exact gt_none
def k_X1_source : List (Nat × Instr × Nat) := [(0, .aload_n 0, 1), (1, .invokevirtual 143, 3), (4, .istore_n 1, 1), (5, .aload_n 0, 1), (6, .invokevirtual 192, 3), (9, .astore_n 2, 1), (10, .aload_n 0, 1), (11, .getfield 22, 3), (14, .iconst 0, 1), (15, .aload_n 2, 1), (16, .getfield 196, 3), (19, .iconst 0, 1), (20, .iload_n 1, 1), (21, .invokestatic 199, 3), (24, .aload_n 0, 1), (25, .aload_n 2, 1), (26, .iload_n 1, 1), (27, .invokevirtual 205, 3), (30, .ireturn, 1)]
theorem t_X1_source : ∀ q ∈ k_X1_source, decode cX1_source q.1 = .ok q.2 := dl_all (by decide +kernel)
noncomputable def m_X1_source (a0 : Int) (h : Hp) : Option ((Int × Int) × Hp) :=
  bW (m_X1_take a0 h) fun v1 h1 =>
  (m_X1_freeSource a0 h1).bind fun v6 =>
  gd (h1 v6 (-2) = 96) ((x_acp (h1 a0 0) 0 (h1 v6 0) 0 v1 h1).bind fun h21 =>
  bT (m_X1_load a0 v6 v1 h21) (fun v27 h27 =>
  some ((0, v27), h27)) (fun a_ h_ => some ((1, a_), h_)))
theorem s_X1_source {l : Launch} [NoTr l] {D : SD} {a0 : Int} {h : Hp} (hk : h a0 (-2) = 16) {r : (Int × Int) × Hp} (hm : m_X1_source a0 h = some r) : Sim l D yX1_source (Cond.code yX1_source cX1_source 3 (Option.some Jvm.ClassFile.FieldType.int)) 17 643 [rv D a0] h 1 r := by
  refine Sim.of (fin := fun (v : (Int × Int) × Hp) => v) (lsE := [(0, rv D a0)]) hm rfl cwS_code (la_r la_n) (ll_r ll_n) ?_
  intro p e s m below meth c X hcw hmm hcc hnm hname
  have hno := noh hcw hnm hmm hcc
  unfold m_X1_source
  refine g_aload_n (pc := 0) X (j := 0) (i := 0) (q := 0) (x := a0) rfl rfl (dl_at t_X1_source 0 rfl) ?_
  refine r_callWi (pc := 1) X (fun _ hv => s_X1_take hk hv) cw_code q1717 q355 (in_Vk X (As := []) kX1 hk (Or.inl q1714) q1716 qs6 cw_code q1717 ⟨by decide, by decide⟩ rfl (dl_at t_X1_source 1 rfl)) (dl_at t_X1_source 1 rfl) (cat24 (st := []) (Nat.le_of_ble_eq_true rfl)) (Nat.le_of_ble_eq_true rfl) (Nat.le_of_ble_eq_true rfl) fun v1 h1 g1 E1 => ?_
  refine g_istore_nN (pc := 4) X (j := 1) (i := 1) (x := v1) (b := 0) (w := rv D a0) (rest := []) rfl (Nat.le_of_ble_eq_true rfl) [0] rfl (by decide) rv_cat rfl (dl_at t_X1_source 2 rfl) ?_
  refine g_aload_n (pc := 5) X (j := 0) (i := 0) (q := 1) (x := a0) rfl rfl (dl_at t_X1_source 3 rfl) ?_
  have k6 := kx E1 (by decide) hk
  refine r_callRr (pc := 6) X (fun _ hv => s_X1_freeSource k6 hv) cw_code q2130 q355 (in_Vk X (As := []) kX1 k6 (Or.inl q2127) q2129 qs51 cw_code q2130 ⟨by decide, by decide⟩ rfl (dl_at t_X1_source 4 rfl)) (dl_at t_X1_source 4 rfl) (cat24 (st := []) (Nat.le_of_ble_eq_true rfl)) (Nat.le_of_ble_eq_true rfl) (Nat.le_of_ble_eq_true rfl) fun v6 => ?_
  refine g_astore_nN (pc := 9) X (j := 2) (i := 2) (x := v6) (b := 1) (w := iv v1) (rest := [(0, rv D a0)]) rfl (Nat.le_of_ble_eq_true rfl) [0, 1] rfl (by decide) rfl rfl (dl_at t_X1_source 5 rfl) ?_
  refine g_aload_n (pc := 10) X (j := 0) (i := 0) (q := 2) (x := a0) rfl rfl (dl_at t_X1_source 6 rfl) ?_
  refine r_getr (pc := 11) X fX1_0 k6 q1488 (dl_at t_X1_source 7 rfl) ?_
  refine g_iconst (pc := 14) X (n := 0) (dl_at t_X1_source 8 rfl) ?_
  refine g_aload_n (pc := 15) X (j := 2) (i := 2) (q := 0) (x := v6) rfl rfl (dl_at t_X1_source 9 rfl) ?_
  refine g_gd fun k16 => ?_
  refine r_getrN (pc := 16) X fX6_0 k16 (nw_in q647 rfl) (dl_at t_X1_source 10 rfl) ?_
  refine g_iconst (pc := 19) X (n := 0) (dl_at t_X1_source 11 rfl) ?_
  refine g_iload_n (pc := 20) X (j := 1) (i := 1) (q := 1) (x := v1) rfl rfl (dl_at t_X1_source 12 rfl) ?_
  refine r_acp (pc := 21) X (r32_c rfl) (r32_c rfl) g1 q2131 q2133 q2132 q393 (cat24 (st := []) (Nat.le_of_ble_eq_true rfl)) (Nat.le_of_ble_eq_true rfl) (Nat.le_of_ble_eq_true rfl) (dl_at t_X1_source 13 rfl) fun h21 E21 => ?_
  refine g_aload_n (pc := 24) X (j := 0) (i := 0) (q := 2) (x := a0) rfl rfl (dl_at t_X1_source 14 rfl) ?_
  refine g_aload_n (pc := 25) X (j := 2) (i := 2) (q := 0) (x := v6) rfl rfl (dl_at t_X1_source 15 rfl) ?_
  refine g_iload_n (pc := 26) X (j := 1) (i := 1) (q := 1) (x := v1) rfl rfl (dl_at t_X1_source 16 rfl) ?_
  have k27 := kx E21 (by decide) k6
  refine r_callTi (pc := 27) X (fun _ hv => s_X1_load k27 g1 hv) cw_with q2137 q355 (in_Vk X (As := [rv D v6, iv v1]) kX1 k27 (Or.inl q2134) q2136 qs52 cw_with q2137 ⟨by decide, by decide⟩ rfl (dl_at t_X1_source 17 rfl)) (dl_at t_X1_source 17 rfl) (cat24 (st := []) (Nat.le_of_ble_eq_true rfl)) (Nat.le_of_ble_eq_true rfl) (Nat.le_of_ble_eq_true rfl) (fun v27 h27 g27 E27 => ?_) (fun _ _ ha _ => gt_at fun Q hQ => gt_out (Q := Q) X rfl ha (hno _) _ Q rfl hQ)
  exact g_iret (pc := 30) X g27 rfl rfl (dl_at t_X1_source 18 rfl)
def k_X0_source : List (Nat × Instr × Nat) := [(0, .aload_n 1, 1), (1, .iconst 0, 1), (2, .aload_n 0, 1), (3, .invokevirtual 33, 3), (6, .i2l, 1), (7, .lastore, 1), (8, .goto 6, 3), (11, .astore_n 2, 1), (12, .iconst 1, 1), (13, .ireturn, 1), (14, .iconst 0, 1), (15, .ireturn, 1)]
theorem t_X0_source : ∀ q ∈ k_X0_source, decode cX0_source q.1 = .ok q.2 := dl_all (by decide +kernel)
noncomputable def m_X0_source (a0 a1 : Int) (h : Hp) : Option (Int × Hp) :=
  gd (h a0 (-2) = 16) (bT (m_X1_source a0 h) (fun v3 h3_1 =>
  gd (h3_1 a1 (-2) % 16 = 4 ∧ (0 : Int) ≤ 0 ∧ 0 < h3_1 a1 (-1)) (pt h3_1 a1 0 v3 fun h7 =>
  some (0, h7))) (fun a3 h3 => if h3 a3 (-2) = 432 then (some (1, h3))
  else (if h3 a3 (-2) = 512 then (some (1, h3))
  else (none))))
theorem s_X0_source {l : Launch} [NoTr l] {D : SD} {a0 a1 : Int} {h : Hp}  {r : Int × Hp} (hm : m_X0_source a0 a1 h = some r) : Sim l D yX0_source (Cond.codeWith yX0_source cX0_source 3 (Option.some Jvm.ClassFile.FieldType.int) [((0 : Nat), (8 : Nat), (11 : Nat), (25 : Nat))]) 18 681 [rv D a0, rv D a1] h 1 ((0, r.1), r.2) := by
  refine Sim.of (fin := fun (v : Int × Hp) => ((0, v.1), v.2)) (lsE := [(0, rv D a0), (1, rv D a1)]) hm rfl cwS_with (la_r (la_r la_n)) (ll_r (ll_r ll_n)) ?_
  intro p e s m below meth c X hcw hmm hcc hnm hname
  have htb := tabW hcw hnm hmm hcc
  unfold m_X0_source
  refine g_aload_n (pc := 0) X (j := 1) (i := 1) (q := 1) (x := a1) rfl rfl (dl_at t_X0_source 0 rfl) ?_
  refine g_iconst (pc := 1) X (n := 0) (dl_at t_X0_source 1 rfl) ?_
  refine g_aload_n (pc := 2) X (j := 0) (i := 0) (q := 0) (x := a0) rfl rfl (dl_at t_X0_source 2 rfl) ?_
  refine g_gd fun k3 => ?_
  refine r_callTi (pc := 3) X (fun _ hv => s_X1_source k3 hv) cw_code q2126 q355 (in_Vk X (As := []) kX1 k3 (Or.inl q2123) q2124 q2125 cw_code q2126 ⟨by decide, by decide⟩ rfl (dl_at t_X0_source 3 rfl)) (dl_at t_X0_source 3 rfl) (cat24 (st := [iv 0, rv D a1]) (Nat.le_of_ble_eq_true rfl)) (Nat.le_of_ble_eq_true rfl) (Nat.le_of_ble_eq_true rfl) (fun v3 h3_1 g3 E3_1 => ?_) (fun a3 h3 p3 E3 => ?_)
  · refine g_i2l (pc := 6) X g3 (dl_at t_X0_source 4 rfl) ?_
    refine g_gd fun k7 => ?_
    refine r_last (pc := 7) X (r32_c rfl) (r64_of g3) k7 (dl_at t_X0_source 5 rfl) (fun h7 E7 => ?_)
    refine g_goto (pc := 8) X (off := 6) (tgt := 14) rfl (dl_at t_X0_source 6 rfl) ?_
    refine g_iconst (pc := 14) X (n := 0) (dl_at t_X0_source 10 rfl) ?_
    exact g_iret (pc := 15) X (r32_c rfl) rfl rfl (dl_at t_X0_source 11 rfl)
  refine gt_case (fun k3_1 => ?_) (fun _ => ?_)
  · refine gt_catch (pc := 3) X kX26 k3_1 [((0, 8, 11, 25), "java/lang/UnsupportedOperationException", true)] (hp := 11) rfl (by decide +kernel) (List.forall_mem_cons.mpr ⟨⟨q1708, by decide⟩, fun _ h => absurd h List.not_mem_nil⟩) htb ?_
    refine g_astore_n (pc := 11) X (j := 2) (i := 2) (x := a3) (rest := []) rfl (Nat.le_of_ble_eq_true rfl) [] rfl rfl (dl_at t_X0_source 7 rfl) ?_
    refine g_iconst (pc := 12) X (n := 1) (dl_at t_X0_source 8 rfl) ?_
    exact g_iret (pc := 13) X (r32_c rfl) rfl rfl (dl_at t_X0_source 9 rfl)
  refine gt_case (fun k3_2 => ?_) (fun _ => ?_)
  · refine gt_catch (pc := 3) X kJ10 k3_2 [((0, 8, 11, 25), "java/lang/UnsupportedOperationException", true)] (hp := 11) rfl (by decide +kernel) (List.forall_mem_cons.mpr ⟨⟨q1708, by decide⟩, fun _ h => absurd h List.not_mem_nil⟩) htb ?_
    refine g_astore_n (pc := 11) X (j := 2) (i := 2) (x := a3) (rest := []) rfl (Nat.le_of_ble_eq_true rfl) [] rfl rfl (dl_at t_X0_source 7 rfl) ?_
    refine g_iconst (pc := 12) X (n := 1) (dl_at t_X0_source 8 rfl) ?_
    exact g_iret (pc := 13) X (r32_c rfl) rfl rfl (dl_at t_X0_source 9 rfl)
  exact gt_none
def k_X1_state : List (Nat × Instr × Nat) := [(0, .iload_n 0, 1), (1, .ifCond .ne 11, 3), (4, .new 7, 3), (7, .dup, 1), (8, .invokespecial 9, 3), (11, .athrow, 1), (12, .return_, 1)]
theorem t_X1_state : ∀ q ∈ k_X1_state, decode cX1_state q.1 = .ok q.2 := dl_all (by decide +kernel)
noncomputable def m_X1_state (a0 : Int) (h : Hp) : Option ((Int × Int) × Hp) :=
  if a0 ≠ 0 then (some ((0, 0), h))
  else (al h 528 6 fun a4 h4 =>
  (x_init0 a4 h4).bind fun h8 =>
  some ((1, a4), h8))
theorem s_X1_state {l : Launch} [NoTr l] {D : SD} {a0 : Int} {h : Hp} (r0 : (a0 = 0 ∨ a0 = 1)) {r : (Int × Int) × Hp} (hm : m_X1_state a0 h = some r) : Sim l D yX1_state (Cond.code yX1_state cX1_state 1 (Option.none : Option Jvm.ClassFile.FieldType)) 9 336 [iv a0] h 0 r := by
  refine Sim.of (fin := fun (v : (Int × Int) × Hp) => v) (lsE := [(0, iv a0)]) hm rfl cwS_code (la_i la_n) (ll_i ll_n) ?_
  intro p e s m below meth c X hcw hmm hcc hnm hname
  have hno := noh hcw hnm hmm hcc
  unfold m_X1_state
  refine g_iload_n (pc := 0) X (j := 0) (i := 0) (q := 0) (x := a0) rfl rfl (dl_at t_X1_state 0 rfl) ?_
  refine g_ifne (pc := 1) X (r32_z r0) (off := 11) (tgt := 12) rfl (dl_at t_X1_state 1 rfl) (fun _ => ?_) (fun _ => ?_)
  · exact g_vret (pc := 12) X (v := 0) rfl rfl (dl_at t_X1_state 6 rfl)
  refine r_new (pc := 4) X kJ11 q2245 (dl_at t_X1_state 2 rfl) fun a4 h4 p4 k4 E4 => ?_
  refine g_dup (pc := 7) X rv_cat (dl_at t_X1_state 3 rfl) ?_
  refine r_callV (pc := 8) X (fun _ hv => sx_IllegalStateException_init__V k4 hv) cw_code q2256 q394 (in_I X (As := []) (Int.ne_of_gt p4) rfl (Or.inl q2254) q2255 q2256 ⟨by decide, by decide⟩ rfl (dl_at t_X1_state 4 rfl)) (dl_at t_X1_state 4 rfl) (cat24 (st := [rv D a4]) (Nat.le_of_ble_eq_true rfl)) (Nat.le_of_ble_eq_true rfl) (Nat.le_of_ble_eq_true rfl) fun h8 E8 => ?_
  refine g_athrow (pc := 11) X (Int.ne_of_gt p4) (dl_at t_X1_state 5 rfl) ?_
  exact gt_at fun Q hQ => gt_out (Q := Q) X rfl p4 (hno _) _ Q rfl hQ
def k_X1_change : List (Nat × Instr × Nat) := [(0, .iload_n 1, 1), (1, .ifCond .lt 30, 3), (4, .iload_n 1, 1), (5, .iload_n 2, 1), (6, .if_icmp .gt 25, 3), (9, .aload_n 0, 1), (10, .getfield 182, 3), (13, .ifnull 14, 3), (16, .iload_n 2, 1), (17, .aload_n 0, 1), (18, .getfield 182, 3), (21, .getfield 209, 3), (24, .if_icmp .gt 7, 3), (27, .iconst 1, 1), (28, .goto 4, 3), (31, .iconst 0, 1), (32, .invokestatic 134, 3), (35, .aload_n 0, 1), (36, .getfield 182, 3), (39, .ifnull 7, 3), (42, .iconst 1, 1), (43, .goto 4, 3), (46, .iconst 0, 1), (47, .invokestatic 212, 3), (50, .aload_n 0, 1), (51, .invokevirtual 143, 3), (54, .istore_n 3, 1), (55, .aload_n 0, 1), (56, .getfield 182, 3), (59, .getfield 209, 3), (62, .iload_n 2, 1), (63, .iload_n 1, 1), (64, .isub, 1), (65, .isub, 1), (66, .iload_n 3, 1), (67, .iadd, 1), (68, .istore 4, 2), (70, .iload 4, 2), (72, .sipush 16384, 3), (75, .if_icmp .gt 7, 3), (78, .iconst 1, 1), (79, .goto 4, 3), (82, .iconst 0, 1), (83, .invokestatic 127, 3), (86, .aload_n 0, 1), (87, .invokevirtual 192, 3), (90, .astore 5, 2), (92, .aload_n 0, 1), (93, .getfield 182, 3), (96, .getfield 196, 3), (99, .iconst 0, 1), (100, .aload 5, 2), (102, .getfield 196, 3), (105, .iconst 0, 1), (106, .iload_n 1, 1), (107, .invokestatic 199, 3), (110, .aload_n 0, 1), (111, .getfield 22, 3), (114, .iconst 0, 1), (115, .aload 5, 2), (117, .getfield 196, 3), (120, .iload_n 1, 1), (121, .iload_n 3, 1), (122, .invokestatic 199, 3), (125, .aload_n 0, 1), (126, .getfield 182, 3), (129, .getfield 196, 3), (132, .iload_n 2, 1), (133, .aload 5, 2), (135, .getfield 196, 3), (138, .iload_n 1, 1), (139, .iload_n 3, 1), (140, .iadd, 1), (141, .aload_n 0, 1), (142, .getfield 182, 3), (145, .getfield 209, 3), (148, .iload_n 2, 1), (149, .isub, 1), (150, .invokestatic 199, 3), (153, .aload_n 0, 1), (154, .aload 5, 2), (156, .iload 4, 2), (158, .invokevirtual 205, 3), (161, .ireturn, 1)]
theorem t_X1_change : ∀ q ∈ k_X1_change, decode cX1_change q.1 = .ok q.2 := dl_all (by decide +kernel)
noncomputable def m_X1_change_j83 (x4_68 v51 a2 a0 a1 s0_83 : Int) (h51 : Hp) : Option ((Int × Int) × Hp) :=
  bT (m_X1_room s0_83 h51) (fun _ h83 =>
  (m_X1_freeSource a0 h83).bind fun v87 =>
  gd (h83 (h83 a0 11) (-2) = 96) (gd (h83 v87 (-2) = 96) ((x_acp (h83 (h83 a0 11) 0) 0 (h83 v87 0) 0 a1 h83).bind fun h107 =>
  (x_acp (h107 a0 0) 0 (h107 v87 0) a1 v51 h107).bind fun h122 =>
  gd (h122 (h122 a0 11) (-2) = 96) ((x_acp (h122 (h122 a0 11) 0) a2 (h122 v87 0) (w32 (a1 + v51)) (w32 ((h122 (h122 a0 11) 1) - a2)) h122).bind fun h150 =>
  bT (m_X1_load a0 v87 x4_68 h150) (fun v158 h158 =>
  some ((0, v158), h158)) (fun a_ h_ => some ((1, a_), h_)))))) (fun a_ h_ => some ((1, a_), h_))
noncomputable def m_X1_change_j47 (a0 a1 a2 s0_47 : Int) (h32 : Hp) : Option ((Int × Int) × Hp) :=
  bT (m_X1_state s0_47 h32) (fun _ h47 =>
  bW (m_X1_take a0 h47) fun v51 h51 =>
  gd (h51 (h51 a0 11) (-2) = 96) (lt_ (w32 ((w32 ((h51 (h51 a0 11) 1) - (w32 (a2 - a1)))) + v51)) fun x4_68 =>
  if 16384 < x4_68 then (m_X1_change_j83 x4_68 v51 a2 a0 a1 0 h51)
  else (m_X1_change_j83 x4_68 v51 a2 a0 a1 1 h51))) (fun a_ h_ => some ((1, a_), h_))
noncomputable def m_X1_change_j32 (a0 a1 a2 s0_32 : Int) (h : Hp) : Option ((Int × Int) × Hp) :=
  bT (m_X1_good s0_32 h) (fun _ h32 =>
  if (h32 a0 11) = 0 then (m_X1_change_j47 a0 a1 a2 0 h32)
  else (m_X1_change_j47 a0 a1 a2 1 h32)) (fun a_ h_ => some ((1, a_), h_))
noncomputable def m_X1_change_j31 (a0 a1 a2 : Int) (h : Hp) : Option ((Int × Int) × Hp) :=
  m_X1_change_j32 a0 a1 a2 0 h
noncomputable def m_X1_change_j27 (a0 a1 a2 : Int) (h : Hp) : Option ((Int × Int) × Hp) :=
  m_X1_change_j32 a0 a1 a2 1 h
noncomputable def m_X1_change (a0 a1 a2 : Int) (h : Hp) : Option ((Int × Int) × Hp) :=
  if a1 < 0 then (m_X1_change_j31 a0 a1 a2 h)
  else (if a2 < a1 then (m_X1_change_j31 a0 a1 a2 h)
  else (if (h a0 11) = 0 then (m_X1_change_j27 a0 a1 a2 h)
  else (gd (h (h a0 11) (-2) = 96) (if (h (h a0 11) 1) < a2 then (m_X1_change_j31 a0 a1 a2 h)
  else (m_X1_change_j27 a0 a1 a2 h)))))
theorem s_X1_change {l : Launch} [NoTr l] {D : SD} {a0 a1 a2 : Int} {h : Hp} (hk : h a0 (-2) = 16) (r1 : r32 a1) (r2 : r32 a2) {r : (Int × Int) × Hp} (hm : m_X1_change a0 a1 a2 h = some r) : Sim l D yX1_change (Cond.code yX1_change cX1_change 6 (Option.some Jvm.ClassFile.FieldType.int)) 17 643 [rv D a0, iv a1, iv a2] h 1 r := by
  refine Sim.of (fin := fun (v : (Int × Int) × Hp) => v) (lsE := [(0, rv D a0), (1, iv a1), (2, iv a2)]) hm rfl cwS_code (la_r (la_i (la_i la_n))) (ll_r (ll_i (ll_i ll_n))) ?_
  intro p e s m below meth c X hcw hmm hcc hnm hname
  have hno := noh hcw hnm hmm hcc
  unfold m_X1_change
  refine g_iload_n (pc := 0) X (j := 1) (i := 1) (q := 1) (x := a1) rfl rfl (dl_at t_X1_change 0 rfl) ?_
  refine g_join (γ := Int) (fun q => (q = 0 ∨ q = 1)) 32 (fun q => [(0, rv D a0), (1, iv a1), (2, iv a2)]) (fun q => [iv q]) (fun q => h) (fun q => m_X1_change_j32 a0 a1 a2 q h) ?_ ?_
  · rintro s0_32 rs0_32
    try dsimp only
    unfold m_X1_change_j32
    refine r_callTv (pc := 32) X (fun _ hv => s_X1_good rs0_32 hv) cw_code q1689 q355 (in_Sc X (As := [iv s0_32]) (Or.inl q1687) q1688 q355 q1689 ⟨by decide, by decide⟩ rfl (dl_at t_X1_change 16 rfl)) (dl_at t_X1_change 16 rfl) (cat24 (st := []) (Nat.le_of_ble_eq_true rfl)) (Nat.le_of_ble_eq_true rfl) (Nat.le_of_ble_eq_true rfl) (fun v32 h32 E32 => ?_) (fun _ _ ha _ => gt_at fun Q hQ => gt_out (Q := Q) X rfl ha (hno _) _ Q rfl hQ)
    refine g_aload_n (pc := 35) X (j := 0) (i := 0) (q := 0) (x := a0) rfl rfl (dl_at t_X1_change 17 rfl) ?_
    have k36 := kx E32 (by decide) hk
    refine r_getr (pc := 36) X fX1_11 k36 q1499 (dl_at t_X1_change 18 rfl) ?_
    refine g_join (γ := Int) (fun q => (q = 0 ∨ q = 1)) 47 (fun q => [(0, rv D a0), (1, iv a1), (2, iv a2)]) (fun q => [iv q]) (fun q => h32) (fun q => m_X1_change_j47 a0 a1 a2 q h32) ?_ ?_
    · rintro s0_47 rs0_47
      try dsimp only
      unfold m_X1_change_j47
      refine r_callTv (pc := 47) X (fun _ hv => s_X1_state rs0_47 hv) cw_code q2244 q355 (in_Sc X (As := [iv s0_47]) (Or.inl q2242) q2243 q355 q2244 ⟨by decide, by decide⟩ rfl (dl_at t_X1_change 23 rfl)) (dl_at t_X1_change 23 rfl) (cat24 (st := []) (Nat.le_of_ble_eq_true rfl)) (Nat.le_of_ble_eq_true rfl) (Nat.le_of_ble_eq_true rfl) (fun v47 h47 E47 => ?_) (fun _ _ ha _ => gt_at fun Q hQ => gt_out (Q := Q) X rfl ha (hno _) _ Q rfl hQ)
      refine g_aload_n (pc := 50) X (j := 0) (i := 0) (q := 0) (x := a0) rfl rfl (dl_at t_X1_change 24 rfl) ?_
      have k51 := kx E47 (by decide) k36
      refine r_callWi (pc := 51) X (fun _ hv => s_X1_take k51 hv) cw_code q1717 q355 (in_Vk X (As := []) kX1 k51 (Or.inl q1714) q1716 qs6 cw_code q1717 ⟨by decide, by decide⟩ rfl (dl_at t_X1_change 25 rfl)) (dl_at t_X1_change 25 rfl) (cat24 (st := []) (Nat.le_of_ble_eq_true rfl)) (Nat.le_of_ble_eq_true rfl) (Nat.le_of_ble_eq_true rfl) fun v51 h51 g51 E51 => ?_
      refine g_istore_nN (pc := 54) X (j := 3) (i := 3) (x := v51) (b := 2) (w := iv a2) (rest := [(0, rv D a0), (1, iv a1)]) rfl (Nat.le_of_ble_eq_true rfl) [2, 0, 1] rfl (by decide) rfl rfl (dl_at t_X1_change 26 rfl) ?_
      refine g_aload_n (pc := 55) X (j := 0) (i := 0) (q := 2) (x := a0) rfl rfl (dl_at t_X1_change 27 rfl) ?_
      have k56 := kx E51 (by decide) k51
      refine r_getr (pc := 56) X fX1_11 k56 q1499 (dl_at t_X1_change 28 rfl) ?_
      refine g_gd fun k59 => ?_
      refine r_getiN (pc := 59) X fX6_1 k59 (nw_in q650 rfl) (dl_at t_X1_change 29 rfl) fun g59 => ?_
      refine g_iload_n (pc := 62) X (j := 2) (i := 2) (q := 1) (x := a2) rfl rfl (dl_at t_X1_change 30 rfl) ?_
      refine g_iload_n (pc := 63) X (j := 1) (i := 1) (q := 3) (x := a1) rfl rfl (dl_at t_X1_change 31 rfl) ?_
      refine g_isub (pc := 64) X r2 r1 (dl_at t_X1_change 32 rfl) ?_
      refine g_isub (pc := 65) X g59 (r32_w _) (dl_at t_X1_change 33 rfl) ?_
      refine g_iload_n (pc := 66) X (j := 3) (i := 3) (q := 0) (x := v51) rfl rfl (dl_at t_X1_change 34 rfl) ?_
      refine g_iadd (pc := 67) X (r32_w _) g51 (dl_at t_X1_change 35 rfl) ?_
      refine g_lti (r32_w _) fun x4_68 r4_68 => ?_
      refine g_istoreN (pc := 68) X (i := 4) (x := x4_68) (b := 3) (w := iv v51) (rest := [(2, iv a2), (0, rv D a0), (1, iv a1)]) (Nat.le_of_ble_eq_true rfl) [0, 1, 2, 3] rfl (by decide) rfl rfl (dl_at t_X1_change 36 rfl) ?_
      refine g_iload (pc := 70) X (i := 4) (q := 0) (x := x4_68) rfl (dl_at t_X1_change 37 rfl) ?_
      refine g_sipush (pc := 72) X (n := 16384) rfl (dl_at t_X1_change 38 rfl) ?_
      refine g_join (γ := Int) (fun q => (q = 0 ∨ q = 1)) 83 (fun q => [(0, rv D a0), (1, iv a1), (2, iv a2), (3, iv v51), (4, iv x4_68)]) (fun q => [iv q]) (fun q => h51) (fun q => m_X1_change_j83 x4_68 v51 a2 a0 a1 q h51) ?_ ?_
      · rintro s0_83 rs0_83
        try dsimp only
        unfold m_X1_change_j83
        refine r_callTv (pc := 83) X (fun _ hv => s_X1_room rs0_83 hv) cw_code q1653 q355 (in_Sc X (As := [iv s0_83]) (Or.inl q1651) q1652 q355 q1653 ⟨by decide, by decide⟩ rfl (dl_at t_X1_change 43 rfl)) (dl_at t_X1_change 43 rfl) (cat24 (st := []) (Nat.le_of_ble_eq_true rfl)) (Nat.le_of_ble_eq_true rfl) (Nat.le_of_ble_eq_true rfl) (fun v83 h83 E83 => ?_) (fun _ _ ha _ => gt_at fun Q hQ => gt_out (Q := Q) X rfl ha (hno _) _ Q rfl hQ)
        refine g_aload_n (pc := 86) X (j := 0) (i := 0) (q := 0) (x := a0) rfl rfl (dl_at t_X1_change 44 rfl) ?_
        have k87 := kx E83 (by decide) k56
        refine r_callRr (pc := 87) X (fun _ hv => s_X1_freeSource k87 hv) cw_code q2130 q355 (in_Vk X (As := []) kX1 k87 (Or.inl q2127) q2129 qs51 cw_code q2130 ⟨by decide, by decide⟩ rfl (dl_at t_X1_change 45 rfl)) (dl_at t_X1_change 45 rfl) (cat24 (st := []) (Nat.le_of_ble_eq_true rfl)) (Nat.le_of_ble_eq_true rfl) (Nat.le_of_ble_eq_true rfl) fun v87 => ?_
        refine g_astoreN (pc := 90) X (i := 5) (x := v87) (b := 4) (w := iv x4_68) (rest := [(0, rv D a0), (1, iv a1), (2, iv a2), (3, iv v51)]) (Nat.le_of_ble_eq_true rfl) [4, 0, 1, 2, 3] rfl (by decide) rfl rfl (dl_at t_X1_change 46 rfl) ?_
        refine g_aload_n (pc := 92) X (j := 0) (i := 0) (q := 2) (x := a0) rfl rfl (dl_at t_X1_change 47 rfl) ?_
        refine r_getr (pc := 93) X fX1_11 k87 q1499 (dl_at t_X1_change 48 rfl) ?_
        refine g_gd fun k96 => ?_
        refine r_getrN (pc := 96) X fX6_0 k96 (nw_in q647 rfl) (dl_at t_X1_change 49 rfl) ?_
        refine g_iconst (pc := 99) X (n := 0) (dl_at t_X1_change 50 rfl) ?_
        refine g_aload (pc := 100) X (i := 5) (q := 0) (x := v87) rfl (dl_at t_X1_change 51 rfl) ?_
        refine g_gd fun k102 => ?_
        refine r_getrN (pc := 102) X fX6_0 k102 (nw_in q647 rfl) (dl_at t_X1_change 52 rfl) ?_
        refine g_iconst (pc := 105) X (n := 0) (dl_at t_X1_change 53 rfl) ?_
        refine g_iload_n (pc := 106) X (j := 1) (i := 1) (q := 3) (x := a1) rfl rfl (dl_at t_X1_change 54 rfl) ?_
        refine r_acp (pc := 107) X (r32_c rfl) (r32_c rfl) r1 q2131 q2133 q2132 q393 (cat24 (st := []) (Nat.le_of_ble_eq_true rfl)) (Nat.le_of_ble_eq_true rfl) (Nat.le_of_ble_eq_true rfl) (dl_at t_X1_change 55 rfl) fun h107 E107 => ?_
        refine g_aload_n (pc := 110) X (j := 0) (i := 0) (q := 2) (x := a0) rfl rfl (dl_at t_X1_change 56 rfl) ?_
        have k111 := kx E107 (by decide) k87
        refine r_getr (pc := 111) X fX1_0 k111 q1488 (dl_at t_X1_change 57 rfl) ?_
        refine g_iconst (pc := 114) X (n := 0) (dl_at t_X1_change 58 rfl) ?_
        refine g_aload (pc := 115) X (i := 5) (q := 0) (x := v87) rfl (dl_at t_X1_change 59 rfl) ?_
        have k117 := kx E107 (by decide) k102
        refine r_getrN (pc := 117) X fX6_0 k117 (nw_in q647 rfl) (dl_at t_X1_change 60 rfl) ?_
        refine g_iload_n (pc := 120) X (j := 1) (i := 1) (q := 3) (x := a1) rfl rfl (dl_at t_X1_change 61 rfl) ?_
        refine g_iload_n (pc := 121) X (j := 3) (i := 3) (q := 5) (x := v51) rfl rfl (dl_at t_X1_change 62 rfl) ?_
        refine r_acp (pc := 122) X (r32_c rfl) r1 g51 q2131 q2133 q2132 q393 (cat24 (st := []) (Nat.le_of_ble_eq_true rfl)) (Nat.le_of_ble_eq_true rfl) (Nat.le_of_ble_eq_true rfl) (dl_at t_X1_change 63 rfl) fun h122 E122 => ?_
        refine g_aload_n (pc := 125) X (j := 0) (i := 0) (q := 2) (x := a0) rfl rfl (dl_at t_X1_change 64 rfl) ?_
        have k126 := kx E122 (by decide) k111
        refine r_getr (pc := 126) X fX1_11 k126 q1499 (dl_at t_X1_change 65 rfl) ?_
        refine g_gd fun k129 => ?_
        refine r_getrN (pc := 129) X fX6_0 k129 (nw_in q647 rfl) (dl_at t_X1_change 66 rfl) ?_
        refine g_iload_n (pc := 132) X (j := 2) (i := 2) (q := 4) (x := a2) rfl rfl (dl_at t_X1_change 67 rfl) ?_
        refine g_aload (pc := 133) X (i := 5) (q := 0) (x := v87) rfl (dl_at t_X1_change 68 rfl) ?_
        have k135 := kx E122 (by decide) k117
        refine r_getrN (pc := 135) X fX6_0 k135 (nw_in q647 rfl) (dl_at t_X1_change 69 rfl) ?_
        refine g_iload_n (pc := 138) X (j := 1) (i := 1) (q := 3) (x := a1) rfl rfl (dl_at t_X1_change 70 rfl) ?_
        refine g_iload_n (pc := 139) X (j := 3) (i := 3) (q := 5) (x := v51) rfl rfl (dl_at t_X1_change 71 rfl) ?_
        refine g_iadd (pc := 140) X r1 g51 (dl_at t_X1_change 72 rfl) ?_
        refine g_aload_n (pc := 141) X (j := 0) (i := 0) (q := 2) (x := a0) rfl rfl (dl_at t_X1_change 73 rfl) ?_
        refine r_getr (pc := 142) X fX1_11 k126 q1499 (dl_at t_X1_change 74 rfl) ?_
        refine r_getiN (pc := 145) X fX6_1 k129 (nw_in q650 rfl) (dl_at t_X1_change 75 rfl) fun g145 => ?_
        refine g_iload_n (pc := 148) X (j := 2) (i := 2) (q := 4) (x := a2) rfl rfl (dl_at t_X1_change 76 rfl) ?_
        refine g_isub (pc := 149) X g145 r2 (dl_at t_X1_change 77 rfl) ?_
        refine r_acp (pc := 150) X r2 (r32_w _) (r32_w _) q2131 q2133 q2132 q393 (cat24 (st := []) (Nat.le_of_ble_eq_true rfl)) (Nat.le_of_ble_eq_true rfl) (Nat.le_of_ble_eq_true rfl) (dl_at t_X1_change 78 rfl) fun h150 E150 => ?_
        refine g_aload_n (pc := 153) X (j := 0) (i := 0) (q := 2) (x := a0) rfl rfl (dl_at t_X1_change 79 rfl) ?_
        refine g_aload (pc := 154) X (i := 5) (q := 0) (x := v87) rfl (dl_at t_X1_change 80 rfl) ?_
        refine g_iload (pc := 156) X (i := 4) (q := 1) (x := x4_68) rfl (dl_at t_X1_change 81 rfl) ?_
        have k158 := kx E150 (by decide) k126
        refine r_callTi (pc := 158) X (fun _ hv => s_X1_load k158 r4_68 hv) cw_with q2137 q355 (in_Vk X (As := [rv D v87, iv x4_68]) kX1 k158 (Or.inl q2134) q2136 qs52 cw_with q2137 ⟨by decide, by decide⟩ rfl (dl_at t_X1_change 82 rfl)) (dl_at t_X1_change 82 rfl) (cat24 (st := []) (Nat.le_of_ble_eq_true rfl)) (Nat.le_of_ble_eq_true rfl) (Nat.le_of_ble_eq_true rfl) (fun v158 h158 g158 E158 => ?_) (fun _ _ ha _ => gt_at fun Q hQ => gt_out (Q := Q) X rfl ha (hno _) _ Q rfl hQ)
        exact g_iret (pc := 161) X g158 rfl rfl (dl_at t_X1_change 83 rfl)
      intro J83
      refine g_icmpgt (pc := 75) X r4_68 (r32_c rfl) (off := 7) (tgt := 82) rfl (dl_at t_X1_change 39 rfl) (fun _ => ?_) (fun _ => ?_)
      · refine g_iconst (pc := 82) X (n := 0) (dl_at t_X1_change 42 rfl) ?_
        refine g_ls (ls2 := [(0, rv D a0), (1, iv a1), (2, iv a2), (3, iv v51), (4, iv x4_68)]) [3, 4, 2, 1, 0] rfl ?_
        exact J83 0 (Or.inl rfl)
      refine g_iconst (pc := 78) X (n := 1) (dl_at t_X1_change 40 rfl) ?_
      refine g_goto (pc := 79) X (off := 4) (tgt := 83) rfl (dl_at t_X1_change 41 rfl) ?_
      refine g_ls (ls2 := [(0, rv D a0), (1, iv a1), (2, iv a2), (3, iv v51), (4, iv x4_68)]) [3, 4, 2, 1, 0] rfl ?_
      exact J83 1 (Or.inr rfl)
    intro J47
    refine g_ifnull (pc := 39) X (off := 7) (tgt := 46) rfl (dl_at t_X1_change 19 rfl) (fun _ => ?_) (fun _ => ?_)
    · refine g_iconst (pc := 46) X (n := 0) (dl_at t_X1_change 22 rfl) ?_
      exact J47 0 (Or.inl rfl)
    refine g_iconst (pc := 42) X (n := 1) (dl_at t_X1_change 20 rfl) ?_
    refine g_goto (pc := 43) X (off := 4) (tgt := 47) rfl (dl_at t_X1_change 21 rfl) ?_
    exact J47 1 (Or.inr rfl)
  intro J32
  refine g_join (γ := Unit) (fun q => True) 31 (fun q => [(0, rv D a0), (1, iv a1), (2, iv a2)]) (fun q => []) (fun q => h) (fun q => m_X1_change_j31 a0 a1 a2 h) ?_ ?_
  · rintro _ _
    try dsimp only
    unfold m_X1_change_j31
    refine g_iconst (pc := 31) X (n := 0) (dl_at t_X1_change 15 rfl) ?_
    exact J32 0 (Or.inl rfl)
  intro J31
  refine g_iflt (pc := 1) X r1 (off := 30) (tgt := 31) rfl (dl_at t_X1_change 1 rfl) (fun _ => ?_) (fun _ => ?_)
  · exact J31 () trivial
  refine g_iload_n (pc := 4) X (j := 1) (i := 1) (q := 1) (x := a1) rfl rfl (dl_at t_X1_change 2 rfl) ?_
  refine g_iload_n (pc := 5) X (j := 2) (i := 2) (q := 2) (x := a2) rfl rfl (dl_at t_X1_change 3 rfl) ?_
  refine g_icmpgt (pc := 6) X r1 r2 (off := 25) (tgt := 31) rfl (dl_at t_X1_change 4 rfl) (fun _ => ?_) (fun _ => ?_)
  · exact J31 () trivial
  refine g_aload_n (pc := 9) X (j := 0) (i := 0) (q := 0) (x := a0) rfl rfl (dl_at t_X1_change 5 rfl) ?_
  refine r_getr (pc := 10) X fX1_11 hk q1499 (dl_at t_X1_change 6 rfl) ?_
  refine g_join (γ := Unit) (fun q => True) 27 (fun q => [(0, rv D a0), (1, iv a1), (2, iv a2)]) (fun q => []) (fun q => h) (fun q => m_X1_change_j27 a0 a1 a2 h) ?_ ?_
  · rintro _ _
    try dsimp only
    unfold m_X1_change_j27
    refine g_iconst (pc := 27) X (n := 1) (dl_at t_X1_change 13 rfl) ?_
    refine g_goto (pc := 28) X (off := 4) (tgt := 32) rfl (dl_at t_X1_change 14 rfl) ?_
    exact J32 1 (Or.inr rfl)
  intro J27
  refine g_ifnull (pc := 13) X (off := 14) (tgt := 27) rfl (dl_at t_X1_change 7 rfl) (fun _ => ?_) (fun _ => ?_)
  · exact J27 () trivial
  refine g_iload_n (pc := 16) X (j := 2) (i := 2) (q := 2) (x := a2) rfl rfl (dl_at t_X1_change 8 rfl) ?_
  refine g_aload_n (pc := 17) X (j := 0) (i := 0) (q := 0) (x := a0) rfl rfl (dl_at t_X1_change 9 rfl) ?_
  refine r_getr (pc := 18) X fX1_11 hk q1499 (dl_at t_X1_change 10 rfl) ?_
  refine g_gd fun k21 => ?_
  refine r_getiN (pc := 21) X fX6_1 k21 (nw_in q650 rfl) (dl_at t_X1_change 11 rfl) fun g21 => ?_
  refine g_icmpgt (pc := 24) X r2 g21 (off := 7) (tgt := 31) rfl (dl_at t_X1_change 12 rfl) (fun _ => ?_) (fun _ => ?_)
  · exact J31 () trivial
  exact J27 () trivial
def k_X0_change : List (Nat × Instr × Nat) := [(0, .aload_n 3, 1), (1, .iconst 0, 1), (2, .aload_n 0, 1), (3, .iload_n 1, 1), (4, .iload_n 2, 1), (5, .invokevirtual 36, 3), (8, .i2l, 1), (9, .lastore, 1), (10, .goto 19, 3), (13, .astore 4, 2), (15, .iconst 1, 1), (16, .ireturn, 1), (17, .astore 4, 2), (19, .iconst 2, 1), (20, .ireturn, 1), (21, .astore 4, 2), (23, .iconst 3, 1), (24, .ireturn, 1), (25, .astore 4, 2), (27, .iconst 4, 1), (28, .ireturn, 1), (29, .iconst 0, 1), (30, .ireturn, 1)]
theorem t_X0_change : ∀ q ∈ k_X0_change, decode cX0_change q.1 = .ok q.2 := dl_all (by decide +kernel)
noncomputable def m_X0_change (a0 a1 a2 a3 : Int) (h : Hp) : Option (Int × Hp) :=
  gd (h a0 (-2) = 16) (bT (m_X1_change a0 a1 a2 h) (fun v5 h5_1 =>
  gd (h5_1 a3 (-2) % 16 = 4 ∧ (0 : Int) ≤ 0 ∧ 0 < h5_1 a3 (-1)) (pt h5_1 a3 0 v5 fun h9 =>
  some (0, h9))) (fun a5 h5 => if h5 a5 (-2) = 432 then (some (4, h5))
  else (if h5 a5 (-2) = 480 then (some (3, h5))
  else (if h5 a5 (-2) = 496 then (some (1, h5))
  else (if h5 a5 (-2) = 512 then (some (4, h5))
  else (if h5 a5 (-2) = 528 then (some (2, h5))
  else (none)))))))
theorem s_X0_change {l : Launch} [NoTr l] {D : SD} {a0 a1 a2 a3 : Int} {h : Hp} (r1 : r32 a1) (r2 : r32 a2) {r : Int × Hp} (hm : m_X0_change a0 a1 a2 a3 h = some r) : Sim l D yX0_change (Cond.codeWith yX0_change cX0_change 5 (Option.some Jvm.ClassFile.FieldType.int) [((0 : Nat), (10 : Nat), (13 : Nat), (19 : Nat)), ((0 : Nat), (10 : Nat), (17 : Nat), (40 : Nat)), ((0 : Nat), (10 : Nat), (21 : Nat), (13 : Nat)), ((0 : Nat), (10 : Nat), (25 : Nat), (25 : Nat))]) 18 684 [rv D a0, iv a1, iv a2, rv D a3] h 1 ((0, r.1), r.2) := by
  refine Sim.of (fin := fun (v : Int × Hp) => ((0, v.1), v.2)) (lsE := [(0, rv D a0), (1, iv a1), (2, iv a2), (3, rv D a3)]) hm rfl cwS_with (la_r (la_i (la_i (la_r la_n)))) (ll_r (ll_i (ll_i (ll_r ll_n)))) ?_
  intro p e s m below meth c X hcw hmm hcc hnm hname
  have htb := tabW hcw hnm hmm hcc
  unfold m_X0_change
  refine g_aload_n (pc := 0) X (j := 3) (i := 3) (q := 3) (x := a3) rfl rfl (dl_at t_X0_change 0 rfl) ?_
  refine g_iconst (pc := 1) X (n := 0) (dl_at t_X0_change 1 rfl) ?_
  refine g_aload_n (pc := 2) X (j := 0) (i := 0) (q := 0) (x := a0) rfl rfl (dl_at t_X0_change 2 rfl) ?_
  refine g_iload_n (pc := 3) X (j := 1) (i := 1) (q := 1) (x := a1) rfl rfl (dl_at t_X0_change 3 rfl) ?_
  refine g_iload_n (pc := 4) X (j := 2) (i := 2) (q := 2) (x := a2) rfl rfl (dl_at t_X0_change 4 rfl) ?_
  refine g_gd fun k5 => ?_
  refine r_callTi (pc := 5) X (fun _ hv => s_X1_change k5 r1 r2 hv) cw_code q2241 q355 (in_Vk X (As := [iv a1, iv a2]) kX1 k5 (Or.inl q2238) q2239 q2240 cw_code q2241 ⟨by decide, by decide⟩ rfl (dl_at t_X0_change 5 rfl)) (dl_at t_X0_change 5 rfl) (cat24 (st := [iv 0, rv D a3]) (Nat.le_of_ble_eq_true rfl)) (Nat.le_of_ble_eq_true rfl) (Nat.le_of_ble_eq_true rfl) (fun v5 h5_1 g5 E5_1 => ?_) (fun a5 h5 p5 E5 => ?_)
  · refine g_i2l (pc := 8) X g5 (dl_at t_X0_change 6 rfl) ?_
    refine g_gd fun k9 => ?_
    refine r_last (pc := 9) X (r32_c rfl) (r64_of g5) k9 (dl_at t_X0_change 7 rfl) (fun h9 E9 => ?_)
    refine g_goto (pc := 10) X (off := 19) (tgt := 29) rfl (dl_at t_X0_change 8 rfl) ?_
    refine g_iconst (pc := 29) X (n := 0) (dl_at t_X0_change 21 rfl) ?_
    exact g_iret (pc := 30) X (r32_c rfl) rfl rfl (dl_at t_X0_change 22 rfl)
  refine gt_case (fun k5_1 => ?_) (fun _ => ?_)
  · refine gt_catch (pc := 5) X kX26 k5_1 [((0, 10, 13, 19), "java/lang/IllegalArgumentException", false), ((0, 10, 17, 40), "java/lang/IllegalStateException", false), ((0, 10, 21, 13), "java/lang/IndexOutOfBoundsException", false), ((0, 10, 25, 25), "java/lang/UnsupportedOperationException", true)] (hp := 25) rfl (by decide +kernel) (List.forall_mem_cons.mpr ⟨⟨q1682, by decide⟩, (List.forall_mem_cons.mpr ⟨⟨q2237, by decide⟩, (List.forall_mem_cons.mpr ⟨⟨q1565, by decide⟩, (List.forall_mem_cons.mpr ⟨⟨q1708, by decide⟩, fun _ h => absurd h List.not_mem_nil⟩)⟩)⟩)⟩) htb ?_
    refine g_astore (pc := 25) X (i := 4) (x := a5) (rest := []) (Nat.le_of_ble_eq_true rfl) [] rfl rfl (dl_at t_X0_change 18 rfl) ?_
    refine g_iconst (pc := 27) X (n := 4) (dl_at t_X0_change 19 rfl) ?_
    exact g_iret (pc := 28) X (r32_c rfl) rfl rfl (dl_at t_X0_change 20 rfl)
  refine gt_case (fun k5_2 => ?_) (fun _ => ?_)
  · refine gt_catch (pc := 5) X kJ3 k5_2 [((0, 10, 13, 19), "java/lang/IllegalArgumentException", false), ((0, 10, 17, 40), "java/lang/IllegalStateException", false), ((0, 10, 21, 13), "java/lang/IndexOutOfBoundsException", true), ((0, 10, 25, 25), "java/lang/UnsupportedOperationException", false)] (hp := 21) rfl (by decide +kernel) (List.forall_mem_cons.mpr ⟨⟨q1682, by decide⟩, (List.forall_mem_cons.mpr ⟨⟨q2237, by decide⟩, (List.forall_mem_cons.mpr ⟨⟨q1565, by decide⟩, (List.forall_mem_cons.mpr ⟨⟨q1708, by decide⟩, fun _ h => absurd h List.not_mem_nil⟩)⟩)⟩)⟩) htb ?_
    refine g_astore (pc := 21) X (i := 4) (x := a5) (rest := []) (Nat.le_of_ble_eq_true rfl) [] rfl rfl (dl_at t_X0_change 15 rfl) ?_
    refine g_iconst (pc := 23) X (n := 3) (dl_at t_X0_change 16 rfl) ?_
    exact g_iret (pc := 24) X (r32_c rfl) rfl rfl (dl_at t_X0_change 17 rfl)
  refine gt_case (fun k5_3 => ?_) (fun _ => ?_)
  · refine gt_catch (pc := 5) X kJ6 k5_3 [((0, 10, 13, 19), "java/lang/IllegalArgumentException", true), ((0, 10, 17, 40), "java/lang/IllegalStateException", false), ((0, 10, 21, 13), "java/lang/IndexOutOfBoundsException", false), ((0, 10, 25, 25), "java/lang/UnsupportedOperationException", false)] (hp := 13) rfl (by decide +kernel) (List.forall_mem_cons.mpr ⟨⟨q1682, by decide⟩, (List.forall_mem_cons.mpr ⟨⟨q2237, by decide⟩, (List.forall_mem_cons.mpr ⟨⟨q1565, by decide⟩, (List.forall_mem_cons.mpr ⟨⟨q1708, by decide⟩, fun _ h => absurd h List.not_mem_nil⟩)⟩)⟩)⟩) htb ?_
    refine g_astore (pc := 13) X (i := 4) (x := a5) (rest := []) (Nat.le_of_ble_eq_true rfl) [] rfl rfl (dl_at t_X0_change 9 rfl) ?_
    refine g_iconst (pc := 15) X (n := 1) (dl_at t_X0_change 10 rfl) ?_
    exact g_iret (pc := 16) X (r32_c rfl) rfl rfl (dl_at t_X0_change 11 rfl)
  refine gt_case (fun k5_4 => ?_) (fun _ => ?_)
  · refine gt_catch (pc := 5) X kJ10 k5_4 [((0, 10, 13, 19), "java/lang/IllegalArgumentException", false), ((0, 10, 17, 40), "java/lang/IllegalStateException", false), ((0, 10, 21, 13), "java/lang/IndexOutOfBoundsException", false), ((0, 10, 25, 25), "java/lang/UnsupportedOperationException", true)] (hp := 25) rfl (by decide +kernel) (List.forall_mem_cons.mpr ⟨⟨q1682, by decide⟩, (List.forall_mem_cons.mpr ⟨⟨q2237, by decide⟩, (List.forall_mem_cons.mpr ⟨⟨q1565, by decide⟩, (List.forall_mem_cons.mpr ⟨⟨q1708, by decide⟩, fun _ h => absurd h List.not_mem_nil⟩)⟩)⟩)⟩) htb ?_
    refine g_astore (pc := 25) X (i := 4) (x := a5) (rest := []) (Nat.le_of_ble_eq_true rfl) [] rfl rfl (dl_at t_X0_change 18 rfl) ?_
    refine g_iconst (pc := 27) X (n := 4) (dl_at t_X0_change 19 rfl) ?_
    exact g_iret (pc := 28) X (r32_c rfl) rfl rfl (dl_at t_X0_change 20 rfl)
  refine gt_case (fun k5_5 => ?_) (fun _ => ?_)
  · refine gt_catch (pc := 5) X kJ11 k5_5 [((0, 10, 13, 19), "java/lang/IllegalArgumentException", false), ((0, 10, 17, 40), "java/lang/IllegalStateException", true), ((0, 10, 21, 13), "java/lang/IndexOutOfBoundsException", false), ((0, 10, 25, 25), "java/lang/UnsupportedOperationException", false)] (hp := 17) rfl (by decide +kernel) (List.forall_mem_cons.mpr ⟨⟨q1682, by decide⟩, (List.forall_mem_cons.mpr ⟨⟨q2237, by decide⟩, (List.forall_mem_cons.mpr ⟨⟨q1565, by decide⟩, (List.forall_mem_cons.mpr ⟨⟨q1708, by decide⟩, fun _ h => absurd h List.not_mem_nil⟩)⟩)⟩)⟩) htb ?_
    refine g_astore (pc := 17) X (i := 4) (x := a5) (rest := []) (Nat.le_of_ble_eq_true rfl) [] rfl rfl (dl_at t_X0_change 12 rfl) ?_
    refine g_iconst (pc := 19) X (n := 2) (dl_at t_X0_change 13 rfl) ?_
    exact g_iret (pc := 20) X (r32_c rfl) rfl rfl (dl_at t_X0_change 14 rfl)
  exact gt_none
def k_X1_freeBook : List (Nat × Instr × Nat) := [(0, .iconst 0, 1), (1, .istore_n 2, 1), (2, .aload_n 0, 1), (3, .getfield 96, 3), (6, .iload_n 2, 1), (7, .aaload, 1), (8, .aload_n 0, 1), (9, .getfield 169, 3), (12, .if_acmp .eq 13, 3), (15, .aload_n 0, 1), (16, .getfield 96, 3), (19, .iload_n 2, 1), (20, .aaload, 1), (21, .aload_n 1, 1), (22, .if_acmp .ne 9, 3), (25, .iinc 2 1, 3), (28, .goto (-26), 3), (31, .aload_n 0, 1), (32, .getfield 96, 3), (35, .iload_n 2, 1), (36, .aaload, 1), (37, .areturn, 1)]
theorem t_X1_freeBook : ∀ q ∈ k_X1_freeBook, decode cX1_freeBook q.1 = .ok q.2 := dl_all (by decide +kernel)
noncomputable def m_X1_freeBook_j25 (x2_2 : Int) : Option ((Int) ⊕ ((Int))) :=
  lt_ (w32 (x2_2 + 1)) fun x2_25 =>
  some (.inl x2_25)
noncomputable def m_X1_freeBook_l2 (a0 a1 x2_2 : Int) (h : Hp) : Option ((Int) ⊕ ((Int))) :=
  gd (h (h a0 16) (-2) % 16 = 8 ∧ (0 : Int) ≤ x2_2 ∧ x2_2 < h (h a0 16) (-1)) (gd (0 ≤ (h (h a0 16) x2_2) ∧ 0 ≤ (h a0 18)) (if (h (h a0 16) x2_2) = (h a0 18) then (m_X1_freeBook_j25 x2_2)
  else (gd (0 ≤ (h (h a0 16) x2_2) ∧ 0 ≤ a1) (if (h (h a0 16) x2_2) ≠ a1 then (some (.inr (h (h a0 16) x2_2)))
  else (m_X1_freeBook_j25 x2_2)))))
noncomputable def m_X1_freeBook (a0 a1 : Int) (h : Hp) : Option (Int) :=
  lt_ 0 fun x2_1 =>
  (lp (fun (q : Int) => m_X1_freeBook_l2 a0 a1 q h) x2_1).bind (fun (x : Int) => some x)
theorem s_X1_freeBook {l : Launch} [NoTr l] {D : SD} {a0 a1 : Int} {h : Hp} (hk : h a0 (-2) = 16) {r : Int} (hm : m_X1_freeBook a0 a1 h = some r) : Sim l D yX1_freeBook (Cond.code yX1_freeBook cX1_freeBook 3 (Option.some (Jvm.ClassFile.FieldType.object "ScholarsPress$Book"))) 0 0 [rv D a0, rv D a1] h 5 ((0, r), h) := by
  refine Sim.of (fin := fun (v : Int) => ((0, v), h)) (lsE := [(0, rv D a0), (1, rv D a1)]) hm rfl cwS_code (la_r (la_r la_n)) (ll_r (ll_r ll_n)) ?_
  intro p e s m below meth c X hcw hmm hcc hnm hname
  unfold m_X1_freeBook
  refine g_iconst (pc := 0) X (n := 0) (dl_at t_X1_freeBook 0 rfl) ?_
  refine g_ltz (Or.inl rfl) fun x2_1 r2_1 => ?_
  refine g_istore_nN (pc := 1) X (j := 2) (i := 2) (x := x2_1) (b := 1) (w := rv D a1) (rest := [(0, rv D a0)]) rfl (Nat.le_of_ble_eq_true rfl) [1, 0] rfl (by decide) rv_cat rfl (dl_at t_X1_freeBook 1 rfl) ?_
  refine g_ls (ls2 := [(0, rv D a0), (1, rv D a1), (2, iv x2_1)]) [2, 1, 0] rfl ?_
  refine g_loop0F (fun (q : Int) => [(0, rv D a0), (1, rv D a1), (2, iv q)]) (fun (q : Int) => h) (fun (q : Int) => r32 q) x2_1 (r32_z r2_1) ?_ (fun _ => rfl)
  · rintro x2_2 r2_2
    try dsimp only
    unfold m_X1_freeBook_l2
    refine g_aload_n (pc := 2) X (j := 0) (i := 0) (q := 0) (x := a0) rfl rfl (dl_at t_X1_freeBook 2 rfl) ?_
    refine r_getr (pc := 3) X fX1_16 hk q1504 (dl_at t_X1_freeBook 3 rfl) ?_
    refine g_iload_n (pc := 6) X (j := 2) (i := 2) (q := 2) (x := x2_2) rfl rfl (dl_at t_X1_freeBook 4 rfl) ?_
    refine g_gd fun k7 => ?_
    refine g_aald (pc := 7) X 8 (Nat.le_of_ble_eq_true rfl) (Nat.le_of_ble_eq_true rfl) r2_2 rfl k7 (dl_at t_X1_freeBook 5 rfl) ?_
    refine g_aload_n (pc := 8) X (j := 0) (i := 0) (q := 0) (x := a0) rfl rfl (dl_at t_X1_freeBook 6 rfl) ?_
    refine r_getr (pc := 9) X fX1_18 hk q1506 (dl_at t_X1_freeBook 7 rfl) ?_
    refine g_join (γ := Unit) (fun q => True) 25 (fun q => [(0, rv D a0), (1, rv D a1), (2, iv x2_2)]) (fun q => []) (fun q => h) (fun q => m_X1_freeBook_j25 x2_2) ?_ ?_
    · rintro _ _
      try dsimp only
      unfold m_X1_freeBook_j25
      refine r_iincN (pc := 25) X (i := 2) (q := 2) (n := 1) (x := x2_2) (b := 1) (w := rv D a1) (rest := [(0, rv D a0)]) rfl r2_2 (r32_c rfl) (Nat.le_of_ble_eq_true rfl) [1, 0] rfl (by decide) rv_cat rfl (dl_at t_X1_freeBook 15 rfl) fun x2_25 r2_25 => ?_
      refine g_goto (pc := 28) X (off := (-26)) (tgt := 2) rfl (dl_at t_X1_freeBook 16 rfl) ?_
      refine g_ls (ls2 := [(0, rv D a0), (1, rv D a1), (2, iv x2_25)]) [2, 1, 0] rfl ?_
      exact g_at fun Q hQ => hQ r2_25
    intro J25
    refine g_gd fun z12 => ?_
    refine g_acmpeq (pc := 12) X z12 (off := 13) (tgt := 25) rfl (dl_at t_X1_freeBook 8 rfl) (fun _ => ?_) (fun _ => ?_)
    · exact J25 () trivial
    refine g_aload_n (pc := 15) X (j := 0) (i := 0) (q := 0) (x := a0) rfl rfl (dl_at t_X1_freeBook 9 rfl) ?_
    refine r_getr (pc := 16) X fX1_16 hk q1504 (dl_at t_X1_freeBook 10 rfl) ?_
    refine g_iload_n (pc := 19) X (j := 2) (i := 2) (q := 2) (x := x2_2) rfl rfl (dl_at t_X1_freeBook 11 rfl) ?_
    refine g_aald (pc := 20) X 8 (Nat.le_of_ble_eq_true rfl) (Nat.le_of_ble_eq_true rfl) r2_2 rfl k7 (dl_at t_X1_freeBook 12 rfl) ?_
    refine g_aload_n (pc := 21) X (j := 1) (i := 1) (q := 1) (x := a1) rfl rfl (dl_at t_X1_freeBook 13 rfl) ?_
    refine g_gd fun z22 => ?_
    refine g_acmpne (pc := 22) X z22 (off := 9) (tgt := 31) rfl (dl_at t_X1_freeBook 14 rfl) (fun _ => ?_) (fun _ => ?_)
    · refine g_aload_n (pc := 31) X (j := 0) (i := 0) (q := 0) (x := a0) rfl rfl (dl_at t_X1_freeBook 17 rfl) ?_
      refine r_getr (pc := 32) X fX1_16 hk q1504 (dl_at t_X1_freeBook 18 rfl) ?_
      refine g_iload_n (pc := 35) X (j := 2) (i := 2) (q := 2) (x := x2_2) rfl rfl (dl_at t_X1_freeBook 19 rfl) ?_
      refine g_aald (pc := 36) X 8 (Nat.le_of_ble_eq_true rfl) (Nat.le_of_ble_eq_true rfl) r2_2 rfl k7 (dl_at t_X1_freeBook 20 rfl) ?_
      exact g_at fun Q hQ => (g_aret (pc := 37) X (Or.inl ⟨_, rfl⟩) rfl rfl (dl_at t_X1_freeBook 21 rfl)) _ Q rfl hQ
    exact J25 () trivial
def k_X4_of : List (Nat × Instr × Nat) := [(0, .aload_n 0, 1), (1, .aload_n 1, 1), (2, .getfield 9, 3), (5, .aload_n 1, 1), (6, .getfield 19, 3), (9, .iload_n 2, 1), (10, .iaload, 1), (11, .aload_n 1, 1), (12, .iload_n 2, 1), (13, .invokevirtual 35, 3), (16, .invokevirtual 47, 3), (19, .ireturn, 1)]
theorem t_X4_of : ∀ q ∈ k_X4_of, decode cX4_of q.1 = .ok q.2 := dl_all (by decide +kernel)
noncomputable def m_X4_of (a0 a1 a2 : Int) (h : Hp) : Option (Int) :=
  gd (h a1 (-2) = 64) (gd (h (h a1 2) (-2) % 16 = 1 ∧ (0 : Int) ≤ a2 ∧ a2 < h (h a1 2) (-1)) ((m_X4_length a1 a2 h).bind fun v13 =>
  (m_X4_find a0 (h a1 0) (h (h a1 2) a2) v13 h).bind fun v16 =>
  some v16))
theorem s_X4_of {l : Launch} [NoTr l] {D : SD} {a0 a1 a2 : Int} {h : Hp} (hk : h a0 (-2) = 64) (r2 : r32 a2) {r : Int} (hm : m_X4_of a0 a1 a2 h = some r) : Sim l D yX4_of (Cond.code yX4_of cX4_of 3 (Option.some Jvm.ClassFile.FieldType.int)) 3 118 [rv D a0, rv D a1, iv a2] h 1 ((0, r), h) := by
  refine Sim.of (fin := fun (v : Int) => ((0, v), h)) (lsE := [(0, rv D a0), (1, rv D a1), (2, iv a2)]) hm rfl cwS_code (la_r (la_r (la_i la_n))) (ll_r (ll_r (ll_i ll_n))) ?_
  intro p e s m below meth c X hcw hmm hcc hnm hname
  unfold m_X4_of
  refine g_aload_n (pc := 0) X (j := 0) (i := 0) (q := 0) (x := a0) rfl rfl (dl_at t_X4_of 0 rfl) ?_
  refine g_aload_n (pc := 1) X (j := 1) (i := 1) (q := 1) (x := a1) rfl rfl (dl_at t_X4_of 1 rfl) ?_
  refine g_gd fun k2 => ?_
  refine r_getr (pc := 2) X fX4_0 k2 q467 (dl_at t_X4_of 2 rfl) ?_
  refine g_aload_n (pc := 5) X (j := 1) (i := 1) (q := 1) (x := a1) rfl rfl (dl_at t_X4_of 3 rfl) ?_
  refine r_getr (pc := 6) X fX4_2 k2 q470 (dl_at t_X4_of 4 rfl) ?_
  refine g_iload_n (pc := 9) X (j := 2) (i := 2) (q := 2) (x := a2) rfl rfl (dl_at t_X4_of 5 rfl) ?_
  refine g_gd fun k10 => ?_
  refine g_iald (pc := 10) X r2 k10 (dl_at t_X4_of 6 rfl) fun g10 => ?_
  refine g_aload_n (pc := 11) X (j := 1) (i := 1) (q := 1) (x := a1) rfl rfl (dl_at t_X4_of 7 rfl) ?_
  refine g_iload_n (pc := 12) X (j := 2) (i := 2) (q := 2) (x := a2) rfl rfl (dl_at t_X4_of 8 rfl) ?_
  refine r_callRi (pc := 13) X (fun _ hv => s_X4_length k2 r2 hv) cw_code q2022 q358 (in_Vk X (As := [iv a2]) kX4 k2 (Or.inl q2019) q2021 qs40 cw_code q2022 ⟨by decide, by decide⟩ rfl (dl_at t_X4_of 9 rfl)) (dl_at t_X4_of 9 rfl) (cat24 (st := [iv (h (h a1 2) a2), rv D (h a1 0), rv D a0]) (Nat.le_of_ble_eq_true rfl)) (Nat.le_of_ble_eq_true rfl) (Nat.le_of_ble_eq_true rfl) fun v13 g13 => ?_
  refine r_callRi (pc := 16) X (fun _ hv => s_X4_find hk g10 g13 hv) cw_code q2011 q358 (in_Vk X (As := [rv D (h a1 0), iv (h (h a1 2) a2), iv v13]) kX4 hk (Or.inl q2008) q2010 qs38 cw_code q2011 ⟨by decide, by decide⟩ rfl (dl_at t_X4_of 10 rfl)) (dl_at t_X4_of 10 rfl) (cat24 (st := []) (Nat.le_of_ble_eq_true rfl)) (Nat.le_of_ble_eq_true rfl) (Nat.le_of_ble_eq_true rfl) fun v16 g16 => ?_
  exact g_iret (pc := 19) X g16 rfl rfl (dl_at t_X4_of 11 rfl)
def k_X6_isField : List (Nat × Instr × Nat) := [(0, .aload_n 0, 1), (1, .getfield 62, 3), (4, .iload_n 1, 1), (5, .iaload, 1), (6, .iload 4, 2), (8, .if_icmp .eq 5, 3), (11, .iconst 0, 1), (12, .ireturn, 1), (13, .iconst 0, 1), (14, .istore 5, 2), (16, .iload 5, 2), (18, .iload 4, 2), (20, .if_icmp .ge 34, 3), (23, .aload_n 0, 1), (24, .getfield 9, 3), (27, .aload_n 0, 1), (28, .getfield 59, 3), (31, .iload_n 1, 1), (32, .iaload, 1), (33, .iload 5, 2), (35, .iadd, 1), (36, .baload, 1), (37, .aload_n 2, 1), (38, .iload_n 3, 1), (39, .iload 5, 2), (41, .iadd, 1), (42, .baload, 1), (43, .if_icmp .eq 5, 3), (46, .iconst 0, 1), (47, .ireturn, 1), (48, .iinc 5 1, 3), (51, .goto (-35), 3), (54, .iconst 1, 1), (55, .ireturn, 1)]
theorem t_X6_isField : ∀ q ∈ k_X6_isField, decode cX6_isField q.1 = .ok q.2 := dl_all (by decide +kernel)
noncomputable def m_X6_isField_l16 (a0 a1 a2 a3 a4 x5_16 : Int) (h : Hp) : Option ((Int) ⊕ ((Int))) :=
  if a4 ≤ x5_16 then (some (.inr 1))
  else (gd (h (h a0 16) (-2) % 16 = 1 ∧ (0 : Int) ≤ a1 ∧ a1 < h (h a0 16) (-1)) (gd (h (h a0 0) (-2) % 16 = 2 ∧ (0 : Int) ≤ (w32 ((h (h a0 16) a1) + x5_16)) ∧ (w32 ((h (h a0 16) a1) + x5_16)) < h (h a0 0) (-1)) (gd (h a2 (-2) % 16 = 2 ∧ (0 : Int) ≤ (w32 (a3 + x5_16)) ∧ (w32 (a3 + x5_16)) < h a2 (-1)) (if (h (h a0 0) (w32 ((h (h a0 16) a1) + x5_16))) = (h a2 (w32 (a3 + x5_16))) then (lt_ (w32 (x5_16 + 1)) fun x5_48 =>
  some (.inl x5_48))
  else (some (.inr 0))))))
noncomputable def m_X6_isField (a0 a1 a2 a3 a4 : Int) (h : Hp) : Option (Int) :=
  gd (h (h a0 17) (-2) % 16 = 1 ∧ (0 : Int) ≤ a1 ∧ a1 < h (h a0 17) (-1)) (if (h (h a0 17) a1) = a4 then (lt_ 0 fun x5_14 =>
  (lp (fun (q : Int) => m_X6_isField_l16 a0 a1 a2 a3 a4 q h) x5_14).bind (fun (x : Int) => some x))
  else (some 0))
theorem s_X6_isField {l : Launch} [NoTr l] {D : SD} {a0 a1 a2 a3 a4 : Int} {h : Hp} (hk : h a0 (-2) = 96) (r1 : r32 a1) (r3 : r32 a3) (r4 : r32 a4) {r : Int} (hm : m_X6_isField a0 a1 a2 a3 a4 h = some r) : Sim l D yX6_isField (Cond.code yX6_isField cX6_isField 6 (Option.some Jvm.ClassFile.FieldType.boolean)) 0 0 [rv D a0, iv a1, rv D a2, iv a3, iv a4] h 3 ((0, r), h) := by
  refine Sim.of (fin := fun (v : Int) => ((0, v), h)) (lsE := [(0, rv D a0), (1, iv a1), (2, rv D a2), (3, iv a3), (4, iv a4)]) hm rfl cwS_code (la_r (la_i (la_r (la_i (la_i la_n))))) (ll_r (ll_i (ll_r (ll_i (ll_i ll_n))))) ?_
  intro p e s m below meth c X hcw hmm hcc hnm hname
  unfold m_X6_isField
  refine g_aload_n (pc := 0) X (j := 0) (i := 0) (q := 0) (x := a0) rfl rfl (dl_at t_X6_isField 0 rfl) ?_
  refine r_getr (pc := 1) X fX6_17 hk q682 (dl_at t_X6_isField 1 rfl) ?_
  refine g_iload_n (pc := 4) X (j := 1) (i := 1) (q := 1) (x := a1) rfl rfl (dl_at t_X6_isField 2 rfl) ?_
  refine g_gd fun k5 => ?_
  refine g_iald (pc := 5) X r1 k5 (dl_at t_X6_isField 3 rfl) fun g5 => ?_
  refine g_iload (pc := 6) X (i := 4) (q := 4) (x := a4) rfl (dl_at t_X6_isField 4 rfl) ?_
  refine g_icmpeq (pc := 8) X g5 r4 (off := 5) (tgt := 13) rfl (dl_at t_X6_isField 5 rfl) (fun _ => ?_) (fun _ => ?_)
  · refine g_iconst (pc := 13) X (n := 0) (dl_at t_X6_isField 8 rfl) ?_
    refine g_ltz (Or.inl rfl) fun x5_14 r5_14 => ?_
    refine g_istoreN (pc := 14) X (i := 5) (x := x5_14) (b := 4) (w := iv a4) (rest := [(0, rv D a0), (1, iv a1), (2, rv D a2), (3, iv a3)]) (Nat.le_of_ble_eq_true rfl) [4, 0, 1, 2, 3] rfl (by decide) rfl rfl (dl_at t_X6_isField 9 rfl) ?_
    refine g_ls (ls2 := [(0, rv D a0), (1, iv a1), (2, rv D a2), (3, iv a3), (4, iv a4), (5, iv x5_14)]) [2, 3, 4, 5, 1, 0] rfl ?_
    refine g_loop0F (fun (q : Int) => [(0, rv D a0), (1, iv a1), (2, rv D a2), (3, iv a3), (4, iv a4), (5, iv q)]) (fun (q : Int) => h) (fun (q : Int) => r32 q) x5_14 (r32_z r5_14) ?_ (fun _ => rfl)
    · rintro x5_16 r5_16
      try dsimp only
      unfold m_X6_isField_l16
      refine g_iload (pc := 16) X (i := 5) (q := 5) (x := x5_16) rfl (dl_at t_X6_isField 10 rfl) ?_
      refine g_iload (pc := 18) X (i := 4) (q := 4) (x := a4) rfl (dl_at t_X6_isField 11 rfl) ?_
      refine g_icmpge (pc := 20) X r5_16 r4 (off := 34) (tgt := 54) rfl (dl_at t_X6_isField 12 rfl) (fun _ => ?_) (fun _ => ?_)
      · refine g_iconst (pc := 54) X (n := 1) (dl_at t_X6_isField 32 rfl) ?_
        exact g_at fun Q hQ => (g_zret (pc := 55) X (Or.inr rfl) rfl rfl (dl_at t_X6_isField 33 rfl)) _ Q rfl hQ
      refine g_aload_n (pc := 23) X (j := 0) (i := 0) (q := 0) (x := a0) rfl rfl (dl_at t_X6_isField 13 rfl) ?_
      refine r_getr (pc := 24) X fX6_0 hk q645 (dl_at t_X6_isField 14 rfl) ?_
      refine g_aload_n (pc := 27) X (j := 0) (i := 0) (q := 0) (x := a0) rfl rfl (dl_at t_X6_isField 15 rfl) ?_
      refine r_getr (pc := 28) X fX6_16 hk q679 (dl_at t_X6_isField 16 rfl) ?_
      refine g_iload_n (pc := 31) X (j := 1) (i := 1) (q := 1) (x := a1) rfl rfl (dl_at t_X6_isField 17 rfl) ?_
      refine g_gd fun k32 => ?_
      refine g_iald (pc := 32) X r1 k32 (dl_at t_X6_isField 18 rfl) fun g32 => ?_
      refine g_iload (pc := 33) X (i := 5) (q := 5) (x := x5_16) rfl (dl_at t_X6_isField 19 rfl) ?_
      refine g_iadd (pc := 35) X g32 r5_16 (dl_at t_X6_isField 20 rfl) ?_
      refine g_gd fun k36 => ?_
      refine g_bald (pc := 36) X (r32_w _) k36 (dl_at t_X6_isField 21 rfl) fun g36 => ?_
      refine g_aload_n (pc := 37) X (j := 2) (i := 2) (q := 2) (x := a2) rfl rfl (dl_at t_X6_isField 22 rfl) ?_
      refine g_iload_n (pc := 38) X (j := 3) (i := 3) (q := 3) (x := a3) rfl rfl (dl_at t_X6_isField 23 rfl) ?_
      refine g_iload (pc := 39) X (i := 5) (q := 5) (x := x5_16) rfl (dl_at t_X6_isField 24 rfl) ?_
      refine g_iadd (pc := 41) X r3 r5_16 (dl_at t_X6_isField 25 rfl) ?_
      refine g_gd fun k42 => ?_
      refine g_bald (pc := 42) X (r32_w _) k42 (dl_at t_X6_isField 26 rfl) fun g42 => ?_
      refine g_icmpeq (pc := 43) X (r32_b g36) (r32_b g42) (off := 5) (tgt := 48) rfl (dl_at t_X6_isField 27 rfl) (fun _ => ?_) (fun _ => ?_)
      · refine r_iincN (pc := 48) X (i := 5) (q := 5) (n := 1) (x := x5_16) (b := 4) (w := iv a4) (rest := [(0, rv D a0), (1, iv a1), (2, rv D a2), (3, iv a3)]) rfl r5_16 (r32_c rfl) (Nat.le_of_ble_eq_true rfl) [4, 0, 1, 2, 3] rfl (by decide) rfl rfl (dl_at t_X6_isField 30 rfl) fun x5_48 r5_48 => ?_
        refine g_goto (pc := 51) X (off := (-35)) (tgt := 16) rfl (dl_at t_X6_isField 31 rfl) ?_
        refine g_ls (ls2 := [(0, rv D a0), (1, iv a1), (2, rv D a2), (3, iv a3), (4, iv a4), (5, iv x5_48)]) [2, 3, 4, 5, 1, 0] rfl ?_
        exact g_at fun Q hQ => hQ r5_48
      refine g_iconst (pc := 46) X (n := 0) (dl_at t_X6_isField 28 rfl) ?_
      exact g_at fun Q hQ => (g_zret (pc := 47) X (Or.inl rfl) rfl rfl (dl_at t_X6_isField 29 rfl)) _ Q rfl hQ
  refine g_iconst (pc := 11) X (n := 0) (dl_at t_X6_isField 6 rfl) ?_
  exact g_zret (pc := 12) X (Or.inl rfl) rfl rfl (dl_at t_X6_isField 7 rfl)
def k_X7_holds : List (Nat × Instr × Nat) := [(0, .aload_n 0, 1), (1, .getfield 66, 3), (4, .getfield 121, 3), (7, .iload_n 2, 1), (8, .iaload, 1), (9, .istore_n 3, 1), (10, .iload_n 3, 1), (11, .ifCond .ge 13, 3), (14, .aload_n 0, 1), (15, .getfield 66, 3), (18, .getfield 189, 3), (21, .goto 12, 3), (24, .aload_n 0, 1), (25, .getfield 66, 3), (28, .getfield 192, 3), (31, .iload_n 3, 1), (32, .iaload, 1), (33, .istore 4, 2), (35, .aload_n 0, 1), (36, .getfield 70, 3), (39, .getfield 195, 3), (42, .iload_n 1, 1), (43, .iaload, 1), (84, .aload_n 0, 1), (85, .getfield 11, 3), (88, .aload_n 0, 1), (89, .getfield 70, 3), (92, .getfield 198, 3), (95, .iload_n 1, 1), (96, .iaload, 1), (97, .iaload, 1), (98, .ifCond .lt 32, 3), (101, .aload_n 0, 1), (102, .getfield 66, 3), (105, .iload_n 2, 1), (106, .aload_n 0, 1), (107, .getfield 11, 3), (110, .aload_n 0, 1), (111, .getfield 70, 3), (114, .getfield 198, 3), (117, .iload_n 1, 1), (118, .iaload, 1), (119, .iaload, 1), (120, .invokevirtual 201, 3), (123, .ifCond .lt 7, 3), (126, .iconst 1, 1), (127, .goto 4, 3), (130, .iconst 0, 1), (131, .ireturn, 1), (132, .aload_n 0, 1), (133, .getfield 11, 3), (136, .aload_n 0, 1), (137, .getfield 70, 3), (140, .getfield 198, 3), (143, .iload_n 1, 1), (144, .iaload, 1), (145, .iaload, 1), (146, .ifCond .ge 7, 3), (149, .iconst (-1), 1), (150, .goto 25, 3), (153, .aload_n 0, 1), (154, .getfield 66, 3), (157, .iload_n 2, 1), (158, .aload_n 0, 1), (159, .getfield 11, 3), (162, .aload_n 0, 1), (163, .getfield 70, 3), (166, .getfield 198, 3), (169, .iload_n 1, 1), (170, .iaload, 1), (171, .iaload, 1), (172, .invokevirtual 201, 3), (175, .istore 5, 2), (177, .iload 5, 2), (179, .ifCond .lt 47, 3), (182, .aload_n 0, 1), (183, .getfield 66, 3), (186, .iload 5, 2), (188, .aload_n 0, 1), (189, .getfield 70, 3), (192, .getfield 204, 3), (195, .getfield 207, 3), (198, .aload_n 0, 1), (199, .getfield 70, 3), (202, .getfield 211, 3), (205, .iload_n 1, 1), (206, .iaload, 1), (207, .aload_n 0, 1), (208, .getfield 70, 3), (211, .getfield 214, 3), (214, .iload_n 1, 1), (215, .iaload, 1), (216, .invokevirtual 217, 3), (219, .ifCond .eq 7, 3), (222, .iconst 1, 1), (223, .goto 4, 3), (226, .iconst 0, 1), (227, .ireturn, 1), (228, .aload_n 0, 1), (229, .getfield 66, 3), (232, .getfield 221, 3), (235, .iload_n 2, 1), (236, .iaload, 1), (237, .iconst 1, 1), (238, .if_icmp .ne 7, 3), (241, .iconst 1, 1), (242, .goto 4, 3), (245, .iconst 0, 1), (246, .ireturn, 1), (247, .aload_n 0, 1), (248, .getfield 66, 3), (251, .getfield 221, 3), (254, .iload_n 2, 1), (255, .iaload, 1), (256, .iload 4, 2), (258, .if_icmp .ne 7, 3), (261, .iconst 1, 1), (262, .goto 4, 3), (265, .iconst 0, 1), (266, .ireturn, 1), (267, .aload_n 0, 1), (268, .getfield 66, 3), (271, .getfield 224, 3), (274, .iload_n 2, 1), (275, .baload, 1), (276, .ifCond .ne 7, 3), (279, .iconst 1, 1), (280, .goto 4, 3), (283, .iconst 0, 1), (284, .ireturn, 1), (285, .aload_n 0, 1), (286, .getfield 66, 3), (289, .getfield 221, 3), (292, .iload_n 2, 1), (293, .iaload, 1), (294, .aload_n 0, 1), (295, .getfield 70, 3), (298, .getfield 198, 3), (301, .iload_n 1, 1), (302, .iaload, 1), (303, .if_icmp .ne 7, 3), (306, .iconst 1, 1), (307, .goto 4, 3), (310, .iconst 0, 1), (311, .ireturn, 1), (312, .aload_n 0, 1), (313, .getfield 11, 3), (316, .aload_n 0, 1), (317, .getfield 70, 3), (320, .getfield 198, 3), (323, .iload_n 1, 1), (324, .iaload, 1), (325, .iaload, 1), (326, .aload_n 0, 1), (327, .getfield 66, 3), (330, .getfield 180, 3), (333, .iload_n 2, 1), (334, .iaload, 1), (335, .if_icmp .eq 7, 3), (338, .iconst 1, 1), (339, .goto 4, 3), (342, .iconst 0, 1), (343, .ireturn, 1)]
theorem t_X7_holds : ∀ q ∈ k_X7_holds, decode cX7_holds q.1 = .ok q.2 := dl_all (by decide +kernel)
theorem dS_X7_holds_44 : decode cX7_holds 44 = .ok (.tableswitch 268 0 5 #[40, 88, 184, 203, 223, 241], 40) := by decide +kernel
noncomputable def m_X7_holds_j175 (a0 a1 s0_175 : Int) (h : Hp) : Option (Int) :=
  if s0_175 < 0 then (some 0)
  else (gd (h (h (h a0 1) 2) (-2) = 80) (gd (h (h (h a0 1) 9) (-2) % 16 = 1 ∧ (0 : Int) ≤ a1 ∧ a1 < h (h (h a0 1) 9) (-1)) (gd (h (h (h a0 1) 10) (-2) % 16 = 1 ∧ (0 : Int) ≤ a1 ∧ a1 < h (h (h a0 1) 10) (-1)) ((m_X6_isField (h a0 0) s0_175 (h (h (h a0 1) 2) 0) (h (h (h a0 1) 9) a1) (h (h (h a0 1) 10) a1) h).bind fun v216 =>
  if v216 = 0 then (some 0)
  else (some 1)))))
noncomputable def m_X7_holds_j33 (a2 a0 a1 s0_33 : Int) (h : Hp) : Option (Int) :=
  gd (h (h a0 1) (-2) = 48) (gd (h (h (h a0 1) 7) (-2) % 16 = 1 ∧ (0 : Int) ≤ a1 ∧ a1 < h (h (h a0 1) 7) (-1)) (if (h (h (h a0 1) 7) a1) = 0 then (gd (h (h (h a0 1) 8) (-2) % 16 = 1 ∧ (0 : Int) ≤ a1 ∧ a1 < h (h (h a0 1) 8) (-1)) (gd (h (h a0 3) (-2) % 16 = 1 ∧ (0 : Int) ≤ (h (h (h a0 1) 8) a1) ∧ (h (h (h a0 1) 8) a1) < h (h a0 3) (-1)) (if (h (h a0 3) (h (h (h a0 1) 8) a1)) < 0 then (some 0)
  else ((m_X6_field (h a0 0) a2 (h (h a0 3) (h (h (h a0 1) 8) a1)) h).bind fun v120 =>
  if v120 < 0 then (some 0)
  else (some 1)))))
  else (if (h (h (h a0 1) 7) a1) = 1 then (gd (h (h (h a0 1) 8) (-2) % 16 = 1 ∧ (0 : Int) ≤ a1 ∧ a1 < h (h (h a0 1) 8) (-1)) (gd (h (h a0 3) (-2) % 16 = 1 ∧ (0 : Int) ≤ (h (h (h a0 1) 8) a1) ∧ (h (h (h a0 1) 8) a1) < h (h a0 3) (-1)) (if 0 ≤ (h (h a0 3) (h (h (h a0 1) 8) a1)) then ((m_X6_field (h a0 0) a2 (h (h a0 3) (h (h (h a0 1) 8) a1)) h).bind fun v172 =>
  m_X7_holds_j175 a0 a1 v172 h)
  else (m_X7_holds_j175 a0 a1 (-1) h))))
  else (if (h (h (h a0 1) 7) a1) = 2 then (gd (h (h (h a0 0) 9) (-2) % 16 = 1 ∧ (0 : Int) ≤ a2 ∧ a2 < h (h (h a0 0) 9) (-1)) (if (h (h (h a0 0) 9) a2) ≠ 1 then (some 0)
  else (some 1)))
  else (if (h (h (h a0 1) 7) a1) = 3 then (gd (h (h (h a0 0) 9) (-2) % 16 = 1 ∧ (0 : Int) ≤ a2 ∧ a2 < h (h (h a0 0) 9) (-1)) (if (h (h (h a0 0) 9) a2) ≠ s0_33 then (some 0)
  else (some 1)))
  else (if (h (h (h a0 1) 7) a1) = 4 then (gd (h (h (h a0 0) 13) (-2) % 16 = 3 ∧ (0 : Int) ≤ a2 ∧ a2 < h (h (h a0 0) 13) (-1)) (if (h (h (h a0 0) 13) a2) ≠ 0 then (some 0)
  else (some 1)))
  else (if (h (h (h a0 1) 7) a1) = 5 then (gd (h (h (h a0 0) 9) (-2) % 16 = 1 ∧ (0 : Int) ≤ a2 ∧ a2 < h (h (h a0 0) 9) (-1)) (gd (h (h (h a0 1) 8) (-2) % 16 = 1 ∧ (0 : Int) ≤ a1 ∧ a1 < h (h (h a0 1) 8) (-1)) (if (h (h (h a0 0) 9) a2) ≠ (h (h (h a0 1) 8) a1) then (some 0)
  else (some 1))))
  else (gd (h (h (h a0 1) 8) (-2) % 16 = 1 ∧ (0 : Int) ≤ a1 ∧ a1 < h (h (h a0 1) 8) (-1)) (gd (h (h a0 3) (-2) % 16 = 1 ∧ (0 : Int) ≤ (h (h (h a0 1) 8) a1) ∧ (h (h (h a0 1) 8) a1) < h (h a0 3) (-1)) (gd (h (h (h a0 0) 5) (-2) % 16 = 1 ∧ (0 : Int) ≤ a2 ∧ a2 < h (h (h a0 0) 5) (-1)) (if (h (h a0 3) (h (h (h a0 1) 8) a1)) = (h (h (h a0 0) 5) a2) then (some 0)
  else (some 1))))))))))))
noncomputable def m_X7_holds (a0 a1 a2 : Int) (h : Hp) : Option (Int) :=
  gd (h (h a0 0) (-2) = 96) (gd (h (h (h a0 0) 6) (-2) % 16 = 1 ∧ (0 : Int) ≤ a2 ∧ a2 < h (h (h a0 0) 6) (-1)) (lt_ (h (h (h a0 0) 6) a2) fun x3_9 =>
  if 0 ≤ x3_9 then (gd (h (h (h a0 0) 11) (-2) % 16 = 1 ∧ (0 : Int) ≤ x3_9 ∧ x3_9 < h (h (h a0 0) 11) (-1)) (m_X7_holds_j33 a2 a0 a1 (h (h (h a0 0) 11) x3_9) h))
  else (m_X7_holds_j33 a2 a0 a1 (h (h a0 0) 19) h)))
theorem s_X7_holds {l : Launch} [NoTr l] {D : SD} {a0 a1 a2 : Int} {h : Hp} (hk : h a0 (-2) = 112) (r1 : r32 a1) (r2 : r32 a2) {r : Int} (hm : m_X7_holds a0 a1 a2 h = some r) : Sim l D yX7_holds (Cond.code yX7_holds cX7_holds 6 (Option.some Jvm.ClassFile.FieldType.boolean)) 1 41 [rv D a0, iv a1, iv a2] h 3 ((0, r), h) := by
  refine Sim.of (fin := fun (v : Int) => ((0, v), h)) (lsE := [(0, rv D a0), (1, iv a1), (2, iv a2)]) hm rfl cwS_code (la_r (la_i (la_i la_n))) (ll_r (ll_i (ll_i ll_n))) ?_
  intro p e s m below meth c X hcw hmm hcc hnm hname
  unfold m_X7_holds
  refine g_aload_n (pc := 0) X (j := 0) (i := 0) (q := 0) (x := a0) rfl rfl (dl_at t_X7_holds 0 rfl) ?_
  refine r_getr (pc := 1) X fX7_0 hk q778 (dl_at t_X7_holds 1 rfl) ?_
  refine g_gd fun k4 => ?_
  refine r_getrN (pc := 4) X fX6_6 k4 (nw_in q660 rfl) (dl_at t_X7_holds 2 rfl) ?_
  refine g_iload_n (pc := 7) X (j := 2) (i := 2) (q := 2) (x := a2) rfl rfl (dl_at t_X7_holds 3 rfl) ?_
  refine g_gd fun k8 => ?_
  refine g_iald (pc := 8) X r2 k8 (dl_at t_X7_holds 4 rfl) fun g8 => ?_
  refine g_lti g8 fun x3_9 r3_9 => ?_
  refine g_istore_nN (pc := 9) X (j := 3) (i := 3) (x := x3_9) (b := 2) (w := iv a2) (rest := [(0, rv D a0), (1, iv a1)]) rfl (Nat.le_of_ble_eq_true rfl) [2, 0, 1] rfl (by decide) rfl rfl (dl_at t_X7_holds 5 rfl) ?_
  refine g_iload_n (pc := 10) X (j := 3) (i := 3) (q := 0) (x := x3_9) rfl rfl (dl_at t_X7_holds 6 rfl) ?_
  refine g_join (γ := Int) (fun q => r32 q) 33 (fun q => [(0, rv D a0), (1, iv a1), (2, iv a2)]) (fun q => [iv q]) (fun q => h) (fun q => m_X7_holds_j33 a2 a0 a1 q h) ?_ ?_
  · rintro s0_33 rs0_33
    try dsimp only
    unfold m_X7_holds_j33
    refine g_istore (pc := 33) X (i := 4) (x := s0_33) (rest := [(0, rv D a0), (1, iv a1), (2, iv a2)]) (Nat.le_of_ble_eq_true rfl) [0, 1, 2] rfl rfl (dl_at t_X7_holds 17 rfl) ?_
    refine g_aload_n (pc := 35) X (j := 0) (i := 0) (q := 1) (x := a0) rfl rfl (dl_at t_X7_holds 18 rfl) ?_
    refine r_getr (pc := 36) X fX7_1 hk q781 (dl_at t_X7_holds 19 rfl) ?_
    refine g_gd fun k39 => ?_
    refine r_getrN (pc := 39) X fX3_7 k39 (nw_in q535 rfl) (dl_at t_X7_holds 20 rfl) ?_
    refine g_iload_n (pc := 42) X (j := 1) (i := 1) (q := 2) (x := a1) rfl rfl (dl_at t_X7_holds 21 rfl) ?_
    refine g_gd fun k43 => ?_
    refine g_iald (pc := 43) X r1 k43 (dl_at t_X7_holds 22 rfl) fun g43 => ?_
    refine g_case (fun w44 => ?_) (fun nw44 => ?_)
    · refine g_tabIn (pc := 44) X (off := 40) (tgt := 84) g43 w44 (by decide) (by decide) rfl rfl dS_X7_holds_44 ?_
      refine g_aload_n (pc := 84) X (j := 0) (i := 0) (q := 1) (x := a0) rfl rfl (dl_at t_X7_holds 23 rfl) ?_
      refine r_getr (pc := 85) X fX7_3 hk q786 (dl_at t_X7_holds 24 rfl) ?_
      refine g_aload_n (pc := 88) X (j := 0) (i := 0) (q := 1) (x := a0) rfl rfl (dl_at t_X7_holds 25 rfl) ?_
      refine r_getr (pc := 89) X fX7_1 hk q781 (dl_at t_X7_holds 26 rfl) ?_
      refine r_getrN (pc := 92) X fX3_8 k39 (nw_in q537 rfl) (dl_at t_X7_holds 27 rfl) ?_
      refine g_iload_n (pc := 95) X (j := 1) (i := 1) (q := 2) (x := a1) rfl rfl (dl_at t_X7_holds 28 rfl) ?_
      refine g_gd fun k96 => ?_
      refine g_iald (pc := 96) X r1 k96 (dl_at t_X7_holds 29 rfl) fun g96 => ?_
      refine g_gd fun k97 => ?_
      refine g_iald (pc := 97) X g96 k97 (dl_at t_X7_holds 30 rfl) fun g97 => ?_
      refine g_iflt (pc := 98) X g97 (off := 32) (tgt := 130) rfl (dl_at t_X7_holds 31 rfl) (fun _ => ?_) (fun _ => ?_)
      · refine g_iconst (pc := 130) X (n := 0) (dl_at t_X7_holds 47 rfl) ?_
        exact g_zret (pc := 131) X (Or.inl rfl) rfl rfl (dl_at t_X7_holds 48 rfl)
      refine g_aload_n (pc := 101) X (j := 0) (i := 0) (q := 1) (x := a0) rfl rfl (dl_at t_X7_holds 32 rfl) ?_
      refine r_getr (pc := 102) X fX7_0 hk q778 (dl_at t_X7_holds 33 rfl) ?_
      refine g_iload_n (pc := 105) X (j := 2) (i := 2) (q := 3) (x := a2) rfl rfl (dl_at t_X7_holds 34 rfl) ?_
      refine g_aload_n (pc := 106) X (j := 0) (i := 0) (q := 1) (x := a0) rfl rfl (dl_at t_X7_holds 35 rfl) ?_
      refine r_getr (pc := 107) X fX7_3 hk q786 (dl_at t_X7_holds 36 rfl) ?_
      refine g_aload_n (pc := 110) X (j := 0) (i := 0) (q := 1) (x := a0) rfl rfl (dl_at t_X7_holds 37 rfl) ?_
      refine r_getr (pc := 111) X fX7_1 hk q781 (dl_at t_X7_holds 38 rfl) ?_
      refine r_getrN (pc := 114) X fX3_8 k39 (nw_in q537 rfl) (dl_at t_X7_holds 39 rfl) ?_
      refine g_iload_n (pc := 117) X (j := 1) (i := 1) (q := 2) (x := a1) rfl rfl (dl_at t_X7_holds 40 rfl) ?_
      refine g_iald (pc := 118) X r1 k96 (dl_at t_X7_holds 41 rfl) fun g118 => ?_
      refine g_iald (pc := 119) X g118 k97 (dl_at t_X7_holds 42 rfl) fun g119 => ?_
      refine r_callRi (pc := 120) X (fun _ hv => s_X6_field k4 r2 g119 hv) cw_code q2222 q360 (in_Vk X (As := [iv a2, iv (h (h a0 3) (h (h (h a0 1) 8) a1))]) kX6 k4 (Or.inr ⟨_, nw_in q2317 rfl⟩) q2221 qs70 cw_code q2222 ⟨by decide, by decide⟩ rfl (dl_at t_X7_holds 43 rfl)) (dl_at t_X7_holds 43 rfl) (cat24 (st := []) (Nat.le_of_ble_eq_true rfl)) (Nat.le_of_ble_eq_true rfl) (Nat.le_of_ble_eq_true rfl) fun v120 g120 => ?_
      refine g_iflt (pc := 123) X g120 (off := 7) (tgt := 130) rfl (dl_at t_X7_holds 44 rfl) (fun _ => ?_) (fun _ => ?_)
      · refine g_iconst (pc := 130) X (n := 0) (dl_at t_X7_holds 47 rfl) ?_
        exact g_zret (pc := 131) X (Or.inl rfl) rfl rfl (dl_at t_X7_holds 48 rfl)
      refine g_iconst (pc := 126) X (n := 1) (dl_at t_X7_holds 45 rfl) ?_
      refine g_goto (pc := 127) X (off := 4) (tgt := 131) rfl (dl_at t_X7_holds 46 rfl) ?_
      exact g_zret (pc := 131) X (Or.inr rfl) rfl rfl (dl_at t_X7_holds 48 rfl)
    refine g_case (fun w44_1 => ?_) (fun nw44_1 => ?_)
    · refine g_tabIn (pc := 44) X (off := 88) (tgt := 132) g43 w44_1 (by decide) (by decide) rfl rfl dS_X7_holds_44 ?_
      refine g_aload_n (pc := 132) X (j := 0) (i := 0) (q := 1) (x := a0) rfl rfl (dl_at t_X7_holds 49 rfl) ?_
      refine r_getr (pc := 133) X fX7_3 hk q786 (dl_at t_X7_holds 50 rfl) ?_
      refine g_aload_n (pc := 136) X (j := 0) (i := 0) (q := 1) (x := a0) rfl rfl (dl_at t_X7_holds 51 rfl) ?_
      refine r_getr (pc := 137) X fX7_1 hk q781 (dl_at t_X7_holds 52 rfl) ?_
      refine r_getrN (pc := 140) X fX3_8 k39 (nw_in q537 rfl) (dl_at t_X7_holds 53 rfl) ?_
      refine g_iload_n (pc := 143) X (j := 1) (i := 1) (q := 2) (x := a1) rfl rfl (dl_at t_X7_holds 54 rfl) ?_
      refine g_gd fun k144 => ?_
      refine g_iald (pc := 144) X r1 k144 (dl_at t_X7_holds 55 rfl) fun g144 => ?_
      refine g_gd fun k145 => ?_
      refine g_iald (pc := 145) X g144 k145 (dl_at t_X7_holds 56 rfl) fun g145 => ?_
      refine g_join (γ := Int) (fun q => r32 q) 175 (fun q => [(0, rv D a0), (1, iv a1)]) (fun q => [iv q]) (fun q => h) (fun q => m_X7_holds_j175 a0 a1 q h) ?_ ?_
      · rintro s0_175 rs0_175
        try dsimp only
        unfold m_X7_holds_j175
        refine g_istore (pc := 175) X (i := 5) (x := s0_175) (rest := [(0, rv D a0), (1, iv a1)]) (Nat.le_of_ble_eq_true rfl) [0, 1] rfl rfl (dl_at t_X7_holds 72 rfl) ?_
        refine g_iload (pc := 177) X (i := 5) (q := 0) (x := s0_175) rfl (dl_at t_X7_holds 73 rfl) ?_
        refine g_iflt (pc := 179) X rs0_175 (off := 47) (tgt := 226) rfl (dl_at t_X7_holds 74 rfl) (fun _ => ?_) (fun _ => ?_)
        · refine g_iconst (pc := 226) X (n := 0) (dl_at t_X7_holds 96 rfl) ?_
          exact g_zret (pc := 227) X (Or.inl rfl) rfl rfl (dl_at t_X7_holds 97 rfl)
        refine g_aload_n (pc := 182) X (j := 0) (i := 0) (q := 1) (x := a0) rfl rfl (dl_at t_X7_holds 75 rfl) ?_
        refine r_getr (pc := 183) X fX7_0 hk q778 (dl_at t_X7_holds 76 rfl) ?_
        refine g_iload (pc := 186) X (i := 5) (q := 0) (x := s0_175) rfl (dl_at t_X7_holds 77 rfl) ?_
        refine g_aload_n (pc := 188) X (j := 0) (i := 0) (q := 1) (x := a0) rfl rfl (dl_at t_X7_holds 78 rfl) ?_
        refine r_getr (pc := 189) X fX7_1 hk q781 (dl_at t_X7_holds 79 rfl) ?_
        refine r_getrN (pc := 192) X fX3_2 k39 (nw_in q526 rfl) (dl_at t_X7_holds 80 rfl) ?_
        refine g_gd fun k195 => ?_
        refine r_getrN (pc := 195) X fX5_0 k195 (nw_in q502 rfl) (dl_at t_X7_holds 81 rfl) ?_
        refine g_aload_n (pc := 198) X (j := 0) (i := 0) (q := 1) (x := a0) rfl rfl (dl_at t_X7_holds 82 rfl) ?_
        refine r_getr (pc := 199) X fX7_1 hk q781 (dl_at t_X7_holds 83 rfl) ?_
        refine r_getrN (pc := 202) X fX3_9 k39 (nw_in q539 rfl) (dl_at t_X7_holds 84 rfl) ?_
        refine g_iload_n (pc := 205) X (j := 1) (i := 1) (q := 2) (x := a1) rfl rfl (dl_at t_X7_holds 85 rfl) ?_
        refine g_gd fun k206 => ?_
        refine g_iald (pc := 206) X r1 k206 (dl_at t_X7_holds 86 rfl) fun g206 => ?_
        refine g_aload_n (pc := 207) X (j := 0) (i := 0) (q := 1) (x := a0) rfl rfl (dl_at t_X7_holds 87 rfl) ?_
        refine r_getr (pc := 208) X fX7_1 hk q781 (dl_at t_X7_holds 88 rfl) ?_
        refine r_getrN (pc := 211) X fX3_10 k39 (nw_in q541 rfl) (dl_at t_X7_holds 89 rfl) ?_
        refine g_iload_n (pc := 214) X (j := 1) (i := 1) (q := 2) (x := a1) rfl rfl (dl_at t_X7_holds 90 rfl) ?_
        refine g_gd fun k215 => ?_
        refine g_iald (pc := 215) X r1 k215 (dl_at t_X7_holds 91 rfl) fun g215 => ?_
        refine r_callRz (pc := 216) X (fun _ hv => s_X6_isField k4 rs0_175 g206 g215 hv) cw_code q2321 q360 (in_Vk X (As := [iv s0_175, rv D (h (h (h a0 1) 2) 0), iv (h (h (h a0 1) 9) a1), iv (h (h (h a0 1) 10) a1)]) kX6 k4 (Or.inr ⟨_, nw_in q2318 rfl⟩) q2320 qs82 cw_code q2321 ⟨by decide, by decide⟩ rfl (dl_at t_X7_holds 92 rfl)) (dl_at t_X7_holds 92 rfl) (cat24 (st := []) (Nat.le_of_ble_eq_true rfl)) (Nat.le_of_ble_eq_true rfl) (Nat.le_of_ble_eq_true rfl) fun v216 g216 => ?_
        refine g_ifeq (pc := 219) X (r32_z g216) (off := 7) (tgt := 226) rfl (dl_at t_X7_holds 93 rfl) (fun _ => ?_) (fun _ => ?_)
        · refine g_iconst (pc := 226) X (n := 0) (dl_at t_X7_holds 96 rfl) ?_
          exact g_zret (pc := 227) X (Or.inl rfl) rfl rfl (dl_at t_X7_holds 97 rfl)
        refine g_iconst (pc := 222) X (n := 1) (dl_at t_X7_holds 94 rfl) ?_
        refine g_goto (pc := 223) X (off := 4) (tgt := 227) rfl (dl_at t_X7_holds 95 rfl) ?_
        exact g_zret (pc := 227) X (Or.inr rfl) rfl rfl (dl_at t_X7_holds 97 rfl)
      intro J175
      refine g_ifge (pc := 146) X g145 (off := 7) (tgt := 153) rfl (dl_at t_X7_holds 57 rfl) (fun _ => ?_) (fun _ => ?_)
      · refine g_aload_n (pc := 153) X (j := 0) (i := 0) (q := 1) (x := a0) rfl rfl (dl_at t_X7_holds 60 rfl) ?_
        refine r_getr (pc := 154) X fX7_0 hk q778 (dl_at t_X7_holds 61 rfl) ?_
        refine g_iload_n (pc := 157) X (j := 2) (i := 2) (q := 3) (x := a2) rfl rfl (dl_at t_X7_holds 62 rfl) ?_
        refine g_aload_n (pc := 158) X (j := 0) (i := 0) (q := 1) (x := a0) rfl rfl (dl_at t_X7_holds 63 rfl) ?_
        refine r_getr (pc := 159) X fX7_3 hk q786 (dl_at t_X7_holds 64 rfl) ?_
        refine g_aload_n (pc := 162) X (j := 0) (i := 0) (q := 1) (x := a0) rfl rfl (dl_at t_X7_holds 65 rfl) ?_
        refine r_getr (pc := 163) X fX7_1 hk q781 (dl_at t_X7_holds 66 rfl) ?_
        refine r_getrN (pc := 166) X fX3_8 k39 (nw_in q537 rfl) (dl_at t_X7_holds 67 rfl) ?_
        refine g_iload_n (pc := 169) X (j := 1) (i := 1) (q := 2) (x := a1) rfl rfl (dl_at t_X7_holds 68 rfl) ?_
        refine g_iald (pc := 170) X r1 k144 (dl_at t_X7_holds 69 rfl) fun g170 => ?_
        refine g_iald (pc := 171) X g170 k145 (dl_at t_X7_holds 70 rfl) fun g171 => ?_
        refine r_callRi (pc := 172) X (fun _ hv => s_X6_field k4 r2 g171 hv) cw_code q2222 q360 (in_Vk X (As := [iv a2, iv (h (h a0 3) (h (h (h a0 1) 8) a1))]) kX6 k4 (Or.inr ⟨_, nw_in q2317 rfl⟩) q2221 qs70 cw_code q2222 ⟨by decide, by decide⟩ rfl (dl_at t_X7_holds 71 rfl)) (dl_at t_X7_holds 71 rfl) (cat24 (st := []) (Nat.le_of_ble_eq_true rfl)) (Nat.le_of_ble_eq_true rfl) (Nat.le_of_ble_eq_true rfl) fun v172 g172 => ?_
        refine g_ls (ls2 := [(0, rv D a0), (1, iv a1)]) [1, 2] rfl ?_
        exact J175 v172 g172
      refine g_iconst (pc := 149) X (n := (-1)) (dl_at t_X7_holds 58 rfl) ?_
      refine g_goto (pc := 150) X (off := 25) (tgt := 175) rfl (dl_at t_X7_holds 59 rfl) ?_
      refine g_ls (ls2 := [(0, rv D a0), (1, iv a1)]) [1, 2] rfl ?_
      exact J175 (-1) (r32_c rfl)
    refine g_case (fun w44_2 => ?_) (fun nw44_2 => ?_)
    · refine g_tabIn (pc := 44) X (off := 184) (tgt := 228) g43 w44_2 (by decide) (by decide) rfl rfl dS_X7_holds_44 ?_
      refine g_aload_n (pc := 228) X (j := 0) (i := 0) (q := 1) (x := a0) rfl rfl (dl_at t_X7_holds 98 rfl) ?_
      refine r_getr (pc := 229) X fX7_0 hk q778 (dl_at t_X7_holds 99 rfl) ?_
      refine r_getrN (pc := 232) X fX6_9 k4 (nw_in q668 rfl) (dl_at t_X7_holds 100 rfl) ?_
      refine g_iload_n (pc := 235) X (j := 2) (i := 2) (q := 3) (x := a2) rfl rfl (dl_at t_X7_holds 101 rfl) ?_
      refine g_gd fun k236 => ?_
      refine g_iald (pc := 236) X r2 k236 (dl_at t_X7_holds 102 rfl) fun g236 => ?_
      refine g_iconst (pc := 237) X (n := 1) (dl_at t_X7_holds 103 rfl) ?_
      refine g_icmpne (pc := 238) X g236 (r32_c rfl) (off := 7) (tgt := 245) rfl (dl_at t_X7_holds 104 rfl) (fun _ => ?_) (fun _ => ?_)
      · refine g_iconst (pc := 245) X (n := 0) (dl_at t_X7_holds 107 rfl) ?_
        exact g_zret (pc := 246) X (Or.inl rfl) rfl rfl (dl_at t_X7_holds 108 rfl)
      refine g_iconst (pc := 241) X (n := 1) (dl_at t_X7_holds 105 rfl) ?_
      refine g_goto (pc := 242) X (off := 4) (tgt := 246) rfl (dl_at t_X7_holds 106 rfl) ?_
      exact g_zret (pc := 246) X (Or.inr rfl) rfl rfl (dl_at t_X7_holds 108 rfl)
    refine g_case (fun w44_3 => ?_) (fun nw44_3 => ?_)
    · refine g_tabIn (pc := 44) X (off := 203) (tgt := 247) g43 w44_3 (by decide) (by decide) rfl rfl dS_X7_holds_44 ?_
      refine g_aload_n (pc := 247) X (j := 0) (i := 0) (q := 1) (x := a0) rfl rfl (dl_at t_X7_holds 109 rfl) ?_
      refine r_getr (pc := 248) X fX7_0 hk q778 (dl_at t_X7_holds 110 rfl) ?_
      refine r_getrN (pc := 251) X fX6_9 k4 (nw_in q668 rfl) (dl_at t_X7_holds 111 rfl) ?_
      refine g_iload_n (pc := 254) X (j := 2) (i := 2) (q := 3) (x := a2) rfl rfl (dl_at t_X7_holds 112 rfl) ?_
      refine g_gd fun k255 => ?_
      refine g_iald (pc := 255) X r2 k255 (dl_at t_X7_holds 113 rfl) fun g255 => ?_
      refine g_iload (pc := 256) X (i := 4) (q := 0) (x := s0_33) rfl (dl_at t_X7_holds 114 rfl) ?_
      refine g_icmpne (pc := 258) X g255 rs0_33 (off := 7) (tgt := 265) rfl (dl_at t_X7_holds 115 rfl) (fun _ => ?_) (fun _ => ?_)
      · refine g_iconst (pc := 265) X (n := 0) (dl_at t_X7_holds 118 rfl) ?_
        exact g_zret (pc := 266) X (Or.inl rfl) rfl rfl (dl_at t_X7_holds 119 rfl)
      refine g_iconst (pc := 261) X (n := 1) (dl_at t_X7_holds 116 rfl) ?_
      refine g_goto (pc := 262) X (off := 4) (tgt := 266) rfl (dl_at t_X7_holds 117 rfl) ?_
      exact g_zret (pc := 266) X (Or.inr rfl) rfl rfl (dl_at t_X7_holds 119 rfl)
    refine g_case (fun w44_4 => ?_) (fun nw44_4 => ?_)
    · refine g_tabIn (pc := 44) X (off := 223) (tgt := 267) g43 w44_4 (by decide) (by decide) rfl rfl dS_X7_holds_44 ?_
      refine g_aload_n (pc := 267) X (j := 0) (i := 0) (q := 1) (x := a0) rfl rfl (dl_at t_X7_holds 120 rfl) ?_
      refine r_getr (pc := 268) X fX7_0 hk q778 (dl_at t_X7_holds 121 rfl) ?_
      refine r_getrN (pc := 271) X fX6_13 k4 (nw_in q675 rfl) (dl_at t_X7_holds 122 rfl) ?_
      refine g_iload_n (pc := 274) X (j := 2) (i := 2) (q := 3) (x := a2) rfl rfl (dl_at t_X7_holds 123 rfl) ?_
      refine g_gd fun k275 => ?_
      refine g_zald (pc := 275) X r2 k275 (dl_at t_X7_holds 124 rfl) fun g275 => ?_
      refine g_ifne (pc := 276) X (r32_z g275) (off := 7) (tgt := 283) rfl (dl_at t_X7_holds 125 rfl) (fun _ => ?_) (fun _ => ?_)
      · refine g_iconst (pc := 283) X (n := 0) (dl_at t_X7_holds 128 rfl) ?_
        exact g_zret (pc := 284) X (Or.inl rfl) rfl rfl (dl_at t_X7_holds 129 rfl)
      refine g_iconst (pc := 279) X (n := 1) (dl_at t_X7_holds 126 rfl) ?_
      refine g_goto (pc := 280) X (off := 4) (tgt := 284) rfl (dl_at t_X7_holds 127 rfl) ?_
      exact g_zret (pc := 284) X (Or.inr rfl) rfl rfl (dl_at t_X7_holds 129 rfl)
    refine g_case (fun w44_5 => ?_) (fun nw44_5 => ?_)
    · refine g_tabIn (pc := 44) X (off := 241) (tgt := 285) g43 w44_5 (by decide) (by decide) rfl rfl dS_X7_holds_44 ?_
      refine g_aload_n (pc := 285) X (j := 0) (i := 0) (q := 1) (x := a0) rfl rfl (dl_at t_X7_holds 130 rfl) ?_
      refine r_getr (pc := 286) X fX7_0 hk q778 (dl_at t_X7_holds 131 rfl) ?_
      refine r_getrN (pc := 289) X fX6_9 k4 (nw_in q668 rfl) (dl_at t_X7_holds 132 rfl) ?_
      refine g_iload_n (pc := 292) X (j := 2) (i := 2) (q := 3) (x := a2) rfl rfl (dl_at t_X7_holds 133 rfl) ?_
      refine g_gd fun k293 => ?_
      refine g_iald (pc := 293) X r2 k293 (dl_at t_X7_holds 134 rfl) fun g293 => ?_
      refine g_aload_n (pc := 294) X (j := 0) (i := 0) (q := 1) (x := a0) rfl rfl (dl_at t_X7_holds 135 rfl) ?_
      refine r_getr (pc := 295) X fX7_1 hk q781 (dl_at t_X7_holds 136 rfl) ?_
      refine r_getrN (pc := 298) X fX3_8 k39 (nw_in q537 rfl) (dl_at t_X7_holds 137 rfl) ?_
      refine g_iload_n (pc := 301) X (j := 1) (i := 1) (q := 2) (x := a1) rfl rfl (dl_at t_X7_holds 138 rfl) ?_
      refine g_gd fun k302 => ?_
      refine g_iald (pc := 302) X r1 k302 (dl_at t_X7_holds 139 rfl) fun g302 => ?_
      refine g_icmpne (pc := 303) X g293 g302 (off := 7) (tgt := 310) rfl (dl_at t_X7_holds 140 rfl) (fun _ => ?_) (fun _ => ?_)
      · refine g_iconst (pc := 310) X (n := 0) (dl_at t_X7_holds 143 rfl) ?_
        exact g_zret (pc := 311) X (Or.inl rfl) rfl rfl (dl_at t_X7_holds 144 rfl)
      refine g_iconst (pc := 306) X (n := 1) (dl_at t_X7_holds 141 rfl) ?_
      refine g_goto (pc := 307) X (off := 4) (tgt := 311) rfl (dl_at t_X7_holds 142 rfl) ?_
      exact g_zret (pc := 311) X (Or.inr rfl) rfl rfl (dl_at t_X7_holds 144 rfl)
    have w44_6 : ¬ (h (h (h a0 1) 7) a1) ∈ ([0, 1, 2, 3, 4, 5] : List Int) := by simp only [List.mem_cons, List.not_mem_nil, or_false, not_or] at *; simp only [*, not_false_eq_true, and_self]
    refine g_tabElse (pc := 44) X (tgt := 312) [0, 1, 2, 3, 4, 5] g43 w44_6 rfl rfl dS_X7_holds_44 ?_
    refine g_aload_n (pc := 312) X (j := 0) (i := 0) (q := 1) (x := a0) rfl rfl (dl_at t_X7_holds 145 rfl) ?_
    refine r_getr (pc := 313) X fX7_3 hk q786 (dl_at t_X7_holds 146 rfl) ?_
    refine g_aload_n (pc := 316) X (j := 0) (i := 0) (q := 1) (x := a0) rfl rfl (dl_at t_X7_holds 147 rfl) ?_
    refine r_getr (pc := 317) X fX7_1 hk q781 (dl_at t_X7_holds 148 rfl) ?_
    refine r_getrN (pc := 320) X fX3_8 k39 (nw_in q537 rfl) (dl_at t_X7_holds 149 rfl) ?_
    refine g_iload_n (pc := 323) X (j := 1) (i := 1) (q := 2) (x := a1) rfl rfl (dl_at t_X7_holds 150 rfl) ?_
    refine g_gd fun k324 => ?_
    refine g_iald (pc := 324) X r1 k324 (dl_at t_X7_holds 151 rfl) fun g324 => ?_
    refine g_gd fun k325 => ?_
    refine g_iald (pc := 325) X g324 k325 (dl_at t_X7_holds 152 rfl) fun g325 => ?_
    refine g_aload_n (pc := 326) X (j := 0) (i := 0) (q := 1) (x := a0) rfl rfl (dl_at t_X7_holds 153 rfl) ?_
    refine r_getr (pc := 327) X fX7_0 hk q778 (dl_at t_X7_holds 154 rfl) ?_
    refine r_getrN (pc := 330) X fX6_5 k4 (nw_in q658 rfl) (dl_at t_X7_holds 155 rfl) ?_
    refine g_iload_n (pc := 333) X (j := 2) (i := 2) (q := 3) (x := a2) rfl rfl (dl_at t_X7_holds 156 rfl) ?_
    refine g_gd fun k334 => ?_
    refine g_iald (pc := 334) X r2 k334 (dl_at t_X7_holds 157 rfl) fun g334 => ?_
    refine g_icmpeq (pc := 335) X g325 g334 (off := 7) (tgt := 342) rfl (dl_at t_X7_holds 158 rfl) (fun _ => ?_) (fun _ => ?_)
    · refine g_iconst (pc := 342) X (n := 0) (dl_at t_X7_holds 161 rfl) ?_
      exact g_zret (pc := 343) X (Or.inl rfl) rfl rfl (dl_at t_X7_holds 162 rfl)
    refine g_iconst (pc := 338) X (n := 1) (dl_at t_X7_holds 159 rfl) ?_
    refine g_goto (pc := 339) X (off := 4) (tgt := 343) rfl (dl_at t_X7_holds 160 rfl) ?_
    exact g_zret (pc := 343) X (Or.inr rfl) rfl rfl (dl_at t_X7_holds 162 rfl)
  intro J33
  refine g_ifge (pc := 11) X r3_9 (off := 13) (tgt := 24) rfl (dl_at t_X7_holds 7 rfl) (fun _ => ?_) (fun _ => ?_)
  · refine g_aload_n (pc := 24) X (j := 0) (i := 0) (q := 2) (x := a0) rfl rfl (dl_at t_X7_holds 12 rfl) ?_
    refine r_getr (pc := 25) X fX7_0 hk q778 (dl_at t_X7_holds 13 rfl) ?_
    refine r_getrN (pc := 28) X fX6_11 k4 (nw_in q672 rfl) (dl_at t_X7_holds 14 rfl) ?_
    refine g_iload_n (pc := 31) X (j := 3) (i := 3) (q := 0) (x := x3_9) rfl rfl (dl_at t_X7_holds 15 rfl) ?_
    refine g_gd fun k32 => ?_
    refine g_iald (pc := 32) X r3_9 k32 (dl_at t_X7_holds 16 rfl) fun g32 => ?_
    refine g_ls (ls2 := [(0, rv D a0), (1, iv a1), (2, iv a2)]) [2, 3, 1] rfl ?_
    exact J33 (h (h (h a0 0) 11) x3_9) g32
  refine g_aload_n (pc := 14) X (j := 0) (i := 0) (q := 2) (x := a0) rfl rfl (dl_at t_X7_holds 8 rfl) ?_
  refine r_getr (pc := 15) X fX7_0 hk q778 (dl_at t_X7_holds 9 rfl) ?_
  refine r_getiN (pc := 18) X fX6_19 k4 (nw_in q688 rfl) (dl_at t_X7_holds 10 rfl) fun g18 => ?_
  refine g_goto (pc := 21) X (off := 12) (tgt := 33) rfl (dl_at t_X7_holds 11 rfl) ?_
  refine g_ls (ls2 := [(0, rv D a0), (1, iv a1), (2, iv a2)]) [2, 3, 1] rfl ?_
  exact J33 (h (h a0 0) 19) g18
def k_X7_fitsStep : List (Nat × Instr × Nat) := [(0, .aload_n 0, 1), (1, .getfield 70, 3), (4, .getfield 177, 3), (7, .iload_n 1, 1), (8, .iaload, 1), (9, .istore_n 3, 1), (10, .iload_n 3, 1), (11, .ifCond .lt 23, 3), (14, .aload_n 0, 1), (15, .getfield 11, 3), (18, .iload_n 3, 1), (19, .iaload, 1), (20, .aload_n 0, 1), (21, .getfield 66, 3), (24, .getfield 180, 3), (27, .iload_n 2, 1), (28, .iaload, 1), (29, .if_icmp .eq 5, 3), (32, .iconst 0, 1), (33, .ireturn, 1), (34, .aload_n 0, 1), (35, .getfield 70, 3), (38, .getfield 183, 3), (41, .iload_n 1, 1), (42, .iaload, 1), (43, .istore 4, 2), (45, .iload 4, 2), (47, .aload_n 0, 1), (48, .getfield 70, 3), (51, .getfield 183, 3), (54, .iload_n 1, 1), (55, .iconst 1, 1), (56, .iadd, 1), (57, .iaload, 1), (58, .if_icmp .ge 21, 3), (61, .aload_n 0, 1), (62, .iload 4, 2), (64, .iload_n 2, 1), (65, .invokevirtual 186, 3), (68, .ifCond .ne 5, 3), (71, .iconst 0, 1), (72, .ireturn, 1), (73, .iinc 4 1, 3), (76, .goto (-31), 3), (79, .iconst 1, 1), (80, .ireturn, 1)]
theorem t_X7_fitsStep : ∀ q ∈ k_X7_fitsStep, decode cX7_fitsStep q.1 = .ok q.2 := dl_all (by decide +kernel)
noncomputable def m_X7_fitsStep_l45 (a0 a1 a2 x4_45 : Int) (h : Hp) : Option ((Int) ⊕ ((Int))) :=
  gd (h (h (h a0 1) 5) (-2) % 16 = 1 ∧ (0 : Int) ≤ (w32 (a1 + 1)) ∧ (w32 (a1 + 1)) < h (h (h a0 1) 5) (-1)) (if (h (h (h a0 1) 5) (w32 (a1 + 1))) ≤ x4_45 then (some (.inr 1))
  else ((m_X7_holds a0 x4_45 a2 h).bind fun v65 =>
  if v65 ≠ 0 then (lt_ (w32 (x4_45 + 1)) fun x4_73 =>
  some (.inl x4_73))
  else (some (.inr 0))))
noncomputable def m_X7_fitsStep_j34 (a2 a0 a1 : Int) (h : Hp) : Option (Int) :=
  gd (h (h (h a0 1) 5) (-2) % 16 = 1 ∧ (0 : Int) ≤ a1 ∧ a1 < h (h (h a0 1) 5) (-1)) (lt_ (h (h (h a0 1) 5) a1) fun x4_43 =>
  (lp (fun (q : Int) => m_X7_fitsStep_l45 a0 a1 a2 q h) x4_43).bind (fun (x : Int) => some x))
noncomputable def m_X7_fitsStep (a0 a1 a2 : Int) (h : Hp) : Option (Int) :=
  gd (h (h a0 1) (-2) = 48) (gd (h (h (h a0 1) 3) (-2) % 16 = 1 ∧ (0 : Int) ≤ a1 ∧ a1 < h (h (h a0 1) 3) (-1)) (lt_ (h (h (h a0 1) 3) a1) fun x3_9 =>
  if x3_9 < 0 then (m_X7_fitsStep_j34 a2 a0 a1 h)
  else (gd (h (h a0 3) (-2) % 16 = 1 ∧ (0 : Int) ≤ x3_9 ∧ x3_9 < h (h a0 3) (-1)) (gd (h (h a0 0) (-2) = 96) (gd (h (h (h a0 0) 5) (-2) % 16 = 1 ∧ (0 : Int) ≤ a2 ∧ a2 < h (h (h a0 0) 5) (-1)) (if (h (h a0 3) x3_9) = (h (h (h a0 0) 5) a2) then (m_X7_fitsStep_j34 a2 a0 a1 h)
  else (some 0)))))))
theorem s_X7_fitsStep {l : Launch} [NoTr l] {D : SD} {a0 a1 a2 : Int} {h : Hp} (hk : h a0 (-2) = 112) (r1 : r32 a1) (r2 : r32 a2) {r : Int} (hm : m_X7_fitsStep a0 a1 a2 h = some r) : Sim l D yX7_fitsStep (Cond.code yX7_fitsStep cX7_fitsStep 5 (Option.some Jvm.ClassFile.FieldType.boolean)) 2 82 [rv D a0, iv a1, iv a2] h 3 ((0, r), h) := by
  refine Sim.of (fin := fun (v : Int) => ((0, v), h)) (lsE := [(0, rv D a0), (1, iv a1), (2, iv a2)]) hm rfl cwS_code (la_r (la_i (la_i la_n))) (ll_r (ll_i (ll_i ll_n))) ?_
  intro p e s m below meth c X hcw hmm hcc hnm hname
  unfold m_X7_fitsStep
  refine g_aload_n (pc := 0) X (j := 0) (i := 0) (q := 0) (x := a0) rfl rfl (dl_at t_X7_fitsStep 0 rfl) ?_
  refine r_getr (pc := 1) X fX7_1 hk q781 (dl_at t_X7_fitsStep 1 rfl) ?_
  refine g_gd fun k4 => ?_
  refine r_getrN (pc := 4) X fX3_3 k4 (nw_in q528 rfl) (dl_at t_X7_fitsStep 2 rfl) ?_
  refine g_iload_n (pc := 7) X (j := 1) (i := 1) (q := 1) (x := a1) rfl rfl (dl_at t_X7_fitsStep 3 rfl) ?_
  refine g_gd fun k8 => ?_
  refine g_iald (pc := 8) X r1 k8 (dl_at t_X7_fitsStep 4 rfl) fun g8 => ?_
  refine g_lti g8 fun x3_9 r3_9 => ?_
  refine g_istore_nN (pc := 9) X (j := 3) (i := 3) (x := x3_9) (b := 2) (w := iv a2) (rest := [(0, rv D a0), (1, iv a1)]) rfl (Nat.le_of_ble_eq_true rfl) [2, 0, 1] rfl (by decide) rfl rfl (dl_at t_X7_fitsStep 5 rfl) ?_
  refine g_iload_n (pc := 10) X (j := 3) (i := 3) (q := 0) (x := x3_9) rfl rfl (dl_at t_X7_fitsStep 6 rfl) ?_
  refine g_join (γ := Unit) (fun q => True) 34 (fun q => [(0, rv D a0), (1, iv a1), (2, iv a2)]) (fun q => []) (fun q => h) (fun q => m_X7_fitsStep_j34 a2 a0 a1 h) ?_ ?_
  · rintro _ _
    try dsimp only
    unfold m_X7_fitsStep_j34
    refine g_aload_n (pc := 34) X (j := 0) (i := 0) (q := 0) (x := a0) rfl rfl (dl_at t_X7_fitsStep 20 rfl) ?_
    refine r_getr (pc := 35) X fX7_1 hk q781 (dl_at t_X7_fitsStep 21 rfl) ?_
    refine r_getrN (pc := 38) X fX3_5 k4 (nw_in q532 rfl) (dl_at t_X7_fitsStep 22 rfl) ?_
    refine g_iload_n (pc := 41) X (j := 1) (i := 1) (q := 1) (x := a1) rfl rfl (dl_at t_X7_fitsStep 23 rfl) ?_
    refine g_gd fun k42 => ?_
    refine g_iald (pc := 42) X r1 k42 (dl_at t_X7_fitsStep 24 rfl) fun g42 => ?_
    refine g_lti g42 fun x4_43 r4_43 => ?_
    refine g_istore (pc := 43) X (i := 4) (x := x4_43) (rest := [(0, rv D a0), (1, iv a1), (2, iv a2)]) (Nat.le_of_ble_eq_true rfl) [0, 1, 2] rfl rfl (dl_at t_X7_fitsStep 25 rfl) ?_
    refine g_ls (ls2 := [(0, rv D a0), (1, iv a1), (2, iv a2), (4, iv x4_43)]) [1, 2, 3, 0] rfl ?_
    refine g_loop0F (fun (q : Int) => [(0, rv D a0), (1, iv a1), (2, iv a2), (4, iv q)]) (fun (q : Int) => h) (fun (q : Int) => r32 q) x4_43 r4_43 ?_ (fun _ => rfl)
    · rintro x4_45 r4_45
      try dsimp only
      unfold m_X7_fitsStep_l45
      refine g_iload (pc := 45) X (i := 4) (q := 3) (x := x4_45) rfl (dl_at t_X7_fitsStep 26 rfl) ?_
      refine g_aload_n (pc := 47) X (j := 0) (i := 0) (q := 0) (x := a0) rfl rfl (dl_at t_X7_fitsStep 27 rfl) ?_
      refine r_getr (pc := 48) X fX7_1 hk q781 (dl_at t_X7_fitsStep 28 rfl) ?_
      refine r_getrN (pc := 51) X fX3_5 k4 (nw_in q532 rfl) (dl_at t_X7_fitsStep 29 rfl) ?_
      refine g_iload_n (pc := 54) X (j := 1) (i := 1) (q := 1) (x := a1) rfl rfl (dl_at t_X7_fitsStep 30 rfl) ?_
      refine g_iconst (pc := 55) X (n := 1) (dl_at t_X7_fitsStep 31 rfl) ?_
      refine g_iadd (pc := 56) X r1 (r32_c rfl) (dl_at t_X7_fitsStep 32 rfl) ?_
      refine g_gd fun k57 => ?_
      refine g_iald (pc := 57) X (r32_w _) k57 (dl_at t_X7_fitsStep 33 rfl) fun g57 => ?_
      refine g_icmpge (pc := 58) X r4_45 g57 (off := 21) (tgt := 79) rfl (dl_at t_X7_fitsStep 34 rfl) (fun _ => ?_) (fun _ => ?_)
      · refine g_iconst (pc := 79) X (n := 1) (dl_at t_X7_fitsStep 44 rfl) ?_
        exact g_at fun Q hQ => (g_zret (pc := 80) X (Or.inr rfl) rfl rfl (dl_at t_X7_fitsStep 45 rfl)) _ Q rfl hQ
      refine g_aload_n (pc := 61) X (j := 0) (i := 0) (q := 0) (x := a0) rfl rfl (dl_at t_X7_fitsStep 35 rfl) ?_
      refine g_iload (pc := 62) X (i := 4) (q := 3) (x := x4_45) rfl (dl_at t_X7_fitsStep 36 rfl) ?_
      refine g_iload_n (pc := 64) X (j := 2) (i := 2) (q := 2) (x := a2) rfl rfl (dl_at t_X7_fitsStep 37 rfl) ?_
      refine r_callRz (pc := 65) X (fun _ hv => s_X7_holds hk r4_45 r2 hv) cw_code q2316 q361 (in_Vk X (As := [iv x4_45, iv a2]) kX7 hk (Or.inl q2313) q2315 qs81 cw_code q2316 ⟨by decide, by decide⟩ rfl (dl_at t_X7_fitsStep 38 rfl)) (dl_at t_X7_fitsStep 38 rfl) (cat24 (st := []) (Nat.le_of_ble_eq_true rfl)) (Nat.le_of_ble_eq_true rfl) (Nat.le_of_ble_eq_true rfl) fun v65 g65 => ?_
      refine g_ifne (pc := 68) X (r32_z g65) (off := 5) (tgt := 73) rfl (dl_at t_X7_fitsStep 39 rfl) (fun _ => ?_) (fun _ => ?_)
      · refine r_iinc (pc := 73) X (i := 4) (q := 3) (n := 1) (x := x4_45) (rest := [(0, rv D a0), (1, iv a1), (2, iv a2)]) rfl r4_45 (r32_c rfl) (Nat.le_of_ble_eq_true rfl) [0, 1, 2] rfl rfl (dl_at t_X7_fitsStep 42 rfl) fun x4_73 r4_73 => ?_
        refine g_goto (pc := 76) X (off := (-31)) (tgt := 45) rfl (dl_at t_X7_fitsStep 43 rfl) ?_
        refine g_ls (ls2 := [(0, rv D a0), (1, iv a1), (2, iv a2), (4, iv x4_73)]) [1, 2, 3, 0] rfl ?_
        exact g_at fun Q hQ => hQ r4_73
      refine g_iconst (pc := 71) X (n := 0) (dl_at t_X7_fitsStep 40 rfl) ?_
      exact g_at fun Q hQ => (g_zret (pc := 72) X (Or.inl rfl) rfl rfl (dl_at t_X7_fitsStep 41 rfl)) _ Q rfl hQ
  intro J34
  refine g_iflt (pc := 11) X r3_9 (off := 23) (tgt := 34) rfl (dl_at t_X7_fitsStep 7 rfl) (fun _ => ?_) (fun _ => ?_)
  · refine g_ls (ls2 := [(0, rv D a0), (1, iv a1), (2, iv a2)]) [2, 3, 1] rfl ?_
    exact J34 () trivial
  refine g_aload_n (pc := 14) X (j := 0) (i := 0) (q := 2) (x := a0) rfl rfl (dl_at t_X7_fitsStep 8 rfl) ?_
  refine r_getr (pc := 15) X fX7_3 hk q786 (dl_at t_X7_fitsStep 9 rfl) ?_
  refine g_iload_n (pc := 18) X (j := 3) (i := 3) (q := 0) (x := x3_9) rfl rfl (dl_at t_X7_fitsStep 10 rfl) ?_
  refine g_gd fun k19 => ?_
  refine g_iald (pc := 19) X r3_9 k19 (dl_at t_X7_fitsStep 11 rfl) fun g19 => ?_
  refine g_aload_n (pc := 20) X (j := 0) (i := 0) (q := 2) (x := a0) rfl rfl (dl_at t_X7_fitsStep 12 rfl) ?_
  refine r_getr (pc := 21) X fX7_0 hk q778 (dl_at t_X7_fitsStep 13 rfl) ?_
  refine g_gd fun k24 => ?_
  refine r_getrN (pc := 24) X fX6_5 k24 (nw_in q658 rfl) (dl_at t_X7_fitsStep 14 rfl) ?_
  refine g_iload_n (pc := 27) X (j := 2) (i := 2) (q := 1) (x := a2) rfl rfl (dl_at t_X7_fitsStep 15 rfl) ?_
  refine g_gd fun k28 => ?_
  refine g_iald (pc := 28) X r2 k28 (dl_at t_X7_fitsStep 16 rfl) fun g28 => ?_
  refine g_icmpeq (pc := 29) X g19 g28 (off := 5) (tgt := 34) rfl (dl_at t_X7_fitsStep 17 rfl) (fun _ => ?_) (fun _ => ?_)
  · refine g_ls (ls2 := [(0, rv D a0), (1, iv a1), (2, iv a2)]) [2, 3, 1] rfl ?_
    exact J34 () trivial
  refine g_iconst (pc := 32) X (n := 0) (dl_at t_X7_fitsStep 18 rfl) ?_
  exact g_zret (pc := 33) X (Or.inl rfl) rfl rfl (dl_at t_X7_fitsStep 19 rfl)
def k_X7_fitsFrom : List (Nat × Instr × Nat) := [(0, .iload_n 2, 1), (1, .iload_n 1, 1), (2, .isub, 1), (3, .sipush 500, 3), (6, .imul, 1), (7, .iload_n 3, 1), (8, .iadd, 1), (9, .istore 4, 2), (11, .aload_n 0, 1), (12, .getfield 39, 3), (15, .iload 4, 2), (17, .iaload, 1), (18, .aload_n 0, 1), (19, .getfield 161, 3), (22, .if_icmp .ne 5, 3), (25, .iconst 0, 1), (26, .ireturn, 1), (27, .aload_n 0, 1), (28, .getfield 39, 3), (31, .iload 4, 2), (33, .aload_n 0, 1), (34, .getfield 161, 3), (37, .iastore, 1), (38, .aload_n 0, 1), (39, .iload_n 2, 1), (40, .iload_n 3, 1), (41, .invokevirtual 168, 3), (44, .ifCond .ne 5, 3), (47, .iconst 0, 1), (48, .ireturn, 1), (49, .iload_n 2, 1), (50, .iload_n 1, 1), (51, .if_icmp .ne 5, 3), (54, .iconst 1, 1), (55, .ireturn, 1), (56, .aload_n 0, 1), (57, .getfield 70, 3), (60, .getfield 171, 3), (63, .iload_n 2, 1), (64, .iaload, 1), (92, .aload_n 0, 1), (93, .getfield 66, 3), (96, .getfield 121, 3), (99, .iload_n 3, 1), (100, .iaload, 1), (101, .ifCond .lt 27, 3), (104, .aload_n 0, 1), (105, .iload_n 1, 1), (106, .iload_n 2, 1), (107, .iconst 1, 1), (108, .isub, 1), (109, .aload_n 0, 1), (110, .getfield 66, 3), (113, .getfield 121, 3), (116, .iload_n 3, 1), (117, .iaload, 1), (118, .invokevirtual 164, 3), (121, .ifCond .eq 7, 3), (124, .iconst 1, 1), (125, .goto 4, 3), (128, .iconst 0, 1), (129, .ireturn, 1), (130, .aload_n 0, 1), (131, .getfield 66, 3), (134, .getfield 174, 3), (137, .iload_n 3, 1), (138, .iaload, 1), (139, .ifCond .lt 27, 3), (142, .aload_n 0, 1), (143, .iload_n 1, 1), (144, .iload_n 2, 1), (145, .iconst 1, 1), (146, .isub, 1), (147, .aload_n 0, 1), (148, .getfield 66, 3), (151, .getfield 174, 3), (154, .iload_n 3, 1), (155, .iaload, 1), (156, .invokevirtual 164, 3), (159, .ifCond .eq 7, 3), (162, .iconst 1, 1), (163, .goto 4, 3), (166, .iconst 0, 1), (167, .ireturn, 1), (168, .aload_n 0, 1), (169, .getfield 66, 3), (172, .getfield 121, 3), (175, .iload_n 3, 1), (176, .iaload, 1), (177, .istore 5, 2), (179, .iload 5, 2), (181, .ifCond .lt 33, 3), (184, .aload_n 0, 1), (185, .iload_n 1, 1), (186, .iload_n 2, 1), (187, .iconst 1, 1), (188, .isub, 1), (189, .iload 5, 2), (191, .invokevirtual 164, 3), (194, .ifCond .eq 5, 3), (197, .iconst 1, 1), (198, .ireturn, 1), (199, .aload_n 0, 1), (200, .getfield 66, 3), (203, .getfield 121, 3), (206, .iload 5, 2), (208, .iaload, 1), (209, .istore 5, 2), (211, .goto (-32), 3), (214, .iconst 0, 1), (215, .ireturn, 1)]
theorem t_X7_fitsFrom : ∀ q ∈ k_X7_fitsFrom, decode cX7_fitsFrom q.1 = .ok q.2 := dl_all (by decide +kernel)
theorem dS_X7_fitsFrom_65 : decode cX7_fitsFrom 65 = .ok (.lookupswitch 103 #[(1, 27), (3, 65)], 27) := by decide +kernel
noncomputable def m_X7_fitsFrom_l179 (rec_ : Int → Int → Int → Int → Hp → Option (Int × Hp)) (a0 a1 a2 x5_179 : Int) (h_179 : Hp) : Option ((Int × Hp) ⊕ ((Int × Hp))) :=
  if x5_179 < 0 then (some (.inr (0, h_179)))
  else (bW (rec_ a0 a1 (w32 (a2 - 1)) x5_179 h_179) fun v191 h191 =>
  if v191 = 0 then (gd (h191 (h191 a0 0) (-2) = 96) (gd (h191 (h191 (h191 a0 0) 6) (-2) % 16 = 1 ∧ (0 : Int) ≤ x5_179 ∧ x5_179 < h191 (h191 (h191 a0 0) 6) (-1)) (lt_ (h191 (h191 (h191 a0 0) 6) x5_179) fun x5_209 =>
  some (.inl (x5_209, h191)))))
  else (some (.inr (1, h191))))
noncomputable def b_X7_fitsFrom (rec_ : Int → Int → Int → Int → Hp → Option (Int × Hp)) (a0 a1 a2 a3 : Int) (h : Hp) : Option (Int × Hp) :=
  lt_ (w32 ((w32 ((w32 (a2 - a1)) * 500)) + a3)) fun x4_9 =>
  gd (h (h a0 11) (-2) % 16 = 1 ∧ (0 : Int) ≤ x4_9 ∧ x4_9 < h (h a0 11) (-1)) (if (h (h a0 11) x4_9) ≠ (h a0 12) then (pt h (h a0 11) x4_9 (h a0 12) fun h37 =>
  (m_X7_fitsStep a0 a2 a3 h37).bind fun v41 =>
  if v41 ≠ 0 then (if a2 ≠ a1 then (gd (h37 (h37 a0 1) (-2) = 48) (gd (h37 (h37 (h37 a0 1) 4) (-2) % 16 = 1 ∧ (0 : Int) ≤ a2 ∧ a2 < h37 (h37 (h37 a0 1) 4) (-1)) (if (h37 (h37 (h37 a0 1) 4) a2) = 1 then (gd (h37 (h37 a0 0) (-2) = 96) (gd (h37 (h37 (h37 a0 0) 6) (-2) % 16 = 1 ∧ (0 : Int) ≤ a3 ∧ a3 < h37 (h37 (h37 a0 0) 6) (-1)) (if (h37 (h37 (h37 a0 0) 6) a3) < 0 then (some (0, h37))
  else (bW (rec_ a0 a1 (w32 (a2 - 1)) (h37 (h37 (h37 a0 0) 6) a3) h37) fun v118 h118 =>
  if v118 = 0 then (some (0, h118))
  else (some (1, h118))))))
  else (if (h37 (h37 (h37 a0 1) 4) a2) = 3 then (gd (h37 (h37 a0 0) (-2) = 96) (gd (h37 (h37 (h37 a0 0) 10) (-2) % 16 = 1 ∧ (0 : Int) ≤ a3 ∧ a3 < h37 (h37 (h37 a0 0) 10) (-1)) (if (h37 (h37 (h37 a0 0) 10) a3) < 0 then (some (0, h37))
  else (bW (rec_ a0 a1 (w32 (a2 - 1)) (h37 (h37 (h37 a0 0) 10) a3) h37) fun v156 h156 =>
  if v156 = 0 then (some (0, h156))
  else (some (1, h156))))))
  else (gd (h37 (h37 a0 0) (-2) = 96) (gd (h37 (h37 (h37 a0 0) 6) (-2) % 16 = 1 ∧ (0 : Int) ≤ a3 ∧ a3 < h37 (h37 (h37 a0 0) 6) (-1)) (lt_ (h37 (h37 (h37 a0 0) 6) a3) fun x5_177 =>
  (lp (fun (q : Int × Hp) => m_X7_fitsFrom_l179 rec_ a0 a1 a2 q.1 q.2) (x5_177, h37)).bind (fun (x : Int × Hp) => some x))))))))
  else (some (1, h37)))
  else (some (0, h37)))
  else (some (0, h)))
noncomputable def m_X7_fitsFrom (d : Nat) : Int → Int → Int → Int → Hp → Option (Int × Hp) := Nat.rec (motive := fun _ => Int → Int → Int → Int → Hp → Option (Int × Hp)) (fun _ _ _ _ _ => none) (fun _ r => b_X7_fitsFrom r) d
theorem s_X7_fitsFrom {l : Launch} [NoTr l] {D : SD} {d : Nat} {a0 a1 a2 a3 : Int} {h : Hp} (hk : h a0 (-2) = 112) (r1 : r32 a1) (r2 : r32 a2) (r3 : r32 a3) {r : Int × Hp} (hm : m_X7_fitsFrom d a0 a1 a2 a3 h = some r) : Sim l D yX7_fitsFrom (Cond.code yX7_fitsFrom cX7_fitsFrom 6 (Option.some Jvm.ClassFile.FieldType.boolean)) (3 + d) (122 + d * 41) [rv D a0, iv a1, iv a2, iv a3] h 3 ((0, r.1), r.2) := by
  induction d generalizing a0 a1 a2 a3 h r with
  | zero => cases hm
  | succ d ih_ =>
    have hm : b_X7_fitsFrom (m_X7_fitsFrom d) a0 a1 a2 a3 h = some r := hm
    refine Sim.of (fin := fun (v : Int × Hp) => ((0, v.1), v.2)) (lsE := [(0, rv D a0), (1, iv a1), (2, iv a2), (3, iv a3)]) hm rfl cwS_code (la_r (la_i (la_i (la_i la_n)))) (ll_r (ll_i (ll_i (ll_i ll_n)))) ?_
    intro p e s m below meth c X hcw hmm hcc hnm hname
    generalize hrec : m_X7_fitsFrom d = rec_ at *
    unfold b_X7_fitsFrom
    refine g_iload_n (pc := 0) X (j := 2) (i := 2) (q := 2) (x := a2) rfl rfl (dl_at t_X7_fitsFrom 0 rfl) ?_
    refine g_iload_n (pc := 1) X (j := 1) (i := 1) (q := 1) (x := a1) rfl rfl (dl_at t_X7_fitsFrom 1 rfl) ?_
    refine g_isub (pc := 2) X r2 r1 (dl_at t_X7_fitsFrom 2 rfl) ?_
    refine g_sipush (pc := 3) X (n := 500) rfl (dl_at t_X7_fitsFrom 3 rfl) ?_
    refine g_imul (pc := 6) X (r32_w _) (r32_c rfl) (dl_at t_X7_fitsFrom 4 rfl) ?_
    refine g_iload_n (pc := 7) X (j := 3) (i := 3) (q := 3) (x := a3) rfl rfl (dl_at t_X7_fitsFrom 5 rfl) ?_
    refine g_iadd (pc := 8) X (r32_w _) r3 (dl_at t_X7_fitsFrom 6 rfl) ?_
    refine g_lti (r32_w _) fun x4_9 r4_9 => ?_
    refine g_istoreN (pc := 9) X (i := 4) (x := x4_9) (b := 3) (w := iv a3) (rest := [(0, rv D a0), (1, iv a1), (2, iv a2)]) (Nat.le_of_ble_eq_true rfl) [3, 0, 1, 2] rfl (by decide) rfl rfl (dl_at t_X7_fitsFrom 7 rfl) ?_
    refine g_aload_n (pc := 11) X (j := 0) (i := 0) (q := 2) (x := a0) rfl rfl (dl_at t_X7_fitsFrom 8 rfl) ?_
    refine r_getr (pc := 12) X fX7_11 hk q802 (dl_at t_X7_fitsFrom 9 rfl) ?_
    refine g_iload (pc := 15) X (i := 4) (q := 0) (x := x4_9) rfl (dl_at t_X7_fitsFrom 10 rfl) ?_
    refine g_gd fun k17 => ?_
    refine g_iald (pc := 17) X r4_9 k17 (dl_at t_X7_fitsFrom 11 rfl) fun g17 => ?_
    refine g_aload_n (pc := 18) X (j := 0) (i := 0) (q := 2) (x := a0) rfl rfl (dl_at t_X7_fitsFrom 12 rfl) ?_
    refine r_geti (pc := 19) X fX7_12 hk q803 (dl_at t_X7_fitsFrom 13 rfl) fun g19 => ?_
    refine g_icmpne (pc := 22) X g17 g19 (off := 5) (tgt := 27) rfl (dl_at t_X7_fitsFrom 14 rfl) (fun _ => ?_) (fun _ => ?_)
    · refine g_aload_n (pc := 27) X (j := 0) (i := 0) (q := 2) (x := a0) rfl rfl (dl_at t_X7_fitsFrom 17 rfl) ?_
      refine r_getr (pc := 28) X fX7_11 hk q802 (dl_at t_X7_fitsFrom 18 rfl) ?_
      refine g_iload (pc := 31) X (i := 4) (q := 0) (x := x4_9) rfl (dl_at t_X7_fitsFrom 19 rfl) ?_
      refine g_aload_n (pc := 33) X (j := 0) (i := 0) (q := 2) (x := a0) rfl rfl (dl_at t_X7_fitsFrom 20 rfl) ?_
      refine r_geti (pc := 34) X fX7_12 hk q803 (dl_at t_X7_fitsFrom 21 rfl) fun g34 => ?_
      refine r_iast (pc := 37) X r4_9 g34 k17 (dl_at t_X7_fitsFrom 22 rfl) (fun h37 E37 => ?_)
      refine g_aload_n (pc := 38) X (j := 0) (i := 0) (q := 2) (x := a0) rfl rfl (dl_at t_X7_fitsFrom 23 rfl) ?_
      refine g_iload_n (pc := 39) X (j := 2) (i := 2) (q := 4) (x := a2) rfl rfl (dl_at t_X7_fitsFrom 24 rfl) ?_
      refine g_iload_n (pc := 40) X (j := 3) (i := 3) (q := 1) (x := a3) rfl rfl (dl_at t_X7_fitsFrom 25 rfl) ?_
      have k41 := kx E37 (by decide) hk
      refine r_callRz (pc := 41) X (fun _ hv => s_X7_fitsStep k41 r2 r3 hv) cw_code q2312 q361 (in_Vk X (As := [iv a2, iv a3]) kX7 k41 (Or.inl q2309) q2311 qs80 cw_code q2312 ⟨by decide, by decide⟩ rfl (dl_at t_X7_fitsFrom 26 rfl)) (dl_at t_X7_fitsFrom 26 rfl) (cat24 (st := []) (Nat.le_of_ble_eq_true rfl)) (by dsimp only [rmOf]; omega) (by dsimp only [rmOf]; omega) fun v41 g41 => ?_
      refine g_ifne (pc := 44) X (r32_z g41) (off := 5) (tgt := 49) rfl (dl_at t_X7_fitsFrom 27 rfl) (fun _ => ?_) (fun _ => ?_)
      · refine g_iload_n (pc := 49) X (j := 2) (i := 2) (q := 4) (x := a2) rfl rfl (dl_at t_X7_fitsFrom 30 rfl) ?_
        refine g_iload_n (pc := 50) X (j := 1) (i := 1) (q := 3) (x := a1) rfl rfl (dl_at t_X7_fitsFrom 31 rfl) ?_
        refine g_icmpne (pc := 51) X r2 r1 (off := 5) (tgt := 56) rfl (dl_at t_X7_fitsFrom 32 rfl) (fun _ => ?_) (fun _ => ?_)
        · refine g_aload_n (pc := 56) X (j := 0) (i := 0) (q := 2) (x := a0) rfl rfl (dl_at t_X7_fitsFrom 35 rfl) ?_
          refine r_getr (pc := 57) X fX7_1 k41 q781 (dl_at t_X7_fitsFrom 36 rfl) ?_
          refine g_gd fun k60 => ?_
          refine r_getrN (pc := 60) X fX3_4 k60 (nw_in q530 rfl) (dl_at t_X7_fitsFrom 37 rfl) ?_
          refine g_iload_n (pc := 63) X (j := 2) (i := 2) (q := 4) (x := a2) rfl rfl (dl_at t_X7_fitsFrom 38 rfl) ?_
          refine g_gd fun k64 => ?_
          refine g_iald (pc := 64) X r2 k64 (dl_at t_X7_fitsFrom 39 rfl) fun g64 => ?_
          refine g_case (fun w65 => ?_) (fun nw65 => ?_)
          · refine g_look (pc := 65) X (off := 27) (tgt := 92) g64 rfl (by rw [w65]; rfl) rfl dS_X7_fitsFrom_65 ?_
            refine g_aload_n (pc := 92) X (j := 0) (i := 0) (q := 2) (x := a0) rfl rfl (dl_at t_X7_fitsFrom 40 rfl) ?_
            refine r_getr (pc := 93) X fX7_0 k41 q778 (dl_at t_X7_fitsFrom 41 rfl) ?_
            refine g_gd fun k96 => ?_
            refine r_getrN (pc := 96) X fX6_6 k96 (nw_in q660 rfl) (dl_at t_X7_fitsFrom 42 rfl) ?_
            refine g_iload_n (pc := 99) X (j := 3) (i := 3) (q := 1) (x := a3) rfl rfl (dl_at t_X7_fitsFrom 43 rfl) ?_
            refine g_gd fun k100 => ?_
            refine g_iald (pc := 100) X r3 k100 (dl_at t_X7_fitsFrom 44 rfl) fun g100 => ?_
            refine g_iflt (pc := 101) X g100 (off := 27) (tgt := 128) rfl (dl_at t_X7_fitsFrom 45 rfl) (fun _ => ?_) (fun _ => ?_)
            · refine g_iconst (pc := 128) X (n := 0) (dl_at t_X7_fitsFrom 60 rfl) ?_
              exact g_zret (pc := 129) X (Or.inl rfl) rfl rfl (dl_at t_X7_fitsFrom 61 rfl)
            refine g_aload_n (pc := 104) X (j := 0) (i := 0) (q := 2) (x := a0) rfl rfl (dl_at t_X7_fitsFrom 46 rfl) ?_
            refine g_iload_n (pc := 105) X (j := 1) (i := 1) (q := 3) (x := a1) rfl rfl (dl_at t_X7_fitsFrom 47 rfl) ?_
            refine g_iload_n (pc := 106) X (j := 2) (i := 2) (q := 4) (x := a2) rfl rfl (dl_at t_X7_fitsFrom 48 rfl) ?_
            refine g_iconst (pc := 107) X (n := 1) (dl_at t_X7_fitsFrom 49 rfl) ?_
            refine g_isub (pc := 108) X r2 (r32_c rfl) (dl_at t_X7_fitsFrom 50 rfl) ?_
            refine g_aload_n (pc := 109) X (j := 0) (i := 0) (q := 2) (x := a0) rfl rfl (dl_at t_X7_fitsFrom 51 rfl) ?_
            refine r_getr (pc := 110) X fX7_0 k41 q778 (dl_at t_X7_fitsFrom 52 rfl) ?_
            refine r_getrN (pc := 113) X fX6_6 k96 (nw_in q660 rfl) (dl_at t_X7_fitsFrom 53 rfl) ?_
            refine g_iload_n (pc := 116) X (j := 3) (i := 3) (q := 1) (x := a3) rfl rfl (dl_at t_X7_fitsFrom 54 rfl) ?_
            refine g_iald (pc := 117) X r3 k100 (dl_at t_X7_fitsFrom 55 rfl) fun g117 => ?_
            refine r_callWz (pc := 118) X (fun _ hv => ih_ k41 r1 (r32_w _) g117 hv) cw_code q2308 q361 (in_Vk X (As := [iv a1, iv (w32 (a2 - 1)), iv (h37 (h37 (h37 a0 0) 6) a3)]) kX7 k41 (Or.inl q2305) q2307 qs79 cw_code q2308 ⟨by decide, by decide⟩ rfl (dl_at t_X7_fitsFrom 56 rfl)) (dl_at t_X7_fitsFrom 56 rfl) (cat24 (st := []) (Nat.le_of_ble_eq_true rfl)) (by dsimp only [rmOf]; omega) (by dsimp only [rmOf]; omega) fun v118 h118 g118 E118 => ?_
            refine g_ifeq (pc := 121) X (r32_z g118) (off := 7) (tgt := 128) rfl (dl_at t_X7_fitsFrom 57 rfl) (fun _ => ?_) (fun _ => ?_)
            · refine g_iconst (pc := 128) X (n := 0) (dl_at t_X7_fitsFrom 60 rfl) ?_
              exact g_zret (pc := 129) X (Or.inl rfl) rfl rfl (dl_at t_X7_fitsFrom 61 rfl)
            refine g_iconst (pc := 124) X (n := 1) (dl_at t_X7_fitsFrom 58 rfl) ?_
            refine g_goto (pc := 125) X (off := 4) (tgt := 129) rfl (dl_at t_X7_fitsFrom 59 rfl) ?_
            exact g_zret (pc := 129) X (Or.inr rfl) rfl rfl (dl_at t_X7_fitsFrom 61 rfl)
          refine g_case (fun w65_1 => ?_) (fun nw65_1 => ?_)
          · refine g_look (pc := 65) X (off := 65) (tgt := 130) g64 rfl (by rw [w65_1]; rfl) rfl dS_X7_fitsFrom_65 ?_
            refine g_aload_n (pc := 130) X (j := 0) (i := 0) (q := 2) (x := a0) rfl rfl (dl_at t_X7_fitsFrom 62 rfl) ?_
            refine r_getr (pc := 131) X fX7_0 k41 q778 (dl_at t_X7_fitsFrom 63 rfl) ?_
            refine g_gd fun k134 => ?_
            refine r_getrN (pc := 134) X fX6_10 k134 (nw_in q670 rfl) (dl_at t_X7_fitsFrom 64 rfl) ?_
            refine g_iload_n (pc := 137) X (j := 3) (i := 3) (q := 1) (x := a3) rfl rfl (dl_at t_X7_fitsFrom 65 rfl) ?_
            refine g_gd fun k138 => ?_
            refine g_iald (pc := 138) X r3 k138 (dl_at t_X7_fitsFrom 66 rfl) fun g138 => ?_
            refine g_iflt (pc := 139) X g138 (off := 27) (tgt := 166) rfl (dl_at t_X7_fitsFrom 67 rfl) (fun _ => ?_) (fun _ => ?_)
            · refine g_iconst (pc := 166) X (n := 0) (dl_at t_X7_fitsFrom 82 rfl) ?_
              exact g_zret (pc := 167) X (Or.inl rfl) rfl rfl (dl_at t_X7_fitsFrom 83 rfl)
            refine g_aload_n (pc := 142) X (j := 0) (i := 0) (q := 2) (x := a0) rfl rfl (dl_at t_X7_fitsFrom 68 rfl) ?_
            refine g_iload_n (pc := 143) X (j := 1) (i := 1) (q := 3) (x := a1) rfl rfl (dl_at t_X7_fitsFrom 69 rfl) ?_
            refine g_iload_n (pc := 144) X (j := 2) (i := 2) (q := 4) (x := a2) rfl rfl (dl_at t_X7_fitsFrom 70 rfl) ?_
            refine g_iconst (pc := 145) X (n := 1) (dl_at t_X7_fitsFrom 71 rfl) ?_
            refine g_isub (pc := 146) X r2 (r32_c rfl) (dl_at t_X7_fitsFrom 72 rfl) ?_
            refine g_aload_n (pc := 147) X (j := 0) (i := 0) (q := 2) (x := a0) rfl rfl (dl_at t_X7_fitsFrom 73 rfl) ?_
            refine r_getr (pc := 148) X fX7_0 k41 q778 (dl_at t_X7_fitsFrom 74 rfl) ?_
            refine r_getrN (pc := 151) X fX6_10 k134 (nw_in q670 rfl) (dl_at t_X7_fitsFrom 75 rfl) ?_
            refine g_iload_n (pc := 154) X (j := 3) (i := 3) (q := 1) (x := a3) rfl rfl (dl_at t_X7_fitsFrom 76 rfl) ?_
            refine g_iald (pc := 155) X r3 k138 (dl_at t_X7_fitsFrom 77 rfl) fun g155 => ?_
            refine r_callWz (pc := 156) X (fun _ hv => ih_ k41 r1 (r32_w _) g155 hv) cw_code q2308 q361 (in_Vk X (As := [iv a1, iv (w32 (a2 - 1)), iv (h37 (h37 (h37 a0 0) 10) a3)]) kX7 k41 (Or.inl q2305) q2307 qs79 cw_code q2308 ⟨by decide, by decide⟩ rfl (dl_at t_X7_fitsFrom 78 rfl)) (dl_at t_X7_fitsFrom 78 rfl) (cat24 (st := []) (Nat.le_of_ble_eq_true rfl)) (by dsimp only [rmOf]; omega) (by dsimp only [rmOf]; omega) fun v156 h156 g156 E156 => ?_
            refine g_ifeq (pc := 159) X (r32_z g156) (off := 7) (tgt := 166) rfl (dl_at t_X7_fitsFrom 79 rfl) (fun _ => ?_) (fun _ => ?_)
            · refine g_iconst (pc := 166) X (n := 0) (dl_at t_X7_fitsFrom 82 rfl) ?_
              exact g_zret (pc := 167) X (Or.inl rfl) rfl rfl (dl_at t_X7_fitsFrom 83 rfl)
            refine g_iconst (pc := 162) X (n := 1) (dl_at t_X7_fitsFrom 80 rfl) ?_
            refine g_goto (pc := 163) X (off := 4) (tgt := 167) rfl (dl_at t_X7_fitsFrom 81 rfl) ?_
            exact g_zret (pc := 167) X (Or.inr rfl) rfl rfl (dl_at t_X7_fitsFrom 83 rfl)
          refine g_look (pc := 65) X (off := 103) (tgt := 168) g64 rfl (by simp [Op.lookupswitch.offset_cons, Op.lookupswitch.offset_nil, nw65, nw65_1, Ne.symm nw65, Ne.symm nw65_1]) rfl dS_X7_fitsFrom_65 ?_
          refine g_aload_n (pc := 168) X (j := 0) (i := 0) (q := 2) (x := a0) rfl rfl (dl_at t_X7_fitsFrom 84 rfl) ?_
          refine r_getr (pc := 169) X fX7_0 k41 q778 (dl_at t_X7_fitsFrom 85 rfl) ?_
          refine g_gd fun k172 => ?_
          refine r_getrN (pc := 172) X fX6_6 k172 (nw_in q660 rfl) (dl_at t_X7_fitsFrom 86 rfl) ?_
          refine g_iload_n (pc := 175) X (j := 3) (i := 3) (q := 1) (x := a3) rfl rfl (dl_at t_X7_fitsFrom 87 rfl) ?_
          refine g_gd fun k176 => ?_
          refine g_iald (pc := 176) X r3 k176 (dl_at t_X7_fitsFrom 88 rfl) fun g176 => ?_
          refine g_lti g176 fun x5_177 r5_177 => ?_
          refine g_istore (pc := 177) X (i := 5) (x := x5_177) (rest := [(0, rv D a0), (1, iv a1), (2, iv a2)]) (Nat.le_of_ble_eq_true rfl) [2, 3, 4] rfl rfl (dl_at t_X7_fitsFrom 89 rfl) ?_
          refine g_ls (ls2 := [(0, rv D a0), (1, iv a1), (2, iv a2), (5, iv x5_177)]) [1, 2, 3, 0] rfl ?_
          refine g_loop0F (fun (q : Int × Hp) => [(0, rv D a0), (1, iv a1), (2, iv a2), (5, iv q.1)]) (fun (q : Int × Hp) => q.2) (fun (q : Int × Hp) => r32 q.1 ∧ Ext h37 q.2) (x5_177, h37) ⟨r5_177, (Ext.refl _)⟩ ?_ (fun _ => rfl)
          · rintro ⟨x5_179, h_179⟩ ⟨r5_179, E_179⟩
            try dsimp only
            unfold m_X7_fitsFrom_l179
            refine g_iload (pc := 179) X (i := 5) (q := 3) (x := x5_179) rfl (dl_at t_X7_fitsFrom 90 rfl) ?_
            refine g_iflt (pc := 181) X r5_179 (off := 33) (tgt := 214) rfl (dl_at t_X7_fitsFrom 91 rfl) (fun _ => ?_) (fun _ => ?_)
            · refine g_iconst (pc := 214) X (n := 0) (dl_at t_X7_fitsFrom 109 rfl) ?_
              exact g_at fun Q hQ => (g_zret (pc := 215) X (Or.inl rfl) rfl rfl (dl_at t_X7_fitsFrom 110 rfl)) _ Q rfl hQ
            refine g_aload_n (pc := 184) X (j := 0) (i := 0) (q := 0) (x := a0) rfl rfl (dl_at t_X7_fitsFrom 92 rfl) ?_
            refine g_iload_n (pc := 185) X (j := 1) (i := 1) (q := 1) (x := a1) rfl rfl (dl_at t_X7_fitsFrom 93 rfl) ?_
            refine g_iload_n (pc := 186) X (j := 2) (i := 2) (q := 2) (x := a2) rfl rfl (dl_at t_X7_fitsFrom 94 rfl) ?_
            refine g_iconst (pc := 187) X (n := 1) (dl_at t_X7_fitsFrom 95 rfl) ?_
            refine g_isub (pc := 188) X r2 (r32_c rfl) (dl_at t_X7_fitsFrom 96 rfl) ?_
            refine g_iload (pc := 189) X (i := 5) (q := 3) (x := x5_179) rfl (dl_at t_X7_fitsFrom 97 rfl) ?_
            have k191 := kx E_179 (by decide) k41
            refine r_callWz (pc := 191) X (fun _ hv => ih_ k191 r1 (r32_w _) r5_179 hv) cw_code q2308 q361 (in_Vk X (As := [iv a1, iv (w32 (a2 - 1)), iv x5_179]) kX7 k191 (Or.inl q2305) q2307 qs79 cw_code q2308 ⟨by decide, by decide⟩ rfl (dl_at t_X7_fitsFrom 98 rfl)) (dl_at t_X7_fitsFrom 98 rfl) (cat24 (st := []) (Nat.le_of_ble_eq_true rfl)) (by dsimp only [rmOf]; omega) (by dsimp only [rmOf]; omega) fun v191 h191 g191 E191 => ?_
            refine g_ifeq (pc := 194) X (r32_z g191) (off := 5) (tgt := 199) rfl (dl_at t_X7_fitsFrom 99 rfl) (fun _ => ?_) (fun _ => ?_)
            · refine g_aload_n (pc := 199) X (j := 0) (i := 0) (q := 0) (x := a0) rfl rfl (dl_at t_X7_fitsFrom 102 rfl) ?_
              have k200 := kx E191 (by decide) k191
              refine r_getr (pc := 200) X fX7_0 k200 q778 (dl_at t_X7_fitsFrom 103 rfl) ?_
              refine g_gd fun k203 => ?_
              refine r_getrN (pc := 203) X fX6_6 k203 (nw_in q660 rfl) (dl_at t_X7_fitsFrom 104 rfl) ?_
              refine g_iload (pc := 206) X (i := 5) (q := 3) (x := x5_179) rfl (dl_at t_X7_fitsFrom 105 rfl) ?_
              refine g_gd fun k208 => ?_
              refine g_iald (pc := 208) X r5_179 k208 (dl_at t_X7_fitsFrom 106 rfl) fun g208 => ?_
              refine g_lti g208 fun x5_209 r5_209 => ?_
              refine g_istore (pc := 209) X (i := 5) (x := x5_209) (rest := [(0, rv D a0), (1, iv a1), (2, iv a2)]) (Nat.le_of_ble_eq_true rfl) [0, 1, 2] rfl rfl (dl_at t_X7_fitsFrom 107 rfl) ?_
              refine g_goto (pc := 211) X (off := (-32)) (tgt := 179) rfl (dl_at t_X7_fitsFrom 108 rfl) ?_
              refine g_ls (ls2 := [(0, rv D a0), (1, iv a1), (2, iv a2), (5, iv x5_209)]) [1, 2, 3, 0] rfl ?_
              exact g_at fun Q hQ => hQ ⟨r5_209, (E_179.trans E191)⟩
            refine g_iconst (pc := 197) X (n := 1) (dl_at t_X7_fitsFrom 100 rfl) ?_
            exact g_at fun Q hQ => (g_zret (pc := 198) X (Or.inr rfl) rfl rfl (dl_at t_X7_fitsFrom 101 rfl)) _ Q rfl hQ
        refine g_iconst (pc := 54) X (n := 1) (dl_at t_X7_fitsFrom 33 rfl) ?_
        exact g_zret (pc := 55) X (Or.inr rfl) rfl rfl (dl_at t_X7_fitsFrom 34 rfl)
      refine g_iconst (pc := 47) X (n := 0) (dl_at t_X7_fitsFrom 28 rfl) ?_
      exact g_zret (pc := 48) X (Or.inl rfl) rfl rfl (dl_at t_X7_fitsFrom 29 rfl)
    refine g_iconst (pc := 25) X (n := 0) (dl_at t_X7_fitsFrom 15 rfl) ?_
    exact g_zret (pc := 26) X (Or.inl rfl) rfl rfl (dl_at t_X7_fitsFrom 16 rfl)
def k_X7_fits : List (Nat × Instr × Nat) := [(0, .aload_n 0, 1), (1, .getfield 70, 3), (4, .getfield 158, 3), (7, .iload_n 1, 1), (8, .iaload, 1), (9, .istore_n 3, 1), (10, .aload_n 0, 1), (11, .dup, 1), (12, .getfield 161, 3), (15, .iconst 1, 1), (16, .iadd, 1), (17, .putfield 161, 3), (20, .aload_n 0, 1), (21, .iload_n 3, 1), (22, .aload_n 0, 1), (23, .getfield 70, 3), (26, .getfield 158, 3), (29, .iload_n 1, 1), (30, .iconst 1, 1), (31, .iadd, 1), (32, .iaload, 1), (33, .iconst 1, 1), (34, .isub, 1), (35, .iload_n 2, 1), (36, .invokevirtual 164, 3), (39, .ireturn, 1)]
theorem t_X7_fits : ∀ q ∈ k_X7_fits, decode cX7_fits q.1 = .ok q.2 := dl_all (by decide +kernel)
noncomputable def m_X7_fits (a0 a1 a2 : Int) (h : Hp) : Option (Int × Hp) :=
  gd (h (h a0 1) (-2) = 48) (gd (h (h (h a0 1) 12) (-2) % 16 = 1 ∧ (0 : Int) ≤ a1 ∧ a1 < h (h (h a0 1) 12) (-1)) (lt_ (h (h (h a0 1) 12) a1) fun x3_9 =>
  pt h a0 12 (w32 ((h a0 12) + 1)) fun h17 =>
  gd (h17 (h17 a0 1) (-2) = 48) (gd (h17 (h17 (h17 a0 1) 12) (-2) % 16 = 1 ∧ (0 : Int) ≤ (w32 (a1 + 1)) ∧ (w32 (a1 + 1)) < h17 (h17 (h17 a0 1) 12) (-1)) (bW (m_X7_fitsFrom 64 a0 x3_9 (w32 ((h17 (h17 (h17 a0 1) 12) (w32 (a1 + 1))) - 1)) a2 h17) fun v36 h36 =>
  some (v36, h36)))))
theorem s_X7_fits {l : Launch} [NoTr l] {D : SD} {a0 a1 a2 : Int} {h : Hp} (hk : h a0 (-2) = 112) (r1 : r32 a1) (r2 : r32 a2) {r : Int × Hp} (hm : m_X7_fits a0 a1 a2 h = some r) : Sim l D yX7_fits (Cond.code yX7_fits cX7_fits 4 (Option.some Jvm.ClassFile.FieldType.boolean)) 68 2787 [rv D a0, iv a1, iv a2] h 3 ((0, r.1), r.2) := by
  refine Sim.of (fin := fun (v : Int × Hp) => ((0, v.1), v.2)) (lsE := [(0, rv D a0), (1, iv a1), (2, iv a2)]) hm rfl cwS_code (la_r (la_i (la_i la_n))) (ll_r (ll_i (ll_i ll_n))) ?_
  intro p e s m below meth c X hcw hmm hcc hnm hname
  unfold m_X7_fits
  refine g_aload_n (pc := 0) X (j := 0) (i := 0) (q := 0) (x := a0) rfl rfl (dl_at t_X7_fits 0 rfl) ?_
  refine r_getr (pc := 1) X fX7_1 hk q781 (dl_at t_X7_fits 1 rfl) ?_
  refine g_gd fun k4 => ?_
  refine r_getrN (pc := 4) X fX3_12 k4 (nw_in q544 rfl) (dl_at t_X7_fits 2 rfl) ?_
  refine g_iload_n (pc := 7) X (j := 1) (i := 1) (q := 1) (x := a1) rfl rfl (dl_at t_X7_fits 3 rfl) ?_
  refine g_gd fun k8 => ?_
  refine g_iald (pc := 8) X r1 k8 (dl_at t_X7_fits 4 rfl) fun g8 => ?_
  refine g_lti g8 fun x3_9 r3_9 => ?_
  refine g_istore_nN (pc := 9) X (j := 3) (i := 3) (x := x3_9) (b := 2) (w := iv a2) (rest := [(0, rv D a0), (1, iv a1)]) rfl (Nat.le_of_ble_eq_true rfl) [2, 0, 1] rfl (by decide) rfl rfl (dl_at t_X7_fits 5 rfl) ?_
  refine g_aload_n (pc := 10) X (j := 0) (i := 0) (q := 2) (x := a0) rfl rfl (dl_at t_X7_fits 6 rfl) ?_
  refine g_dup (pc := 11) X rv_cat (dl_at t_X7_fits 7 rfl) ?_
  refine r_geti (pc := 12) X fX7_12 hk q803 (dl_at t_X7_fits 8 rfl) fun g12 => ?_
  refine g_iconst (pc := 15) X (n := 1) (dl_at t_X7_fits 9 rfl) ?_
  refine g_iadd (pc := 16) X g12 (r32_c rfl) (dl_at t_X7_fits 10 rfl) ?_
  refine r_puti (pc := 17) X fX7_12 hk q803 rfl (dl_at t_X7_fits 11 rfl) (r32_w _) (fun h17 E17 => ?_)
  refine g_aload_n (pc := 20) X (j := 0) (i := 0) (q := 2) (x := a0) rfl rfl (dl_at t_X7_fits 12 rfl) ?_
  refine g_iload_n (pc := 21) X (j := 3) (i := 3) (q := 0) (x := x3_9) rfl rfl (dl_at t_X7_fits 13 rfl) ?_
  refine g_aload_n (pc := 22) X (j := 0) (i := 0) (q := 2) (x := a0) rfl rfl (dl_at t_X7_fits 14 rfl) ?_
  have k23 := kx E17 (by decide) hk
  refine r_getr (pc := 23) X fX7_1 k23 q781 (dl_at t_X7_fits 15 rfl) ?_
  refine g_gd fun k26 => ?_
  refine r_getrN (pc := 26) X fX3_12 k26 (nw_in q544 rfl) (dl_at t_X7_fits 16 rfl) ?_
  refine g_iload_n (pc := 29) X (j := 1) (i := 1) (q := 3) (x := a1) rfl rfl (dl_at t_X7_fits 17 rfl) ?_
  refine g_iconst (pc := 30) X (n := 1) (dl_at t_X7_fits 18 rfl) ?_
  refine g_iadd (pc := 31) X r1 (r32_c rfl) (dl_at t_X7_fits 19 rfl) ?_
  refine g_gd fun k32 => ?_
  refine g_iald (pc := 32) X (r32_w _) k32 (dl_at t_X7_fits 20 rfl) fun g32 => ?_
  refine g_iconst (pc := 33) X (n := 1) (dl_at t_X7_fits 21 rfl) ?_
  refine g_isub (pc := 34) X g32 (r32_c rfl) (dl_at t_X7_fits 22 rfl) ?_
  refine g_iload_n (pc := 35) X (j := 2) (i := 2) (q := 1) (x := a2) rfl rfl (dl_at t_X7_fits 23 rfl) ?_
  refine r_callWz (pc := 36) X (fun _ hv => s_X7_fitsFrom (d := 64) k23 r3_9 (r32_w _) r2 hv) cw_code q2308 q361 (in_Vk X (As := [iv x3_9, iv (w32 ((h17 (h17 (h17 a0 1) 12) (w32 (a1 + 1))) - 1)), iv a2]) kX7 k23 (Or.inl q2305) q2307 qs79 cw_code q2308 ⟨by decide, by decide⟩ rfl (dl_at t_X7_fits 24 rfl)) (dl_at t_X7_fits 24 rfl) (cat24 (st := []) (Nat.le_of_ble_eq_true rfl)) (Nat.le_of_ble_eq_true rfl) (Nat.le_of_ble_eq_true rfl) fun v36 h36 g36 E36 => ?_
  exact g_zret (pc := 39) X g36 rfl rfl (dl_at t_X7_fits 25 rfl)
def k_X7_weigh : List (Nat × Instr × Nat) := [(0, .aload_n 0, 1), (1, .getfield 70, 3), (4, .getfield 147, 3), (7, .iload_n 1, 1), (8, .iaload, 1), (9, .istore_n 2, 1), (10, .aload_n 0, 1), (11, .getfield 70, 3), (14, .getfield 150, 3), (17, .iload_n 2, 1), (18, .iaload, 1), (19, .istore_n 3, 1), (20, .iload_n 3, 1), (21, .aload_n 0, 1), (22, .getfield 70, 3), (25, .getfield 150, 3), (28, .iload_n 2, 1), (29, .iconst 1, 1), (30, .iadd, 1), (31, .iaload, 1), (32, .if_icmp .ge 73, 3), (35, .aload_n 0, 1), (36, .getfield 70, 3), (39, .getfield 153, 3), (42, .iload_n 3, 1), (43, .iaload, 1), (44, .istore 4, 2), (46, .aload_n 0, 1), (47, .getfield 42, 3), (50, .iload 4, 2), (52, .iaload, 1), (53, .ifCond .lt 22, 3), (56, .aload_n 0, 1), (57, .getfield 70, 3), (60, .getfield 155, 3), (63, .iload_n 1, 1), (64, .iaload, 1), (65, .aload_n 0, 1), (66, .getfield 45, 3), (69, .iload 4, 2), (71, .iaload, 1), (72, .if_icmp .lt 27, 3), (75, .aload_n 0, 1), (76, .getfield 42, 3), (79, .iload 4, 2), (81, .iload_n 3, 1), (82, .iastore, 1), (83, .aload_n 0, 1), (84, .getfield 45, 3), (87, .iload 4, 2), (89, .aload_n 0, 1), (90, .getfield 70, 3), (93, .getfield 155, 3), (96, .iload_n 1, 1), (97, .iaload, 1), (98, .iastore, 1), (99, .iinc 3 1, 3), (102, .goto (-82), 3), (105, .return_, 1)]
theorem t_X7_weigh : ∀ q ∈ k_X7_weigh, decode cX7_weigh q.1 = .ok q.2 := dl_all (by decide +kernel)
noncomputable def m_X7_weigh_j99 (x3_20 : Int) (h_99 : Hp) : Option ((Int × Hp) ⊕ ((Hp))) :=
  lt_ (w32 (x3_20 + 1)) fun x3_99 =>
  some (.inl (x3_99, h_99))
noncomputable def m_X7_weigh_j75 (x4_44 x3_20 a0 a1 : Int) (h_20 : Hp) : Option ((Int × Hp) ⊕ ((Hp))) :=
  pt h_20 (h_20 a0 13) x4_44 x3_20 fun h82 =>
  gd (h82 (h82 a0 1) (-2) = 48) (gd (h82 (h82 (h82 a0 1) 13) (-2) % 16 = 1 ∧ (0 : Int) ≤ a1 ∧ a1 < h82 (h82 (h82 a0 1) 13) (-1)) (gd (h82 (h82 a0 14) (-2) % 16 = 1 ∧ (0 : Int) ≤ x4_44 ∧ x4_44 < h82 (h82 a0 14) (-1)) (pt h82 (h82 a0 14) x4_44 (h82 (h82 (h82 a0 1) 13) a1) fun h98 =>
  m_X7_weigh_j99 x3_20 h98)))
noncomputable def m_X7_weigh_l20 (a0 a1 x2_9 x3_20 : Int) (h_20 : Hp) : Option ((Int × Hp) ⊕ ((Hp))) :=
  gd (h_20 (h_20 a0 1) (-2) = 48) (gd (h_20 (h_20 (h_20 a0 1) 21) (-2) % 16 = 1 ∧ (0 : Int) ≤ (w32 (x2_9 + 1)) ∧ (w32 (x2_9 + 1)) < h_20 (h_20 (h_20 a0 1) 21) (-1)) (if (h_20 (h_20 (h_20 a0 1) 21) (w32 (x2_9 + 1))) ≤ x3_20 then (some (.inr h_20))
  else (gd (h_20 (h_20 (h_20 a0 1) 16) (-2) % 16 = 1 ∧ (0 : Int) ≤ x3_20 ∧ x3_20 < h_20 (h_20 (h_20 a0 1) 16) (-1)) (lt_ (h_20 (h_20 (h_20 a0 1) 16) x3_20) fun x4_44 =>
  gd (h_20 (h_20 a0 13) (-2) % 16 = 1 ∧ (0 : Int) ≤ x4_44 ∧ x4_44 < h_20 (h_20 a0 13) (-1)) (if (h_20 (h_20 a0 13) x4_44) < 0 then (m_X7_weigh_j75 x4_44 x3_20 a0 a1 h_20)
  else (gd (h_20 (h_20 (h_20 a0 1) 13) (-2) % 16 = 1 ∧ (0 : Int) ≤ a1 ∧ a1 < h_20 (h_20 (h_20 a0 1) 13) (-1)) (gd (h_20 (h_20 a0 14) (-2) % 16 = 1 ∧ (0 : Int) ≤ x4_44 ∧ x4_44 < h_20 (h_20 a0 14) (-1)) (if (h_20 (h_20 (h_20 a0 1) 13) a1) < (h_20 (h_20 a0 14) x4_44) then (m_X7_weigh_j99 x3_20 h_20)
  else (m_X7_weigh_j75 x4_44 x3_20 a0 a1 h_20)))))))))
noncomputable def m_X7_weigh (a0 a1 : Int) (h : Hp) : Option (Hp) :=
  gd (h (h a0 1) (-2) = 48) (gd (h (h (h a0 1) 14) (-2) % 16 = 1 ∧ (0 : Int) ≤ a1 ∧ a1 < h (h (h a0 1) 14) (-1)) (lt_ (h (h (h a0 1) 14) a1) fun x2_9 =>
  gd (h (h (h a0 1) 21) (-2) % 16 = 1 ∧ (0 : Int) ≤ x2_9 ∧ x2_9 < h (h (h a0 1) 21) (-1)) (lt_ (h (h (h a0 1) 21) x2_9) fun x3_19 =>
  (lp (fun (q : Int × Hp) => m_X7_weigh_l20 a0 a1 x2_9 q.1 q.2) (x3_19, h)).bind (fun (x : Hp) => some x))))
theorem s_X7_weigh {l : Launch} [NoTr l] {D : SD} {a0 a1 : Int} {h : Hp} (hk : h a0 (-2) = 112) (r1 : r32 a1) {r : Hp} (hm : m_X7_weigh a0 a1 h = some r) : Sim l D yX7_weigh (Cond.code yX7_weigh cX7_weigh 5 (Option.none : Option Jvm.ClassFile.FieldType)) 0 0 [rv D a0, iv a1] h 0 ((0, 0), r) := by
  refine Sim.of (fin := fun (v : Hp) => ((0, 0), v)) (lsE := [(0, rv D a0), (1, iv a1)]) hm rfl cwS_code (la_r (la_i la_n)) (ll_r (ll_i ll_n)) ?_
  intro p e s m below meth c X hcw hmm hcc hnm hname
  unfold m_X7_weigh
  refine g_aload_n (pc := 0) X (j := 0) (i := 0) (q := 0) (x := a0) rfl rfl (dl_at t_X7_weigh 0 rfl) ?_
  refine r_getr (pc := 1) X fX7_1 hk q781 (dl_at t_X7_weigh 1 rfl) ?_
  refine g_gd fun k4 => ?_
  refine r_getrN (pc := 4) X fX3_14 k4 (nw_in q548 rfl) (dl_at t_X7_weigh 2 rfl) ?_
  refine g_iload_n (pc := 7) X (j := 1) (i := 1) (q := 1) (x := a1) rfl rfl (dl_at t_X7_weigh 3 rfl) ?_
  refine g_gd fun k8 => ?_
  refine g_iald (pc := 8) X r1 k8 (dl_at t_X7_weigh 4 rfl) fun g8 => ?_
  refine g_lti g8 fun x2_9 r2_9 => ?_
  refine g_istore_nN (pc := 9) X (j := 2) (i := 2) (x := x2_9) (b := 1) (w := iv a1) (rest := [(0, rv D a0)]) rfl (Nat.le_of_ble_eq_true rfl) [1, 0] rfl (by decide) rfl rfl (dl_at t_X7_weigh 5 rfl) ?_
  refine g_aload_n (pc := 10) X (j := 0) (i := 0) (q := 2) (x := a0) rfl rfl (dl_at t_X7_weigh 6 rfl) ?_
  refine r_getr (pc := 11) X fX7_1 hk q781 (dl_at t_X7_weigh 7 rfl) ?_
  refine r_getrN (pc := 14) X fX3_21 k4 (nw_in q562 rfl) (dl_at t_X7_weigh 8 rfl) ?_
  refine g_iload_n (pc := 17) X (j := 2) (i := 2) (q := 0) (x := x2_9) rfl rfl (dl_at t_X7_weigh 9 rfl) ?_
  refine g_gd fun k18 => ?_
  refine g_iald (pc := 18) X r2_9 k18 (dl_at t_X7_weigh 10 rfl) fun g18 => ?_
  refine g_lti g18 fun x3_19 r3_19 => ?_
  refine g_istore_nN (pc := 19) X (j := 3) (i := 3) (x := x3_19) (b := 2) (w := iv x2_9) (rest := [(1, iv a1), (0, rv D a0)]) rfl (Nat.le_of_ble_eq_true rfl) [0, 1, 2] rfl (by decide) rfl rfl (dl_at t_X7_weigh 11 rfl) ?_
  refine g_ls (ls2 := [(0, rv D a0), (1, iv a1), (2, iv x2_9), (3, iv x3_19)]) [3, 2, 1, 0] rfl ?_
  refine g_loop0F (fun (q : Int × Hp) => [(0, rv D a0), (1, iv a1), (2, iv x2_9), (3, iv q.1)]) (fun (q : Int × Hp) => q.2) (fun (q : Int × Hp) => r32 q.1 ∧ Ext h q.2) (x3_19, h) ⟨r3_19, (Ext.refl _)⟩ ?_ (fun _ => rfl)
  · rintro ⟨x3_20, h_20⟩ ⟨r3_20, E_20⟩
    try dsimp only
    unfold m_X7_weigh_l20
    refine g_iload_n (pc := 20) X (j := 3) (i := 3) (q := 3) (x := x3_20) rfl rfl (dl_at t_X7_weigh 12 rfl) ?_
    refine g_aload_n (pc := 21) X (j := 0) (i := 0) (q := 0) (x := a0) rfl rfl (dl_at t_X7_weigh 13 rfl) ?_
    have k22 := kx E_20 (by decide) hk
    refine r_getr (pc := 22) X fX7_1 k22 q781 (dl_at t_X7_weigh 14 rfl) ?_
    refine g_gd fun k25 => ?_
    refine r_getrN (pc := 25) X fX3_21 k25 (nw_in q562 rfl) (dl_at t_X7_weigh 15 rfl) ?_
    refine g_iload_n (pc := 28) X (j := 2) (i := 2) (q := 2) (x := x2_9) rfl rfl (dl_at t_X7_weigh 16 rfl) ?_
    refine g_iconst (pc := 29) X (n := 1) (dl_at t_X7_weigh 17 rfl) ?_
    refine g_iadd (pc := 30) X r2_9 (r32_c rfl) (dl_at t_X7_weigh 18 rfl) ?_
    refine g_gd fun k31 => ?_
    refine g_iald (pc := 31) X (r32_w _) k31 (dl_at t_X7_weigh 19 rfl) fun g31 => ?_
    refine g_icmpge (pc := 32) X r3_20 g31 (off := 73) (tgt := 105) rfl (dl_at t_X7_weigh 20 rfl) (fun _ => ?_) (fun _ => ?_)
    · exact g_at fun Q hQ => (g_vret (pc := 105) X (v := 0) rfl rfl (dl_at t_X7_weigh 58 rfl)) _ Q rfl hQ
    refine g_aload_n (pc := 35) X (j := 0) (i := 0) (q := 0) (x := a0) rfl rfl (dl_at t_X7_weigh 21 rfl) ?_
    refine r_getr (pc := 36) X fX7_1 k22 q781 (dl_at t_X7_weigh 22 rfl) ?_
    refine r_getrN (pc := 39) X fX3_16 k25 (nw_in q553 rfl) (dl_at t_X7_weigh 23 rfl) ?_
    refine g_iload_n (pc := 42) X (j := 3) (i := 3) (q := 3) (x := x3_20) rfl rfl (dl_at t_X7_weigh 24 rfl) ?_
    refine g_gd fun k43 => ?_
    refine g_iald (pc := 43) X r3_20 k43 (dl_at t_X7_weigh 25 rfl) fun g43 => ?_
    refine g_lti g43 fun x4_44 r4_44 => ?_
    refine g_istoreN (pc := 44) X (i := 4) (x := x4_44) (b := 3) (w := iv x3_20) (rest := [(0, rv D a0), (1, iv a1), (2, iv x2_9)]) (Nat.le_of_ble_eq_true rfl) [3, 0, 1, 2] rfl (by decide) rfl rfl (dl_at t_X7_weigh 26 rfl) ?_
    refine g_aload_n (pc := 46) X (j := 0) (i := 0) (q := 2) (x := a0) rfl rfl (dl_at t_X7_weigh 27 rfl) ?_
    refine r_getr (pc := 47) X fX7_13 k22 q804 (dl_at t_X7_weigh 28 rfl) ?_
    refine g_iload (pc := 50) X (i := 4) (q := 0) (x := x4_44) rfl (dl_at t_X7_weigh 29 rfl) ?_
    refine g_gd fun k52 => ?_
    refine g_iald (pc := 52) X r4_44 k52 (dl_at t_X7_weigh 30 rfl) fun g52 => ?_
    refine g_join (γ := Hp) (fun q => Ext h_20 q) 99 (fun q => [(0, rv D a0), (1, iv a1), (2, iv x2_9), (3, iv x3_20)]) (fun q => []) (fun q => q) (fun q => m_X7_weigh_j99 x3_20 q) ?_ ?_
    · rintro h_99 E_99
      try dsimp only
      unfold m_X7_weigh_j99
      refine r_iincN (pc := 99) X (i := 3) (q := 3) (n := 1) (x := x3_20) (b := 2) (w := iv x2_9) (rest := [(0, rv D a0), (1, iv a1)]) rfl r3_20 (r32_c rfl) (Nat.le_of_ble_eq_true rfl) [2, 0, 1] rfl (by decide) rfl rfl (dl_at t_X7_weigh 56 rfl) fun x3_99 r3_99 => ?_
      refine g_goto (pc := 102) X (off := (-82)) (tgt := 20) rfl (dl_at t_X7_weigh 57 rfl) ?_
      refine g_ls (ls2 := [(0, rv D a0), (1, iv a1), (2, iv x2_9), (3, iv x3_99)]) [2, 3, 1, 0] rfl ?_
      exact g_at fun Q hQ => hQ ⟨r3_99, (E_20.trans E_99)⟩
    intro J99
    refine g_join (γ := Unit) (fun q => True) 75 (fun q => [(0, rv D a0), (1, iv a1), (2, iv x2_9), (3, iv x3_20), (4, iv x4_44)]) (fun q => []) (fun q => h_20) (fun q => m_X7_weigh_j75 x4_44 x3_20 a0 a1 h_20) ?_ ?_
    · rintro _ _
      try dsimp only
      unfold m_X7_weigh_j75
      refine g_aload_n (pc := 75) X (j := 0) (i := 0) (q := 0) (x := a0) rfl rfl (dl_at t_X7_weigh 42 rfl) ?_
      refine r_getr (pc := 76) X fX7_13 k22 q804 (dl_at t_X7_weigh 43 rfl) ?_
      refine g_iload (pc := 79) X (i := 4) (q := 4) (x := x4_44) rfl (dl_at t_X7_weigh 44 rfl) ?_
      refine g_iload_n (pc := 81) X (j := 3) (i := 3) (q := 3) (x := x3_20) rfl rfl (dl_at t_X7_weigh 45 rfl) ?_
      refine r_iast (pc := 82) X r4_44 r3_20 k52 (dl_at t_X7_weigh 46 rfl) (fun h82 E82 => ?_)
      refine g_aload_n (pc := 83) X (j := 0) (i := 0) (q := 0) (x := a0) rfl rfl (dl_at t_X7_weigh 47 rfl) ?_
      have k84 := kx E82 (by decide) k22
      refine r_getr (pc := 84) X fX7_14 k84 q805 (dl_at t_X7_weigh 48 rfl) ?_
      refine g_iload (pc := 87) X (i := 4) (q := 4) (x := x4_44) rfl (dl_at t_X7_weigh 49 rfl) ?_
      refine g_aload_n (pc := 89) X (j := 0) (i := 0) (q := 0) (x := a0) rfl rfl (dl_at t_X7_weigh 50 rfl) ?_
      refine r_getr (pc := 90) X fX7_1 k84 q781 (dl_at t_X7_weigh 51 rfl) ?_
      refine g_gd fun k93 => ?_
      refine r_getrN (pc := 93) X fX3_13 k93 (nw_in q546 rfl) (dl_at t_X7_weigh 52 rfl) ?_
      refine g_iload_n (pc := 96) X (j := 1) (i := 1) (q := 1) (x := a1) rfl rfl (dl_at t_X7_weigh 53 rfl) ?_
      refine g_gd fun k97 => ?_
      refine g_iald (pc := 97) X r1 k97 (dl_at t_X7_weigh 54 rfl) fun g97 => ?_
      refine g_gd fun k98 => ?_
      refine r_iast (pc := 98) X r4_44 g97 k98 (dl_at t_X7_weigh 55 rfl) (fun h98 E98 => ?_)
      refine g_ls (ls2 := [(0, rv D a0), (1, iv a1), (2, iv x2_9), (3, iv x3_20)]) [0, 1, 2, 3] rfl ?_
      exact J99 h98 (E82.trans E98)
    intro J75
    refine g_iflt (pc := 53) X g52 (off := 22) (tgt := 75) rfl (dl_at t_X7_weigh 31 rfl) (fun _ => ?_) (fun _ => ?_)
    · refine g_ls (ls2 := [(0, rv D a0), (1, iv a1), (2, iv x2_9), (3, iv x3_20), (4, iv x4_44)]) [2, 3, 4, 1, 0] rfl ?_
      exact J75 () trivial
    refine g_aload_n (pc := 56) X (j := 0) (i := 0) (q := 2) (x := a0) rfl rfl (dl_at t_X7_weigh 32 rfl) ?_
    refine r_getr (pc := 57) X fX7_1 k22 q781 (dl_at t_X7_weigh 33 rfl) ?_
    refine r_getrN (pc := 60) X fX3_13 k25 (nw_in q546 rfl) (dl_at t_X7_weigh 34 rfl) ?_
    refine g_iload_n (pc := 63) X (j := 1) (i := 1) (q := 3) (x := a1) rfl rfl (dl_at t_X7_weigh 35 rfl) ?_
    refine g_gd fun k64 => ?_
    refine g_iald (pc := 64) X r1 k64 (dl_at t_X7_weigh 36 rfl) fun g64 => ?_
    refine g_aload_n (pc := 65) X (j := 0) (i := 0) (q := 2) (x := a0) rfl rfl (dl_at t_X7_weigh 37 rfl) ?_
    refine r_getr (pc := 66) X fX7_14 k22 q805 (dl_at t_X7_weigh 38 rfl) ?_
    refine g_iload (pc := 69) X (i := 4) (q := 0) (x := x4_44) rfl (dl_at t_X7_weigh 39 rfl) ?_
    refine g_gd fun k71 => ?_
    refine g_iald (pc := 71) X r4_44 k71 (dl_at t_X7_weigh 40 rfl) fun g71 => ?_
    refine g_icmplt (pc := 72) X g64 g71 (off := 27) (tgt := 99) rfl (dl_at t_X7_weigh 41 rfl) (fun _ => ?_) (fun _ => ?_)
    · refine g_ls (ls2 := [(0, rv D a0), (1, iv a1), (2, iv x2_9), (3, iv x3_20)]) [2, 3, 4, 1] rfl ?_
      exact J99 h_20 (Ext.refl _)
    refine g_ls (ls2 := [(0, rv D a0), (1, iv a1), (2, iv x2_9), (3, iv x3_20), (4, iv x4_44)]) [2, 3, 4, 1, 0] rfl ?_
    exact J75 () trivial
def k_X7_inherits : List (Nat × Instr × Nat) := [(0, .iload_n 0, 1), (1, .iconst 1, 1), (2, .if_icmp .eq 55, 3), (5, .iload_n 0, 1), (6, .iconst 2, 1), (7, .if_icmp .eq 50, 3), (10, .iload_n 0, 1), (11, .iconst 3, 1), (12, .if_icmp .eq 45, 3), (15, .iload_n 0, 1), (16, .bipush 8, 2), (18, .if_icmp .eq 39, 3), (21, .iload_n 0, 1), (22, .bipush 9, 2), (24, .if_icmp .eq 33, 3), (27, .iload_n 0, 1), (28, .bipush 10, 2), (30, .if_icmp .eq 27, 3), (33, .iload_n 0, 1), (34, .bipush 11, 2), (36, .if_icmp .eq 21, 3), (39, .iload_n 0, 1), (40, .bipush 12, 2), (42, .if_icmp .eq 15, 3), (45, .iload_n 0, 1), (46, .bipush 14, 2), (48, .if_icmp .eq 9, 3), (51, .iload_n 0, 1), (52, .bipush 18, 2), (54, .if_icmp .ne 7, 3), (57, .iconst 1, 1), (58, .goto 4, 3), (61, .iconst 0, 1), (62, .ireturn, 1)]
theorem t_X7_inherits : ∀ q ∈ k_X7_inherits, decode cX7_inherits q.1 = .ok q.2 := dl_all (by decide +kernel)
noncomputable def m_X7_inherits (a0 : Int) : Option (Int) :=
  if a0 = 1 then (some 1)
  else (if a0 = 2 then (some 1)
  else (if a0 = 3 then (some 1)
  else (if a0 = 8 then (some 1)
  else (if a0 = 9 then (some 1)
  else (if a0 = 10 then (some 1)
  else (if a0 = 11 then (some 1)
  else (if a0 = 12 then (some 1)
  else (if a0 = 14 then (some 1)
  else (if a0 ≠ 18 then (some 0)
  else (some 1))))))))))
theorem s_X7_inherits {l : Launch} [NoTr l] {D : SD} {a0 : Int} {h : Hp} (r0 : r32 a0) {r : Int} (hm : m_X7_inherits a0 = some r) : Sim l D yX7_inherits (Cond.code yX7_inherits cX7_inherits 1 (Option.some Jvm.ClassFile.FieldType.boolean)) 0 0 [iv a0] h 3 ((0, r), h) := by
  refine Sim.of (fin := fun (v : Int) => ((0, v), h)) (lsE := [(0, iv a0)]) hm rfl cwS_code (la_i la_n) (ll_i ll_n) ?_
  intro p e s m below meth c X hcw hmm hcc hnm hname
  unfold m_X7_inherits
  refine g_iload_n (pc := 0) X (j := 0) (i := 0) (q := 0) (x := a0) rfl rfl (dl_at t_X7_inherits 0 rfl) ?_
  refine g_iconst (pc := 1) X (n := 1) (dl_at t_X7_inherits 1 rfl) ?_
  refine g_icmpeq (pc := 2) X r0 (r32_c rfl) (off := 55) (tgt := 57) rfl (dl_at t_X7_inherits 2 rfl) (fun _ => ?_) (fun _ => ?_)
  · refine g_iconst (pc := 57) X (n := 1) (dl_at t_X7_inherits 30 rfl) ?_
    refine g_goto (pc := 58) X (off := 4) (tgt := 62) rfl (dl_at t_X7_inherits 31 rfl) ?_
    exact g_zret (pc := 62) X (Or.inr rfl) rfl rfl (dl_at t_X7_inherits 33 rfl)
  refine g_iload_n (pc := 5) X (j := 0) (i := 0) (q := 0) (x := a0) rfl rfl (dl_at t_X7_inherits 3 rfl) ?_
  refine g_iconst (pc := 6) X (n := 2) (dl_at t_X7_inherits 4 rfl) ?_
  refine g_icmpeq (pc := 7) X r0 (r32_c rfl) (off := 50) (tgt := 57) rfl (dl_at t_X7_inherits 5 rfl) (fun _ => ?_) (fun _ => ?_)
  · refine g_iconst (pc := 57) X (n := 1) (dl_at t_X7_inherits 30 rfl) ?_
    refine g_goto (pc := 58) X (off := 4) (tgt := 62) rfl (dl_at t_X7_inherits 31 rfl) ?_
    exact g_zret (pc := 62) X (Or.inr rfl) rfl rfl (dl_at t_X7_inherits 33 rfl)
  refine g_iload_n (pc := 10) X (j := 0) (i := 0) (q := 0) (x := a0) rfl rfl (dl_at t_X7_inherits 6 rfl) ?_
  refine g_iconst (pc := 11) X (n := 3) (dl_at t_X7_inherits 7 rfl) ?_
  refine g_icmpeq (pc := 12) X r0 (r32_c rfl) (off := 45) (tgt := 57) rfl (dl_at t_X7_inherits 8 rfl) (fun _ => ?_) (fun _ => ?_)
  · refine g_iconst (pc := 57) X (n := 1) (dl_at t_X7_inherits 30 rfl) ?_
    refine g_goto (pc := 58) X (off := 4) (tgt := 62) rfl (dl_at t_X7_inherits 31 rfl) ?_
    exact g_zret (pc := 62) X (Or.inr rfl) rfl rfl (dl_at t_X7_inherits 33 rfl)
  refine g_iload_n (pc := 15) X (j := 0) (i := 0) (q := 0) (x := a0) rfl rfl (dl_at t_X7_inherits 9 rfl) ?_
  refine g_bipush (pc := 16) X (n := 8) rfl (dl_at t_X7_inherits 10 rfl) ?_
  refine g_icmpeq (pc := 18) X r0 (r32_c rfl) (off := 39) (tgt := 57) rfl (dl_at t_X7_inherits 11 rfl) (fun _ => ?_) (fun _ => ?_)
  · refine g_iconst (pc := 57) X (n := 1) (dl_at t_X7_inherits 30 rfl) ?_
    refine g_goto (pc := 58) X (off := 4) (tgt := 62) rfl (dl_at t_X7_inherits 31 rfl) ?_
    exact g_zret (pc := 62) X (Or.inr rfl) rfl rfl (dl_at t_X7_inherits 33 rfl)
  refine g_iload_n (pc := 21) X (j := 0) (i := 0) (q := 0) (x := a0) rfl rfl (dl_at t_X7_inherits 12 rfl) ?_
  refine g_bipush (pc := 22) X (n := 9) rfl (dl_at t_X7_inherits 13 rfl) ?_
  refine g_icmpeq (pc := 24) X r0 (r32_c rfl) (off := 33) (tgt := 57) rfl (dl_at t_X7_inherits 14 rfl) (fun _ => ?_) (fun _ => ?_)
  · refine g_iconst (pc := 57) X (n := 1) (dl_at t_X7_inherits 30 rfl) ?_
    refine g_goto (pc := 58) X (off := 4) (tgt := 62) rfl (dl_at t_X7_inherits 31 rfl) ?_
    exact g_zret (pc := 62) X (Or.inr rfl) rfl rfl (dl_at t_X7_inherits 33 rfl)
  refine g_iload_n (pc := 27) X (j := 0) (i := 0) (q := 0) (x := a0) rfl rfl (dl_at t_X7_inherits 15 rfl) ?_
  refine g_bipush (pc := 28) X (n := 10) rfl (dl_at t_X7_inherits 16 rfl) ?_
  refine g_icmpeq (pc := 30) X r0 (r32_c rfl) (off := 27) (tgt := 57) rfl (dl_at t_X7_inherits 17 rfl) (fun _ => ?_) (fun _ => ?_)
  · refine g_iconst (pc := 57) X (n := 1) (dl_at t_X7_inherits 30 rfl) ?_
    refine g_goto (pc := 58) X (off := 4) (tgt := 62) rfl (dl_at t_X7_inherits 31 rfl) ?_
    exact g_zret (pc := 62) X (Or.inr rfl) rfl rfl (dl_at t_X7_inherits 33 rfl)
  refine g_iload_n (pc := 33) X (j := 0) (i := 0) (q := 0) (x := a0) rfl rfl (dl_at t_X7_inherits 18 rfl) ?_
  refine g_bipush (pc := 34) X (n := 11) rfl (dl_at t_X7_inherits 19 rfl) ?_
  refine g_icmpeq (pc := 36) X r0 (r32_c rfl) (off := 21) (tgt := 57) rfl (dl_at t_X7_inherits 20 rfl) (fun _ => ?_) (fun _ => ?_)
  · refine g_iconst (pc := 57) X (n := 1) (dl_at t_X7_inherits 30 rfl) ?_
    refine g_goto (pc := 58) X (off := 4) (tgt := 62) rfl (dl_at t_X7_inherits 31 rfl) ?_
    exact g_zret (pc := 62) X (Or.inr rfl) rfl rfl (dl_at t_X7_inherits 33 rfl)
  refine g_iload_n (pc := 39) X (j := 0) (i := 0) (q := 0) (x := a0) rfl rfl (dl_at t_X7_inherits 21 rfl) ?_
  refine g_bipush (pc := 40) X (n := 12) rfl (dl_at t_X7_inherits 22 rfl) ?_
  refine g_icmpeq (pc := 42) X r0 (r32_c rfl) (off := 15) (tgt := 57) rfl (dl_at t_X7_inherits 23 rfl) (fun _ => ?_) (fun _ => ?_)
  · refine g_iconst (pc := 57) X (n := 1) (dl_at t_X7_inherits 30 rfl) ?_
    refine g_goto (pc := 58) X (off := 4) (tgt := 62) rfl (dl_at t_X7_inherits 31 rfl) ?_
    exact g_zret (pc := 62) X (Or.inr rfl) rfl rfl (dl_at t_X7_inherits 33 rfl)
  refine g_iload_n (pc := 45) X (j := 0) (i := 0) (q := 0) (x := a0) rfl rfl (dl_at t_X7_inherits 24 rfl) ?_
  refine g_bipush (pc := 46) X (n := 14) rfl (dl_at t_X7_inherits 25 rfl) ?_
  refine g_icmpeq (pc := 48) X r0 (r32_c rfl) (off := 9) (tgt := 57) rfl (dl_at t_X7_inherits 26 rfl) (fun _ => ?_) (fun _ => ?_)
  · refine g_iconst (pc := 57) X (n := 1) (dl_at t_X7_inherits 30 rfl) ?_
    refine g_goto (pc := 58) X (off := 4) (tgt := 62) rfl (dl_at t_X7_inherits 31 rfl) ?_
    exact g_zret (pc := 62) X (Or.inr rfl) rfl rfl (dl_at t_X7_inherits 33 rfl)
  refine g_iload_n (pc := 51) X (j := 0) (i := 0) (q := 0) (x := a0) rfl rfl (dl_at t_X7_inherits 27 rfl) ?_
  refine g_bipush (pc := 52) X (n := 18) rfl (dl_at t_X7_inherits 28 rfl) ?_
  refine g_icmpne (pc := 54) X r0 (r32_c rfl) (off := 7) (tgt := 61) rfl (dl_at t_X7_inherits 29 rfl) (fun _ => ?_) (fun _ => ?_)
  · refine g_iconst (pc := 61) X (n := 0) (dl_at t_X7_inherits 32 rfl) ?_
    exact g_zret (pc := 62) X (Or.inl rfl) rfl rfl (dl_at t_X7_inherits 33 rfl)
  refine g_iconst (pc := 57) X (n := 1) (dl_at t_X7_inherits 30 rfl) ?_
  refine g_goto (pc := 58) X (off := 4) (tgt := 62) rfl (dl_at t_X7_inherits 31 rfl) ?_
  exact g_zret (pc := 62) X (Or.inr rfl) rfl rfl (dl_at t_X7_inherits 33 rfl)
def k_X7_first : List (Nat × Instr × Nat) := [(0, .iload_n 0, 1), (88, .iconst 1, 1), (89, .ireturn, 1), (90, .sipush 10000, 3), (93, .ireturn, 1), (94, .sipush 12000, 3), (97, .ireturn, 1), (98, .sipush 200, 3), (101, .ireturn, 1), (102, .iconst 2, 1), (103, .ireturn, 1), (104, .iconst (-1), 1), (105, .ireturn, 1), (106, .iconst 0, 1), (107, .ireturn, 1)]
theorem t_X7_first : ∀ q ∈ k_X7_first, decode cX7_first q.1 = .ok q.2 := dl_all (by decide +kernel)
theorem dS_X7_first_1 : decode cX7_first 1 = .ok (.tableswitch 105 0 17 #[87, 89, 93, 105, 105, 105, 105, 105, 105, 105, 97, 101, 101, 105, 105, 105, 105, 103], 87) := by decide +kernel
noncomputable def m_X7_first (a0 : Int) : Option (Int) :=
  if a0 = 0 then (some 1)
  else (if a0 = 1 then (some 10000)
  else (if a0 = 2 then (some 12000)
  else (if a0 = 10 then (some 200)
  else (if a0 ∈ ([11, 12] : List Int) then (some 2)
  else (if a0 = 17 then (some (-1))
  else (some 0))))))
theorem s_X7_first {l : Launch} [NoTr l] {D : SD} {a0 : Int} {h : Hp} (r0 : r32 a0) {r : Int} (hm : m_X7_first a0 = some r) : Sim l D yX7_first (Cond.code yX7_first cX7_first 1 (Option.some Jvm.ClassFile.FieldType.int)) 0 0 [iv a0] h 1 ((0, r), h) := by
  refine Sim.of (fin := fun (v : Int) => ((0, v), h)) (lsE := [(0, iv a0)]) hm rfl cwS_code (la_i la_n) (ll_i ll_n) ?_
  intro p e s m below meth c X hcw hmm hcc hnm hname
  unfold m_X7_first
  refine g_iload_n (pc := 0) X (j := 0) (i := 0) (q := 0) (x := a0) rfl rfl (dl_at t_X7_first 0 rfl) ?_
  refine g_case (fun w1 => ?_) (fun nw1 => ?_)
  · refine g_tabIn (pc := 1) X (off := 87) (tgt := 88) r0 w1 (by decide) (by decide) rfl rfl dS_X7_first_1 ?_
    refine g_iconst (pc := 88) X (n := 1) (dl_at t_X7_first 1 rfl) ?_
    exact g_iret (pc := 89) X (r32_c rfl) rfl rfl (dl_at t_X7_first 2 rfl)
  refine g_case (fun w1_1 => ?_) (fun nw1_1 => ?_)
  · refine g_tabIn (pc := 1) X (off := 89) (tgt := 90) r0 w1_1 (by decide) (by decide) rfl rfl dS_X7_first_1 ?_
    refine g_sipush (pc := 90) X (n := 10000) rfl (dl_at t_X7_first 3 rfl) ?_
    exact g_iret (pc := 93) X (r32_c rfl) rfl rfl (dl_at t_X7_first 4 rfl)
  refine g_case (fun w1_2 => ?_) (fun nw1_2 => ?_)
  · refine g_tabIn (pc := 1) X (off := 93) (tgt := 94) r0 w1_2 (by decide) (by decide) rfl rfl dS_X7_first_1 ?_
    refine g_sipush (pc := 94) X (n := 12000) rfl (dl_at t_X7_first 5 rfl) ?_
    exact g_iret (pc := 97) X (r32_c rfl) rfl rfl (dl_at t_X7_first 6 rfl)
  refine g_case (fun w1_3 => ?_) (fun nw1_3 => ?_)
  · refine g_tabIn (pc := 1) X (off := 97) (tgt := 98) r0 w1_3 (by decide) (by decide) rfl rfl dS_X7_first_1 ?_
    refine g_sipush (pc := 98) X (n := 200) rfl (dl_at t_X7_first 7 rfl) ?_
    exact g_iret (pc := 101) X (r32_c rfl) rfl rfl (dl_at t_X7_first 8 rfl)
  refine g_case (fun w1_4 => ?_) (fun nw1_4 => ?_)
  · refine g_tabIns (pc := 1) X (off := 101) (tgt := 102) [11, 12] r0 w1_4 rfl rfl dS_X7_first_1 ?_
    refine g_iconst (pc := 102) X (n := 2) (dl_at t_X7_first 9 rfl) ?_
    exact g_iret (pc := 103) X (r32_c rfl) rfl rfl (dl_at t_X7_first 10 rfl)
  refine g_case (fun w1_5 => ?_) (fun nw1_5 => ?_)
  · refine g_tabIn (pc := 1) X (off := 103) (tgt := 104) r0 w1_5 (by decide) (by decide) rfl rfl dS_X7_first_1 ?_
    refine g_iconst (pc := 104) X (n := (-1)) (dl_at t_X7_first 11 rfl) ?_
    exact g_iret (pc := 105) X (r32_c rfl) rfl rfl (dl_at t_X7_first 12 rfl)
  have w1_6 : ¬ a0 ∈ ([0, 1, 2, 10, 11, 12, 17] : List Int) := by simp only [List.mem_cons, List.not_mem_nil, or_false, not_or] at *; simp only [*, not_false_eq_true, and_self]
  refine g_tabElse (pc := 1) X (tgt := 106) [0, 1, 2, 10, 11, 12, 17] r0 w1_6 rfl rfl dS_X7_first_1 ?_
  refine g_iconst (pc := 106) X (n := 0) (dl_at t_X7_first 13 rfl) ?_
  exact g_iret (pc := 107) X (r32_c rfl) rfl rfl (dl_at t_X7_first 14 rfl)
def k_X7_property : List (Nat × Instr × Nat) := [(0, .iload_n 1, 1), (1, .ifCond .ge 10, 3), (4, .iload_n 2, 1), (5, .invokestatic 107, 3), (8, .goto 14, 3), (11, .aload_n 0, 1), (12, .getfield 17, 3), (15, .bipush 22, 2), (17, .iload_n 1, 1), (18, .imul, 1), (19, .iload_n 2, 1), (20, .iadd, 1), (21, .iaload, 1), (22, .ireturn, 1)]
theorem t_X7_property : ∀ q ∈ k_X7_property, decode cX7_property q.1 = .ok q.2 := dl_all (by decide +kernel)
noncomputable def m_X7_property (a0 a1 a2 : Int) (h : Hp) : Option (Int) :=
  if 0 ≤ a1 then (gd (h (h a0 4) (-2) % 16 = 1 ∧ (0 : Int) ≤ (w32 ((w32 (22 * a1)) + a2)) ∧ (w32 ((w32 (22 * a1)) + a2)) < h (h a0 4) (-1)) (some (h (h a0 4) (w32 ((w32 (22 * a1)) + a2)))))
  else ((m_X7_first a2).bind fun v5 =>
  some v5)
theorem s_X7_property {l : Launch} [NoTr l] {D : SD} {a0 a1 a2 : Int} {h : Hp} (hk : h a0 (-2) = 112) (r1 : r32 a1) (r2 : r32 a2) {r : Int} (hm : m_X7_property a0 a1 a2 h = some r) : Sim l D yX7_property (Cond.code yX7_property cX7_property 3 (Option.some Jvm.ClassFile.FieldType.int)) 1 36 [rv D a0, iv a1, iv a2] h 1 ((0, r), h) := by
  refine Sim.of (fin := fun (v : Int) => ((0, v), h)) (lsE := [(0, rv D a0), (1, iv a1), (2, iv a2)]) hm rfl cwS_code (la_r (la_i (la_i la_n))) (ll_r (ll_i (ll_i ll_n))) ?_
  intro p e s m below meth c X hcw hmm hcc hnm hname
  unfold m_X7_property
  refine g_iload_n (pc := 0) X (j := 1) (i := 1) (q := 1) (x := a1) rfl rfl (dl_at t_X7_property 0 rfl) ?_
  refine g_ifge (pc := 1) X r1 (off := 10) (tgt := 11) rfl (dl_at t_X7_property 1 rfl) (fun _ => ?_) (fun _ => ?_)
  · refine g_aload_n (pc := 11) X (j := 0) (i := 0) (q := 0) (x := a0) rfl rfl (dl_at t_X7_property 5 rfl) ?_
    refine r_getr (pc := 12) X fX7_4 hk q787 (dl_at t_X7_property 6 rfl) ?_
    refine g_bipush (pc := 15) X (n := 22) rfl (dl_at t_X7_property 7 rfl) ?_
    refine g_iload_n (pc := 17) X (j := 1) (i := 1) (q := 1) (x := a1) rfl rfl (dl_at t_X7_property 8 rfl) ?_
    refine g_imul (pc := 18) X (r32_c rfl) r1 (dl_at t_X7_property 9 rfl) ?_
    refine g_iload_n (pc := 19) X (j := 2) (i := 2) (q := 2) (x := a2) rfl rfl (dl_at t_X7_property 10 rfl) ?_
    refine g_iadd (pc := 20) X (r32_w _) r2 (dl_at t_X7_property 11 rfl) ?_
    refine g_gd fun k21 => ?_
    refine g_iald (pc := 21) X (r32_w _) k21 (dl_at t_X7_property 12 rfl) fun g21 => ?_
    exact g_iret (pc := 22) X g21 rfl rfl (dl_at t_X7_property 13 rfl)
  refine g_iload_n (pc := 4) X (j := 2) (i := 2) (q := 2) (x := a2) rfl rfl (dl_at t_X7_property 2 rfl) ?_
  refine r_callRi (pc := 5) X (fun _ hv => s_X7_first r2 hv) cw_code q2335 q361 (in_Sc X (As := [iv a2]) (Or.inl q2333) q2334 q361 q2335 ⟨by decide, by decide⟩ rfl (dl_at t_X7_property 3 rfl)) (dl_at t_X7_property 3 rfl) (cat24 (st := []) (Nat.le_of_ble_eq_true rfl)) (Nat.le_of_ble_eq_true rfl) (Nat.le_of_ble_eq_true rfl) fun v5 g5 => ?_
  refine g_goto (pc := 8) X (off := 14) (tgt := 22) rfl (dl_at t_X7_property 4 rfl) ?_
  exact g_iret (pc := 22) X g5 rfl rfl (dl_at t_X7_property 13 rfl)
def k_X7_compute : List (Nat × Instr × Nat) := [(0, .iconst 0, 1), (1, .istore_n 2, 1), (2, .iload_n 2, 1), (3, .bipush 22, 2), (5, .if_icmp .ge 16, 3), (8, .aload_n 0, 1), (9, .getfield 42, 3), (12, .iload_n 2, 1), (13, .iconst (-1), 1), (14, .iastore, 1), (15, .iinc 2 1, 3), (18, .goto (-16), 3), (21, .iconst 0, 1), (22, .istore_n 2, 1), (23, .iload_n 2, 1), (24, .aload_n 0, 1), (25, .getfield 70, 3), (28, .getfield 111, 3), (31, .if_icmp .ge 23, 3), (34, .aload_n 0, 1), (35, .iload_n 2, 1), (36, .iload_n 1, 1), (37, .invokevirtual 114, 3), (40, .ifCond .eq 8, 3), (43, .aload_n 0, 1), (44, .iload_n 2, 1), (45, .invokevirtual 118, 3), (48, .iinc 2 1, 3), (51, .goto (-28), 3), (54, .aload_n 0, 1), (55, .getfield 66, 3), (58, .getfield 121, 3), (61, .iload_n 1, 1), (62, .iaload, 1), (63, .istore_n 2, 1), (64, .iconst 0, 1), (65, .istore_n 3, 1), (66, .iload_n 3, 1), (67, .bipush 22, 2), (69, .if_icmp .ge 189, 3), (72, .aload_n 0, 1), (73, .getfield 42, 3), (76, .iload_n 3, 1), (77, .iaload, 1), (78, .istore 4, 2), (80, .iload 4, 2), (82, .ifCond .lt 16, 3), (85, .aload_n 0, 1), (86, .getfield 70, 3), (89, .getfield 124, 3), (92, .iload 4, 2), (94, .iaload, 1), (95, .goto 31, 3), (98, .iload_n 3, 1), (99, .invokestatic 127, 3), (102, .ifCond .eq 12, 3), (105, .aload_n 0, 1), (106, .iload_n 2, 1), (107, .iload_n 3, 1), (108, .invokevirtual 131, 3), (111, .goto 15, 3), (114, .iload_n 3, 1), (115, .ifCond .ne 7, 3), (118, .iconst 0, 1), (119, .goto 7, 3), (122, .iload_n 3, 1), (123, .invokestatic 107, 3), (126, .istore 5, 2), (128, .iload_n 3, 1), (129, .iconst 1, 1), (130, .if_icmp .ne 73, 3), (133, .iload 4, 2), (135, .ifCond .lt 68, 3), (138, .aload_n 0, 1), (139, .getfield 70, 3), (142, .getfield 135, 3), (145, .iload 4, 2), (147, .baload, 1), (148, .ifCond .eq 55, 3), (151, .aload_n 0, 1), (152, .iload_n 2, 1), (153, .iconst 1, 1), (154, .invokevirtual 131, 3), (157, .i2l, 1), (158, .iload 5, 2), (160, .i2l, 1), (161, .lmul, 1), (162, .ldc2_w 138, 3), (165, .ldiv, 1), (166, .lstore 6, 2), (168, .lload 6, 2), (170, .ldc2_w 140, 3), (173, .lcmp, 1), (174, .ifCond .ge 9, 3), (177, .ldc2_w 140, 3), (180, .goto 20, 3), (183, .lload 6, 2), (185, .ldc2_w 142, 3), (188, .lcmp, 1), (189, .ifCond .le 9, 3), (192, .ldc2_w 142, 3), (195, .goto 5, 3), (198, .lload 6, 2), (200, .l2i, 1), (201, .istore 5, 2), (203, .aload_n 0, 1), (204, .getfield 17, 3), (207, .bipush 22, 2), (209, .iload_n 1, 1), (210, .imul, 1), (211, .iload_n 3, 1), (212, .iadd, 1), (213, .iload 5, 2), (215, .iastore, 1), (216, .iload_n 3, 1), (217, .bipush 17, 2), (219, .if_icmp .ne 33, 3), (222, .aload_n 0, 1), (223, .getfield 20, 3), (226, .iload_n 1, 1), (227, .iload 4, 2), (229, .ifCond .lt 21, 3), (232, .iload 5, 2), (234, .ifCond .lt 16, 3), (237, .aload_n 0, 1), (238, .getfield 70, 3), (241, .getfield 144, 3), (244, .iload 4, 2), (246, .iaload, 1), (247, .goto 4, 3), (250, .iconst 0, 1), (251, .iastore, 1), (252, .iinc 3 1, 3), (255, .goto (-189), 3), (258, .return_, 1)]
theorem t_X7_compute : ∀ q ∈ k_X7_compute, decode cX7_compute q.1 = .ok q.2 := dl_all (by decide +kernel)
noncomputable def m_X7_compute_l2 (a0 x2_2 : Int) (h_2 : Hp) : Option ((Int × Hp) ⊕ ((Hp))) :=
  if 22 ≤ x2_2 then (some (.inr h_2))
  else (gd (h_2 (h_2 a0 13) (-2) % 16 = 1 ∧ (0 : Int) ≤ x2_2 ∧ x2_2 < h_2 (h_2 a0 13) (-1)) (pt h_2 (h_2 a0 13) x2_2 (-1) fun h14 =>
  lt_ (w32 (x2_2 + 1)) fun x2_15 =>
  some (.inl (x2_15, h14))))
noncomputable def m_X7_compute_j48 (x2_23 : Int) (h_48 : Hp) : Option ((Int × Hp) ⊕ ((Hp))) :=
  lt_ (w32 (x2_23 + 1)) fun x2_48 =>
  some (.inl (x2_48, h_48))
noncomputable def m_X7_compute_l23 (a0 a1 x2_23 : Int) (h_23 : Hp) : Option ((Int × Hp) ⊕ ((Hp))) :=
  gd (h_23 (h_23 a0 1) (-2) = 48) (if (h_23 (h_23 a0 1) 15) ≤ x2_23 then (some (.inr h_23))
  else (bW (m_X7_fits a0 x2_23 a1 h_23) fun v37 h37 =>
  if v37 = 0 then (m_X7_compute_j48 x2_23 h37)
  else ((m_X7_weigh a0 x2_23 h37).bind fun h45 =>
  m_X7_compute_j48 x2_23 h45)))
noncomputable def m_X7_compute_j252 (x3_66 : Int) (h_252 : Hp) : Option ((Int × Hp) ⊕ ((Hp))) :=
  lt_ (w32 (x3_66 + 1)) fun x3_252 =>
  some (.inl (x3_252, h_252))
noncomputable def m_X7_compute_j251 (a1 x3_66 s0_251 s2_251 : Int) (h215 : Hp) : Option ((Int × Hp) ⊕ ((Hp))) :=
  gd (h215 s0_251 (-2) % 16 = 1 ∧ (0 : Int) ≤ a1 ∧ a1 < h215 s0_251 (-1)) (pt h215 s0_251 a1 s2_251 fun h251 =>
  m_X7_compute_j252 x3_66 h251)
noncomputable def m_X7_compute_j250 (a1 x3_66 s0_250 : Int) (h215 : Hp) : Option ((Int × Hp) ⊕ ((Hp))) :=
  m_X7_compute_j251 a1 x3_66 s0_250 0 h215
noncomputable def m_X7_compute_j203 (x4_78 a0 a1 x3_66 x5_203 : Int) (h_66 : Hp) : Option ((Int × Hp) ⊕ ((Hp))) :=
  gd (h_66 (h_66 a0 4) (-2) % 16 = 1 ∧ (0 : Int) ≤ (w32 ((w32 (22 * a1)) + x3_66)) ∧ (w32 ((w32 (22 * a1)) + x3_66)) < h_66 (h_66 a0 4) (-1)) (pt h_66 (h_66 a0 4) (w32 ((w32 (22 * a1)) + x3_66)) x5_203 fun h215 =>
  if x3_66 ≠ 17 then (m_X7_compute_j252 x3_66 h215)
  else (if x4_78 < 0 then (m_X7_compute_j250 a1 x3_66 (h215 a0 5) h215)
  else (if x5_203 < 0 then (m_X7_compute_j250 a1 x3_66 (h215 a0 5) h215)
  else (gd (h215 (h215 a0 1) (-2) = 48) (gd (h215 (h215 (h215 a0 1) 18) (-2) % 16 = 1 ∧ (0 : Int) ≤ x4_78 ∧ x4_78 < h215 (h215 (h215 a0 1) 18) (-1)) (m_X7_compute_j251 a1 x3_66 (h215 a0 5) (h215 (h215 (h215 a0 1) 18) x4_78) h215))))))
noncomputable def m_X7_compute_j200 (x4_78 a0 a1 x3_66 s0_200 : Int) (h_66 : Hp) : Option ((Int × Hp) ⊕ ((Hp))) :=
  lt_ (w32 s0_200) fun x5_201 =>
  m_X7_compute_j203 x4_78 a0 a1 x3_66 x5_201 h_66
noncomputable def m_X7_compute_j126 (x4_78 x3_66 a0 a1 x2_63 s0_126 : Int) (h_66 : Hp) : Option ((Int × Hp) ⊕ ((Hp))) :=
  if x3_66 ≠ 1 then (m_X7_compute_j203 x4_78 a0 a1 x3_66 s0_126 h_66)
  else (if x4_78 < 0 then (m_X7_compute_j203 x4_78 a0 a1 x3_66 s0_126 h_66)
  else (gd (h_66 (h_66 a0 1) (-2) = 48) (gd (h_66 (h_66 (h_66 a0 1) 19) (-2) % 16 = 3 ∧ (0 : Int) ≤ x4_78 ∧ x4_78 < h_66 (h_66 (h_66 a0 1) 19) (-1)) (if (h_66 (h_66 (h_66 a0 1) 19) x4_78) = 0 then (m_X7_compute_j203 x4_78 a0 a1 x3_66 s0_126 h_66)
  else ((m_X7_property a0 x2_63 1 h_66).bind fun v154 =>
  lt_ (w64 (Int.tdiv (w64 (v154 * s0_126)) 100)) fun x6_166 =>
  if 0 ≤ (lcmp_ x6_166 1000) then (if (lcmp_ x6_166 100000) ≤ 0 then (m_X7_compute_j200 x4_78 a0 a1 x3_66 x6_166 h_66)
  else (m_X7_compute_j200 x4_78 a0 a1 x3_66 100000 h_66))
  else (m_X7_compute_j200 x4_78 a0 a1 x3_66 1000 h_66))))))
noncomputable def m_X7_compute_l66 (a0 a1 x2_63 x3_66 : Int) (h_66 : Hp) : Option ((Int × Hp) ⊕ ((Hp))) :=
  if 22 ≤ x3_66 then (some (.inr h_66))
  else (gd (h_66 (h_66 a0 13) (-2) % 16 = 1 ∧ (0 : Int) ≤ x3_66 ∧ x3_66 < h_66 (h_66 a0 13) (-1)) (lt_ (h_66 (h_66 a0 13) x3_66) fun x4_78 =>
  if x4_78 < 0 then ((m_X7_inherits x3_66).bind fun v99 =>
  if v99 = 0 then (if x3_66 ≠ 0 then ((m_X7_first x3_66).bind fun v123 =>
  m_X7_compute_j126 x4_78 x3_66 a0 a1 x2_63 v123 h_66)
  else (m_X7_compute_j126 x4_78 x3_66 a0 a1 x2_63 0 h_66))
  else ((m_X7_property a0 x2_63 x3_66 h_66).bind fun v108 =>
  m_X7_compute_j126 x4_78 x3_66 a0 a1 x2_63 v108 h_66))
  else (gd (h_66 (h_66 a0 1) (-2) = 48) (gd (h_66 (h_66 (h_66 a0 1) 17) (-2) % 16 = 1 ∧ (0 : Int) ≤ x4_78 ∧ x4_78 < h_66 (h_66 (h_66 a0 1) 17) (-1)) (m_X7_compute_j126 x4_78 x3_66 a0 a1 x2_63 (h_66 (h_66 (h_66 a0 1) 17) x4_78) h_66)))))
noncomputable def m_X7_compute (a0 a1 : Int) (h : Hp) : Option (Hp) :=
  lt_ 0 fun x2_1 =>
  (lp (fun (q : Int × Hp) => m_X7_compute_l2 a0 q.1 q.2) (x2_1, h)).bind (fun (y21 : Hp) => lt_ 0 fun x2_22 =>
  (lp (fun (q : Int × Hp) => m_X7_compute_l23 a0 a1 q.1 q.2) (x2_22, y21)).bind (fun (y54 : Hp) => gd (y54 (y54 a0 0) (-2) = 96) (gd (y54 (y54 (y54 a0 0) 6) (-2) % 16 = 1 ∧ (0 : Int) ≤ a1 ∧ a1 < y54 (y54 (y54 a0 0) 6) (-1)) (lt_ (y54 (y54 (y54 a0 0) 6) a1) fun x2_63 =>
  lt_ 0 fun x3_65 =>
  (lp (fun (q : Int × Hp) => m_X7_compute_l66 a0 a1 x2_63 q.1 q.2) (x3_65, y54)).bind (fun (x : Hp) => some x)))))
theorem s_X7_compute {l : Launch} [NoTr l] {D : SD} {a0 a1 : Int} {h : Hp} (hk : h a0 (-2) = 112) (r1 : r32 a1) {r : Hp} (hm : m_X7_compute a0 a1 h = some r) : Sim l D yX7_compute (Cond.code yX7_compute cX7_compute 8 (Option.none : Option Jvm.ClassFile.FieldType)) 69 2826 [rv D a0, iv a1] h 0 ((0, 0), r) := by
  refine Sim.of (fin := fun (v : Hp) => ((0, 0), v)) (lsE := [(0, rv D a0), (1, iv a1)]) hm rfl cwS_code (la_r (la_i la_n)) (ll_r (ll_i ll_n)) ?_
  intro p e s m below meth c X hcw hmm hcc hnm hname
  unfold m_X7_compute
  refine g_iconst (pc := 0) X (n := 0) (dl_at t_X7_compute 0 rfl) ?_
  refine g_ltz (Or.inl rfl) fun x2_1 r2_1 => ?_
  refine g_istore_nN (pc := 1) X (j := 2) (i := 2) (x := x2_1) (b := 1) (w := iv a1) (rest := [(0, rv D a0)]) rfl (Nat.le_of_ble_eq_true rfl) [1, 0] rfl (by decide) rfl rfl (dl_at t_X7_compute 1 rfl) ?_
  refine g_ls (ls2 := [(0, rv D a0), (1, iv a1), (2, iv x2_1)]) [2, 1, 0] rfl ?_
  refine g_loop1 (fun (q : Int × Hp) => [(0, rv D a0), (1, iv a1), (2, iv q.1)]) (fun (q : Int × Hp) => q.2) (fun (q : Int × Hp) => r32 q.1 ∧ Ext h q.2) 21 (fun (y21 : Hp) => [(0, rv D a0), (1, iv a1)]) (fun (y21 : Hp) => y21) (fun (y21 : Hp) => Ext h y21) (x2_1, h) ⟨(r32_z r2_1), (Ext.refl _)⟩ ?_ ?_
  · rintro ⟨x2_2, h_2⟩ ⟨r2_2, E_2⟩
    try dsimp only
    unfold m_X7_compute_l2
    refine g_iload_n (pc := 2) X (j := 2) (i := 2) (q := 2) (x := x2_2) rfl rfl (dl_at t_X7_compute 2 rfl) ?_
    refine g_bipush (pc := 3) X (n := 22) rfl (dl_at t_X7_compute 3 rfl) ?_
    refine g_icmpge (pc := 5) X r2_2 (r32_c rfl) (off := 16) (tgt := 21) rfl (dl_at t_X7_compute 4 rfl) (fun _ => ?_) (fun _ => ?_)
    · refine g_ls (ls2 := [(0, rv D a0), (1, iv a1)]) [0, 1] rfl ?_
      exact g_at fun Q hQ => hQ E_2
    refine g_aload_n (pc := 8) X (j := 0) (i := 0) (q := 0) (x := a0) rfl rfl (dl_at t_X7_compute 5 rfl) ?_
    have k9 := kx E_2 (by decide) hk
    refine r_getr (pc := 9) X fX7_13 k9 q804 (dl_at t_X7_compute 6 rfl) ?_
    refine g_iload_n (pc := 12) X (j := 2) (i := 2) (q := 2) (x := x2_2) rfl rfl (dl_at t_X7_compute 7 rfl) ?_
    refine g_iconst (pc := 13) X (n := (-1)) (dl_at t_X7_compute 8 rfl) ?_
    refine g_gd fun k14 => ?_
    refine r_iast (pc := 14) X r2_2 (r32_c rfl) k14 (dl_at t_X7_compute 9 rfl) (fun h14 E14 => ?_)
    refine r_iincN (pc := 15) X (i := 2) (q := 2) (n := 1) (x := x2_2) (b := 1) (w := iv a1) (rest := [(0, rv D a0)]) rfl r2_2 (r32_c rfl) (Nat.le_of_ble_eq_true rfl) [1, 0] rfl (by decide) rfl rfl (dl_at t_X7_compute 10 rfl) fun x2_15 r2_15 => ?_
    refine g_goto (pc := 18) X (off := (-16)) (tgt := 2) rfl (dl_at t_X7_compute 11 rfl) ?_
    refine g_ls (ls2 := [(0, rv D a0), (1, iv a1), (2, iv x2_15)]) [2, 1, 0] rfl ?_
    exact g_at fun Q hQ => hQ ⟨r2_15, (E_2.trans E14)⟩
  · rintro h_21 E_21
    try dsimp only [sE]
    refine g_iconst (pc := 21) X (n := 0) (dl_at t_X7_compute 12 rfl) ?_
    refine g_ltz (Or.inl rfl) fun x2_22 r2_22 => ?_
    refine g_istore_nN (pc := 22) X (j := 2) (i := 2) (x := x2_22) (b := 1) (w := iv a1) (rest := [(0, rv D a0)]) rfl (Nat.le_of_ble_eq_true rfl) [1, 0] rfl (by decide) rfl rfl (dl_at t_X7_compute 13 rfl) ?_
    refine g_ls (ls2 := [(0, rv D a0), (1, iv a1), (2, iv x2_22)]) [2, 1, 0] rfl ?_
    refine g_loop1 (fun (q : Int × Hp) => [(0, rv D a0), (1, iv a1), (2, iv q.1)]) (fun (q : Int × Hp) => q.2) (fun (q : Int × Hp) => r32 q.1 ∧ Ext h_21 q.2) 54 (fun (y54 : Hp) => [(0, rv D a0), (1, iv a1)]) (fun (y54 : Hp) => y54) (fun (y54 : Hp) => Ext h_21 y54) (x2_22, h_21) ⟨(r32_z r2_22), (Ext.refl _)⟩ ?_ ?_
    · rintro ⟨x2_23, h_23⟩ ⟨r2_23, E_23⟩
      try dsimp only
      unfold m_X7_compute_l23
      refine g_iload_n (pc := 23) X (j := 2) (i := 2) (q := 2) (x := x2_23) rfl rfl (dl_at t_X7_compute 14 rfl) ?_
      refine g_aload_n (pc := 24) X (j := 0) (i := 0) (q := 0) (x := a0) rfl rfl (dl_at t_X7_compute 15 rfl) ?_
      have k25 := kx (E_21.trans E_23) (by decide) hk
      refine r_getr (pc := 25) X fX7_1 k25 q781 (dl_at t_X7_compute 16 rfl) ?_
      refine g_gd fun k28 => ?_
      refine r_getiN (pc := 28) X fX3_15 k28 (nw_in q550 rfl) (dl_at t_X7_compute 17 rfl) fun g28 => ?_
      refine g_icmpge (pc := 31) X r2_23 g28 (off := 23) (tgt := 54) rfl (dl_at t_X7_compute 18 rfl) (fun _ => ?_) (fun _ => ?_)
      · refine g_ls (ls2 := [(0, rv D a0), (1, iv a1)]) [0, 1] rfl ?_
        exact g_at fun Q hQ => hQ E_23
      refine g_aload_n (pc := 34) X (j := 0) (i := 0) (q := 0) (x := a0) rfl rfl (dl_at t_X7_compute 19 rfl) ?_
      refine g_iload_n (pc := 35) X (j := 2) (i := 2) (q := 2) (x := x2_23) rfl rfl (dl_at t_X7_compute 20 rfl) ?_
      refine g_iload_n (pc := 36) X (j := 1) (i := 1) (q := 1) (x := a1) rfl rfl (dl_at t_X7_compute 21 rfl) ?_
      refine r_callWz (pc := 37) X (fun _ hv => s_X7_fits k25 r2_23 r1 hv) cw_code q2304 q361 (in_Vk X (As := [iv x2_23, iv a1]) kX7 k25 (Or.inl q2301) q2303 qs78 cw_code q2304 ⟨by decide, by decide⟩ rfl (dl_at t_X7_compute 22 rfl)) (dl_at t_X7_compute 22 rfl) (cat24 (st := []) (Nat.le_of_ble_eq_true rfl)) (Nat.le_of_ble_eq_true rfl) (Nat.le_of_ble_eq_true rfl) fun v37 h37 g37 E37 => ?_
      refine g_join (γ := Hp) (fun q => Ext h37 q) 48 (fun q => [(0, rv D a0), (1, iv a1), (2, iv x2_23)]) (fun q => []) (fun q => q) (fun q => m_X7_compute_j48 x2_23 q) ?_ ?_
      · rintro h_48 E_48
        try dsimp only
        unfold m_X7_compute_j48
        refine r_iincN (pc := 48) X (i := 2) (q := 2) (n := 1) (x := x2_23) (b := 1) (w := iv a1) (rest := [(0, rv D a0)]) rfl r2_23 (r32_c rfl) (Nat.le_of_ble_eq_true rfl) [1, 0] rfl (by decide) rfl rfl (dl_at t_X7_compute 27 rfl) fun x2_48 r2_48 => ?_
        refine g_goto (pc := 51) X (off := (-28)) (tgt := 23) rfl (dl_at t_X7_compute 28 rfl) ?_
        refine g_ls (ls2 := [(0, rv D a0), (1, iv a1), (2, iv x2_48)]) [2, 1, 0] rfl ?_
        exact g_at fun Q hQ => hQ ⟨r2_48, (E_23.trans (E37.trans E_48))⟩
      intro J48
      refine g_ifeq (pc := 40) X (r32_z g37) (off := 8) (tgt := 48) rfl (dl_at t_X7_compute 23 rfl) (fun _ => ?_) (fun _ => ?_)
      · exact J48 h37 (Ext.refl _)
      refine g_aload_n (pc := 43) X (j := 0) (i := 0) (q := 0) (x := a0) rfl rfl (dl_at t_X7_compute 24 rfl) ?_
      refine g_iload_n (pc := 44) X (j := 2) (i := 2) (q := 2) (x := x2_23) rfl rfl (dl_at t_X7_compute 25 rfl) ?_
      have k45 := kx E37 (by decide) k25
      refine r_callV (pc := 45) X (fun _ hv => s_X7_weigh k45 r2_23 hv) cw_code q2325 q361 (in_Vk X (As := [iv x2_23]) kX7 k45 (Or.inl q2322) q2324 qs83 cw_code q2325 ⟨by decide, by decide⟩ rfl (dl_at t_X7_compute 26 rfl)) (dl_at t_X7_compute 26 rfl) (cat24 (st := []) (Nat.le_of_ble_eq_true rfl)) (Nat.le_of_ble_eq_true rfl) (Nat.le_of_ble_eq_true rfl) fun h45 E45 => ?_
      exact J48 h45 E45
    · rintro h_54 E_54
      try dsimp only [sE]
      refine g_aload_n (pc := 54) X (j := 0) (i := 0) (q := 0) (x := a0) rfl rfl (dl_at t_X7_compute 29 rfl) ?_
      have k55 := kx (E_21.trans E_54) (by decide) hk
      refine r_getr (pc := 55) X fX7_0 k55 q778 (dl_at t_X7_compute 30 rfl) ?_
      refine g_gd fun k58 => ?_
      refine r_getrN (pc := 58) X fX6_6 k58 (nw_in q660 rfl) (dl_at t_X7_compute 31 rfl) ?_
      refine g_iload_n (pc := 61) X (j := 1) (i := 1) (q := 1) (x := a1) rfl rfl (dl_at t_X7_compute 32 rfl) ?_
      refine g_gd fun k62 => ?_
      refine g_iald (pc := 62) X r1 k62 (dl_at t_X7_compute 33 rfl) fun g62 => ?_
      refine g_lti g62 fun x2_63 r2_63 => ?_
      refine g_istore_nN (pc := 63) X (j := 2) (i := 2) (x := x2_63) (b := 1) (w := iv a1) (rest := [(0, rv D a0)]) rfl (Nat.le_of_ble_eq_true rfl) [1, 0] rfl (by decide) rfl rfl (dl_at t_X7_compute 34 rfl) ?_
      refine g_iconst (pc := 64) X (n := 0) (dl_at t_X7_compute 35 rfl) ?_
      refine g_ltz (Or.inl rfl) fun x3_65 r3_65 => ?_
      refine g_istore_nN (pc := 65) X (j := 3) (i := 3) (x := x3_65) (b := 2) (w := iv x2_63) (rest := [(1, iv a1), (0, rv D a0)]) rfl (Nat.le_of_ble_eq_true rfl) [0, 1, 2] rfl (by decide) rfl rfl (dl_at t_X7_compute 36 rfl) ?_
      refine g_ls (ls2 := [(0, rv D a0), (1, iv a1), (2, iv x2_63), (3, iv x3_65)]) [3, 2, 1, 0] rfl ?_
      refine g_loop0F (fun (q : Int × Hp) => [(0, rv D a0), (1, iv a1), (2, iv x2_63), (3, iv q.1)]) (fun (q : Int × Hp) => q.2) (fun (q : Int × Hp) => r32 q.1 ∧ Ext h_54 q.2) (x3_65, h_54) ⟨(r32_z r3_65), (Ext.refl _)⟩ ?_ (fun _ => rfl)
      · rintro ⟨x3_66, h_66⟩ ⟨r3_66, E_66⟩
        try dsimp only
        unfold m_X7_compute_l66
        refine g_iload_n (pc := 66) X (j := 3) (i := 3) (q := 3) (x := x3_66) rfl rfl (dl_at t_X7_compute 37 rfl) ?_
        refine g_bipush (pc := 67) X (n := 22) rfl (dl_at t_X7_compute 38 rfl) ?_
        refine g_icmpge (pc := 69) X r3_66 (r32_c rfl) (off := 189) (tgt := 258) rfl (dl_at t_X7_compute 39 rfl) (fun _ => ?_) (fun _ => ?_)
        · exact g_at fun Q hQ => (g_vret (pc := 258) X (v := 0) rfl rfl (dl_at t_X7_compute 134 rfl)) _ Q rfl hQ
        refine g_aload_n (pc := 72) X (j := 0) (i := 0) (q := 0) (x := a0) rfl rfl (dl_at t_X7_compute 40 rfl) ?_
        have k73 := kx E_66 (by decide) k55
        refine r_getr (pc := 73) X fX7_13 k73 q804 (dl_at t_X7_compute 41 rfl) ?_
        refine g_iload_n (pc := 76) X (j := 3) (i := 3) (q := 3) (x := x3_66) rfl rfl (dl_at t_X7_compute 42 rfl) ?_
        refine g_gd fun k77 => ?_
        refine g_iald (pc := 77) X r3_66 k77 (dl_at t_X7_compute 43 rfl) fun g77 => ?_
        refine g_lti g77 fun x4_78 r4_78 => ?_
        refine g_istoreN (pc := 78) X (i := 4) (x := x4_78) (b := 3) (w := iv x3_66) (rest := [(0, rv D a0), (1, iv a1), (2, iv x2_63)]) (Nat.le_of_ble_eq_true rfl) [3, 0, 1, 2] rfl (by decide) rfl rfl (dl_at t_X7_compute 44 rfl) ?_
        refine g_iload (pc := 80) X (i := 4) (q := 0) (x := x4_78) rfl (dl_at t_X7_compute 45 rfl) ?_
        refine g_join (γ := Int) (fun q => r32 q) 126 (fun q => [(0, rv D a0), (1, iv a1), (2, iv x2_63), (3, iv x3_66), (4, iv x4_78)]) (fun q => [iv q]) (fun q => h_66) (fun q => m_X7_compute_j126 x4_78 x3_66 a0 a1 x2_63 q h_66) ?_ ?_
        · rintro s0_126 rs0_126
          try dsimp only
          unfold m_X7_compute_j126
          refine g_istoreN (pc := 126) X (i := 5) (x := s0_126) (b := 4) (w := iv x4_78) (rest := [(0, rv D a0), (1, iv a1), (2, iv x2_63), (3, iv x3_66)]) (Nat.le_of_ble_eq_true rfl) [4, 0, 1, 2, 3] rfl (by decide) rfl rfl (dl_at t_X7_compute 67 rfl) ?_
          refine g_iload_n (pc := 128) X (j := 3) (i := 3) (q := 5) (x := x3_66) rfl rfl (dl_at t_X7_compute 68 rfl) ?_
          refine g_iconst (pc := 129) X (n := 1) (dl_at t_X7_compute 69 rfl) ?_
          refine g_join (γ := Int) (fun q => r32 q) 203 (fun q => [(0, rv D a0), (1, iv a1), (2, iv x2_63), (3, iv x3_66), (4, iv x4_78), (5, iv q)]) (fun q => []) (fun q => h_66) (fun q => m_X7_compute_j203 x4_78 a0 a1 x3_66 q h_66) ?_ ?_
          · rintro x5_203 r5_203
            try dsimp only
            unfold m_X7_compute_j203
            refine g_aload_n (pc := 203) X (j := 0) (i := 0) (q := 0) (x := a0) rfl rfl (dl_at t_X7_compute 105 rfl) ?_
            refine r_getr (pc := 204) X fX7_4 k73 q787 (dl_at t_X7_compute 106 rfl) ?_
            refine g_bipush (pc := 207) X (n := 22) rfl (dl_at t_X7_compute 107 rfl) ?_
            refine g_iload_n (pc := 209) X (j := 1) (i := 1) (q := 1) (x := a1) rfl rfl (dl_at t_X7_compute 108 rfl) ?_
            refine g_imul (pc := 210) X (r32_c rfl) r1 (dl_at t_X7_compute 109 rfl) ?_
            refine g_iload_n (pc := 211) X (j := 3) (i := 3) (q := 3) (x := x3_66) rfl rfl (dl_at t_X7_compute 110 rfl) ?_
            refine g_iadd (pc := 212) X (r32_w _) r3_66 (dl_at t_X7_compute 111 rfl) ?_
            refine g_iload (pc := 213) X (i := 5) (q := 5) (x := x5_203) rfl (dl_at t_X7_compute 112 rfl) ?_
            refine g_gd fun k215 => ?_
            refine r_iast (pc := 215) X (r32_w _) r5_203 k215 (dl_at t_X7_compute 113 rfl) (fun h215 E215 => ?_)
            refine g_iload_n (pc := 216) X (j := 3) (i := 3) (q := 3) (x := x3_66) rfl rfl (dl_at t_X7_compute 114 rfl) ?_
            refine g_bipush (pc := 217) X (n := 17) rfl (dl_at t_X7_compute 115 rfl) ?_
            refine g_join (γ := Hp) (fun q => Ext h215 q) 252 (fun q => [(0, rv D a0), (1, iv a1), (2, iv x2_63), (3, iv x3_66)]) (fun q => []) (fun q => q) (fun q => m_X7_compute_j252 x3_66 q) ?_ ?_
            · rintro h_252 E_252
              try dsimp only
              unfold m_X7_compute_j252
              refine r_iincN (pc := 252) X (i := 3) (q := 3) (n := 1) (x := x3_66) (b := 2) (w := iv x2_63) (rest := [(0, rv D a0), (1, iv a1)]) rfl r3_66 (r32_c rfl) (Nat.le_of_ble_eq_true rfl) [2, 0, 1] rfl (by decide) rfl rfl (dl_at t_X7_compute 132 rfl) fun x3_252 r3_252 => ?_
              refine g_goto (pc := 255) X (off := (-189)) (tgt := 66) rfl (dl_at t_X7_compute 133 rfl) ?_
              refine g_ls (ls2 := [(0, rv D a0), (1, iv a1), (2, iv x2_63), (3, iv x3_252)]) [2, 3, 1, 0] rfl ?_
              exact g_at fun Q hQ => hQ ⟨r3_252, (E_66.trans (E215.trans E_252))⟩
            intro J252
            refine g_icmpne (pc := 219) X r3_66 (r32_c rfl) (off := 33) (tgt := 252) rfl (dl_at t_X7_compute 116 rfl) (fun _ => ?_) (fun _ => ?_)
            · refine g_ls (ls2 := [(0, rv D a0), (1, iv a1), (2, iv x2_63), (3, iv x3_66)]) [0, 1, 2, 3] rfl ?_
              exact J252 h215 (Ext.refl _)
            refine g_aload_n (pc := 222) X (j := 0) (i := 0) (q := 0) (x := a0) rfl rfl (dl_at t_X7_compute 117 rfl) ?_
            have k223 := kx E215 (by decide) k73
            refine r_getr (pc := 223) X fX7_5 k223 q788 (dl_at t_X7_compute 118 rfl) ?_
            refine g_iload_n (pc := 226) X (j := 1) (i := 1) (q := 1) (x := a1) rfl rfl (dl_at t_X7_compute 119 rfl) ?_
            refine g_iload (pc := 227) X (i := 4) (q := 4) (x := x4_78) rfl (dl_at t_X7_compute 120 rfl) ?_
            refine g_join (γ := Int × Int) (fun q => r32 q.2) 251 (fun q => [(0, rv D a0), (1, iv a1), (2, iv x2_63), (3, iv x3_66)]) (fun q => [iv q.2, iv a1, rv D q.1]) (fun q => h215) (fun q => m_X7_compute_j251 a1 x3_66 q.1 q.2 h215) ?_ ?_
            · rintro ⟨s0_251, s2_251⟩ rs2_251
              try dsimp only
              unfold m_X7_compute_j251
              refine g_gd fun k251 => ?_
              refine r_iast (pc := 251) X r1 rs2_251 k251 (dl_at t_X7_compute 131 rfl) (fun h251 E251 => ?_)
              exact J252 h251 E251
            intro J251
            refine g_join (γ := Int) (fun q => True) 250 (fun q => [(0, rv D a0), (1, iv a1), (2, iv x2_63), (3, iv x3_66)]) (fun q => [iv a1, rv D q]) (fun q => h215) (fun q => m_X7_compute_j250 a1 x3_66 q h215) ?_ ?_
            · rintro s0_250 _
              try dsimp only
              unfold m_X7_compute_j250
              refine g_iconst (pc := 250) X (n := 0) (dl_at t_X7_compute 130 rfl) ?_
              exact J251 (s0_250, 0) (r32_c rfl)
            intro J250
            refine g_iflt (pc := 229) X r4_78 (off := 21) (tgt := 250) rfl (dl_at t_X7_compute 121 rfl) (fun _ => ?_) (fun _ => ?_)
            · refine g_ls (ls2 := [(0, rv D a0), (1, iv a1), (2, iv x2_63), (3, iv x3_66)]) [0, 1, 2, 3] rfl ?_
              exact J250 (h215 a0 5) trivial
            refine g_iload (pc := 232) X (i := 5) (q := 5) (x := x5_203) rfl (dl_at t_X7_compute 122 rfl) ?_
            refine g_iflt (pc := 234) X r5_203 (off := 16) (tgt := 250) rfl (dl_at t_X7_compute 123 rfl) (fun _ => ?_) (fun _ => ?_)
            · refine g_ls (ls2 := [(0, rv D a0), (1, iv a1), (2, iv x2_63), (3, iv x3_66)]) [0, 1, 2, 3] rfl ?_
              exact J250 (h215 a0 5) trivial
            refine g_aload_n (pc := 237) X (j := 0) (i := 0) (q := 0) (x := a0) rfl rfl (dl_at t_X7_compute 124 rfl) ?_
            refine r_getr (pc := 238) X fX7_1 k223 q781 (dl_at t_X7_compute 125 rfl) ?_
            refine g_gd fun k241 => ?_
            refine r_getrN (pc := 241) X fX3_18 k241 (nw_in q557 rfl) (dl_at t_X7_compute 126 rfl) ?_
            refine g_iload (pc := 244) X (i := 4) (q := 4) (x := x4_78) rfl (dl_at t_X7_compute 127 rfl) ?_
            refine g_gd fun k246 => ?_
            refine g_iald (pc := 246) X r4_78 k246 (dl_at t_X7_compute 128 rfl) fun g246 => ?_
            refine g_goto (pc := 247) X (off := 4) (tgt := 251) rfl (dl_at t_X7_compute 129 rfl) ?_
            refine g_ls (ls2 := [(0, rv D a0), (1, iv a1), (2, iv x2_63), (3, iv x3_66)]) [0, 1, 2, 3] rfl ?_
            exact J251 ((h215 a0 5), (h215 (h215 (h215 a0 1) 18) x4_78)) g246
          intro J203
          refine g_icmpne (pc := 130) X r3_66 (r32_c rfl) (off := 73) (tgt := 203) rfl (dl_at t_X7_compute 70 rfl) (fun _ => ?_) (fun _ => ?_)
          · refine g_ls (ls2 := [(0, rv D a0), (1, iv a1), (2, iv x2_63), (3, iv x3_66), (4, iv x4_78), (5, iv s0_126)]) [2, 3, 4, 5, 1, 0] rfl ?_
            exact J203 s0_126 rs0_126
          refine g_iload (pc := 133) X (i := 4) (q := 1) (x := x4_78) rfl (dl_at t_X7_compute 71 rfl) ?_
          refine g_iflt (pc := 135) X r4_78 (off := 68) (tgt := 203) rfl (dl_at t_X7_compute 72 rfl) (fun _ => ?_) (fun _ => ?_)
          · refine g_ls (ls2 := [(0, rv D a0), (1, iv a1), (2, iv x2_63), (3, iv x3_66), (4, iv x4_78), (5, iv s0_126)]) [2, 3, 4, 5, 1, 0] rfl ?_
            exact J203 s0_126 rs0_126
          refine g_aload_n (pc := 138) X (j := 0) (i := 0) (q := 2) (x := a0) rfl rfl (dl_at t_X7_compute 73 rfl) ?_
          refine r_getr (pc := 139) X fX7_1 k73 q781 (dl_at t_X7_compute 74 rfl) ?_
          refine g_gd fun k142 => ?_
          refine r_getrN (pc := 142) X fX3_19 k142 (nw_in q559 rfl) (dl_at t_X7_compute 75 rfl) ?_
          refine g_iload (pc := 145) X (i := 4) (q := 1) (x := x4_78) rfl (dl_at t_X7_compute 76 rfl) ?_
          refine g_gd fun k147 => ?_
          refine g_zald (pc := 147) X r4_78 k147 (dl_at t_X7_compute 77 rfl) fun g147 => ?_
          refine g_ifeq (pc := 148) X (r32_z g147) (off := 55) (tgt := 203) rfl (dl_at t_X7_compute 78 rfl) (fun _ => ?_) (fun _ => ?_)
          · refine g_ls (ls2 := [(0, rv D a0), (1, iv a1), (2, iv x2_63), (3, iv x3_66), (4, iv x4_78), (5, iv s0_126)]) [2, 3, 4, 5, 1, 0] rfl ?_
            exact J203 s0_126 rs0_126
          refine g_aload_n (pc := 151) X (j := 0) (i := 0) (q := 2) (x := a0) rfl rfl (dl_at t_X7_compute 79 rfl) ?_
          refine g_iload_n (pc := 152) X (j := 2) (i := 2) (q := 4) (x := x2_63) rfl rfl (dl_at t_X7_compute 80 rfl) ?_
          refine g_iconst (pc := 153) X (n := 1) (dl_at t_X7_compute 81 rfl) ?_
          refine r_callRi (pc := 154) X (fun _ hv => s_X7_property k73 r2_63 (r32_c rfl) hv) cw_code q2332 q361 (in_Vk X (As := [iv x2_63, iv 1]) kX7 k73 (Or.inl q2329) q2331 qs84 cw_code q2332 ⟨by decide, by decide⟩ rfl (dl_at t_X7_compute 82 rfl)) (dl_at t_X7_compute 82 rfl) (cat24 (st := []) (Nat.le_of_ble_eq_true rfl)) (Nat.le_of_ble_eq_true rfl) (Nat.le_of_ble_eq_true rfl) fun v154 g154 => ?_
          refine g_i2l (pc := 157) X g154 (dl_at t_X7_compute 83 rfl) ?_
          refine g_iload (pc := 158) X (i := 5) (q := 0) (x := s0_126) rfl (dl_at t_X7_compute 84 rfl) ?_
          refine g_i2l (pc := 160) X rs0_126 (dl_at t_X7_compute 85 rfl) ?_
          refine g_lmul (pc := 161) X (r64_of g154) (r64_of rs0_126) (dl_at t_X7_compute 86 rfl) ?_
          refine g_ldc2 (pc := 162) X (index := 138) (n := 100) q2336 (dl_at t_X7_compute 87 rfl) ?_
          refine g_ldiv (pc := 165) X (r64_w _) (r64_c rfl) (by decide) (dl_at t_X7_compute 88 rfl) ?_
          refine g_ltl (r64_w _) fun x6_166 r6_166 => ?_
          refine g_lstore (pc := 166) X (i := 6) (x := x6_166) (rest := [(4, iv x4_78), (0, rv D a0), (1, iv a1), (2, iv x2_63), (3, iv x3_66)]) (Nat.le_of_ble_eq_true rfl) [1, 2, 3, 4, 5] rfl rfl (dl_at t_X7_compute 89 rfl) ?_
          refine g_lload (pc := 168) X (i := 6) (q := 0) (x := x6_166) rfl (dl_at t_X7_compute 90 rfl) ?_
          refine g_ldc2 (pc := 170) X (index := 140) (n := 1000) q2337 (dl_at t_X7_compute 91 rfl) ?_
          refine g_lcmp (pc := 173) X r6_166 (r64_c rfl) (dl_at t_X7_compute 92 rfl) ?_
          refine g_join (γ := Int) (fun q => r64 q) 200 (fun q => [(0, rv D a0), (1, iv a1), (2, iv x2_63), (3, iv x3_66), (4, iv x4_78)]) (fun q => [jv q]) (fun q => h_66) (fun q => m_X7_compute_j200 x4_78 a0 a1 x3_66 q h_66) ?_ ?_
          · rintro s0_200 rs0_200
            try dsimp only
            unfold m_X7_compute_j200
            refine g_l2i (pc := 200) X rs0_200 (dl_at t_X7_compute 103 rfl) ?_
            refine g_lti (r32_w _) fun x5_201 r5_201 => ?_
            refine g_istoreN (pc := 201) X (i := 5) (x := x5_201) (b := 4) (w := iv x4_78) (rest := [(0, rv D a0), (1, iv a1), (2, iv x2_63), (3, iv x3_66)]) (Nat.le_of_ble_eq_true rfl) [4, 0, 1, 2, 3] rfl (by decide) rfl rfl (dl_at t_X7_compute 104 rfl) ?_
            refine g_ls (ls2 := [(0, rv D a0), (1, iv a1), (2, iv x2_63), (3, iv x3_66), (4, iv x4_78), (5, iv x5_201)]) [2, 3, 4, 5, 1, 0] rfl ?_
            exact J203 x5_201 r5_201
          intro J200
          refine g_ifge (pc := 174) X (r32_lcmp _ _) (off := 9) (tgt := 183) rfl (dl_at t_X7_compute 93 rfl) (fun _ => ?_) (fun _ => ?_)
          · refine g_lload (pc := 183) X (i := 6) (q := 0) (x := x6_166) rfl (dl_at t_X7_compute 96 rfl) ?_
            refine g_ldc2 (pc := 185) X (index := 142) (n := 100000) q2338 (dl_at t_X7_compute 97 rfl) ?_
            refine g_lcmp (pc := 188) X r6_166 (r64_c rfl) (dl_at t_X7_compute 98 rfl) ?_
            refine g_ifle (pc := 189) X (r32_lcmp _ _) (off := 9) (tgt := 198) rfl (dl_at t_X7_compute 99 rfl) (fun _ => ?_) (fun _ => ?_)
            · refine g_lload (pc := 198) X (i := 6) (q := 0) (x := x6_166) rfl (dl_at t_X7_compute 102 rfl) ?_
              refine g_ls (ls2 := [(0, rv D a0), (1, iv a1), (2, iv x2_63), (3, iv x3_66), (4, iv x4_78)]) [2, 3, 4, 5, 1] rfl ?_
              exact J200 x6_166 r6_166
            refine g_ldc2 (pc := 192) X (index := 142) (n := 100000) q2338 (dl_at t_X7_compute 100 rfl) ?_
            refine g_goto (pc := 195) X (off := 5) (tgt := 200) rfl (dl_at t_X7_compute 101 rfl) ?_
            refine g_ls (ls2 := [(0, rv D a0), (1, iv a1), (2, iv x2_63), (3, iv x3_66), (4, iv x4_78)]) [2, 3, 4, 5, 1] rfl ?_
            exact J200 100000 (r64_c rfl)
          refine g_ldc2 (pc := 177) X (index := 140) (n := 1000) q2337 (dl_at t_X7_compute 94 rfl) ?_
          refine g_goto (pc := 180) X (off := 20) (tgt := 200) rfl (dl_at t_X7_compute 95 rfl) ?_
          refine g_ls (ls2 := [(0, rv D a0), (1, iv a1), (2, iv x2_63), (3, iv x3_66), (4, iv x4_78)]) [2, 3, 4, 5, 1] rfl ?_
          exact J200 1000 (r64_c rfl)
        intro J126
        refine g_iflt (pc := 82) X r4_78 (off := 16) (tgt := 98) rfl (dl_at t_X7_compute 46 rfl) (fun _ => ?_) (fun _ => ?_)
        · refine g_iload_n (pc := 98) X (j := 3) (i := 3) (q := 1) (x := x3_66) rfl rfl (dl_at t_X7_compute 53 rfl) ?_
          refine r_callRz (pc := 99) X (fun _ hv => s_X7_inherits r3_66 hv) cw_code q2328 q361 (in_Sc X (As := [iv x3_66]) (Or.inl q2326) q2327 q361 q2328 ⟨by decide, by decide⟩ rfl (dl_at t_X7_compute 54 rfl)) (dl_at t_X7_compute 54 rfl) (cat24 (st := []) (Nat.le_of_ble_eq_true rfl)) (Nat.le_of_ble_eq_true rfl) (Nat.le_of_ble_eq_true rfl) fun v99 g99 => ?_
          refine g_ifeq (pc := 102) X (r32_z g99) (off := 12) (tgt := 114) rfl (dl_at t_X7_compute 55 rfl) (fun _ => ?_) (fun _ => ?_)
          · refine g_iload_n (pc := 114) X (j := 3) (i := 3) (q := 1) (x := x3_66) rfl rfl (dl_at t_X7_compute 61 rfl) ?_
            refine g_ifne (pc := 115) X r3_66 (off := 7) (tgt := 122) rfl (dl_at t_X7_compute 62 rfl) (fun _ => ?_) (fun _ => ?_)
            · refine g_iload_n (pc := 122) X (j := 3) (i := 3) (q := 1) (x := x3_66) rfl rfl (dl_at t_X7_compute 65 rfl) ?_
              refine r_callRi (pc := 123) X (fun _ hv => s_X7_first r3_66 hv) cw_code q2335 q361 (in_Sc X (As := [iv x3_66]) (Or.inl q2333) q2334 q361 q2335 ⟨by decide, by decide⟩ rfl (dl_at t_X7_compute 66 rfl)) (dl_at t_X7_compute 66 rfl) (cat24 (st := []) (Nat.le_of_ble_eq_true rfl)) (Nat.le_of_ble_eq_true rfl) (Nat.le_of_ble_eq_true rfl) fun v123 g123 => ?_
              refine g_ls (ls2 := [(0, rv D a0), (1, iv a1), (2, iv x2_63), (3, iv x3_66), (4, iv x4_78)]) [2, 3, 4, 1, 0] rfl ?_
              exact J126 v123 g123
            refine g_iconst (pc := 118) X (n := 0) (dl_at t_X7_compute 63 rfl) ?_
            refine g_goto (pc := 119) X (off := 7) (tgt := 126) rfl (dl_at t_X7_compute 64 rfl) ?_
            refine g_ls (ls2 := [(0, rv D a0), (1, iv a1), (2, iv x2_63), (3, iv x3_66), (4, iv x4_78)]) [2, 3, 4, 1, 0] rfl ?_
            exact J126 0 (r32_c rfl)
          refine g_aload_n (pc := 105) X (j := 0) (i := 0) (q := 2) (x := a0) rfl rfl (dl_at t_X7_compute 56 rfl) ?_
          refine g_iload_n (pc := 106) X (j := 2) (i := 2) (q := 4) (x := x2_63) rfl rfl (dl_at t_X7_compute 57 rfl) ?_
          refine g_iload_n (pc := 107) X (j := 3) (i := 3) (q := 1) (x := x3_66) rfl rfl (dl_at t_X7_compute 58 rfl) ?_
          refine r_callRi (pc := 108) X (fun _ hv => s_X7_property k73 r2_63 r3_66 hv) cw_code q2332 q361 (in_Vk X (As := [iv x2_63, iv x3_66]) kX7 k73 (Or.inl q2329) q2331 qs84 cw_code q2332 ⟨by decide, by decide⟩ rfl (dl_at t_X7_compute 59 rfl)) (dl_at t_X7_compute 59 rfl) (cat24 (st := []) (Nat.le_of_ble_eq_true rfl)) (Nat.le_of_ble_eq_true rfl) (Nat.le_of_ble_eq_true rfl) fun v108 g108 => ?_
          refine g_goto (pc := 111) X (off := 15) (tgt := 126) rfl (dl_at t_X7_compute 60 rfl) ?_
          refine g_ls (ls2 := [(0, rv D a0), (1, iv a1), (2, iv x2_63), (3, iv x3_66), (4, iv x4_78)]) [2, 3, 4, 1, 0] rfl ?_
          exact J126 v108 g108
        refine g_aload_n (pc := 85) X (j := 0) (i := 0) (q := 2) (x := a0) rfl rfl (dl_at t_X7_compute 47 rfl) ?_
        refine r_getr (pc := 86) X fX7_1 k73 q781 (dl_at t_X7_compute 48 rfl) ?_
        refine g_gd fun k89 => ?_
        refine r_getrN (pc := 89) X fX3_17 k89 (nw_in q555 rfl) (dl_at t_X7_compute 49 rfl) ?_
        refine g_iload (pc := 92) X (i := 4) (q := 0) (x := x4_78) rfl (dl_at t_X7_compute 50 rfl) ?_
        refine g_gd fun k94 => ?_
        refine g_iald (pc := 94) X r4_78 k94 (dl_at t_X7_compute 51 rfl) fun g94 => ?_
        refine g_goto (pc := 95) X (off := 31) (tgt := 126) rfl (dl_at t_X7_compute 52 rfl) ?_
        refine g_ls (ls2 := [(0, rv D a0), (1, iv a1), (2, iv x2_63), (3, iv x3_66), (4, iv x4_78)]) [2, 3, 4, 1, 0] rfl ?_
        exact J126 (h_66 (h_66 (h_66 a0 1) 17) x4_78) g94
def k_X7_isInNote : List (Nat × Instr × Nat) := [(0, .aload_n 0, 1), (1, .getfield 66, 3), (4, .getfield 121, 3), (7, .iload_n 1, 1), (8, .iaload, 1), (9, .istore_n 2, 1), (10, .iload_n 2, 1), (11, .ifCond .lt 39, 3), (14, .aload_n 0, 1), (15, .getfield 30, 3), (18, .iload_n 2, 1), (19, .iaload, 1), (20, .iconst 3, 1), (21, .if_icmp .eq 14, 3), (24, .aload_n 0, 1), (25, .getfield 30, 3), (28, .iload_n 2, 1), (29, .iaload, 1), (30, .bipush 7, 2), (32, .if_icmp .ne 5, 3), (35, .iconst 1, 1), (36, .ireturn, 1), (37, .aload_n 0, 1), (38, .getfield 66, 3), (41, .getfield 121, 3), (44, .iload_n 2, 1), (45, .iaload, 1), (46, .istore_n 2, 1), (47, .goto (-37), 3), (50, .iconst 0, 1), (51, .ireturn, 1)]
theorem t_X7_isInNote : ∀ q ∈ k_X7_isInNote, decode cX7_isInNote q.1 = .ok q.2 := dl_all (by decide +kernel)
noncomputable def m_X7_isInNote_l10 (a0 x2_10 : Int) (h : Hp) : Option ((Int) ⊕ ((Int))) :=
  if x2_10 < 0 then (some (.inr 0))
  else (gd (h (h a0 8) (-2) % 16 = 1 ∧ (0 : Int) ≤ x2_10 ∧ x2_10 < h (h a0 8) (-1)) (if (h (h a0 8) x2_10) = 3 then (some (.inr 1))
  else (if (h (h a0 8) x2_10) ≠ 7 then (gd (h (h (h a0 0) 6) (-2) % 16 = 1 ∧ (0 : Int) ≤ x2_10 ∧ x2_10 < h (h (h a0 0) 6) (-1)) (lt_ (h (h (h a0 0) 6) x2_10) fun x2_46 =>
  some (.inl x2_46)))
  else (some (.inr 1)))))
noncomputable def m_X7_isInNote (a0 a1 : Int) (h : Hp) : Option (Int) :=
  gd (h (h a0 0) (-2) = 96) (gd (h (h (h a0 0) 6) (-2) % 16 = 1 ∧ (0 : Int) ≤ a1 ∧ a1 < h (h (h a0 0) 6) (-1)) (lt_ (h (h (h a0 0) 6) a1) fun x2_9 =>
  (lp (fun (q : Int) => m_X7_isInNote_l10 a0 q h) x2_9).bind (fun (x : Int) => some x)))
theorem s_X7_isInNote {l : Launch} [NoTr l] {D : SD} {a0 a1 : Int} {h : Hp} (hk : h a0 (-2) = 112) (r1 : r32 a1) {r : Int} (hm : m_X7_isInNote a0 a1 h = some r) : Sim l D yX7_isInNote (Cond.code yX7_isInNote cX7_isInNote 3 (Option.some Jvm.ClassFile.FieldType.boolean)) 0 0 [rv D a0, iv a1] h 3 ((0, r), h) := by
  refine Sim.of (fin := fun (v : Int) => ((0, v), h)) (lsE := [(0, rv D a0), (1, iv a1)]) hm rfl cwS_code (la_r (la_i la_n)) (ll_r (ll_i ll_n)) ?_
  intro p e s m below meth c X hcw hmm hcc hnm hname
  unfold m_X7_isInNote
  refine g_aload_n (pc := 0) X (j := 0) (i := 0) (q := 0) (x := a0) rfl rfl (dl_at t_X7_isInNote 0 rfl) ?_
  refine r_getr (pc := 1) X fX7_0 hk q778 (dl_at t_X7_isInNote 1 rfl) ?_
  refine g_gd fun k4 => ?_
  refine r_getrN (pc := 4) X fX6_6 k4 (nw_in q660 rfl) (dl_at t_X7_isInNote 2 rfl) ?_
  refine g_iload_n (pc := 7) X (j := 1) (i := 1) (q := 1) (x := a1) rfl rfl (dl_at t_X7_isInNote 3 rfl) ?_
  refine g_gd fun k8 => ?_
  refine g_iald (pc := 8) X r1 k8 (dl_at t_X7_isInNote 4 rfl) fun g8 => ?_
  refine g_lti g8 fun x2_9 r2_9 => ?_
  refine g_istore_n (pc := 9) X (j := 2) (i := 2) (x := x2_9) (rest := [(0, rv D a0)]) rfl (Nat.le_of_ble_eq_true rfl) [0] rfl rfl (dl_at t_X7_isInNote 5 rfl) ?_
  refine g_ls (ls2 := [(0, rv D a0), (2, iv x2_9)]) [1, 0] rfl ?_
  refine g_loop0F (fun (q : Int) => [(0, rv D a0), (2, iv q)]) (fun (q : Int) => h) (fun (q : Int) => r32 q) x2_9 r2_9 ?_ (fun _ => rfl)
  · rintro x2_10 r2_10
    try dsimp only
    unfold m_X7_isInNote_l10
    refine g_iload_n (pc := 10) X (j := 2) (i := 2) (q := 1) (x := x2_10) rfl rfl (dl_at t_X7_isInNote 6 rfl) ?_
    refine g_iflt (pc := 11) X r2_10 (off := 39) (tgt := 50) rfl (dl_at t_X7_isInNote 7 rfl) (fun _ => ?_) (fun _ => ?_)
    · refine g_iconst (pc := 50) X (n := 0) (dl_at t_X7_isInNote 29 rfl) ?_
      exact g_at fun Q hQ => (g_zret (pc := 51) X (Or.inl rfl) rfl rfl (dl_at t_X7_isInNote 30 rfl)) _ Q rfl hQ
    refine g_aload_n (pc := 14) X (j := 0) (i := 0) (q := 0) (x := a0) rfl rfl (dl_at t_X7_isInNote 8 rfl) ?_
    refine r_getr (pc := 15) X fX7_8 hk q796 (dl_at t_X7_isInNote 9 rfl) ?_
    refine g_iload_n (pc := 18) X (j := 2) (i := 2) (q := 1) (x := x2_10) rfl rfl (dl_at t_X7_isInNote 10 rfl) ?_
    refine g_gd fun k19 => ?_
    refine g_iald (pc := 19) X r2_10 k19 (dl_at t_X7_isInNote 11 rfl) fun g19 => ?_
    refine g_iconst (pc := 20) X (n := 3) (dl_at t_X7_isInNote 12 rfl) ?_
    refine g_icmpeq (pc := 21) X g19 (r32_c rfl) (off := 14) (tgt := 35) rfl (dl_at t_X7_isInNote 13 rfl) (fun _ => ?_) (fun _ => ?_)
    · refine g_iconst (pc := 35) X (n := 1) (dl_at t_X7_isInNote 20 rfl) ?_
      exact g_at fun Q hQ => (g_zret (pc := 36) X (Or.inr rfl) rfl rfl (dl_at t_X7_isInNote 21 rfl)) _ Q rfl hQ
    refine g_aload_n (pc := 24) X (j := 0) (i := 0) (q := 0) (x := a0) rfl rfl (dl_at t_X7_isInNote 14 rfl) ?_
    refine r_getr (pc := 25) X fX7_8 hk q796 (dl_at t_X7_isInNote 15 rfl) ?_
    refine g_iload_n (pc := 28) X (j := 2) (i := 2) (q := 1) (x := x2_10) rfl rfl (dl_at t_X7_isInNote 16 rfl) ?_
    refine g_iald (pc := 29) X r2_10 k19 (dl_at t_X7_isInNote 17 rfl) fun g29 => ?_
    refine g_bipush (pc := 30) X (n := 7) rfl (dl_at t_X7_isInNote 18 rfl) ?_
    refine g_icmpne (pc := 32) X g29 (r32_c rfl) (off := 5) (tgt := 37) rfl (dl_at t_X7_isInNote 19 rfl) (fun _ => ?_) (fun _ => ?_)
    · refine g_aload_n (pc := 37) X (j := 0) (i := 0) (q := 0) (x := a0) rfl rfl (dl_at t_X7_isInNote 22 rfl) ?_
      refine r_getr (pc := 38) X fX7_0 hk q778 (dl_at t_X7_isInNote 23 rfl) ?_
      refine r_getrN (pc := 41) X fX6_6 k4 (nw_in q660 rfl) (dl_at t_X7_isInNote 24 rfl) ?_
      refine g_iload_n (pc := 44) X (j := 2) (i := 2) (q := 1) (x := x2_10) rfl rfl (dl_at t_X7_isInNote 25 rfl) ?_
      refine g_gd fun k45 => ?_
      refine g_iald (pc := 45) X r2_10 k45 (dl_at t_X7_isInNote 26 rfl) fun g45 => ?_
      refine g_lti g45 fun x2_46 r2_46 => ?_
      refine g_istore_n (pc := 46) X (j := 2) (i := 2) (x := x2_46) (rest := [(0, rv D a0)]) rfl (Nat.le_of_ble_eq_true rfl) [0] rfl rfl (dl_at t_X7_isInNote 27 rfl) ?_
      refine g_goto (pc := 47) X (off := (-37)) (tgt := 10) rfl (dl_at t_X7_isInNote 28 rfl) ?_
      refine g_ls (ls2 := [(0, rv D a0), (2, iv x2_46)]) [1, 0] rfl ?_
      exact g_at fun Q hQ => hQ r2_46
    refine g_iconst (pc := 35) X (n := 1) (dl_at t_X7_isInNote 20 rfl) ?_
    exact g_at fun Q hQ => (g_zret (pc := 36) X (Or.inr rfl) rfl rfl (dl_at t_X7_isInNote 21 rfl)) _ Q rfl hQ
def k_X7_roleOf : List (Nat × Instr × Nat) := [(0, .iload_n 0, 1), (60, .iload_n 1, 1), (61, .ifCond .eq 7, 3), (64, .iconst 1, 1), (65, .goto 4, 3), (68, .iconst 0, 1), (69, .ireturn, 1), (70, .iload_n 1, 1), (71, .ifCond .eq 7, 3), (74, .iconst 3, 1), (75, .goto 4, 3), (78, .iconst 0, 1), (79, .ireturn, 1), (80, .iload_n 1, 1), (81, .ifCond .eq 7, 3), (84, .iconst 5, 1), (85, .goto 4, 3), (88, .iconst 0, 1), (89, .ireturn, 1), (90, .iload_n 1, 1), (91, .ifCond .eq 12, 3), (94, .iload_n 2, 1), (95, .ifCond .eq 8, 3), (98, .bipush 6, 2), (100, .goto 4, 3), (103, .iconst 0, 1), (104, .ireturn, 1), (105, .iload_n 1, 1), (106, .ifCond .eq 12, 3), (109, .iload_n 3, 1), (110, .ifCond .eq 8, 3), (113, .bipush 7, 2), (115, .goto 4, 3), (118, .iconst 0, 1), (119, .ireturn, 1), (120, .iload_n 0, 1), (121, .ireturn, 1), (122, .iload_n 1, 1), (123, .ifCond .eq 8, 3), (126, .bipush 11, 2), (128, .goto 4, 3), (131, .iconst 0, 1), (132, .ireturn, 1), (133, .iconst 0, 1), (134, .ireturn, 1)]
theorem t_X7_roleOf : ∀ q ∈ k_X7_roleOf, decode cX7_roleOf q.1 = .ok q.2 := dl_all (by decide +kernel)
theorem dS_X7_roleOf_1 : decode cX7_roleOf 1 = .ok (.tableswitch 132 1 11 #[59, 132, 69, 119, 79, 89, 104, 119, 119, 119, 121], 59) := by decide +kernel
noncomputable def m_X7_roleOf (a0 a1 a2 a3 : Int) : Option (Int) :=
  if a0 = 1 then (if a1 = 0 then (some 0)
  else (some 1))
  else (if a0 = 3 then (if a1 = 0 then (some 0)
  else (some 3))
  else (if a0 ∈ ([4, 8, 9, 10] : List Int) then (some a0)
  else (if a0 = 5 then (if a1 = 0 then (some 0)
  else (some 5))
  else (if a0 = 6 then (if a1 = 0 then (some 0)
  else (if a2 = 0 then (some 0)
  else (some 6)))
  else (if a0 = 7 then (if a1 = 0 then (some 0)
  else (if a3 = 0 then (some 0)
  else (some 7)))
  else (if a0 = 11 then (if a1 = 0 then (some 0)
  else (some 11))
  else (some 0)))))))
theorem s_X7_roleOf {l : Launch} [NoTr l] {D : SD} {a0 a1 a2 a3 : Int} {h : Hp} (r0 : r32 a0) (r1 : (a1 = 0 ∨ a1 = 1)) (r2 : (a2 = 0 ∨ a2 = 1)) (r3 : (a3 = 0 ∨ a3 = 1)) {r : Int} (hm : m_X7_roleOf a0 a1 a2 a3 = some r) : Sim l D yX7_roleOf (Cond.code yX7_roleOf cX7_roleOf 4 (Option.some Jvm.ClassFile.FieldType.int)) 0 0 [iv a0, iv a1, iv a2, iv a3] h 1 ((0, r), h) := by
  refine Sim.of (fin := fun (v : Int) => ((0, v), h)) (lsE := [(0, iv a0), (1, iv a1), (2, iv a2), (3, iv a3)]) hm rfl cwS_code (la_i (la_i (la_i (la_i la_n)))) (ll_i (ll_i (ll_i (ll_i ll_n)))) ?_
  intro p e s m below meth c X hcw hmm hcc hnm hname
  unfold m_X7_roleOf
  refine g_iload_n (pc := 0) X (j := 0) (i := 0) (q := 0) (x := a0) rfl rfl (dl_at t_X7_roleOf 0 rfl) ?_
  refine g_case (fun w1 => ?_) (fun nw1 => ?_)
  · refine g_tabIn (pc := 1) X (off := 59) (tgt := 60) r0 w1 (by decide) (by decide) rfl rfl dS_X7_roleOf_1 ?_
    refine g_iload_n (pc := 60) X (j := 1) (i := 1) (q := 1) (x := a1) rfl rfl (dl_at t_X7_roleOf 1 rfl) ?_
    refine g_ifeq (pc := 61) X (r32_z r1) (off := 7) (tgt := 68) rfl (dl_at t_X7_roleOf 2 rfl) (fun _ => ?_) (fun _ => ?_)
    · refine g_iconst (pc := 68) X (n := 0) (dl_at t_X7_roleOf 5 rfl) ?_
      exact g_iret (pc := 69) X (r32_c rfl) rfl rfl (dl_at t_X7_roleOf 6 rfl)
    refine g_iconst (pc := 64) X (n := 1) (dl_at t_X7_roleOf 3 rfl) ?_
    refine g_goto (pc := 65) X (off := 4) (tgt := 69) rfl (dl_at t_X7_roleOf 4 rfl) ?_
    exact g_iret (pc := 69) X (r32_c rfl) rfl rfl (dl_at t_X7_roleOf 6 rfl)
  refine g_case (fun w1_1 => ?_) (fun nw1_1 => ?_)
  · refine g_tabIn (pc := 1) X (off := 69) (tgt := 70) r0 w1_1 (by decide) (by decide) rfl rfl dS_X7_roleOf_1 ?_
    refine g_iload_n (pc := 70) X (j := 1) (i := 1) (q := 1) (x := a1) rfl rfl (dl_at t_X7_roleOf 7 rfl) ?_
    refine g_ifeq (pc := 71) X (r32_z r1) (off := 7) (tgt := 78) rfl (dl_at t_X7_roleOf 8 rfl) (fun _ => ?_) (fun _ => ?_)
    · refine g_iconst (pc := 78) X (n := 0) (dl_at t_X7_roleOf 11 rfl) ?_
      exact g_iret (pc := 79) X (r32_c rfl) rfl rfl (dl_at t_X7_roleOf 12 rfl)
    refine g_iconst (pc := 74) X (n := 3) (dl_at t_X7_roleOf 9 rfl) ?_
    refine g_goto (pc := 75) X (off := 4) (tgt := 79) rfl (dl_at t_X7_roleOf 10 rfl) ?_
    exact g_iret (pc := 79) X (r32_c rfl) rfl rfl (dl_at t_X7_roleOf 12 rfl)
  refine g_case (fun w1_2 => ?_) (fun nw1_2 => ?_)
  · refine g_tabIns (pc := 1) X (off := 119) (tgt := 120) [4, 8, 9, 10] r0 w1_2 rfl rfl dS_X7_roleOf_1 ?_
    refine g_iload_n (pc := 120) X (j := 0) (i := 0) (q := 0) (x := a0) rfl rfl (dl_at t_X7_roleOf 35 rfl) ?_
    exact g_iret (pc := 121) X r0 rfl rfl (dl_at t_X7_roleOf 36 rfl)
  refine g_case (fun w1_3 => ?_) (fun nw1_3 => ?_)
  · refine g_tabIn (pc := 1) X (off := 79) (tgt := 80) r0 w1_3 (by decide) (by decide) rfl rfl dS_X7_roleOf_1 ?_
    refine g_iload_n (pc := 80) X (j := 1) (i := 1) (q := 1) (x := a1) rfl rfl (dl_at t_X7_roleOf 13 rfl) ?_
    refine g_ifeq (pc := 81) X (r32_z r1) (off := 7) (tgt := 88) rfl (dl_at t_X7_roleOf 14 rfl) (fun _ => ?_) (fun _ => ?_)
    · refine g_iconst (pc := 88) X (n := 0) (dl_at t_X7_roleOf 17 rfl) ?_
      exact g_iret (pc := 89) X (r32_c rfl) rfl rfl (dl_at t_X7_roleOf 18 rfl)
    refine g_iconst (pc := 84) X (n := 5) (dl_at t_X7_roleOf 15 rfl) ?_
    refine g_goto (pc := 85) X (off := 4) (tgt := 89) rfl (dl_at t_X7_roleOf 16 rfl) ?_
    exact g_iret (pc := 89) X (r32_c rfl) rfl rfl (dl_at t_X7_roleOf 18 rfl)
  refine g_case (fun w1_4 => ?_) (fun nw1_4 => ?_)
  · refine g_tabIn (pc := 1) X (off := 89) (tgt := 90) r0 w1_4 (by decide) (by decide) rfl rfl dS_X7_roleOf_1 ?_
    refine g_iload_n (pc := 90) X (j := 1) (i := 1) (q := 1) (x := a1) rfl rfl (dl_at t_X7_roleOf 19 rfl) ?_
    refine g_ifeq (pc := 91) X (r32_z r1) (off := 12) (tgt := 103) rfl (dl_at t_X7_roleOf 20 rfl) (fun _ => ?_) (fun _ => ?_)
    · refine g_iconst (pc := 103) X (n := 0) (dl_at t_X7_roleOf 25 rfl) ?_
      exact g_iret (pc := 104) X (r32_c rfl) rfl rfl (dl_at t_X7_roleOf 26 rfl)
    refine g_iload_n (pc := 94) X (j := 2) (i := 2) (q := 2) (x := a2) rfl rfl (dl_at t_X7_roleOf 21 rfl) ?_
    refine g_ifeq (pc := 95) X (r32_z r2) (off := 8) (tgt := 103) rfl (dl_at t_X7_roleOf 22 rfl) (fun _ => ?_) (fun _ => ?_)
    · refine g_iconst (pc := 103) X (n := 0) (dl_at t_X7_roleOf 25 rfl) ?_
      exact g_iret (pc := 104) X (r32_c rfl) rfl rfl (dl_at t_X7_roleOf 26 rfl)
    refine g_bipush (pc := 98) X (n := 6) rfl (dl_at t_X7_roleOf 23 rfl) ?_
    refine g_goto (pc := 100) X (off := 4) (tgt := 104) rfl (dl_at t_X7_roleOf 24 rfl) ?_
    exact g_iret (pc := 104) X (r32_c rfl) rfl rfl (dl_at t_X7_roleOf 26 rfl)
  refine g_case (fun w1_5 => ?_) (fun nw1_5 => ?_)
  · refine g_tabIn (pc := 1) X (off := 104) (tgt := 105) r0 w1_5 (by decide) (by decide) rfl rfl dS_X7_roleOf_1 ?_
    refine g_iload_n (pc := 105) X (j := 1) (i := 1) (q := 1) (x := a1) rfl rfl (dl_at t_X7_roleOf 27 rfl) ?_
    refine g_ifeq (pc := 106) X (r32_z r1) (off := 12) (tgt := 118) rfl (dl_at t_X7_roleOf 28 rfl) (fun _ => ?_) (fun _ => ?_)
    · refine g_iconst (pc := 118) X (n := 0) (dl_at t_X7_roleOf 33 rfl) ?_
      exact g_iret (pc := 119) X (r32_c rfl) rfl rfl (dl_at t_X7_roleOf 34 rfl)
    refine g_iload_n (pc := 109) X (j := 3) (i := 3) (q := 3) (x := a3) rfl rfl (dl_at t_X7_roleOf 29 rfl) ?_
    refine g_ifeq (pc := 110) X (r32_z r3) (off := 8) (tgt := 118) rfl (dl_at t_X7_roleOf 30 rfl) (fun _ => ?_) (fun _ => ?_)
    · refine g_iconst (pc := 118) X (n := 0) (dl_at t_X7_roleOf 33 rfl) ?_
      exact g_iret (pc := 119) X (r32_c rfl) rfl rfl (dl_at t_X7_roleOf 34 rfl)
    refine g_bipush (pc := 113) X (n := 7) rfl (dl_at t_X7_roleOf 31 rfl) ?_
    refine g_goto (pc := 115) X (off := 4) (tgt := 119) rfl (dl_at t_X7_roleOf 32 rfl) ?_
    exact g_iret (pc := 119) X (r32_c rfl) rfl rfl (dl_at t_X7_roleOf 34 rfl)
  refine g_case (fun w1_6 => ?_) (fun nw1_6 => ?_)
  · refine g_tabIn (pc := 1) X (off := 121) (tgt := 122) r0 w1_6 (by decide) (by decide) rfl rfl dS_X7_roleOf_1 ?_
    refine g_iload_n (pc := 122) X (j := 1) (i := 1) (q := 1) (x := a1) rfl rfl (dl_at t_X7_roleOf 37 rfl) ?_
    refine g_ifeq (pc := 123) X (r32_z r1) (off := 8) (tgt := 131) rfl (dl_at t_X7_roleOf 38 rfl) (fun _ => ?_) (fun _ => ?_)
    · refine g_iconst (pc := 131) X (n := 0) (dl_at t_X7_roleOf 41 rfl) ?_
      exact g_iret (pc := 132) X (r32_c rfl) rfl rfl (dl_at t_X7_roleOf 42 rfl)
    refine g_bipush (pc := 126) X (n := 11) rfl (dl_at t_X7_roleOf 39 rfl) ?_
    refine g_goto (pc := 128) X (off := 4) (tgt := 132) rfl (dl_at t_X7_roleOf 40 rfl) ?_
    exact g_iret (pc := 132) X (r32_c rfl) rfl rfl (dl_at t_X7_roleOf 42 rfl)
  have w1_7 : ¬ a0 ∈ ([1, 3, 4, 8, 9, 10, 5, 6, 7, 11] : List Int) := by simp only [List.mem_cons, List.not_mem_nil, or_false, not_or] at *; simp only [*, not_false_eq_true, and_self]
  refine g_tabElse (pc := 1) X (tgt := 133) [1, 3, 4, 8, 9, 10, 5, 6, 7, 11] r0 w1_7 rfl rfl dS_X7_roleOf_1 ?_
  refine g_iconst (pc := 133) X (n := 0) (dl_at t_X7_roleOf 43 rfl) ?_
  exact g_iret (pc := 134) X (r32_c rfl) rfl rfl (dl_at t_X7_roleOf 44 rfl)
def k_X7_see : List (Nat × Instr × Nat) := [(0, .aload_n 0, 1), (1, .getfield 66, 3), (4, .getfield 121, 3), (7, .iload_n 1, 1), (8, .iaload, 1), (9, .istore_n 2, 1), (10, .aload_n 0, 1), (11, .iload_n 1, 1), (12, .iconst 0, 1), (13, .invokevirtual 131, 3), (16, .istore_n 3, 1), (17, .iload_n 2, 1), (18, .ifCond .ge 7, 3), (21, .iconst 1, 1), (22, .goto 9, 3), (25, .aload_n 0, 1), (26, .getfield 30, 3), (29, .iload_n 2, 1), (30, .iaload, 1), (31, .istore 4, 2), (33, .iload_n 3, 1), (34, .iconst 2, 1), (35, .if_icmp .eq 47, 3), (38, .iload_n 2, 1), (39, .ifCond .lt 12, 3), (42, .aload_n 0, 1), (43, .getfield 23, 3), (46, .iload_n 2, 1), (47, .baload, 1), (48, .ifCond .eq 34, 3), (51, .iload 4, 2), (53, .bipush 8, 2), (55, .if_icmp .eq 27, 3), (58, .iload 4, 2), (60, .bipush 9, 2), (62, .if_icmp .eq 20, 3), (65, .iload 4, 2), (67, .iconst 4, 1), (68, .if_icmp .eq 14, 3), (71, .iload 4, 2), (73, .bipush 10, 2), (75, .if_icmp .eq 7, 3), (78, .iconst 1, 1), (79, .goto 4, 3), (82, .iconst 0, 1), (83, .istore 5, 2), (85, .iload 4, 2), (87, .iconst 5, 1), (88, .if_icmp .ne 7, 3), (91, .iconst 1, 1), (92, .goto 4, 3), (95, .iconst 0, 1), (96, .istore 6, 2), (98, .iload 4, 2), (100, .bipush 6, 2), (102, .if_icmp .ne 7, 3), (105, .iconst 1, 1), (106, .goto 4, 3), (109, .iconst 0, 1), (110, .istore 7, 2), (112, .iload 6, 2), (114, .ifCond .eq 21, 3), (117, .iload 5, 2), (119, .ifCond .eq 13, 3), (122, .iload_n 3, 1), (123, .bipush 6, 2), (125, .if_icmp .ne 7, 3), (128, .iconst 1, 1), (129, .goto 4, 3), (132, .iconst 0, 1), (133, .istore 5, 2), (135, .iload 7, 2), (137, .ifCond .eq 47, 3), (140, .iload 5, 2), (142, .ifCond .eq 24, 3), (145, .iload_n 3, 1), (146, .bipush 7, 2), (148, .if_icmp .ne 18, 3), (151, .aload_n 0, 1), (152, .getfield 36, 3), (155, .iload_n 2, 1), (156, .iaload, 1), (157, .bipush 8, 2), (159, .if_icmp .ge 7, 3), (162, .iconst 1, 1), (163, .goto 4, 3), (166, .iconst 0, 1), (167, .istore 5, 2), (169, .iload 5, 2), (171, .ifCond .eq 13, 3), (174, .aload_n 0, 1), (175, .getfield 36, 3), (178, .iload_n 2, 1), (179, .dup2, 1), (180, .iaload, 1), (181, .iconst 1, 1), (182, .iadd, 1), (183, .iastore, 1), (184, .aload_n 0, 1), (185, .getfield 23, 3), (188, .iload_n 1, 1), (189, .iload 5, 2), (191, .bastore, 1), (192, .aload_n 0, 1), (193, .getfield 36, 3), (196, .iload_n 1, 1), (197, .iconst 0, 1), (198, .iastore, 1), (199, .aload_n 0, 1), (200, .iload_n 1, 1), (201, .invokevirtual 227, 3), (204, .ifCond .ne 7, 3), (207, .iconst 1, 1), (208, .goto 4, 3), (211, .iconst 0, 1), (212, .istore 8, 2), (214, .aload_n 0, 1), (215, .getfield 27, 3), (218, .iload_n 1, 1), (219, .iload 5, 2), (221, .ifCond .eq 12, 3), (224, .iload 8, 2), (226, .ifCond .eq 7, 3), (229, .iconst 1, 1), (230, .goto 4, 3), (233, .iconst 0, 1), (234, .bastore, 1), (235, .aload_n 0, 1), (236, .getfield 30, 3), (239, .iload_n 1, 1), (240, .iload 5, 2), (242, .ifCond .eq 16, 3), (245, .iload_n 3, 1), (246, .iload 8, 2), (248, .iload 6, 2), (250, .iload 7, 2), (252, .invokestatic 230, 3), (255, .goto 4, 3), (258, .iconst 2, 1), (259, .iastore, 1), (260, .return_, 1)]
theorem t_X7_see : ∀ q ∈ k_X7_see, decode cX7_see q.1 = .ok q.2 := dl_all (by decide +kernel)
noncomputable def m_X7_see_j234 (s0_212 s0_110 a0 a1 v13 x5_184 s0_96 s0_234 s2_234 : Int) (h198 : Hp) : Option (Hp) :=
  gd (h198 s0_234 (-2) % 16 = 3 ∧ (0 : Int) ≤ a1 ∧ a1 < h198 s0_234 (-1)) (pt h198 s0_234 a1 s2_234 fun h234 =>
  if x5_184 = 0 then (gd (h234 (h234 a0 8) (-2) % 16 = 1 ∧ (0 : Int) ≤ a1 ∧ a1 < h234 (h234 a0 8) (-1)) (pt h234 (h234 a0 8) a1 2 fun h259 =>
  some h259))
  else ((m_X7_roleOf v13 s0_212 s0_96 s0_110).bind fun v252 =>
  gd (h234 (h234 a0 8) (-2) % 16 = 1 ∧ (0 : Int) ≤ a1 ∧ a1 < h234 (h234 a0 8) (-1)) (pt h234 (h234 a0 8) a1 v252 fun h259_1 =>
  some h259_1)))
noncomputable def m_X7_see_j233 (s0_212 s0_110 a0 a1 v13 x5_184 s0_96 s0_233 : Int) (h198 : Hp) : Option (Hp) :=
  m_X7_see_j234 s0_212 s0_110 a0 a1 v13 x5_184 s0_96 s0_233 0 h198
noncomputable def m_X7_see_j212 (a0 a1 v13 x5_184 s0_96 s0_110 s0_212 : Int) (h198 : Hp) : Option (Hp) :=
  if x5_184 = 0 then (m_X7_see_j233 s0_212 s0_110 a0 a1 v13 x5_184 s0_96 (h198 a0 7) h198)
  else (if s0_212 = 0 then (m_X7_see_j233 s0_212 s0_110 a0 a1 v13 x5_184 s0_96 (h198 a0 7) h198)
  else (m_X7_see_j234 s0_212 s0_110 a0 a1 v13 x5_184 s0_96 (h198 a0 7) 1 h198))
noncomputable def m_X7_see_j184 (a0 a1 v13 s0_96 s0_110 x5_184 : Int) (h_184 : Hp) : Option (Hp) :=
  gd (h_184 (h_184 a0 6) (-2) % 16 = 3 ∧ (0 : Int) ≤ a1 ∧ a1 < h_184 (h_184 a0 6) (-1)) (pt h_184 (h_184 a0 6) a1 x5_184 fun h191 =>
  gd (h191 (h191 a0 10) (-2) % 16 = 1 ∧ (0 : Int) ≤ a1 ∧ a1 < h191 (h191 a0 10) (-1)) (pt h191 (h191 a0 10) a1 0 fun h198 =>
  (m_X7_isInNote a0 a1 h198).bind fun v201 =>
  if v201 ≠ 0 then (m_X7_see_j212 a0 a1 v13 x5_184 s0_96 s0_110 0 h198)
  else (m_X7_see_j212 a0 a1 v13 x5_184 s0_96 s0_110 1 h198)))
noncomputable def m_X7_see_j167 (a0 a1 x2_9 v13 s0_96 s0_110 s0_167 : Int) (h : Hp) : Option (Hp) :=
  if s0_167 = 0 then (m_X7_see_j184 a0 a1 v13 s0_96 s0_110 s0_167 h)
  else (gd (h (h a0 10) (-2) % 16 = 1 ∧ (0 : Int) ≤ x2_9 ∧ x2_9 < h (h a0 10) (-1)) (pt h (h a0 10) x2_9 (w32 ((h (h a0 10) x2_9) + 1)) fun h183 =>
  m_X7_see_j184 a0 a1 v13 s0_96 s0_110 s0_167 h183))
noncomputable def m_X7_see_j166 (a0 a1 x2_9 v13 s0_96 s0_110 : Int) (h : Hp) : Option (Hp) :=
  m_X7_see_j167 a0 a1 x2_9 v13 s0_96 s0_110 0 h
noncomputable def m_X7_see_j135 (s0_110 s0_96 a0 a1 x2_9 v13 x5_135 : Int) (h : Hp) : Option (Hp) :=
  if s0_110 = 0 then (m_X7_see_j184 a0 a1 v13 s0_96 s0_110 x5_135 h)
  else (if x5_135 = 0 then (m_X7_see_j166 a0 a1 x2_9 v13 s0_96 s0_110 h)
  else (if v13 ≠ 7 then (m_X7_see_j166 a0 a1 x2_9 v13 s0_96 s0_110 h)
  else (gd (h (h a0 10) (-2) % 16 = 1 ∧ (0 : Int) ≤ x2_9 ∧ x2_9 < h (h a0 10) (-1)) (if 8 ≤ (h (h a0 10) x2_9) then (m_X7_see_j166 a0 a1 x2_9 v13 s0_96 s0_110 h)
  else (m_X7_see_j167 a0 a1 x2_9 v13 s0_96 s0_110 1 h)))))
noncomputable def m_X7_see_j133 (s0_110 s0_96 a0 a1 x2_9 v13 s0_133 : Int) (h : Hp) : Option (Hp) :=
  m_X7_see_j135 s0_110 s0_96 a0 a1 x2_9 v13 s0_133 h
noncomputable def m_X7_see_j132 (s0_110 s0_96 a0 a1 x2_9 v13 : Int) (h : Hp) : Option (Hp) :=
  m_X7_see_j133 s0_110 s0_96 a0 a1 x2_9 v13 0 h
noncomputable def m_X7_see_j110 (s0_96 s0_83 a0 a1 x2_9 v13 s0_110 : Int) (h : Hp) : Option (Hp) :=
  if s0_96 = 0 then (m_X7_see_j135 s0_110 s0_96 a0 a1 x2_9 v13 s0_83 h)
  else (if s0_83 = 0 then (m_X7_see_j132 s0_110 s0_96 a0 a1 x2_9 v13 h)
  else (if v13 ≠ 6 then (m_X7_see_j132 s0_110 s0_96 a0 a1 x2_9 v13 h)
  else (m_X7_see_j133 s0_110 s0_96 a0 a1 x2_9 v13 1 h)))
noncomputable def m_X7_see_j96 (s0_83 s0_31 a0 a1 x2_9 v13 s0_96 : Int) (h : Hp) : Option (Hp) :=
  if s0_31 ≠ 6 then (m_X7_see_j110 s0_96 s0_83 a0 a1 x2_9 v13 0 h)
  else (m_X7_see_j110 s0_96 s0_83 a0 a1 x2_9 v13 1 h)
noncomputable def m_X7_see_j83 (s0_31 v13 a0 a1 x2_9 s0_83 : Int) (h : Hp) : Option (Hp) :=
  if s0_31 ≠ 5 then (m_X7_see_j96 s0_83 s0_31 a0 a1 x2_9 v13 0 h)
  else (m_X7_see_j96 s0_83 s0_31 a0 a1 x2_9 v13 1 h)
noncomputable def m_X7_see_j82 (s0_31 v13 a0 a1 x2_9 : Int) (h : Hp) : Option (Hp) :=
  m_X7_see_j83 s0_31 v13 a0 a1 x2_9 0 h
noncomputable def m_X7_see_j51 (s0_31 v13 a0 a1 x2_9 : Int) (h : Hp) : Option (Hp) :=
  if s0_31 = 8 then (m_X7_see_j82 s0_31 v13 a0 a1 x2_9 h)
  else (if s0_31 = 9 then (m_X7_see_j82 s0_31 v13 a0 a1 x2_9 h)
  else (if s0_31 = 4 then (m_X7_see_j82 s0_31 v13 a0 a1 x2_9 h)
  else (if s0_31 = 10 then (m_X7_see_j82 s0_31 v13 a0 a1 x2_9 h)
  else (m_X7_see_j83 s0_31 v13 a0 a1 x2_9 1 h))))
noncomputable def m_X7_see_j31 (v13 x2_9 a1 a0 s0_31 : Int) (h : Hp) : Option (Hp) :=
  if v13 = 2 then (m_X7_see_j82 s0_31 v13 a0 a1 x2_9 h)
  else (if x2_9 < 0 then (m_X7_see_j51 s0_31 v13 a0 a1 x2_9 h)
  else (gd (h (h a0 6) (-2) % 16 = 3 ∧ (0 : Int) ≤ x2_9 ∧ x2_9 < h (h a0 6) (-1)) (if (h (h a0 6) x2_9) = 0 then (m_X7_see_j82 s0_31 v13 a0 a1 x2_9 h)
  else (m_X7_see_j51 s0_31 v13 a0 a1 x2_9 h))))
noncomputable def m_X7_see (a0 a1 : Int) (h : Hp) : Option (Hp) :=
  gd (h (h a0 0) (-2) = 96) (gd (h (h (h a0 0) 6) (-2) % 16 = 1 ∧ (0 : Int) ≤ a1 ∧ a1 < h (h (h a0 0) 6) (-1)) (lt_ (h (h (h a0 0) 6) a1) fun x2_9 =>
  (m_X7_property a0 a1 0 h).bind fun v13 =>
  if 0 ≤ x2_9 then (gd (h (h a0 8) (-2) % 16 = 1 ∧ (0 : Int) ≤ x2_9 ∧ x2_9 < h (h a0 8) (-1)) (m_X7_see_j31 v13 x2_9 a1 a0 (h (h a0 8) x2_9) h))
  else (m_X7_see_j31 v13 x2_9 a1 a0 1 h)))
theorem s_X7_see {l : Launch} [NoTr l] {D : SD} {a0 a1 : Int} {h : Hp} (hk : h a0 (-2) = 112) (r1 : r32 a1) {r : Hp} (hm : m_X7_see a0 a1 h = some r) : Sim l D yX7_see (Cond.code yX7_see cX7_see 9 (Option.none : Option Jvm.ClassFile.FieldType)) 2 74 [rv D a0, iv a1] h 0 ((0, 0), r) := by
  refine Sim.of (fin := fun (v : Hp) => ((0, 0), v)) (lsE := [(0, rv D a0), (1, iv a1)]) hm rfl cwS_code (la_r (la_i la_n)) (ll_r (ll_i ll_n)) ?_
  intro p e s m below meth c X hcw hmm hcc hnm hname
  unfold m_X7_see
  refine g_aload_n (pc := 0) X (j := 0) (i := 0) (q := 0) (x := a0) rfl rfl (dl_at t_X7_see 0 rfl) ?_
  refine r_getr (pc := 1) X fX7_0 hk q778 (dl_at t_X7_see 1 rfl) ?_
  refine g_gd fun k4 => ?_
  refine r_getrN (pc := 4) X fX6_6 k4 (nw_in q660 rfl) (dl_at t_X7_see 2 rfl) ?_
  refine g_iload_n (pc := 7) X (j := 1) (i := 1) (q := 1) (x := a1) rfl rfl (dl_at t_X7_see 3 rfl) ?_
  refine g_gd fun k8 => ?_
  refine g_iald (pc := 8) X r1 k8 (dl_at t_X7_see 4 rfl) fun g8 => ?_
  refine g_lti g8 fun x2_9 r2_9 => ?_
  refine g_istore_nN (pc := 9) X (j := 2) (i := 2) (x := x2_9) (b := 1) (w := iv a1) (rest := [(0, rv D a0)]) rfl (Nat.le_of_ble_eq_true rfl) [1, 0] rfl (by decide) rfl rfl (dl_at t_X7_see 5 rfl) ?_
  refine g_aload_n (pc := 10) X (j := 0) (i := 0) (q := 2) (x := a0) rfl rfl (dl_at t_X7_see 6 rfl) ?_
  refine g_iload_n (pc := 11) X (j := 1) (i := 1) (q := 1) (x := a1) rfl rfl (dl_at t_X7_see 7 rfl) ?_
  refine g_iconst (pc := 12) X (n := 0) (dl_at t_X7_see 8 rfl) ?_
  refine r_callRi (pc := 13) X (fun _ hv => s_X7_property hk r1 (r32_c rfl) hv) cw_code q2332 q361 (in_Vk X (As := [iv a1, iv 0]) kX7 hk (Or.inl q2329) q2331 qs84 cw_code q2332 ⟨by decide, by decide⟩ rfl (dl_at t_X7_see 9 rfl)) (dl_at t_X7_see 9 rfl) (cat24 (st := []) (Nat.le_of_ble_eq_true rfl)) (Nat.le_of_ble_eq_true rfl) (Nat.le_of_ble_eq_true rfl) fun v13 g13 => ?_
  refine g_istore_nN (pc := 16) X (j := 3) (i := 3) (x := v13) (b := 2) (w := iv x2_9) (rest := [(1, iv a1), (0, rv D a0)]) rfl (Nat.le_of_ble_eq_true rfl) [0, 1, 2] rfl (by decide) rfl rfl (dl_at t_X7_see 10 rfl) ?_
  refine g_iload_n (pc := 17) X (j := 2) (i := 2) (q := 1) (x := x2_9) rfl rfl (dl_at t_X7_see 11 rfl) ?_
  refine g_join (γ := Int) (fun q => r32 q) 31 (fun q => [(0, rv D a0), (1, iv a1), (2, iv x2_9), (3, iv v13)]) (fun q => [iv q]) (fun q => h) (fun q => m_X7_see_j31 v13 x2_9 a1 a0 q h) ?_ ?_
  · rintro s0_31 rs0_31
    try dsimp only
    unfold m_X7_see_j31
    refine g_istoreN (pc := 31) X (i := 4) (x := s0_31) (b := 3) (w := iv v13) (rest := [(0, rv D a0), (1, iv a1), (2, iv x2_9)]) (Nat.le_of_ble_eq_true rfl) [3, 0, 1, 2] rfl (by decide) rfl rfl (dl_at t_X7_see 19 rfl) ?_
    refine g_iload_n (pc := 33) X (j := 3) (i := 3) (q := 1) (x := v13) rfl rfl (dl_at t_X7_see 20 rfl) ?_
    refine g_iconst (pc := 34) X (n := 2) (dl_at t_X7_see 21 rfl) ?_
    refine g_join (γ := Int) (fun q => (q = 0 ∨ q = 1)) 83 (fun q => [(0, rv D a0), (1, iv a1), (2, iv x2_9), (3, iv v13), (4, iv s0_31)]) (fun q => [iv q]) (fun q => h) (fun q => m_X7_see_j83 s0_31 v13 a0 a1 x2_9 q h) ?_ ?_
    · rintro s0_83 rs0_83
      try dsimp only
      unfold m_X7_see_j83
      refine g_istoreN (pc := 83) X (i := 5) (x := s0_83) (b := 4) (w := iv s0_31) (rest := [(0, rv D a0), (1, iv a1), (2, iv x2_9), (3, iv v13)]) (Nat.le_of_ble_eq_true rfl) [4, 0, 1, 2, 3] rfl (by decide) rfl rfl (dl_at t_X7_see 45 rfl) ?_
      refine g_iload (pc := 85) X (i := 4) (q := 1) (x := s0_31) rfl (dl_at t_X7_see 46 rfl) ?_
      refine g_iconst (pc := 87) X (n := 5) (dl_at t_X7_see 47 rfl) ?_
      refine g_join (γ := Int) (fun q => (q = 0 ∨ q = 1)) 96 (fun q => [(0, rv D a0), (1, iv a1), (2, iv x2_9), (3, iv v13), (4, iv s0_31), (5, iv s0_83)]) (fun q => [iv q]) (fun q => h) (fun q => m_X7_see_j96 s0_83 s0_31 a0 a1 x2_9 v13 q h) ?_ ?_
      · rintro s0_96 rs0_96
        try dsimp only
        unfold m_X7_see_j96
        refine g_istoreN (pc := 96) X (i := 6) (x := s0_96) (b := 5) (w := iv s0_83) (rest := [(0, rv D a0), (1, iv a1), (2, iv x2_9), (3, iv v13), (4, iv s0_31)]) (Nat.le_of_ble_eq_true rfl) [5, 0, 1, 2, 3, 4] rfl (by decide) rfl rfl (dl_at t_X7_see 52 rfl) ?_
        refine g_iload (pc := 98) X (i := 4) (q := 6) (x := s0_31) rfl (dl_at t_X7_see 53 rfl) ?_
        refine g_bipush (pc := 100) X (n := 6) rfl (dl_at t_X7_see 54 rfl) ?_
        refine g_join (γ := Int) (fun q => (q = 0 ∨ q = 1)) 110 (fun q => [(0, rv D a0), (1, iv a1), (2, iv x2_9), (3, iv v13), (5, iv s0_83), (6, iv s0_96)]) (fun q => [iv q]) (fun q => h) (fun q => m_X7_see_j110 s0_96 s0_83 a0 a1 x2_9 v13 q h) ?_ ?_
        · rintro s0_110 rs0_110
          try dsimp only
          unfold m_X7_see_j110
          refine g_istoreN (pc := 110) X (i := 7) (x := s0_110) (b := 6) (w := iv s0_96) (rest := [(0, rv D a0), (1, iv a1), (2, iv x2_9), (3, iv v13), (5, iv s0_83)]) (Nat.le_of_ble_eq_true rfl) [5, 0, 1, 2, 3, 4] rfl (by decide) rfl rfl (dl_at t_X7_see 59 rfl) ?_
          refine g_iload (pc := 112) X (i := 6) (q := 1) (x := s0_96) rfl (dl_at t_X7_see 60 rfl) ?_
          refine g_join (γ := Int) (fun q => (q = 0 ∨ q = 1)) 135 (fun q => [(0, rv D a0), (1, iv a1), (2, iv x2_9), (3, iv v13), (5, iv q), (6, iv s0_96), (7, iv s0_110)]) (fun q => []) (fun q => h) (fun q => m_X7_see_j135 s0_110 s0_96 a0 a1 x2_9 v13 q h) ?_ ?_
          · rintro x5_135 r5_135
            try dsimp only
            unfold m_X7_see_j135
            refine g_iload (pc := 135) X (i := 7) (q := 6) (x := s0_110) rfl (dl_at t_X7_see 71 rfl) ?_
            refine g_join (γ := Int × Hp) (fun q => (q.1 = 0 ∨ q.1 = 1) ∧ Ext h q.2) 184 (fun q => [(0, rv D a0), (1, iv a1), (3, iv v13), (5, iv q.1), (6, iv s0_96), (7, iv s0_110)]) (fun q => []) (fun q => q.2) (fun q => m_X7_see_j184 a0 a1 v13 s0_96 s0_110 q.1 q.2) ?_ ?_
            · rintro ⟨x5_184, h_184⟩ ⟨r5_184, E_184⟩
              try dsimp only
              unfold m_X7_see_j184
              refine g_aload_n (pc := 184) X (j := 0) (i := 0) (q := 0) (x := a0) rfl rfl (dl_at t_X7_see 98 rfl) ?_
              have k185 := kx E_184 (by decide) hk
              refine r_getr (pc := 185) X fX7_6 k185 q789 (dl_at t_X7_see 99 rfl) ?_
              refine g_iload_n (pc := 188) X (j := 1) (i := 1) (q := 1) (x := a1) rfl rfl (dl_at t_X7_see 100 rfl) ?_
              refine g_iload (pc := 189) X (i := 5) (q := 3) (x := x5_184) rfl (dl_at t_X7_see 101 rfl) ?_
              refine g_gd fun k191 => ?_
              refine r_zast (pc := 191) X r1 r5_184 k191 (dl_at t_X7_see 102 rfl) (fun h191 E191 => ?_)
              refine g_aload_n (pc := 192) X (j := 0) (i := 0) (q := 0) (x := a0) rfl rfl (dl_at t_X7_see 103 rfl) ?_
              have k193 := kx E191 (by decide) k185
              refine r_getr (pc := 193) X fX7_10 k193 q801 (dl_at t_X7_see 104 rfl) ?_
              refine g_iload_n (pc := 196) X (j := 1) (i := 1) (q := 1) (x := a1) rfl rfl (dl_at t_X7_see 105 rfl) ?_
              refine g_iconst (pc := 197) X (n := 0) (dl_at t_X7_see 106 rfl) ?_
              refine g_gd fun k198 => ?_
              refine r_iast (pc := 198) X r1 (r32_c rfl) k198 (dl_at t_X7_see 107 rfl) (fun h198 E198 => ?_)
              refine g_aload_n (pc := 199) X (j := 0) (i := 0) (q := 0) (x := a0) rfl rfl (dl_at t_X7_see 108 rfl) ?_
              refine g_iload_n (pc := 200) X (j := 1) (i := 1) (q := 1) (x := a1) rfl rfl (dl_at t_X7_see 109 rfl) ?_
              have k201 := kx E198 (by decide) k193
              refine r_callRz (pc := 201) X (fun _ hv => s_X7_isInNote k201 r1 hv) cw_code q2346 q361 (in_Vk X (As := [iv a1]) kX7 k201 (Or.inl q2343) q2345 qs86 cw_code q2346 ⟨by decide, by decide⟩ rfl (dl_at t_X7_see 110 rfl)) (dl_at t_X7_see 110 rfl) (cat24 (st := []) (Nat.le_of_ble_eq_true rfl)) (Nat.le_of_ble_eq_true rfl) (Nat.le_of_ble_eq_true rfl) fun v201 g201 => ?_
              refine g_join (γ := Int) (fun q => (q = 0 ∨ q = 1)) 212 (fun q => [(0, rv D a0), (1, iv a1), (3, iv v13), (5, iv x5_184), (6, iv s0_96), (7, iv s0_110)]) (fun q => [iv q]) (fun q => h198) (fun q => m_X7_see_j212 a0 a1 v13 x5_184 s0_96 s0_110 q h198) ?_ ?_
              · rintro s0_212 rs0_212
                try dsimp only
                unfold m_X7_see_j212
                refine g_istoreN (pc := 212) X (i := 8) (x := s0_212) (b := 7) (w := iv s0_110) (rest := [(0, rv D a0), (1, iv a1), (3, iv v13), (5, iv x5_184), (6, iv s0_96)]) (Nat.le_of_ble_eq_true rfl) [5, 0, 1, 2, 3, 4] rfl (by decide) rfl rfl (dl_at t_X7_see 115 rfl) ?_
                refine g_aload_n (pc := 214) X (j := 0) (i := 0) (q := 2) (x := a0) rfl rfl (dl_at t_X7_see 116 rfl) ?_
                refine r_getr (pc := 215) X fX7_7 k201 q792 (dl_at t_X7_see 117 rfl) ?_
                refine g_iload_n (pc := 218) X (j := 1) (i := 1) (q := 3) (x := a1) rfl rfl (dl_at t_X7_see 118 rfl) ?_
                refine g_iload (pc := 219) X (i := 5) (q := 5) (x := x5_184) rfl (dl_at t_X7_see 119 rfl) ?_
                refine g_join (γ := Int × Int) (fun q => (q.2 = 0 ∨ q.2 = 1)) 234 (fun q => [(0, rv D a0), (1, iv a1), (3, iv v13), (5, iv x5_184), (6, iv s0_96), (7, iv s0_110), (8, iv s0_212)]) (fun q => [iv q.2, iv a1, rv D q.1]) (fun q => h198) (fun q => m_X7_see_j234 s0_212 s0_110 a0 a1 v13 x5_184 s0_96 q.1 q.2 h198) ?_ ?_
                · rintro ⟨s0_234, s2_234⟩ rs2_234
                  try dsimp only
                  unfold m_X7_see_j234
                  refine g_gd fun k234 => ?_
                  refine r_zast (pc := 234) X r1 rs2_234 k234 (dl_at t_X7_see 126 rfl) (fun h234 E234 => ?_)
                  refine g_aload_n (pc := 235) X (j := 0) (i := 0) (q := 0) (x := a0) rfl rfl (dl_at t_X7_see 127 rfl) ?_
                  have k236 := kx E234 (by decide) k201
                  refine r_getr (pc := 236) X fX7_8 k236 q796 (dl_at t_X7_see 128 rfl) ?_
                  refine g_iload_n (pc := 239) X (j := 1) (i := 1) (q := 1) (x := a1) rfl rfl (dl_at t_X7_see 129 rfl) ?_
                  refine g_iload (pc := 240) X (i := 5) (q := 3) (x := x5_184) rfl (dl_at t_X7_see 130 rfl) ?_
                  refine g_ifeq (pc := 242) X (r32_z r5_184) (off := 16) (tgt := 258) rfl (dl_at t_X7_see 131 rfl) (fun _ => ?_) (fun _ => ?_)
                  · refine g_iconst (pc := 258) X (n := 2) (dl_at t_X7_see 138 rfl) ?_
                    refine g_gd fun k259 => ?_
                    refine r_iast (pc := 259) X r1 (r32_c rfl) k259 (dl_at t_X7_see 139 rfl) (fun h259 E259 => ?_)
                    exact g_vret (pc := 260) X (v := 0) rfl rfl (dl_at t_X7_see 140 rfl)
                  refine g_iload_n (pc := 245) X (j := 3) (i := 3) (q := 2) (x := v13) rfl rfl (dl_at t_X7_see 132 rfl) ?_
                  refine g_iload (pc := 246) X (i := 8) (q := 6) (x := s0_212) rfl (dl_at t_X7_see 133 rfl) ?_
                  refine g_iload (pc := 248) X (i := 6) (q := 4) (x := s0_96) rfl (dl_at t_X7_see 134 rfl) ?_
                  refine g_iload (pc := 250) X (i := 7) (q := 5) (x := s0_110) rfl (dl_at t_X7_see 135 rfl) ?_
                  refine r_callRi (pc := 252) X (fun _ hv => s_X7_roleOf g13 rs0_212 rs0_96 rs0_110 hv) cw_code q2349 q361 (in_Sc X (As := [iv v13, iv s0_212, iv s0_96, iv s0_110]) (Or.inl q2347) q2348 q361 q2349 ⟨by decide, by decide⟩ rfl (dl_at t_X7_see 136 rfl)) (dl_at t_X7_see 136 rfl) (cat24 (st := [iv a1, rv D (h234 a0 8)]) (Nat.le_of_ble_eq_true rfl)) (Nat.le_of_ble_eq_true rfl) (Nat.le_of_ble_eq_true rfl) fun v252 g252 => ?_
                  refine g_goto (pc := 255) X (off := 4) (tgt := 259) rfl (dl_at t_X7_see 137 rfl) ?_
                  refine g_gd fun k259_1 => ?_
                  refine r_iast (pc := 259) X r1 g252 k259_1 (dl_at t_X7_see 139 rfl) (fun h259_1 E259_1 => ?_)
                  exact g_vret (pc := 260) X (v := 0) rfl rfl (dl_at t_X7_see 140 rfl)
                intro J234
                refine g_join (γ := Int) (fun q => True) 233 (fun q => [(0, rv D a0), (1, iv a1), (3, iv v13), (5, iv x5_184), (6, iv s0_96), (7, iv s0_110), (8, iv s0_212)]) (fun q => [iv a1, rv D q]) (fun q => h198) (fun q => m_X7_see_j233 s0_212 s0_110 a0 a1 v13 x5_184 s0_96 q h198) ?_ ?_
                · rintro s0_233 _
                  try dsimp only
                  unfold m_X7_see_j233
                  refine g_iconst (pc := 233) X (n := 0) (dl_at t_X7_see 125 rfl) ?_
                  exact J234 (s0_233, 0) (Or.inl rfl)
                intro J233
                refine g_ifeq (pc := 221) X (r32_z r5_184) (off := 12) (tgt := 233) rfl (dl_at t_X7_see 120 rfl) (fun _ => ?_) (fun _ => ?_)
                · refine g_ls (ls2 := [(0, rv D a0), (1, iv a1), (3, iv v13), (5, iv x5_184), (6, iv s0_96), (7, iv s0_110), (8, iv s0_212)]) [2, 3, 4, 5, 6, 1, 0] rfl ?_
                  exact J233 (h198 a0 7) trivial
                refine g_iload (pc := 224) X (i := 8) (q := 0) (x := s0_212) rfl (dl_at t_X7_see 121 rfl) ?_
                refine g_ifeq (pc := 226) X (r32_z rs0_212) (off := 7) (tgt := 233) rfl (dl_at t_X7_see 122 rfl) (fun _ => ?_) (fun _ => ?_)
                · refine g_ls (ls2 := [(0, rv D a0), (1, iv a1), (3, iv v13), (5, iv x5_184), (6, iv s0_96), (7, iv s0_110), (8, iv s0_212)]) [2, 3, 4, 5, 6, 1, 0] rfl ?_
                  exact J233 (h198 a0 7) trivial
                refine g_iconst (pc := 229) X (n := 1) (dl_at t_X7_see 123 rfl) ?_
                refine g_goto (pc := 230) X (off := 4) (tgt := 234) rfl (dl_at t_X7_see 124 rfl) ?_
                refine g_ls (ls2 := [(0, rv D a0), (1, iv a1), (3, iv v13), (5, iv x5_184), (6, iv s0_96), (7, iv s0_110), (8, iv s0_212)]) [2, 3, 4, 5, 6, 1, 0] rfl ?_
                exact J234 ((h198 a0 7), 1) (Or.inr rfl)
              intro J212
              refine g_ifne (pc := 204) X (r32_z g201) (off := 7) (tgt := 211) rfl (dl_at t_X7_see 111 rfl) (fun _ => ?_) (fun _ => ?_)
              · refine g_iconst (pc := 211) X (n := 0) (dl_at t_X7_see 114 rfl) ?_
                exact J212 0 (Or.inl rfl)
              refine g_iconst (pc := 207) X (n := 1) (dl_at t_X7_see 112 rfl) ?_
              refine g_goto (pc := 208) X (off := 4) (tgt := 212) rfl (dl_at t_X7_see 113 rfl) ?_
              exact J212 1 (Or.inr rfl)
            intro J184
            refine g_ifeq (pc := 137) X (r32_z rs0_110) (off := 47) (tgt := 184) rfl (dl_at t_X7_see 72 rfl) (fun _ => ?_) (fun _ => ?_)
            · refine g_ls (ls2 := [(0, rv D a0), (1, iv a1), (3, iv v13), (5, iv x5_135), (6, iv s0_96), (7, iv s0_110)]) [0, 1, 3, 4, 5, 6] rfl ?_
              exact J184 (x5_135, h) ⟨r5_135, (Ext.refl _)⟩
            refine g_iload (pc := 140) X (i := 5) (q := 4) (x := x5_135) rfl (dl_at t_X7_see 73 rfl) ?_
            refine g_join (γ := Int) (fun q => (q = 0 ∨ q = 1)) 167 (fun q => [(0, rv D a0), (1, iv a1), (2, iv x2_9), (3, iv v13), (6, iv s0_96), (7, iv s0_110)]) (fun q => [iv q]) (fun q => h) (fun q => m_X7_see_j167 a0 a1 x2_9 v13 s0_96 s0_110 q h) ?_ ?_
            · rintro s0_167 rs0_167
              try dsimp only
              unfold m_X7_see_j167
              refine g_istore (pc := 167) X (i := 5) (x := s0_167) (rest := [(0, rv D a0), (1, iv a1), (2, iv x2_9), (3, iv v13), (6, iv s0_96), (7, iv s0_110)]) (Nat.le_of_ble_eq_true rfl) [0, 1, 2, 3, 4, 5] rfl rfl (dl_at t_X7_see 87 rfl) ?_
              refine g_iload (pc := 169) X (i := 5) (q := 0) (x := s0_167) rfl (dl_at t_X7_see 88 rfl) ?_
              refine g_ifeq (pc := 171) X (r32_z rs0_167) (off := 13) (tgt := 184) rfl (dl_at t_X7_see 89 rfl) (fun _ => ?_) (fun _ => ?_)
              · refine g_ls (ls2 := [(0, rv D a0), (1, iv a1), (3, iv v13), (5, iv s0_167), (6, iv s0_96), (7, iv s0_110)]) [1, 2, 4, 0, 5, 6] rfl ?_
                exact J184 (s0_167, h) ⟨rs0_167, (Ext.refl _)⟩
              refine g_aload_n (pc := 174) X (j := 0) (i := 0) (q := 1) (x := a0) rfl rfl (dl_at t_X7_see 90 rfl) ?_
              refine r_getr (pc := 175) X fX7_10 hk q801 (dl_at t_X7_see 91 rfl) ?_
              refine g_iload_n (pc := 178) X (j := 2) (i := 2) (q := 3) (x := x2_9) rfl rfl (dl_at t_X7_see 92 rfl) ?_
              refine g_dup2 (pc := 179) X rfl rv_cat (dl_at t_X7_see 93 rfl) ?_
              refine g_gd fun k180 => ?_
              refine g_iald (pc := 180) X r2_9 k180 (dl_at t_X7_see 94 rfl) fun g180 => ?_
              refine g_iconst (pc := 181) X (n := 1) (dl_at t_X7_see 95 rfl) ?_
              refine g_iadd (pc := 182) X g180 (r32_c rfl) (dl_at t_X7_see 96 rfl) ?_
              refine r_iast (pc := 183) X r2_9 (r32_w _) k180 (dl_at t_X7_see 97 rfl) (fun h183 E183 => ?_)
              refine g_ls (ls2 := [(0, rv D a0), (1, iv a1), (3, iv v13), (5, iv s0_167), (6, iv s0_96), (7, iv s0_110)]) [1, 2, 4, 0, 5, 6] rfl ?_
              exact J184 (s0_167, h183) ⟨rs0_167, E183⟩
            intro J167
            refine g_join (γ := Unit) (fun q => True) 166 (fun q => [(0, rv D a0), (1, iv a1), (2, iv x2_9), (3, iv v13), (6, iv s0_96), (7, iv s0_110)]) (fun q => []) (fun q => h) (fun q => m_X7_see_j166 a0 a1 x2_9 v13 s0_96 s0_110 h) ?_ ?_
            · rintro _ _
              try dsimp only
              unfold m_X7_see_j166
              refine g_iconst (pc := 166) X (n := 0) (dl_at t_X7_see 86 rfl) ?_
              exact J167 0 (Or.inl rfl)
            intro J166
            refine g_ifeq (pc := 142) X (r32_z r5_135) (off := 24) (tgt := 166) rfl (dl_at t_X7_see 74 rfl) (fun _ => ?_) (fun _ => ?_)
            · refine g_ls (ls2 := [(0, rv D a0), (1, iv a1), (2, iv x2_9), (3, iv v13), (6, iv s0_96), (7, iv s0_110)]) [0, 1, 2, 3, 5, 6] rfl ?_
              exact J166 () trivial
            refine g_iload_n (pc := 145) X (j := 3) (i := 3) (q := 3) (x := v13) rfl rfl (dl_at t_X7_see 75 rfl) ?_
            refine g_bipush (pc := 146) X (n := 7) rfl (dl_at t_X7_see 76 rfl) ?_
            refine g_icmpne (pc := 148) X g13 (r32_c rfl) (off := 18) (tgt := 166) rfl (dl_at t_X7_see 77 rfl) (fun _ => ?_) (fun _ => ?_)
            · refine g_ls (ls2 := [(0, rv D a0), (1, iv a1), (2, iv x2_9), (3, iv v13), (6, iv s0_96), (7, iv s0_110)]) [0, 1, 2, 3, 5, 6] rfl ?_
              exact J166 () trivial
            refine g_aload_n (pc := 151) X (j := 0) (i := 0) (q := 0) (x := a0) rfl rfl (dl_at t_X7_see 78 rfl) ?_
            refine r_getr (pc := 152) X fX7_10 hk q801 (dl_at t_X7_see 79 rfl) ?_
            refine g_iload_n (pc := 155) X (j := 2) (i := 2) (q := 2) (x := x2_9) rfl rfl (dl_at t_X7_see 80 rfl) ?_
            refine g_gd fun k156 => ?_
            refine g_iald (pc := 156) X r2_9 k156 (dl_at t_X7_see 81 rfl) fun g156 => ?_
            refine g_bipush (pc := 157) X (n := 8) rfl (dl_at t_X7_see 82 rfl) ?_
            refine g_icmpge (pc := 159) X g156 (r32_c rfl) (off := 7) (tgt := 166) rfl (dl_at t_X7_see 83 rfl) (fun _ => ?_) (fun _ => ?_)
            · refine g_ls (ls2 := [(0, rv D a0), (1, iv a1), (2, iv x2_9), (3, iv v13), (6, iv s0_96), (7, iv s0_110)]) [0, 1, 2, 3, 5, 6] rfl ?_
              exact J166 () trivial
            refine g_iconst (pc := 162) X (n := 1) (dl_at t_X7_see 84 rfl) ?_
            refine g_goto (pc := 163) X (off := 4) (tgt := 167) rfl (dl_at t_X7_see 85 rfl) ?_
            refine g_ls (ls2 := [(0, rv D a0), (1, iv a1), (2, iv x2_9), (3, iv v13), (6, iv s0_96), (7, iv s0_110)]) [0, 1, 2, 3, 5, 6] rfl ?_
            exact J167 1 (Or.inr rfl)
          intro J135
          refine g_ifeq (pc := 114) X (r32_z rs0_96) (off := 21) (tgt := 135) rfl (dl_at t_X7_see 61 rfl) (fun _ => ?_) (fun _ => ?_)
          · refine g_ls (ls2 := [(0, rv D a0), (1, iv a1), (2, iv x2_9), (3, iv v13), (5, iv s0_83), (6, iv s0_96), (7, iv s0_110)]) [2, 3, 4, 5, 6, 1, 0] rfl ?_
            exact J135 s0_83 rs0_83
          refine g_iload (pc := 117) X (i := 5) (q := 6) (x := s0_83) rfl (dl_at t_X7_see 62 rfl) ?_
          refine g_join (γ := Int) (fun q => (q = 0 ∨ q = 1)) 133 (fun q => [(0, rv D a0), (1, iv a1), (2, iv x2_9), (3, iv v13), (6, iv s0_96), (7, iv s0_110)]) (fun q => [iv q]) (fun q => h) (fun q => m_X7_see_j133 s0_110 s0_96 a0 a1 x2_9 v13 q h) ?_ ?_
          · rintro s0_133 rs0_133
            try dsimp only
            unfold m_X7_see_j133
            refine g_istore (pc := 133) X (i := 5) (x := s0_133) (rest := [(0, rv D a0), (1, iv a1), (2, iv x2_9), (3, iv v13), (6, iv s0_96), (7, iv s0_110)]) (Nat.le_of_ble_eq_true rfl) [0, 1, 2, 3, 4, 5] rfl rfl (dl_at t_X7_see 70 rfl) ?_
            refine g_ls (ls2 := [(0, rv D a0), (1, iv a1), (2, iv x2_9), (3, iv v13), (5, iv s0_133), (6, iv s0_96), (7, iv s0_110)]) [1, 2, 3, 4, 0, 5, 6] rfl ?_
            exact J135 s0_133 rs0_133
          intro J133
          refine g_join (γ := Unit) (fun q => True) 132 (fun q => [(0, rv D a0), (1, iv a1), (2, iv x2_9), (3, iv v13), (6, iv s0_96), (7, iv s0_110)]) (fun q => []) (fun q => h) (fun q => m_X7_see_j132 s0_110 s0_96 a0 a1 x2_9 v13 h) ?_ ?_
          · rintro _ _
            try dsimp only
            unfold m_X7_see_j132
            refine g_iconst (pc := 132) X (n := 0) (dl_at t_X7_see 69 rfl) ?_
            exact J133 0 (Or.inl rfl)
          intro J132
          refine g_ifeq (pc := 119) X (r32_z rs0_83) (off := 13) (tgt := 132) rfl (dl_at t_X7_see 63 rfl) (fun _ => ?_) (fun _ => ?_)
          · refine g_ls (ls2 := [(0, rv D a0), (1, iv a1), (2, iv x2_9), (3, iv v13), (6, iv s0_96), (7, iv s0_110)]) [2, 3, 4, 5, 1, 0] rfl ?_
            exact J132 () trivial
          refine g_iload_n (pc := 122) X (j := 3) (i := 3) (q := 5) (x := v13) rfl rfl (dl_at t_X7_see 64 rfl) ?_
          refine g_bipush (pc := 123) X (n := 6) rfl (dl_at t_X7_see 65 rfl) ?_
          refine g_icmpne (pc := 125) X g13 (r32_c rfl) (off := 7) (tgt := 132) rfl (dl_at t_X7_see 66 rfl) (fun _ => ?_) (fun _ => ?_)
          · refine g_ls (ls2 := [(0, rv D a0), (1, iv a1), (2, iv x2_9), (3, iv v13), (6, iv s0_96), (7, iv s0_110)]) [2, 3, 4, 5, 1, 0] rfl ?_
            exact J132 () trivial
          refine g_iconst (pc := 128) X (n := 1) (dl_at t_X7_see 67 rfl) ?_
          refine g_goto (pc := 129) X (off := 4) (tgt := 133) rfl (dl_at t_X7_see 68 rfl) ?_
          refine g_ls (ls2 := [(0, rv D a0), (1, iv a1), (2, iv x2_9), (3, iv v13), (6, iv s0_96), (7, iv s0_110)]) [2, 3, 4, 5, 1, 0] rfl ?_
          exact J133 1 (Or.inr rfl)
        intro J110
        refine g_icmpne (pc := 102) X rs0_31 (r32_c rfl) (off := 7) (tgt := 109) rfl (dl_at t_X7_see 55 rfl) (fun _ => ?_) (fun _ => ?_)
        · refine g_iconst (pc := 109) X (n := 0) (dl_at t_X7_see 58 rfl) ?_
          refine g_ls (ls2 := [(0, rv D a0), (1, iv a1), (2, iv x2_9), (3, iv v13), (5, iv s0_83), (6, iv s0_96)]) [2, 3, 4, 5, 1, 0] rfl ?_
          exact J110 0 (Or.inl rfl)
        refine g_iconst (pc := 105) X (n := 1) (dl_at t_X7_see 56 rfl) ?_
        refine g_goto (pc := 106) X (off := 4) (tgt := 110) rfl (dl_at t_X7_see 57 rfl) ?_
        refine g_ls (ls2 := [(0, rv D a0), (1, iv a1), (2, iv x2_9), (3, iv v13), (5, iv s0_83), (6, iv s0_96)]) [2, 3, 4, 5, 1, 0] rfl ?_
        exact J110 1 (Or.inr rfl)
      intro J96
      refine g_icmpne (pc := 88) X rs0_31 (r32_c rfl) (off := 7) (tgt := 95) rfl (dl_at t_X7_see 48 rfl) (fun _ => ?_) (fun _ => ?_)
      · refine g_iconst (pc := 95) X (n := 0) (dl_at t_X7_see 51 rfl) ?_
        refine g_ls (ls2 := [(0, rv D a0), (1, iv a1), (2, iv x2_9), (3, iv v13), (4, iv s0_31), (5, iv s0_83)]) [2, 3, 4, 5, 1, 0] rfl ?_
        exact J96 0 (Or.inl rfl)
      refine g_iconst (pc := 91) X (n := 1) (dl_at t_X7_see 49 rfl) ?_
      refine g_goto (pc := 92) X (off := 4) (tgt := 96) rfl (dl_at t_X7_see 50 rfl) ?_
      refine g_ls (ls2 := [(0, rv D a0), (1, iv a1), (2, iv x2_9), (3, iv v13), (4, iv s0_31), (5, iv s0_83)]) [2, 3, 4, 5, 1, 0] rfl ?_
      exact J96 1 (Or.inr rfl)
    intro J83
    refine g_join (γ := Unit) (fun q => True) 82 (fun q => [(0, rv D a0), (1, iv a1), (2, iv x2_9), (3, iv v13), (4, iv s0_31)]) (fun q => []) (fun q => h) (fun q => m_X7_see_j82 s0_31 v13 a0 a1 x2_9 h) ?_ ?_
    · rintro _ _
      try dsimp only
      unfold m_X7_see_j82
      refine g_iconst (pc := 82) X (n := 0) (dl_at t_X7_see 44 rfl) ?_
      exact J83 0 (Or.inl rfl)
    intro J82
    refine g_icmpeq (pc := 35) X g13 (r32_c rfl) (off := 47) (tgt := 82) rfl (dl_at t_X7_see 22 rfl) (fun _ => ?_) (fun _ => ?_)
    · refine g_ls (ls2 := [(0, rv D a0), (1, iv a1), (2, iv x2_9), (3, iv v13), (4, iv s0_31)]) [2, 3, 4, 1, 0] rfl ?_
      exact J82 () trivial
    refine g_iload_n (pc := 38) X (j := 2) (i := 2) (q := 4) (x := x2_9) rfl rfl (dl_at t_X7_see 23 rfl) ?_
    refine g_join (γ := Unit) (fun q => True) 51 (fun q => [(0, rv D a0), (1, iv a1), (2, iv x2_9), (3, iv v13), (4, iv s0_31)]) (fun q => []) (fun q => h) (fun q => m_X7_see_j51 s0_31 v13 a0 a1 x2_9 h) ?_ ?_
    · rintro _ _
      try dsimp only
      unfold m_X7_see_j51
      refine g_iload (pc := 51) X (i := 4) (q := 4) (x := s0_31) rfl (dl_at t_X7_see 30 rfl) ?_
      refine g_bipush (pc := 53) X (n := 8) rfl (dl_at t_X7_see 31 rfl) ?_
      refine g_icmpeq (pc := 55) X rs0_31 (r32_c rfl) (off := 27) (tgt := 82) rfl (dl_at t_X7_see 32 rfl) (fun _ => ?_) (fun _ => ?_)
      · exact J82 () trivial
      refine g_iload (pc := 58) X (i := 4) (q := 4) (x := s0_31) rfl (dl_at t_X7_see 33 rfl) ?_
      refine g_bipush (pc := 60) X (n := 9) rfl (dl_at t_X7_see 34 rfl) ?_
      refine g_icmpeq (pc := 62) X rs0_31 (r32_c rfl) (off := 20) (tgt := 82) rfl (dl_at t_X7_see 35 rfl) (fun _ => ?_) (fun _ => ?_)
      · exact J82 () trivial
      refine g_iload (pc := 65) X (i := 4) (q := 4) (x := s0_31) rfl (dl_at t_X7_see 36 rfl) ?_
      refine g_iconst (pc := 67) X (n := 4) (dl_at t_X7_see 37 rfl) ?_
      refine g_icmpeq (pc := 68) X rs0_31 (r32_c rfl) (off := 14) (tgt := 82) rfl (dl_at t_X7_see 38 rfl) (fun _ => ?_) (fun _ => ?_)
      · exact J82 () trivial
      refine g_iload (pc := 71) X (i := 4) (q := 4) (x := s0_31) rfl (dl_at t_X7_see 39 rfl) ?_
      refine g_bipush (pc := 73) X (n := 10) rfl (dl_at t_X7_see 40 rfl) ?_
      refine g_icmpeq (pc := 75) X rs0_31 (r32_c rfl) (off := 7) (tgt := 82) rfl (dl_at t_X7_see 41 rfl) (fun _ => ?_) (fun _ => ?_)
      · exact J82 () trivial
      refine g_iconst (pc := 78) X (n := 1) (dl_at t_X7_see 42 rfl) ?_
      refine g_goto (pc := 79) X (off := 4) (tgt := 83) rfl (dl_at t_X7_see 43 rfl) ?_
      exact J83 1 (Or.inr rfl)
    intro J51
    refine g_iflt (pc := 39) X r2_9 (off := 12) (tgt := 51) rfl (dl_at t_X7_see 24 rfl) (fun _ => ?_) (fun _ => ?_)
    · refine g_ls (ls2 := [(0, rv D a0), (1, iv a1), (2, iv x2_9), (3, iv v13), (4, iv s0_31)]) [2, 3, 4, 1, 0] rfl ?_
      exact J51 () trivial
    refine g_aload_n (pc := 42) X (j := 0) (i := 0) (q := 2) (x := a0) rfl rfl (dl_at t_X7_see 25 rfl) ?_
    refine r_getr (pc := 43) X fX7_6 hk q789 (dl_at t_X7_see 26 rfl) ?_
    refine g_iload_n (pc := 46) X (j := 2) (i := 2) (q := 4) (x := x2_9) rfl rfl (dl_at t_X7_see 27 rfl) ?_
    refine g_gd fun k47 => ?_
    refine g_zald (pc := 47) X r2_9 k47 (dl_at t_X7_see 28 rfl) fun g47 => ?_
    refine g_ifeq (pc := 48) X (r32_z g47) (off := 34) (tgt := 82) rfl (dl_at t_X7_see 29 rfl) (fun _ => ?_) (fun _ => ?_)
    · refine g_ls (ls2 := [(0, rv D a0), (1, iv a1), (2, iv x2_9), (3, iv v13), (4, iv s0_31)]) [2, 3, 4, 1, 0] rfl ?_
      exact J82 () trivial
    refine g_ls (ls2 := [(0, rv D a0), (1, iv a1), (2, iv x2_9), (3, iv v13), (4, iv s0_31)]) [2, 3, 4, 1, 0] rfl ?_
    exact J51 () trivial
  intro J31
  refine g_ifge (pc := 18) X r2_9 (off := 7) (tgt := 25) rfl (dl_at t_X7_see 12 rfl) (fun _ => ?_) (fun _ => ?_)
  · refine g_aload_n (pc := 25) X (j := 0) (i := 0) (q := 3) (x := a0) rfl rfl (dl_at t_X7_see 15 rfl) ?_
    refine r_getr (pc := 26) X fX7_8 hk q796 (dl_at t_X7_see 16 rfl) ?_
    refine g_iload_n (pc := 29) X (j := 2) (i := 2) (q := 1) (x := x2_9) rfl rfl (dl_at t_X7_see 17 rfl) ?_
    refine g_gd fun k30 => ?_
    refine g_iald (pc := 30) X r2_9 k30 (dl_at t_X7_see 18 rfl) fun g30 => ?_
    refine g_ls (ls2 := [(0, rv D a0), (1, iv a1), (2, iv x2_9), (3, iv v13)]) [3, 2, 1, 0] rfl ?_
    exact J31 (h (h a0 8) x2_9) g30
  refine g_iconst (pc := 21) X (n := 1) (dl_at t_X7_see 13 rfl) ?_
  refine g_goto (pc := 22) X (off := 9) (tgt := 31) rfl (dl_at t_X7_see 14 rfl) ?_
  refine g_ls (ls2 := [(0, rv D a0), (1, iv a1), (2, iv x2_9), (3, iv v13)]) [3, 2, 1, 0] rfl ?_
  exact J31 1 (r32_c rfl)
