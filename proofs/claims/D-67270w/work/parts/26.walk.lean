set_option maxRecDepth 100000
def k_X18_set : List (Nat × Instr × Nat) := [(0, .iload_n 1, 1), (1, .iconst 1, 1), (2, .bipush 9, 2), (4, .invokestatic 162, 3), (7, .ifCond .ne 9, 3), (10, .aload_n 0, 1), (11, .iconst 1, 1), (12, .invokevirtual 107, 3), (15, .ireturn, 1), (16, .aload_n 0, 1), (17, .getfield 50, 3), (20, .getfield 154, 3), (23, .ifCond .ne 9, 3), (26, .aload_n 0, 1), (27, .iconst 2, 1), (28, .invokevirtual 107, 3), (31, .ireturn, 1), (32, .aload_n 0, 1), (33, .getfield 74, 3), (36, .aload_n 0, 1), (37, .getfield 50, 3), (40, .aload_n 0, 1), (41, .getfield 40, 3), (44, .aload_n 0, 1), (45, .getfield 20, 3), (48, .aload_n 0, 1), (49, .getfield 30, 3), (52, .iload_n 1, 1), (53, .invokevirtual 166, 3), (56, .istore_n 2, 1), (57, .goto 17, 3), (60, .astore_n 3, 1), (61, .aload_n 0, 1), (62, .iconst 3, 1), (63, .invokevirtual 107, 3), (66, .ireturn, 1), (67, .astore_n 3, 1), (68, .aload_n 0, 1), (69, .iconst 4, 1), (70, .invokevirtual 107, 3), (73, .ireturn, 1), (74, .aload_n 0, 1), (75, .getfield 74, 3), (78, .aload_n 0, 1), (79, .getfield 70, 3), (82, .aload_n 0, 1), (83, .getfield 174, 3), (86, .invokevirtual 177, 3), (89, .aload_n 0, 1), (90, .getfield 70, 3), (93, .astore_n 3, 1), (94, .aload_n 0, 1), (95, .aload_n 0, 1), (96, .getfield 74, 3), (99, .putfield 70, 3), (102, .aload_n 0, 1), (103, .aload_n 3, 1), (104, .putfield 74, 3), (107, .aload_n 0, 1), (108, .iconst 1, 1), (109, .putfield 174, 3), (112, .aload_n 0, 1), (113, .iconst 0, 1), (114, .putfield 87, 3), (117, .iload_n 2, 1), (118, .ireturn, 1)]
theorem t_X18_set : ∀ q ∈ k_X18_set, decode cX18_set q.1 = .ok q.2 := dl_all (by decide +kernel)
noncomputable def m_X18_set (a0 a1 : Int) (h : Hp) : Option (Int × Hp) :=
  (m_X18_in a1 1 9).bind fun v4 =>
  if v4 ≠ 0 then (gd (h (h a0 10) (-2) = 384) (if (h (h a0 10) 5) ≠ 0 then (gd (h (h a0 16) (-2) = 416) (bT (m_X25_make (h a0 16) (h a0 10) (h a0 8) (h a0 4) (h a0 6) a1 h) (fun v53 h53_1 =>
  gd (h53_1 (h53_1 a0 16) (-2) = 416) ((m_X25_compare (h53_1 a0 16) (h53_1 a0 15) (h53_1 a0 17) h53_1).bind fun h86 =>
  lt_ (h86 a0 15) fun x3_93 =>
  pt h86 a0 15 (h86 a0 16) fun h99 =>
  pt h99 a0 16 x3_93 fun h104 =>
  pt h104 a0 17 1 fun h109 =>
  pt h109 a0 0 0 fun h114 =>
  some (v53, h114))) (fun a53 h53 => if h53 a53 (-2) = 464 then (bW (m_X18_refuse a0 3 h53) fun v63 h63 =>
  some (v63, h63))
  else (if h53 a53 (-2) = 544 then (bW (m_X18_refuse a0 4 h53) fun v70 h70 =>
  some (v70, h70))
  else (none)))))
  else (bW (m_X18_refuse a0 2 h) fun v28 h28 =>
  some (v28, h28))))
  else (bW (m_X18_refuse a0 1 h) fun v12 h12 =>
  some (v12, h12))
theorem s_X18_set {l : Launch} [NoTr l] {D : SD} {a0 a1 : Int} {h : Hp} (hk : h a0 (-2) = 304) (r1 : r32 a1) {r : Int × Hp} (hm : m_X18_set a0 a1 h = some r) : Sim l D yX18_set (Cond.codeWith yX18_set cX18_set 4 (Option.some Jvm.ClassFile.FieldType.int) [((32 : Nat), (57 : Nat), (60 : Nat), (170 : Nat)), ((32 : Nat), (57 : Nat), (67 : Nat), (172 : Nat))]) 17 659 [rv D a0, iv a1] h 1 ((0, r.1), r.2) := by
  refine Sim.of (fin := fun (v : Int × Hp) => ((0, v.1), v.2)) (lsE := [(0, rv D a0), (1, iv a1)]) hm rfl cwS_with (la_r (la_i la_n)) (ll_r (ll_i ll_n)) ?_
  intro p e s m below meth c X hcw hmm hcc hnm hname
  have htb := tabW hcw hnm hmm hcc
  unfold m_X18_set
  refine g_iload_n (pc := 0) X (j := 1) (i := 1) (q := 1) (x := a1) rfl rfl (dl_at t_X18_set 0 rfl) ?_
  refine g_iconst (pc := 1) X (n := 1) (dl_at t_X18_set 1 rfl) ?_
  refine g_bipush (pc := 2) X (n := 9) rfl (dl_at t_X18_set 2 rfl) ?_
  refine r_callRz (pc := 4) X (fun _ hv => s_X18_in r1 (r32_c rfl) (r32_c rfl) hv) cw_code q4660 q372 (in_Sc X (As := [iv a1, iv 1, iv 9]) (Or.inl q4658) q4659 q372 q4660 ⟨by decide, by decide⟩ rfl (dl_at t_X18_set 3 rfl)) (dl_at t_X18_set 3 rfl) (cat24 (st := []) (Nat.le_of_ble_eq_true rfl)) (Nat.le_of_ble_eq_true rfl) (Nat.le_of_ble_eq_true rfl) fun v4 g4 => ?_
  refine g_ifne (pc := 7) X (r32_z g4) (off := 9) (tgt := 16) rfl (dl_at t_X18_set 4 rfl) (fun _ => ?_) (fun _ => ?_)
  · refine g_aload_n (pc := 16) X (j := 0) (i := 0) (q := 0) (x := a0) rfl rfl (dl_at t_X18_set 9 rfl) ?_
    refine r_getr (pc := 17) X fX18_10 hk q4246 (dl_at t_X18_set 10 rfl) ?_
    refine g_gd fun k20 => ?_
    refine r_getz (pc := 20) X fX23_5 k20 q3532 (dl_at t_X18_set 11 rfl) fun g20 => ?_
    refine g_ifne (pc := 23) X (r32_z g20) (off := 9) (tgt := 32) rfl (dl_at t_X18_set 12 rfl) (fun _ => ?_) (fun _ => ?_)
    · refine g_aload_n (pc := 32) X (j := 0) (i := 0) (q := 0) (x := a0) rfl rfl (dl_at t_X18_set 17 rfl) ?_
      refine r_getr (pc := 33) X fX18_16 hk q4252 (dl_at t_X18_set 18 rfl) ?_
      refine g_aload_n (pc := 36) X (j := 0) (i := 0) (q := 0) (x := a0) rfl rfl (dl_at t_X18_set 19 rfl) ?_
      refine r_getr (pc := 37) X fX18_10 hk q4246 (dl_at t_X18_set 20 rfl) ?_
      refine g_aload_n (pc := 40) X (j := 0) (i := 0) (q := 0) (x := a0) rfl rfl (dl_at t_X18_set 21 rfl) ?_
      refine r_getr (pc := 41) X fX18_8 hk q4244 (dl_at t_X18_set 22 rfl) ?_
      refine g_aload_n (pc := 44) X (j := 0) (i := 0) (q := 0) (x := a0) rfl rfl (dl_at t_X18_set 23 rfl) ?_
      refine r_getr (pc := 45) X fX18_4 hk q4240 (dl_at t_X18_set 24 rfl) ?_
      refine g_aload_n (pc := 48) X (j := 0) (i := 0) (q := 0) (x := a0) rfl rfl (dl_at t_X18_set 25 rfl) ?_
      refine r_getr (pc := 49) X fX18_6 hk q4242 (dl_at t_X18_set 26 rfl) ?_
      refine g_iload_n (pc := 52) X (j := 1) (i := 1) (q := 1) (x := a1) rfl rfl (dl_at t_X18_set 27 rfl) ?_
      refine g_gd fun k53 => ?_
      refine r_callTi (pc := 53) X (fun _ hv => s_X25_make k53 r1 hv) cw_code q4664 q379 (in_Vk X (As := [rv D (h a0 10), rv D (h a0 8), rv D (h a0 4), rv D (h a0 6), iv a1]) kX25 k53 (Or.inl q4661) q4662 q4663 cw_code q4664 ⟨by decide, by decide⟩ rfl (dl_at t_X18_set 28 rfl)) (dl_at t_X18_set 28 rfl) (cat24 (st := []) (Nat.le_of_ble_eq_true rfl)) (Nat.le_of_ble_eq_true rfl) (Nat.le_of_ble_eq_true rfl) (fun v53 h53_1 g53 E53_1 => ?_) (fun a53 h53 p53 E53 => ?_)
      · refine g_istore_n (pc := 56) X (j := 2) (i := 2) (x := v53) (rest := [(0, rv D a0)]) rfl (Nat.le_of_ble_eq_true rfl) [0] rfl rfl (dl_at t_X18_set 29 rfl) ?_
        refine g_goto (pc := 57) X (off := 17) (tgt := 74) rfl (dl_at t_X18_set 30 rfl) ?_
        refine g_aload_n (pc := 74) X (j := 0) (i := 0) (q := 1) (x := a0) rfl rfl (dl_at t_X18_set 41 rfl) ?_
        have k75 := kx E53_1 (by decide) hk
        refine r_getr (pc := 75) X fX18_16 k75 q4252 (dl_at t_X18_set 42 rfl) ?_
        refine g_aload_n (pc := 78) X (j := 0) (i := 0) (q := 1) (x := a0) rfl rfl (dl_at t_X18_set 43 rfl) ?_
        refine r_getr (pc := 79) X fX18_15 k75 q4251 (dl_at t_X18_set 44 rfl) ?_
        refine g_aload_n (pc := 82) X (j := 0) (i := 0) (q := 1) (x := a0) rfl rfl (dl_at t_X18_set 45 rfl) ?_
        refine r_getz (pc := 83) X fX18_17 k75 q4253 (dl_at t_X18_set 46 rfl) fun g83 => ?_
        refine g_gd fun k86 => ?_
        refine r_callV (pc := 86) X (fun _ hv => s_X25_compare k86 g83 hv) cw_code q5137 q379 (in_Vk X (As := [rv D (h53_1 a0 15), iv (h53_1 a0 17)]) kX25 k86 (Or.inl q5134) q5135 q5136 cw_code q5137 ⟨by decide, by decide⟩ rfl (dl_at t_X18_set 47 rfl)) (dl_at t_X18_set 47 rfl) (cat24 (st := []) (Nat.le_of_ble_eq_true rfl)) (Nat.le_of_ble_eq_true rfl) (Nat.le_of_ble_eq_true rfl) fun h86 E86 => ?_
        refine g_aload_n (pc := 89) X (j := 0) (i := 0) (q := 1) (x := a0) rfl rfl (dl_at t_X18_set 48 rfl) ?_
        have k90 := kx E86 (by decide) k75
        refine r_getr (pc := 90) X fX18_15 k90 q4251 (dl_at t_X18_set 49 rfl) ?_
        refine g_ltr fun x3_93 => ?_
        refine g_astore_nN (pc := 93) X (j := 3) (i := 3) (x := x3_93) (b := 2) (w := iv v53) (rest := [(0, rv D a0)]) rfl (Nat.le_of_ble_eq_true rfl) [0, 1] rfl (by decide) rfl rfl (dl_at t_X18_set 50 rfl) ?_
        refine g_aload_n (pc := 94) X (j := 0) (i := 0) (q := 2) (x := a0) rfl rfl (dl_at t_X18_set 51 rfl) ?_
        refine g_aload_n (pc := 95) X (j := 0) (i := 0) (q := 2) (x := a0) rfl rfl (dl_at t_X18_set 52 rfl) ?_
        refine r_getr (pc := 96) X fX18_16 k90 q4252 (dl_at t_X18_set 53 rfl) ?_
        refine r_putr (pc := 99) X fX18_15 k90 q4251 rfl (dl_at t_X18_set 54 rfl)  (fun h99 E99 => ?_)
        refine g_aload_n (pc := 102) X (j := 0) (i := 0) (q := 2) (x := a0) rfl rfl (dl_at t_X18_set 55 rfl) ?_
        refine g_aload_n (pc := 103) X (j := 3) (i := 3) (q := 0) (x := x3_93) rfl rfl (dl_at t_X18_set 56 rfl) ?_
        have k104 := kx E99 (by decide) k90
        refine r_putr (pc := 104) X fX18_16 k104 q4252 rfl (dl_at t_X18_set 57 rfl)  (fun h104 E104 => ?_)
        refine g_aload_n (pc := 107) X (j := 0) (i := 0) (q := 2) (x := a0) rfl rfl (dl_at t_X18_set 58 rfl) ?_
        refine g_iconst (pc := 108) X (n := 1) (dl_at t_X18_set 59 rfl) ?_
        have k109 := kx E104 (by decide) k104
        refine r_putz (pc := 109) X fX18_17 k109 q4253 rfl (dl_at t_X18_set 60 rfl) (Or.inr rfl) (fun h109 E109 => ?_)
        refine g_aload_n (pc := 112) X (j := 0) (i := 0) (q := 2) (x := a0) rfl rfl (dl_at t_X18_set 61 rfl) ?_
        refine g_iconst (pc := 113) X (n := 0) (dl_at t_X18_set 62 rfl) ?_
        have k114 := kx E109 (by decide) k109
        refine r_puti (pc := 114) X fX18_0 k114 q4236 rfl (dl_at t_X18_set 63 rfl) (r32_c rfl) (fun h114 E114 => ?_)
        refine g_iload_n (pc := 117) X (j := 2) (i := 2) (q := 1) (x := v53) rfl rfl (dl_at t_X18_set 64 rfl) ?_
        exact g_iret (pc := 118) X g53 rfl rfl (dl_at t_X18_set 65 rfl)
      refine gt_case (fun k53_1 => ?_) (fun _ => ?_)
      · refine gt_catch (pc := 53) X kX29 k53_1 [((32, 57, 60, 170), "ScholarsPressModel$Beyond", true), ((32, 57, 67, 172), "java/lang/ArithmeticException", false)] (hp := 60) rfl (by decide +kernel) (List.forall_mem_cons.mpr ⟨⟨q4656, by decide⟩, (List.forall_mem_cons.mpr ⟨⟨q4657, by decide⟩, fun _ h => absurd h List.not_mem_nil⟩)⟩) htb ?_
        refine g_astore_n (pc := 60) X (j := 3) (i := 3) (x := a53) (rest := [(0, rv D a0)]) rfl (Nat.le_of_ble_eq_true rfl) [0] rfl rfl (dl_at t_X18_set 31 rfl) ?_
        refine g_aload_n (pc := 61) X (j := 0) (i := 0) (q := 1) (x := a0) rfl rfl (dl_at t_X18_set 32 rfl) ?_
        refine g_iconst (pc := 62) X (n := 3) (dl_at t_X18_set 33 rfl) ?_
        have k63 := kx E53 (by decide) hk
        refine r_callWi (pc := 63) X (fun _ hv => s_X18_refuse k63 (r32_c rfl) hv) cw_code q4317 q372 (in_Vk X (As := [iv 3]) kX18 k63 (Or.inl q4314) q4316 qs237 cw_code q4317 ⟨by decide, by decide⟩ rfl (dl_at t_X18_set 34 rfl)) (dl_at t_X18_set 34 rfl) (cat24 (st := []) (Nat.le_of_ble_eq_true rfl)) (Nat.le_of_ble_eq_true rfl) (Nat.le_of_ble_eq_true rfl) fun v63 h63 g63 E63 => ?_
        exact g_iret (pc := 66) X g63 rfl rfl (dl_at t_X18_set 35 rfl)
      refine gt_case (fun k53_2 => ?_) (fun _ => ?_)
      · refine gt_catch (pc := 53) X kJ12 k53_2 [((32, 57, 60, 170), "ScholarsPressModel$Beyond", false), ((32, 57, 67, 172), "java/lang/ArithmeticException", true)] (hp := 67) rfl (by decide +kernel) (List.forall_mem_cons.mpr ⟨⟨q4656, by decide⟩, (List.forall_mem_cons.mpr ⟨⟨q4657, by decide⟩, fun _ h => absurd h List.not_mem_nil⟩)⟩) htb ?_
        refine g_astore_n (pc := 67) X (j := 3) (i := 3) (x := a53) (rest := [(0, rv D a0)]) rfl (Nat.le_of_ble_eq_true rfl) [0] rfl rfl (dl_at t_X18_set 36 rfl) ?_
        refine g_aload_n (pc := 68) X (j := 0) (i := 0) (q := 1) (x := a0) rfl rfl (dl_at t_X18_set 37 rfl) ?_
        refine g_iconst (pc := 69) X (n := 4) (dl_at t_X18_set 38 rfl) ?_
        have k70 := kx E53 (by decide) hk
        refine r_callWi (pc := 70) X (fun _ hv => s_X18_refuse k70 (r32_c rfl) hv) cw_code q4317 q372 (in_Vk X (As := [iv 4]) kX18 k70 (Or.inl q4314) q4316 qs237 cw_code q4317 ⟨by decide, by decide⟩ rfl (dl_at t_X18_set 39 rfl)) (dl_at t_X18_set 39 rfl) (cat24 (st := []) (Nat.le_of_ble_eq_true rfl)) (Nat.le_of_ble_eq_true rfl) (Nat.le_of_ble_eq_true rfl) fun v70 h70 g70 E70 => ?_
        exact g_iret (pc := 73) X g70 rfl rfl (dl_at t_X18_set 40 rfl)
      exact gt_none
    refine g_aload_n (pc := 26) X (j := 0) (i := 0) (q := 0) (x := a0) rfl rfl (dl_at t_X18_set 13 rfl) ?_
    refine g_iconst (pc := 27) X (n := 2) (dl_at t_X18_set 14 rfl) ?_
    refine r_callWi (pc := 28) X (fun _ hv => s_X18_refuse hk (r32_c rfl) hv) cw_code q4317 q372 (in_Vk X (As := [iv 2]) kX18 hk (Or.inl q4314) q4316 qs237 cw_code q4317 ⟨by decide, by decide⟩ rfl (dl_at t_X18_set 15 rfl)) (dl_at t_X18_set 15 rfl) (cat24 (st := []) (Nat.le_of_ble_eq_true rfl)) (Nat.le_of_ble_eq_true rfl) (Nat.le_of_ble_eq_true rfl) fun v28 h28 g28 E28 => ?_
    exact g_iret (pc := 31) X g28 rfl rfl (dl_at t_X18_set 16 rfl)
  refine g_aload_n (pc := 10) X (j := 0) (i := 0) (q := 0) (x := a0) rfl rfl (dl_at t_X18_set 5 rfl) ?_
  refine g_iconst (pc := 11) X (n := 1) (dl_at t_X18_set 6 rfl) ?_
  refine r_callWi (pc := 12) X (fun _ hv => s_X18_refuse hk (r32_c rfl) hv) cw_code q4317 q372 (in_Vk X (As := [iv 1]) kX18 hk (Or.inl q4314) q4316 qs237 cw_code q4317 ⟨by decide, by decide⟩ rfl (dl_at t_X18_set 7 rfl)) (dl_at t_X18_set 7 rfl) (cat24 (st := []) (Nat.le_of_ble_eq_true rfl)) (Nat.le_of_ble_eq_true rfl) (Nat.le_of_ble_eq_true rfl) fun v12 h12 g12 E12 => ?_
  exact g_iret (pc := 15) X g12 rfl rfl (dl_at t_X18_set 8 rfl)
def k_X18_element : List (Nat × Instr × Nat) := [(0, .iload_n 1, 1), (1, .ifCond .lt 45, 3), (4, .aload_n 0, 1), (5, .getfield 50, 3), (8, .getfield 154, 3), (11, .ifCond .eq 14, 3), (14, .iload_n 1, 1), (15, .aload_n 0, 1), (16, .getfield 50, 3), (19, .getfield 147, 3), (22, .if_icmp .ge 24, 3), (25, .iload_n 2, 1), (26, .iconst 0, 1), (27, .bipush 7, 2), (29, .invokestatic 162, 3), (32, .ifCond .ne 20, 3), (35, .iload_n 2, 1), (36, .bipush 20, 2), (38, .bipush 41, 2), (40, .invokestatic 162, 3), (43, .ifCond .ne 9, 3), (46, .aload_n 0, 1), (47, .iconst 1, 1), (48, .invokevirtual 107, 3), (51, .ireturn, 1), (52, .aload_n 0, 1), (53, .getfield 50, 3), (56, .getfield 154, 3), (59, .ifCond .ne 9, 3), (62, .aload_n 0, 1), (63, .iconst 2, 1), (64, .invokevirtual 107, 3), (67, .ireturn, 1), (68, .aload_n 0, 1), (69, .iconst 0, 1), (70, .putfield 87, 3), (73, .aload_n 0, 1), (74, .getfield 140, 3), (77, .ifCond .ne 23, 3), (80, .aload_n 0, 1), (81, .getfield 63, 3), (84, .aload_n 0, 1), (85, .getfield 50, 3), (88, .aload_n 0, 1), (89, .getfield 40, 3), (92, .invokevirtual 181, 3), (95, .aload_n 0, 1), (96, .iconst 1, 1), (97, .putfield 140, 3), (100, .iload_n 2, 1), (148, .aload_n 0, 1), (149, .getfield 50, 3), (152, .getfield 184, 3), (155, .iload_n 1, 1), (156, .iaload, 1), (157, .ireturn, 1), (158, .aload_n 0, 1), (159, .getfield 50, 3), (162, .getfield 187, 3), (165, .iload_n 1, 1), (166, .iaload, 1), (167, .ireturn, 1), (168, .aload_n 0, 1), (169, .getfield 50, 3), (172, .getfield 190, 3), (175, .iload_n 1, 1), (176, .iaload, 1), (177, .ireturn, 1), (178, .aload_n 0, 1), (179, .getfield 50, 3), (182, .getfield 193, 3), (185, .iload_n 1, 1), (186, .iaload, 1), (187, .ireturn, 1), (188, .aload_n 0, 1), (189, .getfield 63, 3), (192, .getfield 196, 3), (195, .iload_n 1, 1), (196, .baload, 1), (197, .ifCond .eq 7, 3), (200, .iconst 1, 1), (201, .goto 4, 3), (204, .iconst 0, 1), (205, .ireturn, 1), (206, .aload_n 0, 1), (207, .getfield 63, 3), (210, .getfield 200, 3), (213, .iload_n 1, 1), (214, .iaload, 1), (215, .ireturn, 1), (216, .aload_n 0, 1), (217, .getfield 63, 3), (220, .iload_n 1, 1), (221, .invokevirtual 203, 3), (224, .ireturn, 1), (225, .aload_n 0, 1), (226, .getfield 63, 3), (229, .getfield 206, 3), (232, .iload_n 1, 1), (233, .baload, 1), (234, .ifCond .eq 7, 3), (237, .iconst 1, 1), (238, .goto 4, 3), (241, .iconst 0, 1), (242, .ireturn, 1), (243, .aload_n 0, 1), (244, .getfield 63, 3), (247, .iload_n 1, 1), (248, .iload_n 2, 1), (249, .bipush 20, 2), (251, .isub, 1), (252, .invokevirtual 209, 3), (255, .ireturn, 1)]
theorem t_X18_element : ∀ q ∈ k_X18_element, decode cX18_element q.1 = .ok q.2 := dl_all (by decide +kernel)
theorem dS_X18_element_101 : decode cX18_element 101 = .ok (.tableswitch 142 0 7 #[47, 57, 67, 77, 87, 105, 115, 124], 47) := by decide +kernel
noncomputable def m_X18_element_j100 (a0 a1 a2 : Int) (h_100 : Hp) : Option (Int × Hp) :=
  if a2 = 0 then (gd (h_100 (h_100 a0 10) (-2) = 384) (gd (h_100 (h_100 (h_100 a0 10) 11) (-2) % 16 = 1 ∧ (0 : Int) ≤ a1 ∧ a1 < h_100 (h_100 (h_100 a0 10) 11) (-1)) (some ((h_100 (h_100 (h_100 a0 10) 11) a1), h_100))))
  else (if a2 = 1 then (gd (h_100 (h_100 a0 10) (-2) = 384) (gd (h_100 (h_100 (h_100 a0 10) 9) (-2) % 16 = 1 ∧ (0 : Int) ≤ a1 ∧ a1 < h_100 (h_100 (h_100 a0 10) 9) (-1)) (some ((h_100 (h_100 (h_100 a0 10) 9) a1), h_100))))
  else (if a2 = 2 then (gd (h_100 (h_100 a0 10) (-2) = 384) (gd (h_100 (h_100 (h_100 a0 10) 10) (-2) % 16 = 1 ∧ (0 : Int) ≤ a1 ∧ a1 < h_100 (h_100 (h_100 a0 10) 10) (-1)) (some ((h_100 (h_100 (h_100 a0 10) 10) a1), h_100))))
  else (if a2 = 3 then (gd (h_100 (h_100 a0 10) (-2) = 384) (gd (h_100 (h_100 (h_100 a0 10) 14) (-2) % 16 = 1 ∧ (0 : Int) ≤ a1 ∧ a1 < h_100 (h_100 (h_100 a0 10) 14) (-1)) (some ((h_100 (h_100 (h_100 a0 10) 14) a1), h_100))))
  else (if a2 = 4 then (gd (h_100 (h_100 a0 13) (-2) = 400) (gd (h_100 (h_100 (h_100 a0 13) 9) (-2) % 16 = 3 ∧ (0 : Int) ≤ a1 ∧ a1 < h_100 (h_100 (h_100 a0 13) 9) (-1)) (if (h_100 (h_100 (h_100 a0 13) 9) a1) = 0 then (some (0, h_100))
  else (some (1, h_100)))))
  else (if a2 = 5 then (gd (h_100 (h_100 a0 13) (-2) = 400) (gd (h_100 (h_100 (h_100 a0 13) 6) (-2) % 16 = 1 ∧ (0 : Int) ≤ a1 ∧ a1 < h_100 (h_100 (h_100 a0 13) 6) (-1)) (some ((h_100 (h_100 (h_100 a0 13) 6) a1), h_100))))
  else (if a2 = 6 then (gd (h_100 (h_100 a0 13) (-2) = 400) (bW (m_X24_title (h_100 a0 13) a1 h_100) fun v221 h221 =>
  some (v221, h221)))
  else (if a2 = 7 then (gd (h_100 (h_100 a0 13) (-2) = 400) (gd (h_100 (h_100 (h_100 a0 13) 10) (-2) % 16 = 3 ∧ (0 : Int) ≤ a1 ∧ a1 < h_100 (h_100 (h_100 a0 13) 10) (-1)) (if (h_100 (h_100 (h_100 a0 13) 10) a1) = 0 then (some (0, h_100))
  else (some (1, h_100)))))
  else (gd (h_100 (h_100 a0 13) (-2) = 400) ((m_X24_of (h_100 a0 13) a1 (w32 (a2 - 20)) h_100).bind fun v252 =>
  some (v252, h_100))))))))))
noncomputable def m_X18_element_j52 (a0 a1 a2 : Int) (h : Hp) : Option (Int × Hp) :=
  if (h (h a0 10) 5) ≠ 0 then (pt h a0 0 0 fun h70 =>
  if (h70 a0 14) ≠ 0 then (m_X18_element_j100 a0 a1 a2 h70)
  else (gd (h70 (h70 a0 13) (-2) = 400) ((m_X24_make (h70 a0 13) (h70 a0 10) (h70 a0 8) h70).bind fun h92 =>
  pt h92 a0 14 1 fun h97 =>
  m_X18_element_j100 a0 a1 a2 h97)))
  else (bW (m_X18_refuse a0 2 h) fun v64 h64 =>
  some (v64, h64))
noncomputable def m_X18_element_j25 (a0 a1 a2 : Int) (h : Hp) : Option (Int × Hp) :=
  (m_X18_in a2 0 7).bind fun v29 =>
  if v29 ≠ 0 then (m_X18_element_j52 a0 a1 a2 h)
  else ((m_X18_in a2 20 41).bind fun v40 =>
  if v40 ≠ 0 then (m_X18_element_j52 a0 a1 a2 h)
  else (bW (m_X18_refuse a0 1 h) fun v48_1 h48_1 =>
  some (v48_1, h48_1)))
noncomputable def m_X18_element (a0 a1 a2 : Int) (h : Hp) : Option (Int × Hp) :=
  if a1 < 0 then (bW (m_X18_refuse a0 1 h) fun v48 h48 =>
  some (v48, h48))
  else (gd (h (h a0 10) (-2) = 384) (if (h (h a0 10) 5) = 0 then (m_X18_element_j25 a0 a1 a2 h)
  else (if (h (h a0 10) 3) ≤ a1 then (bW (m_X18_refuse a0 1 h) fun v48_2 h48_2 =>
  some (v48_2, h48_2))
  else (m_X18_element_j25 a0 a1 a2 h))))
theorem s_X18_element {l : Launch} [NoTr l] {D : SD} {a0 a1 a2 : Int} {h : Hp} (hk : h a0 (-2) = 304) (r1 : r32 a1) (r2 : r32 a2) {r : Int × Hp} (hm : m_X18_element a0 a1 a2 h = some r) : Sim l D yX18_element (Cond.code yX18_element cX18_element 3 (Option.some Jvm.ClassFile.FieldType.int)) 8 367 [rv D a0, iv a1, iv a2] h 1 ((0, r.1), r.2) := by
  refine Sim.of (fin := fun (v : Int × Hp) => ((0, v.1), v.2)) (lsE := [(0, rv D a0), (1, iv a1), (2, iv a2)]) hm rfl cwS_code (la_r (la_i (la_i la_n))) (ll_r (ll_i (ll_i ll_n))) ?_
  intro p e s m below meth c X hcw hmm hcc hnm hname
  unfold m_X18_element
  refine g_iload_n (pc := 0) X (j := 1) (i := 1) (q := 1) (x := a1) rfl rfl (dl_at t_X18_element 0 rfl) ?_
  refine g_iflt (pc := 1) X r1 (off := 45) (tgt := 46) rfl (dl_at t_X18_element 1 rfl) (fun _ => ?_) (fun _ => ?_)
  · refine g_aload_n (pc := 46) X (j := 0) (i := 0) (q := 0) (x := a0) rfl rfl (dl_at t_X18_element 21 rfl) ?_
    refine g_iconst (pc := 47) X (n := 1) (dl_at t_X18_element 22 rfl) ?_
    refine r_callWi (pc := 48) X (fun _ hv => s_X18_refuse hk (r32_c rfl) hv) cw_code q4317 q372 (in_Vk X (As := [iv 1]) kX18 hk (Or.inl q4314) q4316 qs237 cw_code q4317 ⟨by decide, by decide⟩ rfl (dl_at t_X18_element 23 rfl)) (dl_at t_X18_element 23 rfl) (cat24 (st := []) (Nat.le_of_ble_eq_true rfl)) (Nat.le_of_ble_eq_true rfl) (Nat.le_of_ble_eq_true rfl) fun v48 h48 g48 E48 => ?_
    exact g_iret (pc := 51) X g48 rfl rfl (dl_at t_X18_element 24 rfl)
  refine g_aload_n (pc := 4) X (j := 0) (i := 0) (q := 0) (x := a0) rfl rfl (dl_at t_X18_element 2 rfl) ?_
  refine r_getr (pc := 5) X fX18_10 hk q4246 (dl_at t_X18_element 3 rfl) ?_
  refine g_gd fun k8 => ?_
  refine r_getz (pc := 8) X fX23_5 k8 q3532 (dl_at t_X18_element 4 rfl) fun g8 => ?_
  refine g_join (γ := Unit) (fun q => True) 25 (fun q => [(0, rv D a0), (1, iv a1), (2, iv a2)]) (fun q => []) (fun q => h) (fun q => m_X18_element_j25 a0 a1 a2 h) ?_ ?_
  · rintro _ _
    try dsimp only
    unfold m_X18_element_j25
    refine g_iload_n (pc := 25) X (j := 2) (i := 2) (q := 2) (x := a2) rfl rfl (dl_at t_X18_element 11 rfl) ?_
    refine g_iconst (pc := 26) X (n := 0) (dl_at t_X18_element 12 rfl) ?_
    refine g_bipush (pc := 27) X (n := 7) rfl (dl_at t_X18_element 13 rfl) ?_
    refine r_callRz (pc := 29) X (fun _ hv => s_X18_in r2 (r32_c rfl) (r32_c rfl) hv) cw_code q4660 q372 (in_Sc X (As := [iv a2, iv 0, iv 7]) (Or.inl q4658) q4659 q372 q4660 ⟨by decide, by decide⟩ rfl (dl_at t_X18_element 14 rfl)) (dl_at t_X18_element 14 rfl) (cat24 (st := []) (Nat.le_of_ble_eq_true rfl)) (Nat.le_of_ble_eq_true rfl) (Nat.le_of_ble_eq_true rfl) fun v29 g29 => ?_
    refine g_join (γ := Unit) (fun q => True) 52 (fun q => [(0, rv D a0), (1, iv a1), (2, iv a2)]) (fun q => []) (fun q => h) (fun q => m_X18_element_j52 a0 a1 a2 h) ?_ ?_
    · rintro _ _
      try dsimp only
      unfold m_X18_element_j52
      refine g_aload_n (pc := 52) X (j := 0) (i := 0) (q := 0) (x := a0) rfl rfl (dl_at t_X18_element 25 rfl) ?_
      refine r_getr (pc := 53) X fX18_10 hk q4246 (dl_at t_X18_element 26 rfl) ?_
      refine r_getz (pc := 56) X fX23_5 k8 q3532 (dl_at t_X18_element 27 rfl) fun g56 => ?_
      refine g_ifne (pc := 59) X (r32_z g56) (off := 9) (tgt := 68) rfl (dl_at t_X18_element 28 rfl) (fun _ => ?_) (fun _ => ?_)
      · refine g_aload_n (pc := 68) X (j := 0) (i := 0) (q := 0) (x := a0) rfl rfl (dl_at t_X18_element 33 rfl) ?_
        refine g_iconst (pc := 69) X (n := 0) (dl_at t_X18_element 34 rfl) ?_
        refine r_puti (pc := 70) X fX18_0 hk q4236 rfl (dl_at t_X18_element 35 rfl) (r32_c rfl) (fun h70 E70 => ?_)
        refine g_aload_n (pc := 73) X (j := 0) (i := 0) (q := 0) (x := a0) rfl rfl (dl_at t_X18_element 36 rfl) ?_
        have k74 := kx E70 (by decide) hk
        refine r_getz (pc := 74) X fX18_14 k74 q4250 (dl_at t_X18_element 37 rfl) fun g74 => ?_
        refine g_join (γ := Hp) (fun q => Ext h70 q) 100 (fun q => [(0, rv D a0), (1, iv a1), (2, iv a2)]) (fun q => []) (fun q => q) (fun q => m_X18_element_j100 a0 a1 a2 q) ?_ ?_
        · rintro h_100 E_100
          try dsimp only
          unfold m_X18_element_j100
          refine g_iload_n (pc := 100) X (j := 2) (i := 2) (q := 2) (x := a2) rfl rfl (dl_at t_X18_element 49 rfl) ?_
          refine g_case (fun w101 => ?_) (fun nw101 => ?_)
          · refine g_tabIn (pc := 101) X (off := 47) (tgt := 148) r2 w101 (by decide) (by decide) rfl rfl dS_X18_element_101 ?_
            refine g_aload_n (pc := 148) X (j := 0) (i := 0) (q := 0) (x := a0) rfl rfl (dl_at t_X18_element 50 rfl) ?_
            have k149 := kx E_100 (by decide) k74
            refine r_getr (pc := 149) X fX18_10 k149 q4246 (dl_at t_X18_element 51 rfl) ?_
            refine g_gd fun k152 => ?_
            refine r_getr (pc := 152) X fX23_11 k152 q3549 (dl_at t_X18_element 52 rfl) ?_
            refine g_iload_n (pc := 155) X (j := 1) (i := 1) (q := 1) (x := a1) rfl rfl (dl_at t_X18_element 53 rfl) ?_
            refine g_gd fun k156 => ?_
            refine g_iald (pc := 156) X r1 k156 (dl_at t_X18_element 54 rfl) fun g156 => ?_
            exact g_iret (pc := 157) X g156 rfl rfl (dl_at t_X18_element 55 rfl)
          refine g_case (fun w101_1 => ?_) (fun nw101_1 => ?_)
          · refine g_tabIn (pc := 101) X (off := 57) (tgt := 158) r2 w101_1 (by decide) (by decide) rfl rfl dS_X18_element_101 ?_
            refine g_aload_n (pc := 158) X (j := 0) (i := 0) (q := 0) (x := a0) rfl rfl (dl_at t_X18_element 56 rfl) ?_
            have k159 := kx E_100 (by decide) k74
            refine r_getr (pc := 159) X fX18_10 k159 q4246 (dl_at t_X18_element 57 rfl) ?_
            refine g_gd fun k162 => ?_
            refine r_getr (pc := 162) X fX23_9 k162 q3543 (dl_at t_X18_element 58 rfl) ?_
            refine g_iload_n (pc := 165) X (j := 1) (i := 1) (q := 1) (x := a1) rfl rfl (dl_at t_X18_element 59 rfl) ?_
            refine g_gd fun k166 => ?_
            refine g_iald (pc := 166) X r1 k166 (dl_at t_X18_element 60 rfl) fun g166 => ?_
            exact g_iret (pc := 167) X g166 rfl rfl (dl_at t_X18_element 61 rfl)
          refine g_case (fun w101_2 => ?_) (fun nw101_2 => ?_)
          · refine g_tabIn (pc := 101) X (off := 67) (tgt := 168) r2 w101_2 (by decide) (by decide) rfl rfl dS_X18_element_101 ?_
            refine g_aload_n (pc := 168) X (j := 0) (i := 0) (q := 0) (x := a0) rfl rfl (dl_at t_X18_element 62 rfl) ?_
            have k169 := kx E_100 (by decide) k74
            refine r_getr (pc := 169) X fX18_10 k169 q4246 (dl_at t_X18_element 63 rfl) ?_
            refine g_gd fun k172 => ?_
            refine r_getr (pc := 172) X fX23_10 k172 q3545 (dl_at t_X18_element 64 rfl) ?_
            refine g_iload_n (pc := 175) X (j := 1) (i := 1) (q := 1) (x := a1) rfl rfl (dl_at t_X18_element 65 rfl) ?_
            refine g_gd fun k176 => ?_
            refine g_iald (pc := 176) X r1 k176 (dl_at t_X18_element 66 rfl) fun g176 => ?_
            exact g_iret (pc := 177) X g176 rfl rfl (dl_at t_X18_element 67 rfl)
          refine g_case (fun w101_3 => ?_) (fun nw101_3 => ?_)
          · refine g_tabIn (pc := 101) X (off := 77) (tgt := 178) r2 w101_3 (by decide) (by decide) rfl rfl dS_X18_element_101 ?_
            refine g_aload_n (pc := 178) X (j := 0) (i := 0) (q := 0) (x := a0) rfl rfl (dl_at t_X18_element 68 rfl) ?_
            have k179 := kx E_100 (by decide) k74
            refine r_getr (pc := 179) X fX18_10 k179 q4246 (dl_at t_X18_element 69 rfl) ?_
            refine g_gd fun k182 => ?_
            refine r_getr (pc := 182) X fX23_14 k182 q3555 (dl_at t_X18_element 70 rfl) ?_
            refine g_iload_n (pc := 185) X (j := 1) (i := 1) (q := 1) (x := a1) rfl rfl (dl_at t_X18_element 71 rfl) ?_
            refine g_gd fun k186 => ?_
            refine g_iald (pc := 186) X r1 k186 (dl_at t_X18_element 72 rfl) fun g186 => ?_
            exact g_iret (pc := 187) X g186 rfl rfl (dl_at t_X18_element 73 rfl)
          refine g_case (fun w101_4 => ?_) (fun nw101_4 => ?_)
          · refine g_tabIn (pc := 101) X (off := 87) (tgt := 188) r2 w101_4 (by decide) (by decide) rfl rfl dS_X18_element_101 ?_
            refine g_aload_n (pc := 188) X (j := 0) (i := 0) (q := 0) (x := a0) rfl rfl (dl_at t_X18_element 74 rfl) ?_
            have k189 := kx E_100 (by decide) k74
            refine r_getr (pc := 189) X fX18_13 k189 q4249 (dl_at t_X18_element 75 rfl) ?_
            refine g_gd fun k192 => ?_
            refine r_getr (pc := 192) X fX24_9 k192 q3663 (dl_at t_X18_element 76 rfl) ?_
            refine g_iload_n (pc := 195) X (j := 1) (i := 1) (q := 1) (x := a1) rfl rfl (dl_at t_X18_element 77 rfl) ?_
            refine g_gd fun k196 => ?_
            refine g_zald (pc := 196) X r1 k196 (dl_at t_X18_element 78 rfl) fun g196 => ?_
            refine g_ifeq (pc := 197) X (r32_z g196) (off := 7) (tgt := 204) rfl (dl_at t_X18_element 79 rfl) (fun _ => ?_) (fun _ => ?_)
            · refine g_iconst (pc := 204) X (n := 0) (dl_at t_X18_element 82 rfl) ?_
              exact g_iret (pc := 205) X (r32_c rfl) rfl rfl (dl_at t_X18_element 83 rfl)
            refine g_iconst (pc := 200) X (n := 1) (dl_at t_X18_element 80 rfl) ?_
            refine g_goto (pc := 201) X (off := 4) (tgt := 205) rfl (dl_at t_X18_element 81 rfl) ?_
            exact g_iret (pc := 205) X (r32_c rfl) rfl rfl (dl_at t_X18_element 83 rfl)
          refine g_case (fun w101_5 => ?_) (fun nw101_5 => ?_)
          · refine g_tabIn (pc := 101) X (off := 105) (tgt := 206) r2 w101_5 (by decide) (by decide) rfl rfl dS_X18_element_101 ?_
            refine g_aload_n (pc := 206) X (j := 0) (i := 0) (q := 0) (x := a0) rfl rfl (dl_at t_X18_element 84 rfl) ?_
            have k207 := kx E_100 (by decide) k74
            refine r_getr (pc := 207) X fX18_13 k207 q4249 (dl_at t_X18_element 85 rfl) ?_
            refine g_gd fun k210 => ?_
            refine r_getr (pc := 210) X fX24_6 k210 q3656 (dl_at t_X18_element 86 rfl) ?_
            refine g_iload_n (pc := 213) X (j := 1) (i := 1) (q := 1) (x := a1) rfl rfl (dl_at t_X18_element 87 rfl) ?_
            refine g_gd fun k214 => ?_
            refine g_iald (pc := 214) X r1 k214 (dl_at t_X18_element 88 rfl) fun g214 => ?_
            exact g_iret (pc := 215) X g214 rfl rfl (dl_at t_X18_element 89 rfl)
          refine g_case (fun w101_6 => ?_) (fun nw101_6 => ?_)
          · refine g_tabIn (pc := 101) X (off := 115) (tgt := 216) r2 w101_6 (by decide) (by decide) rfl rfl dS_X18_element_101 ?_
            refine g_aload_n (pc := 216) X (j := 0) (i := 0) (q := 0) (x := a0) rfl rfl (dl_at t_X18_element 90 rfl) ?_
            have k217 := kx E_100 (by decide) k74
            refine r_getr (pc := 217) X fX18_13 k217 q4249 (dl_at t_X18_element 91 rfl) ?_
            refine g_iload_n (pc := 220) X (j := 1) (i := 1) (q := 1) (x := a1) rfl rfl (dl_at t_X18_element 92 rfl) ?_
            refine g_gd fun k221 => ?_
            refine r_callWi (pc := 221) X (fun _ hv => s_X24_title k221 r1 hv) cw_code q4739 q378 (in_Vk X (As := [iv a1]) kX24 k221 (Or.inl q5147) q4737 q4738 cw_code q4739 ⟨by decide, by decide⟩ rfl (dl_at t_X18_element 93 rfl)) (dl_at t_X18_element 93 rfl) (cat24 (st := []) (Nat.le_of_ble_eq_true rfl)) (Nat.le_of_ble_eq_true rfl) (Nat.le_of_ble_eq_true rfl) fun v221 h221 g221 E221 => ?_
            exact g_iret (pc := 224) X g221 rfl rfl (dl_at t_X18_element 94 rfl)
          refine g_case (fun w101_7 => ?_) (fun nw101_7 => ?_)
          · refine g_tabIn (pc := 101) X (off := 124) (tgt := 225) r2 w101_7 (by decide) (by decide) rfl rfl dS_X18_element_101 ?_
            refine g_aload_n (pc := 225) X (j := 0) (i := 0) (q := 0) (x := a0) rfl rfl (dl_at t_X18_element 95 rfl) ?_
            have k226 := kx E_100 (by decide) k74
            refine r_getr (pc := 226) X fX18_13 k226 q4249 (dl_at t_X18_element 96 rfl) ?_
            refine g_gd fun k229 => ?_
            refine r_getr (pc := 229) X fX24_10 k229 q3667 (dl_at t_X18_element 97 rfl) ?_
            refine g_iload_n (pc := 232) X (j := 1) (i := 1) (q := 1) (x := a1) rfl rfl (dl_at t_X18_element 98 rfl) ?_
            refine g_gd fun k233 => ?_
            refine g_zald (pc := 233) X r1 k233 (dl_at t_X18_element 99 rfl) fun g233 => ?_
            refine g_ifeq (pc := 234) X (r32_z g233) (off := 7) (tgt := 241) rfl (dl_at t_X18_element 100 rfl) (fun _ => ?_) (fun _ => ?_)
            · refine g_iconst (pc := 241) X (n := 0) (dl_at t_X18_element 103 rfl) ?_
              exact g_iret (pc := 242) X (r32_c rfl) rfl rfl (dl_at t_X18_element 104 rfl)
            refine g_iconst (pc := 237) X (n := 1) (dl_at t_X18_element 101 rfl) ?_
            refine g_goto (pc := 238) X (off := 4) (tgt := 242) rfl (dl_at t_X18_element 102 rfl) ?_
            exact g_iret (pc := 242) X (r32_c rfl) rfl rfl (dl_at t_X18_element 104 rfl)
          have w101_8 : ¬ a2 ∈ ([0, 1, 2, 3, 4, 5, 6, 7] : List Int) := by simp only [List.mem_cons, List.not_mem_nil, or_false, not_or] at *; simp only [*, not_false_eq_true, and_self]
          refine g_tabElse (pc := 101) X (tgt := 243) [0, 1, 2, 3, 4, 5, 6, 7] r2 w101_8 rfl rfl dS_X18_element_101 ?_
          refine g_aload_n (pc := 243) X (j := 0) (i := 0) (q := 0) (x := a0) rfl rfl (dl_at t_X18_element 105 rfl) ?_
          have k244 := kx E_100 (by decide) k74
          refine r_getr (pc := 244) X fX18_13 k244 q4249 (dl_at t_X18_element 106 rfl) ?_
          refine g_iload_n (pc := 247) X (j := 1) (i := 1) (q := 1) (x := a1) rfl rfl (dl_at t_X18_element 107 rfl) ?_
          refine g_iload_n (pc := 248) X (j := 2) (i := 2) (q := 2) (x := a2) rfl rfl (dl_at t_X18_element 108 rfl) ?_
          refine g_bipush (pc := 249) X (n := 20) rfl (dl_at t_X18_element 109 rfl) ?_
          refine g_isub (pc := 251) X r2 (r32_c rfl) (dl_at t_X18_element 110 rfl) ?_
          refine g_gd fun k252 => ?_
          refine r_callRi (pc := 252) X (fun _ hv => s_X24_of k252 r1 (r32_w _) hv) cw_code q4704 q378 (in_Vk X (As := [iv a1, iv (w32 (a2 - 20))]) kX24 k252 (Or.inl q5148) q4702 q4703 cw_code q4704 ⟨by decide, by decide⟩ rfl (dl_at t_X18_element 111 rfl)) (dl_at t_X18_element 111 rfl) (cat24 (st := []) (Nat.le_of_ble_eq_true rfl)) (Nat.le_of_ble_eq_true rfl) (Nat.le_of_ble_eq_true rfl) fun v252 g252 => ?_
          exact g_iret (pc := 255) X g252 rfl rfl (dl_at t_X18_element 112 rfl)
        intro J100
        refine g_ifne (pc := 77) X (r32_z g74) (off := 23) (tgt := 100) rfl (dl_at t_X18_element 38 rfl) (fun _ => ?_) (fun _ => ?_)
        · exact J100 h70 (Ext.refl _)
        refine g_aload_n (pc := 80) X (j := 0) (i := 0) (q := 0) (x := a0) rfl rfl (dl_at t_X18_element 39 rfl) ?_
        refine r_getr (pc := 81) X fX18_13 k74 q4249 (dl_at t_X18_element 40 rfl) ?_
        refine g_aload_n (pc := 84) X (j := 0) (i := 0) (q := 0) (x := a0) rfl rfl (dl_at t_X18_element 41 rfl) ?_
        refine r_getr (pc := 85) X fX18_10 k74 q4246 (dl_at t_X18_element 42 rfl) ?_
        refine g_aload_n (pc := 88) X (j := 0) (i := 0) (q := 0) (x := a0) rfl rfl (dl_at t_X18_element 43 rfl) ?_
        refine r_getr (pc := 89) X fX18_8 k74 q4244 (dl_at t_X18_element 44 rfl) ?_
        refine g_gd fun k92 => ?_
        refine r_callV (pc := 92) X (fun _ hv => s_X24_make k92 hv) cw_code q4668 q378 (in_Vk X (As := [rv D (h70 a0 10), rv D (h70 a0 8)]) kX24 k92 (Or.inl q5146) q4666 q4667 cw_code q4668 ⟨by decide, by decide⟩ rfl (dl_at t_X18_element 45 rfl)) (dl_at t_X18_element 45 rfl) (cat24 (st := []) (Nat.le_of_ble_eq_true rfl)) (Nat.le_of_ble_eq_true rfl) (Nat.le_of_ble_eq_true rfl) fun h92 E92 => ?_
        refine g_aload_n (pc := 95) X (j := 0) (i := 0) (q := 0) (x := a0) rfl rfl (dl_at t_X18_element 46 rfl) ?_
        refine g_iconst (pc := 96) X (n := 1) (dl_at t_X18_element 47 rfl) ?_
        have k97 := kx E92 (by decide) k74
        refine r_putz (pc := 97) X fX18_14 k97 q4250 rfl (dl_at t_X18_element 48 rfl) (Or.inr rfl) (fun h97 E97 => ?_)
        exact J100 h97 (E92.trans E97)
      refine g_aload_n (pc := 62) X (j := 0) (i := 0) (q := 0) (x := a0) rfl rfl (dl_at t_X18_element 29 rfl) ?_
      refine g_iconst (pc := 63) X (n := 2) (dl_at t_X18_element 30 rfl) ?_
      refine r_callWi (pc := 64) X (fun _ hv => s_X18_refuse hk (r32_c rfl) hv) cw_code q4317 q372 (in_Vk X (As := [iv 2]) kX18 hk (Or.inl q4314) q4316 qs237 cw_code q4317 ⟨by decide, by decide⟩ rfl (dl_at t_X18_element 31 rfl)) (dl_at t_X18_element 31 rfl) (cat24 (st := []) (Nat.le_of_ble_eq_true rfl)) (Nat.le_of_ble_eq_true rfl) (Nat.le_of_ble_eq_true rfl) fun v64 h64 g64 E64 => ?_
      exact g_iret (pc := 67) X g64 rfl rfl (dl_at t_X18_element 32 rfl)
    intro J52
    refine g_ifne (pc := 32) X (r32_z g29) (off := 20) (tgt := 52) rfl (dl_at t_X18_element 15 rfl) (fun _ => ?_) (fun _ => ?_)
    · exact J52 () trivial
    refine g_iload_n (pc := 35) X (j := 2) (i := 2) (q := 2) (x := a2) rfl rfl (dl_at t_X18_element 16 rfl) ?_
    refine g_bipush (pc := 36) X (n := 20) rfl (dl_at t_X18_element 17 rfl) ?_
    refine g_bipush (pc := 38) X (n := 41) rfl (dl_at t_X18_element 18 rfl) ?_
    refine r_callRz (pc := 40) X (fun _ hv => s_X18_in r2 (r32_c rfl) (r32_c rfl) hv) cw_code q4660 q372 (in_Sc X (As := [iv a2, iv 20, iv 41]) (Or.inl q4658) q4659 q372 q4660 ⟨by decide, by decide⟩ rfl (dl_at t_X18_element 19 rfl)) (dl_at t_X18_element 19 rfl) (cat24 (st := []) (Nat.le_of_ble_eq_true rfl)) (Nat.le_of_ble_eq_true rfl) (Nat.le_of_ble_eq_true rfl) fun v40 g40 => ?_
    refine g_ifne (pc := 43) X (r32_z g40) (off := 9) (tgt := 52) rfl (dl_at t_X18_element 20 rfl) (fun _ => ?_) (fun _ => ?_)
    · exact J52 () trivial
    refine g_aload_n (pc := 46) X (j := 0) (i := 0) (q := 0) (x := a0) rfl rfl (dl_at t_X18_element 21 rfl) ?_
    refine g_iconst (pc := 47) X (n := 1) (dl_at t_X18_element 22 rfl) ?_
    refine r_callWi (pc := 48) X (fun _ hv => s_X18_refuse hk (r32_c rfl) hv) cw_code q4317 q372 (in_Vk X (As := [iv 1]) kX18 hk (Or.inl q4314) q4316 qs237 cw_code q4317 ⟨by decide, by decide⟩ rfl (dl_at t_X18_element 23 rfl)) (dl_at t_X18_element 23 rfl) (cat24 (st := []) (Nat.le_of_ble_eq_true rfl)) (Nat.le_of_ble_eq_true rfl) (Nat.le_of_ble_eq_true rfl) fun v48_1 h48_1 g48_1 E48_1 => ?_
    exact g_iret (pc := 51) X g48_1 rfl rfl (dl_at t_X18_element 24 rfl)
  intro J25
  refine g_ifeq (pc := 11) X (r32_z g8) (off := 14) (tgt := 25) rfl (dl_at t_X18_element 5 rfl) (fun _ => ?_) (fun _ => ?_)
  · exact J25 () trivial
  refine g_iload_n (pc := 14) X (j := 1) (i := 1) (q := 1) (x := a1) rfl rfl (dl_at t_X18_element 6 rfl) ?_
  refine g_aload_n (pc := 15) X (j := 0) (i := 0) (q := 0) (x := a0) rfl rfl (dl_at t_X18_element 7 rfl) ?_
  refine r_getr (pc := 16) X fX18_10 hk q4246 (dl_at t_X18_element 8 rfl) ?_
  refine r_geti (pc := 19) X fX23_3 k8 q3528 (dl_at t_X18_element 9 rfl) fun g19 => ?_
  refine g_icmpge (pc := 22) X r1 g19 (off := 24) (tgt := 46) rfl (dl_at t_X18_element 10 rfl) (fun _ => ?_) (fun _ => ?_)
  · refine g_aload_n (pc := 46) X (j := 0) (i := 0) (q := 0) (x := a0) rfl rfl (dl_at t_X18_element 21 rfl) ?_
    refine g_iconst (pc := 47) X (n := 1) (dl_at t_X18_element 22 rfl) ?_
    refine r_callWi (pc := 48) X (fun _ hv => s_X18_refuse hk (r32_c rfl) hv) cw_code q4317 q372 (in_Vk X (As := [iv 1]) kX18 hk (Or.inl q4314) q4316 qs237 cw_code q4317 ⟨by decide, by decide⟩ rfl (dl_at t_X18_element 23 rfl)) (dl_at t_X18_element 23 rfl) (cat24 (st := []) (Nat.le_of_ble_eq_true rfl)) (Nat.le_of_ble_eq_true rfl) (Nat.le_of_ble_eq_true rfl) fun v48_2 h48_2 g48_2 E48_2 => ?_
    exact g_iret (pc := 51) X g48_2 rfl rfl (dl_at t_X18_element 24 rfl)
  exact J25 () trivial
def k_X18_count : List (Nat × Instr × Nat) := [(0, .iload_n 1, 1), (1, .iconst 0, 1), (2, .bipush 11, 2), (4, .invokestatic 162, 3), (7, .ifCond .ne 9, 3), (10, .aload_n 0, 1), (11, .iconst 1, 1), (12, .invokevirtual 107, 3), (15, .ireturn, 1), (16, .aload_n 0, 1), (17, .iconst 0, 1), (18, .putfield 87, 3), (21, .iload_n 1, 1), (48, .aload_n 0, 1), (49, .getfield 50, 3), (52, .getfield 154, 3), (55, .ifCond .eq 13, 3), (58, .aload_n 0, 1), (59, .getfield 50, 3), (62, .getfield 147, 3), (65, .goto 4, 3), (68, .iconst 0, 1), (69, .ireturn, 1), (70, .aload_n 0, 1), (71, .getfield 50, 3), (74, .getfield 154, 3), (77, .ifCond .eq 13, 3), (80, .aload_n 0, 1), (81, .getfield 50, 3), (84, .getfield 212, 3), (87, .goto 4, 3), (90, .iconst 0, 1), (91, .ireturn, 1), (92, .aload_n 0, 1), (93, .getfield 50, 3), (96, .getfield 154, 3), (99, .ifCond .eq 13, 3), (102, .aload_n 0, 1), (103, .getfield 50, 3), (106, .getfield 157, 3), (109, .goto 4, 3), (112, .iconst 0, 1), (113, .ireturn, 1), (114, .aload_n 0, 1), (115, .getfield 174, 3), (118, .ifCond .ne 5, 3), (121, .iconst 0, 1), (122, .ireturn, 1), (123, .iload_n 1, 1), (172, .aload_n 0, 1), (173, .getfield 70, 3), (176, .getfield 215, 3), (179, .ireturn, 1), (180, .aload_n 0, 1), (181, .getfield 70, 3), (184, .getfield 218, 3), (187, .ireturn, 1), (188, .aload_n 0, 1), (189, .getfield 70, 3), (192, .getfield 221, 3), (195, .ireturn, 1), (196, .aload_n 0, 1), (197, .getfield 70, 3), (200, .getfield 224, 3), (203, .ireturn, 1), (204, .aload_n 0, 1), (205, .getfield 70, 3), (208, .getfield 227, 3), (211, .ireturn, 1), (212, .aload_n 0, 1), (213, .getfield 70, 3), (216, .getfield 230, 3), (219, .ireturn, 1), (220, .aload_n 0, 1), (221, .getfield 70, 3), (224, .getfield 233, 3), (227, .ireturn, 1), (228, .aload_n 0, 1), (229, .getfield 70, 3), (232, .getfield 236, 3), (235, .ireturn, 1), (236, .aload_n 0, 1), (237, .getfield 70, 3), (240, .getfield 239, 3), (243, .ireturn, 1)]
theorem t_X18_count : ∀ q ∈ k_X18_count, decode cX18_count q.1 = .ok q.2 := dl_all (by decide +kernel)
theorem dS_X18_count_22 : decode cX18_count 22 = .ok (.tableswitch 92 0 2 #[26, 48, 70], 26) := by decide +kernel
theorem dS_X18_count_124 : decode cX18_count 124 = .ok (.tableswitch 112 3 10 #[48, 56, 64, 72, 80, 88, 96, 104], 48) := by decide +kernel
noncomputable def m_X18_count (a0 a1 : Int) (h : Hp) : Option (Int × Hp) :=
  (m_X18_in a1 0 11).bind fun v4 =>
  if v4 ≠ 0 then (pt h a0 0 0 fun h18 =>
  if a1 = 0 then (gd (h18 (h18 a0 10) (-2) = 384) (if (h18 (h18 a0 10) 5) = 0 then (some (0, h18))
  else (some ((h18 (h18 a0 10) 3), h18))))
  else (if a1 = 1 then (gd (h18 (h18 a0 10) (-2) = 384) (if (h18 (h18 a0 10) 5) = 0 then (some (0, h18))
  else (some ((h18 (h18 a0 10) 4), h18))))
  else (if a1 = 2 then (gd (h18 (h18 a0 10) (-2) = 384) (if (h18 (h18 a0 10) 5) = 0 then (some (0, h18))
  else (some ((h18 (h18 a0 10) 1), h18))))
  else (if (h18 a0 17) ≠ 0 then (if a1 = 3 then (gd (h18 (h18 a0 15) (-2) = 416) (some ((h18 (h18 a0 15) 95), h18)))
  else (if a1 = 4 then (gd (h18 (h18 a0 15) (-2) = 416) (some ((h18 (h18 a0 15) 94), h18)))
  else (if a1 = 5 then (gd (h18 (h18 a0 15) (-2) = 416) (some ((h18 (h18 a0 15) 42), h18)))
  else (if a1 = 6 then (gd (h18 (h18 a0 15) (-2) = 416) (some ((h18 (h18 a0 15) 9), h18)))
  else (if a1 = 7 then (gd (h18 (h18 a0 15) (-2) = 416) (some ((h18 (h18 a0 15) 53), h18)))
  else (if a1 = 8 then (gd (h18 (h18 a0 15) (-2) = 416) (some ((h18 (h18 a0 15) 54), h18)))
  else (if a1 = 9 then (gd (h18 (h18 a0 15) (-2) = 416) (some ((h18 (h18 a0 15) 66), h18)))
  else (if a1 = 10 then (gd (h18 (h18 a0 15) (-2) = 416) (some ((h18 (h18 a0 15) 96), h18)))
  else (gd (h18 (h18 a0 15) (-2) = 416) (some ((h18 (h18 a0 15) 97), h18)))))))))))
  else (some (0, h18))))))
  else (bW (m_X18_refuse a0 1 h) fun v12 h12 =>
  some (v12, h12))
theorem s_X18_count {l : Launch} [NoTr l] {D : SD} {a0 a1 : Int} {h : Hp} (hk : h a0 (-2) = 304) (r1 : r32 a1) {r : Int × Hp} (hm : m_X18_count a0 a1 h = some r) : Sim l D yX18_count (Cond.code yX18_count cX18_count 2 (Option.some Jvm.ClassFile.FieldType.int)) 1 38 [rv D a0, iv a1] h 1 ((0, r.1), r.2) := by
  refine Sim.of (fin := fun (v : Int × Hp) => ((0, v.1), v.2)) (lsE := [(0, rv D a0), (1, iv a1)]) hm rfl cwS_code (la_r (la_i la_n)) (ll_r (ll_i ll_n)) ?_
  intro p e s m below meth c X hcw hmm hcc hnm hname
  unfold m_X18_count
  refine g_iload_n (pc := 0) X (j := 1) (i := 1) (q := 1) (x := a1) rfl rfl (dl_at t_X18_count 0 rfl) ?_
  refine g_iconst (pc := 1) X (n := 0) (dl_at t_X18_count 1 rfl) ?_
  refine g_bipush (pc := 2) X (n := 11) rfl (dl_at t_X18_count 2 rfl) ?_
  refine r_callRz (pc := 4) X (fun _ hv => s_X18_in r1 (r32_c rfl) (r32_c rfl) hv) cw_code q4660 q372 (in_Sc X (As := [iv a1, iv 0, iv 11]) (Or.inl q4658) q4659 q372 q4660 ⟨by decide, by decide⟩ rfl (dl_at t_X18_count 3 rfl)) (dl_at t_X18_count 3 rfl) (cat24 (st := []) (Nat.le_of_ble_eq_true rfl)) (Nat.le_of_ble_eq_true rfl) (Nat.le_of_ble_eq_true rfl) fun v4 g4 => ?_
  refine g_ifne (pc := 7) X (r32_z g4) (off := 9) (tgt := 16) rfl (dl_at t_X18_count 4 rfl) (fun _ => ?_) (fun _ => ?_)
  · refine g_aload_n (pc := 16) X (j := 0) (i := 0) (q := 0) (x := a0) rfl rfl (dl_at t_X18_count 9 rfl) ?_
    refine g_iconst (pc := 17) X (n := 0) (dl_at t_X18_count 10 rfl) ?_
    refine r_puti (pc := 18) X fX18_0 hk q4236 rfl (dl_at t_X18_count 11 rfl) (r32_c rfl) (fun h18 E18 => ?_)
    refine g_iload_n (pc := 21) X (j := 1) (i := 1) (q := 1) (x := a1) rfl rfl (dl_at t_X18_count 12 rfl) ?_
    refine g_case (fun w22 => ?_) (fun nw22 => ?_)
    · refine g_tabIn (pc := 22) X (off := 26) (tgt := 48) r1 w22 (by decide) (by decide) rfl rfl dS_X18_count_22 ?_
      refine g_aload_n (pc := 48) X (j := 0) (i := 0) (q := 0) (x := a0) rfl rfl (dl_at t_X18_count 13 rfl) ?_
      have k49 := kx E18 (by decide) hk
      refine r_getr (pc := 49) X fX18_10 k49 q4246 (dl_at t_X18_count 14 rfl) ?_
      refine g_gd fun k52 => ?_
      refine r_getz (pc := 52) X fX23_5 k52 q3532 (dl_at t_X18_count 15 rfl) fun g52 => ?_
      refine g_ifeq (pc := 55) X (r32_z g52) (off := 13) (tgt := 68) rfl (dl_at t_X18_count 16 rfl) (fun _ => ?_) (fun _ => ?_)
      · refine g_iconst (pc := 68) X (n := 0) (dl_at t_X18_count 21 rfl) ?_
        exact g_iret (pc := 69) X (r32_c rfl) rfl rfl (dl_at t_X18_count 22 rfl)
      refine g_aload_n (pc := 58) X (j := 0) (i := 0) (q := 0) (x := a0) rfl rfl (dl_at t_X18_count 17 rfl) ?_
      refine r_getr (pc := 59) X fX18_10 k49 q4246 (dl_at t_X18_count 18 rfl) ?_
      refine r_geti (pc := 62) X fX23_3 k52 q3528 (dl_at t_X18_count 19 rfl) fun g62 => ?_
      refine g_goto (pc := 65) X (off := 4) (tgt := 69) rfl (dl_at t_X18_count 20 rfl) ?_
      exact g_iret (pc := 69) X g62 rfl rfl (dl_at t_X18_count 22 rfl)
    refine g_case (fun w22_1 => ?_) (fun nw22_1 => ?_)
    · refine g_tabIn (pc := 22) X (off := 48) (tgt := 70) r1 w22_1 (by decide) (by decide) rfl rfl dS_X18_count_22 ?_
      refine g_aload_n (pc := 70) X (j := 0) (i := 0) (q := 0) (x := a0) rfl rfl (dl_at t_X18_count 23 rfl) ?_
      have k71 := kx E18 (by decide) hk
      refine r_getr (pc := 71) X fX18_10 k71 q4246 (dl_at t_X18_count 24 rfl) ?_
      refine g_gd fun k74 => ?_
      refine r_getz (pc := 74) X fX23_5 k74 q3532 (dl_at t_X18_count 25 rfl) fun g74 => ?_
      refine g_ifeq (pc := 77) X (r32_z g74) (off := 13) (tgt := 90) rfl (dl_at t_X18_count 26 rfl) (fun _ => ?_) (fun _ => ?_)
      · refine g_iconst (pc := 90) X (n := 0) (dl_at t_X18_count 31 rfl) ?_
        exact g_iret (pc := 91) X (r32_c rfl) rfl rfl (dl_at t_X18_count 32 rfl)
      refine g_aload_n (pc := 80) X (j := 0) (i := 0) (q := 0) (x := a0) rfl rfl (dl_at t_X18_count 27 rfl) ?_
      refine r_getr (pc := 81) X fX18_10 k71 q4246 (dl_at t_X18_count 28 rfl) ?_
      refine r_geti (pc := 84) X fX23_4 k74 q3530 (dl_at t_X18_count 29 rfl) fun g84 => ?_
      refine g_goto (pc := 87) X (off := 4) (tgt := 91) rfl (dl_at t_X18_count 30 rfl) ?_
      exact g_iret (pc := 91) X g84 rfl rfl (dl_at t_X18_count 32 rfl)
    refine g_case (fun w22_2 => ?_) (fun nw22_2 => ?_)
    · refine g_tabIn (pc := 22) X (off := 70) (tgt := 92) r1 w22_2 (by decide) (by decide) rfl rfl dS_X18_count_22 ?_
      refine g_aload_n (pc := 92) X (j := 0) (i := 0) (q := 0) (x := a0) rfl rfl (dl_at t_X18_count 33 rfl) ?_
      have k93 := kx E18 (by decide) hk
      refine r_getr (pc := 93) X fX18_10 k93 q4246 (dl_at t_X18_count 34 rfl) ?_
      refine g_gd fun k96 => ?_
      refine r_getz (pc := 96) X fX23_5 k96 q3532 (dl_at t_X18_count 35 rfl) fun g96 => ?_
      refine g_ifeq (pc := 99) X (r32_z g96) (off := 13) (tgt := 112) rfl (dl_at t_X18_count 36 rfl) (fun _ => ?_) (fun _ => ?_)
      · refine g_iconst (pc := 112) X (n := 0) (dl_at t_X18_count 41 rfl) ?_
        exact g_iret (pc := 113) X (r32_c rfl) rfl rfl (dl_at t_X18_count 42 rfl)
      refine g_aload_n (pc := 102) X (j := 0) (i := 0) (q := 0) (x := a0) rfl rfl (dl_at t_X18_count 37 rfl) ?_
      refine r_getr (pc := 103) X fX18_10 k93 q4246 (dl_at t_X18_count 38 rfl) ?_
      refine r_geti (pc := 106) X fX23_1 k96 q3521 (dl_at t_X18_count 39 rfl) fun g106 => ?_
      refine g_goto (pc := 109) X (off := 4) (tgt := 113) rfl (dl_at t_X18_count 40 rfl) ?_
      exact g_iret (pc := 113) X g106 rfl rfl (dl_at t_X18_count 42 rfl)
    have w22_3 : ¬ a1 ∈ ([0, 1, 2] : List Int) := by simp only [List.mem_cons, List.not_mem_nil, or_false, not_or] at *; simp only [*, not_false_eq_true, and_self]
    refine g_tabElse (pc := 22) X (tgt := 114) [0, 1, 2] r1 w22_3 rfl rfl dS_X18_count_22 ?_
    refine g_aload_n (pc := 114) X (j := 0) (i := 0) (q := 0) (x := a0) rfl rfl (dl_at t_X18_count 43 rfl) ?_
    have k115 := kx E18 (by decide) hk
    refine r_getz (pc := 115) X fX18_17 k115 q4253 (dl_at t_X18_count 44 rfl) fun g115 => ?_
    refine g_ifne (pc := 118) X (r32_z g115) (off := 5) (tgt := 123) rfl (dl_at t_X18_count 45 rfl) (fun _ => ?_) (fun _ => ?_)
    · refine g_iload_n (pc := 123) X (j := 1) (i := 1) (q := 1) (x := a1) rfl rfl (dl_at t_X18_count 48 rfl) ?_
      refine g_case (fun w124 => ?_) (fun nw124 => ?_)
      · refine g_tabIn (pc := 124) X (off := 48) (tgt := 172) r1 w124 (by decide) (by decide) rfl rfl dS_X18_count_124 ?_
        refine g_aload_n (pc := 172) X (j := 0) (i := 0) (q := 0) (x := a0) rfl rfl (dl_at t_X18_count 49 rfl) ?_
        refine r_getr (pc := 173) X fX18_15 k115 q4251 (dl_at t_X18_count 50 rfl) ?_
        refine g_gd fun k176 => ?_
        refine r_geti (pc := 176) X fX25_95 k176 q3904 (dl_at t_X18_count 51 rfl) fun g176 => ?_
        exact g_iret (pc := 179) X g176 rfl rfl (dl_at t_X18_count 52 rfl)
      refine g_case (fun w124_1 => ?_) (fun nw124_1 => ?_)
      · refine g_tabIn (pc := 124) X (off := 56) (tgt := 180) r1 w124_1 (by decide) (by decide) rfl rfl dS_X18_count_124 ?_
        refine g_aload_n (pc := 180) X (j := 0) (i := 0) (q := 0) (x := a0) rfl rfl (dl_at t_X18_count 53 rfl) ?_
        refine r_getr (pc := 181) X fX18_15 k115 q4251 (dl_at t_X18_count 54 rfl) ?_
        refine g_gd fun k184 => ?_
        refine r_geti (pc := 184) X fX25_94 k184 q3902 (dl_at t_X18_count 55 rfl) fun g184 => ?_
        exact g_iret (pc := 187) X g184 rfl rfl (dl_at t_X18_count 56 rfl)
      refine g_case (fun w124_2 => ?_) (fun nw124_2 => ?_)
      · refine g_tabIn (pc := 124) X (off := 64) (tgt := 188) r1 w124_2 (by decide) (by decide) rfl rfl dS_X18_count_124 ?_
        refine g_aload_n (pc := 188) X (j := 0) (i := 0) (q := 0) (x := a0) rfl rfl (dl_at t_X18_count 57 rfl) ?_
        refine r_getr (pc := 189) X fX18_15 k115 q4251 (dl_at t_X18_count 58 rfl) ?_
        refine g_gd fun k192 => ?_
        refine r_geti (pc := 192) X fX25_42 k192 q3820 (dl_at t_X18_count 59 rfl) fun g192 => ?_
        exact g_iret (pc := 195) X g192 rfl rfl (dl_at t_X18_count 60 rfl)
      refine g_case (fun w124_3 => ?_) (fun nw124_3 => ?_)
      · refine g_tabIn (pc := 124) X (off := 72) (tgt := 196) r1 w124_3 (by decide) (by decide) rfl rfl dS_X18_count_124 ?_
        refine g_aload_n (pc := 196) X (j := 0) (i := 0) (q := 0) (x := a0) rfl rfl (dl_at t_X18_count 61 rfl) ?_
        refine r_getr (pc := 197) X fX18_15 k115 q4251 (dl_at t_X18_count 62 rfl) ?_
        refine g_gd fun k200 => ?_
        refine r_geti (pc := 200) X fX25_9 k200 q3774 (dl_at t_X18_count 63 rfl) fun g200 => ?_
        exact g_iret (pc := 203) X g200 rfl rfl (dl_at t_X18_count 64 rfl)
      refine g_case (fun w124_4 => ?_) (fun nw124_4 => ?_)
      · refine g_tabIn (pc := 124) X (off := 80) (tgt := 204) r1 w124_4 (by decide) (by decide) rfl rfl dS_X18_count_124 ?_
        refine g_aload_n (pc := 204) X (j := 0) (i := 0) (q := 0) (x := a0) rfl rfl (dl_at t_X18_count 65 rfl) ?_
        refine r_getr (pc := 205) X fX18_15 k115 q4251 (dl_at t_X18_count 66 rfl) ?_
        refine g_gd fun k208 => ?_
        refine r_geti (pc := 208) X fX25_53 k208 q3839 (dl_at t_X18_count 67 rfl) fun g208 => ?_
        exact g_iret (pc := 211) X g208 rfl rfl (dl_at t_X18_count 68 rfl)
      refine g_case (fun w124_5 => ?_) (fun nw124_5 => ?_)
      · refine g_tabIn (pc := 124) X (off := 88) (tgt := 212) r1 w124_5 (by decide) (by decide) rfl rfl dS_X18_count_124 ?_
        refine g_aload_n (pc := 212) X (j := 0) (i := 0) (q := 0) (x := a0) rfl rfl (dl_at t_X18_count 69 rfl) ?_
        refine r_getr (pc := 213) X fX18_15 k115 q4251 (dl_at t_X18_count 70 rfl) ?_
        refine g_gd fun k216 => ?_
        refine r_geti (pc := 216) X fX25_54 k216 q3841 (dl_at t_X18_count 71 rfl) fun g216 => ?_
        exact g_iret (pc := 219) X g216 rfl rfl (dl_at t_X18_count 72 rfl)
      refine g_case (fun w124_6 => ?_) (fun nw124_6 => ?_)
      · refine g_tabIn (pc := 124) X (off := 96) (tgt := 220) r1 w124_6 (by decide) (by decide) rfl rfl dS_X18_count_124 ?_
        refine g_aload_n (pc := 220) X (j := 0) (i := 0) (q := 0) (x := a0) rfl rfl (dl_at t_X18_count 73 rfl) ?_
        refine r_getr (pc := 221) X fX18_15 k115 q4251 (dl_at t_X18_count 74 rfl) ?_
        refine g_gd fun k224 => ?_
        refine r_geti (pc := 224) X fX25_66 k224 q3864 (dl_at t_X18_count 75 rfl) fun g224 => ?_
        exact g_iret (pc := 227) X g224 rfl rfl (dl_at t_X18_count 76 rfl)
      refine g_case (fun w124_7 => ?_) (fun nw124_7 => ?_)
      · refine g_tabIn (pc := 124) X (off := 104) (tgt := 228) r1 w124_7 (by decide) (by decide) rfl rfl dS_X18_count_124 ?_
        refine g_aload_n (pc := 228) X (j := 0) (i := 0) (q := 0) (x := a0) rfl rfl (dl_at t_X18_count 77 rfl) ?_
        refine r_getr (pc := 229) X fX18_15 k115 q4251 (dl_at t_X18_count 78 rfl) ?_
        refine g_gd fun k232 => ?_
        refine r_geti (pc := 232) X fX25_96 k232 q3907 (dl_at t_X18_count 79 rfl) fun g232 => ?_
        exact g_iret (pc := 235) X g232 rfl rfl (dl_at t_X18_count 80 rfl)
      have w124_8 : ¬ a1 ∈ ([3, 4, 5, 6, 7, 8, 9, 10] : List Int) := by simp only [List.mem_cons, List.not_mem_nil, or_false, not_or] at *; simp only [*, not_false_eq_true, and_self]
      refine g_tabElse (pc := 124) X (tgt := 236) [3, 4, 5, 6, 7, 8, 9, 10] r1 w124_8 rfl rfl dS_X18_count_124 ?_
      refine g_aload_n (pc := 236) X (j := 0) (i := 0) (q := 0) (x := a0) rfl rfl (dl_at t_X18_count 81 rfl) ?_
      refine r_getr (pc := 237) X fX18_15 k115 q4251 (dl_at t_X18_count 82 rfl) ?_
      refine g_gd fun k240 => ?_
      refine r_geti (pc := 240) X fX25_97 k240 q3908 (dl_at t_X18_count 83 rfl) fun g240 => ?_
      exact g_iret (pc := 243) X g240 rfl rfl (dl_at t_X18_count 84 rfl)
    refine g_iconst (pc := 121) X (n := 0) (dl_at t_X18_count 46 rfl) ?_
    exact g_iret (pc := 122) X (r32_c rfl) rfl rfl (dl_at t_X18_count 47 rfl)
  refine g_aload_n (pc := 10) X (j := 0) (i := 0) (q := 0) (x := a0) rfl rfl (dl_at t_X18_count 5 rfl) ?_
  refine g_iconst (pc := 11) X (n := 1) (dl_at t_X18_count 6 rfl) ?_
  refine r_callWi (pc := 12) X (fun _ hv => s_X18_refuse hk (r32_c rfl) hv) cw_code q4317 q372 (in_Vk X (As := [iv 1]) kX18 hk (Or.inl q4314) q4316 qs237 cw_code q4317 ⟨by decide, by decide⟩ rfl (dl_at t_X18_count 7 rfl)) (dl_at t_X18_count 7 rfl) (cat24 (st := []) (Nat.le_of_ble_eq_true rfl)) (Nat.le_of_ble_eq_true rfl) (Nat.le_of_ble_eq_true rfl) fun v12 h12 g12 E12 => ?_
  exact g_iret (pc := 15) X g12 rfl rfl (dl_at t_X18_count 8 rfl)
def k_X25_lineStart : List (Nat × Instr × Nat) := [(0, .iload_n 2, 1), (1, .ifCond .ne 7, 3), (4, .iconst 0, 1), (5, .goto 18, 3), (8, .aload_n 0, 1), (9, .getfield 84, 3), (12, .aload_n 0, 1), (13, .getfield 53, 3), (16, .iload_n 1, 1), (17, .iaload, 1), (18, .iload_n 2, 1), (19, .iadd, 1), (20, .iconst 1, 1), (21, .isub, 1), (22, .iaload, 1), (23, .ireturn, 1)]
theorem t_X25_lineStart : ∀ q ∈ k_X25_lineStart, decode cX25_lineStart q.1 = .ok q.2 := dl_all (by decide +kernel)
noncomputable def m_X25_lineStart (a0 a1 a2 : Int) (h : Hp) : Option (Int) :=
  if a2 ≠ 0 then (gd (h (h a0 18) (-2) % 16 = 1 ∧ (0 : Int) ≤ a1 ∧ a1 < h (h a0 18) (-1)) (gd (h (h a0 28) (-2) % 16 = 1 ∧ (0 : Int) ≤ (w32 ((w32 ((h (h a0 18) a1) + a2)) - 1)) ∧ (w32 ((w32 ((h (h a0 18) a1) + a2)) - 1)) < h (h a0 28) (-1)) (some (h (h a0 28) (w32 ((w32 ((h (h a0 18) a1) + a2)) - 1))))))
  else (some 0)
theorem s_X25_lineStart {l : Launch} [NoTr l] {D : SD} {a0 a1 a2 : Int} {h : Hp} (hk : h a0 (-2) = 416) (r1 : r32 a1) (r2 : r32 a2) {r : Int} (hm : m_X25_lineStart a0 a1 a2 h = some r) : Sim l D yX25_lineStart (Cond.code yX25_lineStart cX25_lineStart 3 (Option.some Jvm.ClassFile.FieldType.int)) 0 0 [rv D a0, iv a1, iv a2] h 1 ((0, r), h) := by
  refine Sim.of (fin := fun (v : Int) => ((0, v), h)) (lsE := [(0, rv D a0), (1, iv a1), (2, iv a2)]) hm rfl cwS_code (la_r (la_i (la_i la_n))) (ll_r (ll_i (ll_i ll_n))) ?_
  intro p e s m below meth c X hcw hmm hcc hnm hname
  unfold m_X25_lineStart
  refine g_iload_n (pc := 0) X (j := 2) (i := 2) (q := 2) (x := a2) rfl rfl (dl_at t_X25_lineStart 0 rfl) ?_
  refine g_ifne (pc := 1) X r2 (off := 7) (tgt := 8) rfl (dl_at t_X25_lineStart 1 rfl) (fun _ => ?_) (fun _ => ?_)
  · refine g_aload_n (pc := 8) X (j := 0) (i := 0) (q := 0) (x := a0) rfl rfl (dl_at t_X25_lineStart 4 rfl) ?_
    refine r_getr (pc := 9) X fX25_28 hk q3802 (dl_at t_X25_lineStart 5 rfl) ?_
    refine g_aload_n (pc := 12) X (j := 0) (i := 0) (q := 0) (x := a0) rfl rfl (dl_at t_X25_lineStart 6 rfl) ?_
    refine r_getr (pc := 13) X fX25_18 hk q3788 (dl_at t_X25_lineStart 7 rfl) ?_
    refine g_iload_n (pc := 16) X (j := 1) (i := 1) (q := 1) (x := a1) rfl rfl (dl_at t_X25_lineStart 8 rfl) ?_
    refine g_gd fun k17 => ?_
    refine g_iald (pc := 17) X r1 k17 (dl_at t_X25_lineStart 9 rfl) fun g17 => ?_
    refine g_iload_n (pc := 18) X (j := 2) (i := 2) (q := 2) (x := a2) rfl rfl (dl_at t_X25_lineStart 10 rfl) ?_
    refine g_iadd (pc := 19) X g17 r2 (dl_at t_X25_lineStart 11 rfl) ?_
    refine g_iconst (pc := 20) X (n := 1) (dl_at t_X25_lineStart 12 rfl) ?_
    refine g_isub (pc := 21) X (r32_w _) (r32_c rfl) (dl_at t_X25_lineStart 13 rfl) ?_
    refine g_gd fun k22 => ?_
    refine g_iald (pc := 22) X (r32_w _) k22 (dl_at t_X25_lineStart 14 rfl) fun g22 => ?_
    exact g_iret (pc := 23) X g22 rfl rfl (dl_at t_X25_lineStart 15 rfl)
  refine g_iconst (pc := 4) X (n := 0) (dl_at t_X25_lineStart 2 rfl) ?_
  refine g_goto (pc := 5) X (off := 18) (tgt := 23) rfl (dl_at t_X25_lineStart 3 rfl) ?_
  exact g_iret (pc := 23) X (r32_c rfl) rfl rfl (dl_at t_X25_lineStart 15 rfl)
def k_X25_beginsAt : List (Nat × Instr × Nat) := [(0, .aload_n 0, 1), (1, .iload_n 1, 1), (2, .invokevirtual 769, 3), (5, .aload_n 0, 1), (6, .iload_n 1, 1), (7, .iload_n 2, 1), (8, .invokevirtual 777, 3), (11, .istore_n 3, 1), (12, .aload_n 0, 1), (13, .iload_n 1, 1), (14, .iload_n 3, 1), (15, .aload_n 0, 1), (16, .getfield 84, 3), (19, .aload_n 0, 1), (20, .getfield 53, 3), (23, .iload_n 1, 1), (24, .iaload, 1), (25, .iload_n 2, 1), (26, .iadd, 1), (27, .iaload, 1), (28, .invokevirtual 759, 3), (31, .aload_n 0, 1), (32, .getfield 14, 3), (35, .aload_n 0, 1), (36, .getfield 35, 3), (39, .iload_n 1, 1), (40, .iaload, 1), (41, .bipush 8, 2), (43, .invokevirtual 477, 3), (46, .istore 4, 2), (48, .aload_n 0, 1), (49, .getfield 41, 3), (52, .iload_n 1, 1), (53, .iaload, 1), (54, .iload_n 2, 1), (55, .ifCond .ne 12, 3), (58, .aload_n 0, 1), (59, .getfield 59, 3), (62, .iload_n 1, 1), (63, .iaload, 1), (64, .goto 4, 3), (67, .iconst 0, 1), (68, .iadd, 1), (69, .i2l, 1), (70, .lstore 5, 2), (72, .aload_n 0, 1), (73, .getfield 702, 3), (76, .aload_n 0, 1), (77, .getfield 710, 3), (80, .lcmp, 1), (81, .ifCond .lt 6, 3), (84, .lload 5, 2), (86, .lreturn, 1), (87, .iload 4, 2), (89, .iconst 2, 1), (90, .if_icmp .ne 18, 3), (93, .lload 5, 2), (95, .aload_n 0, 1), (96, .getfield 710, 3), (99, .ladd, 1), (100, .aload_n 0, 1), (101, .getfield 702, 3), (104, .lsub, 1), (105, .goto 30, 3), (108, .iload 4, 2), (110, .iconst 3, 1), (111, .if_icmp .ne 22, 3), (114, .lload 5, 2), (116, .aload_n 0, 1), (117, .getfield 710, 3), (120, .aload_n 0, 1), (121, .getfield 702, 3), (124, .lsub, 1), (125, .ldc2_w 695, 3), (128, .ldiv, 1), (129, .ladd, 1), (130, .goto 5, 3), (133, .lload 5, 2), (135, .lreturn, 1)]
theorem t_X25_beginsAt : ∀ q ∈ k_X25_beginsAt, decode cX25_beginsAt q.1 = .ok q.2 := dl_all (by decide +kernel)
noncomputable def m_X25_beginsAt_j68 (v43 a0 s0_68 s1_68 : Int) (h28 : Hp) : Option (Int × Hp) :=
  lt_ (w32 (s0_68 + s1_68)) fun x5_70 =>
  if (lcmp_ (h28 a0 112) (h28 a0 113)) < 0 then (if v43 ≠ 2 then (if v43 ≠ 3 then (some (x5_70, h28))
  else (some ((w64 (x5_70 + (w64 (Int.tdiv (w64 ((h28 a0 113) - (h28 a0 112))) 2)))), h28)))
  else (some ((w64 ((w64 (x5_70 + (h28 a0 113))) - (h28 a0 112))), h28)))
  else (some (x5_70, h28))
noncomputable def m_X25_beginsAt (a0 a1 a2 : Int) (h : Hp) : Option (Int × Hp) :=
  (m_X25_sums a0 a1 h).bind fun h2 =>
  (m_X25_lineStart a0 a1 a2 h2).bind fun v8 =>
  gd (h2 (h2 a0 18) (-2) % 16 = 1 ∧ (0 : Int) ≤ a1 ∧ a1 < h2 (h2 a0 18) (-1)) (gd (h2 (h2 a0 28) (-2) % 16 = 1 ∧ (0 : Int) ≤ (w32 ((h2 (h2 a0 18) a1) + a2)) ∧ (w32 ((h2 (h2 a0 18) a1) + a2)) < h2 (h2 a0 28) (-1)) ((m_X25_measure a0 a1 v8 (h2 (h2 a0 28) (w32 ((h2 (h2 a0 18) a1) + a2))) h2).bind fun h28 =>
  gd (h28 (h28 a0 12) (-2) % 16 = 1 ∧ (0 : Int) ≤ a1 ∧ a1 < h28 (h28 a0 12) (-1)) (gd (h28 (h28 a0 0) (-2) = 400) ((m_X24_of (h28 a0 0) (h28 (h28 a0 12) a1) 8 h28).bind fun v43 =>
  gd (h28 (h28 a0 14) (-2) % 16 = 1 ∧ (0 : Int) ≤ a1 ∧ a1 < h28 (h28 a0 14) (-1)) (if a2 ≠ 0 then (m_X25_beginsAt_j68 v43 a0 (h28 (h28 a0 14) a1) 0 h28)
  else (gd (h28 (h28 a0 20) (-2) % 16 = 1 ∧ (0 : Int) ≤ a1 ∧ a1 < h28 (h28 a0 20) (-1)) (m_X25_beginsAt_j68 v43 a0 (h28 (h28 a0 14) a1) (h28 (h28 a0 20) a1) h28)))))))
theorem s_X25_beginsAt {l : Launch} [NoTr l] {D : SD} {a0 a1 a2 : Int} {h : Hp} (hk : h a0 (-2) = 416) (r1 : r32 a1) (r2 : r32 a2) {r : Int × Hp} (hm : m_X25_beginsAt a0 a1 a2 h = some r) : Sim l D yX25_beginsAt (Cond.code yX25_beginsAt cX25_beginsAt 7 (Option.some Jvm.ClassFile.FieldType.long)) 3 121 [rv D a0, iv a1, iv a2] h 4 ((0, r.1), r.2) := by
  refine Sim.of (fin := fun (v : Int × Hp) => ((0, v.1), v.2)) (lsE := [(0, rv D a0), (1, iv a1), (2, iv a2)]) hm rfl cwS_code (la_r (la_i (la_i la_n))) (ll_r (ll_i (ll_i ll_n))) ?_
  intro p e s m below meth c X hcw hmm hcc hnm hname
  unfold m_X25_beginsAt
  refine g_aload_n (pc := 0) X (j := 0) (i := 0) (q := 0) (x := a0) rfl rfl (dl_at t_X25_beginsAt 0 rfl) ?_
  refine g_iload_n (pc := 1) X (j := 1) (i := 1) (q := 1) (x := a1) rfl rfl (dl_at t_X25_beginsAt 1 rfl) ?_
  refine r_callV (pc := 2) X (fun _ hv => s_X25_sums hk r1 hv) cw_code q5004 q379 (in_Vk X (As := [iv a1]) kX25 hk (Or.inl q5001) q5003 qs323 cw_code q5004 ⟨by decide, by decide⟩ rfl (dl_at t_X25_beginsAt 2 rfl)) (dl_at t_X25_beginsAt 2 rfl) (cat24 (st := []) (Nat.le_of_ble_eq_true rfl)) (Nat.le_of_ble_eq_true rfl) (Nat.le_of_ble_eq_true rfl) fun h2 E2 => ?_
  refine g_aload_n (pc := 5) X (j := 0) (i := 0) (q := 0) (x := a0) rfl rfl (dl_at t_X25_beginsAt 3 rfl) ?_
  refine g_iload_n (pc := 6) X (j := 1) (i := 1) (q := 1) (x := a1) rfl rfl (dl_at t_X25_beginsAt 4 rfl) ?_
  refine g_iload_n (pc := 7) X (j := 2) (i := 2) (q := 2) (x := a2) rfl rfl (dl_at t_X25_beginsAt 5 rfl) ?_
  have k8 := kx E2 (by decide) hk
  refine r_callRi (pc := 8) X (fun _ hv => s_X25_lineStart k8 r1 r2 hv) cw_code q5164 q379 (in_Vk X (As := [iv a1, iv a2]) kX25 k8 (Or.inl q5161) q5162 q5163 cw_code q5164 ⟨by decide, by decide⟩ rfl (dl_at t_X25_beginsAt 6 rfl)) (dl_at t_X25_beginsAt 6 rfl) (cat24 (st := []) (Nat.le_of_ble_eq_true rfl)) (Nat.le_of_ble_eq_true rfl) (Nat.le_of_ble_eq_true rfl) fun v8 g8 => ?_
  refine g_istore_nN (pc := 11) X (j := 3) (i := 3) (x := v8) (b := 2) (w := iv a2) (rest := [(0, rv D a0), (1, iv a1)]) rfl (Nat.le_of_ble_eq_true rfl) [2, 0, 1] rfl (by decide) rfl rfl (dl_at t_X25_beginsAt 7 rfl) ?_
  refine g_aload_n (pc := 12) X (j := 0) (i := 0) (q := 2) (x := a0) rfl rfl (dl_at t_X25_beginsAt 8 rfl) ?_
  refine g_iload_n (pc := 13) X (j := 1) (i := 1) (q := 3) (x := a1) rfl rfl (dl_at t_X25_beginsAt 9 rfl) ?_
  refine g_iload_n (pc := 14) X (j := 3) (i := 3) (q := 0) (x := v8) rfl rfl (dl_at t_X25_beginsAt 10 rfl) ?_
  refine g_aload_n (pc := 15) X (j := 0) (i := 0) (q := 2) (x := a0) rfl rfl (dl_at t_X25_beginsAt 11 rfl) ?_
  refine r_getr (pc := 16) X fX25_28 k8 q3802 (dl_at t_X25_beginsAt 12 rfl) ?_
  refine g_aload_n (pc := 19) X (j := 0) (i := 0) (q := 2) (x := a0) rfl rfl (dl_at t_X25_beginsAt 13 rfl) ?_
  refine r_getr (pc := 20) X fX25_18 k8 q3788 (dl_at t_X25_beginsAt 14 rfl) ?_
  refine g_iload_n (pc := 23) X (j := 1) (i := 1) (q := 3) (x := a1) rfl rfl (dl_at t_X25_beginsAt 15 rfl) ?_
  refine g_gd fun k24 => ?_
  refine g_iald (pc := 24) X r1 k24 (dl_at t_X25_beginsAt 16 rfl) fun g24 => ?_
  refine g_iload_n (pc := 25) X (j := 2) (i := 2) (q := 1) (x := a2) rfl rfl (dl_at t_X25_beginsAt 17 rfl) ?_
  refine g_iadd (pc := 26) X g24 r2 (dl_at t_X25_beginsAt 18 rfl) ?_
  refine g_gd fun k27 => ?_
  refine g_iald (pc := 27) X (r32_w _) k27 (dl_at t_X25_beginsAt 19 rfl) fun g27 => ?_
  refine r_callV (pc := 28) X (fun _ hv => s_X25_measure k8 r1 g8 g27 hv) cw_code q5014 q379 (in_Vk X (As := [iv a1, iv v8, iv (h2 (h2 a0 28) (w32 ((h2 (h2 a0 18) a1) + a2)))]) kX25 k8 (Or.inl q5011) q5013 qs325 cw_code q5014 ⟨by decide, by decide⟩ rfl (dl_at t_X25_beginsAt 20 rfl)) (dl_at t_X25_beginsAt 20 rfl) (cat24 (st := []) (Nat.le_of_ble_eq_true rfl)) (Nat.le_of_ble_eq_true rfl) (Nat.le_of_ble_eq_true rfl) fun h28 E28 => ?_
  refine g_aload_n (pc := 31) X (j := 0) (i := 0) (q := 2) (x := a0) rfl rfl (dl_at t_X25_beginsAt 21 rfl) ?_
  have k32 := kx E28 (by decide) k8
  refine r_getr (pc := 32) X fX25_0 k32 q3761 (dl_at t_X25_beginsAt 22 rfl) ?_
  refine g_aload_n (pc := 35) X (j := 0) (i := 0) (q := 2) (x := a0) rfl rfl (dl_at t_X25_beginsAt 23 rfl) ?_
  refine r_getr (pc := 36) X fX25_12 k32 q3779 (dl_at t_X25_beginsAt 24 rfl) ?_
  refine g_iload_n (pc := 39) X (j := 1) (i := 1) (q := 3) (x := a1) rfl rfl (dl_at t_X25_beginsAt 25 rfl) ?_
  refine g_gd fun k40 => ?_
  refine g_iald (pc := 40) X r1 k40 (dl_at t_X25_beginsAt 26 rfl) fun g40 => ?_
  refine g_bipush (pc := 41) X (n := 8) rfl (dl_at t_X25_beginsAt 27 rfl) ?_
  refine g_gd fun k43 => ?_
  refine r_callRi (pc := 43) X (fun _ hv => s_X24_of k43 g40 (r32_c rfl) hv) cw_code q4704 q378 (in_Vk X (As := [iv (h28 (h28 a0 12) a1), iv 8]) kX24 k43 (Or.inl q4844) q4702 q4703 cw_code q4704 ⟨by decide, by decide⟩ rfl (dl_at t_X25_beginsAt 28 rfl)) (dl_at t_X25_beginsAt 28 rfl) (cat24 (st := []) (Nat.le_of_ble_eq_true rfl)) (Nat.le_of_ble_eq_true rfl) (Nat.le_of_ble_eq_true rfl) fun v43 g43 => ?_
  refine g_istore (pc := 46) X (i := 4) (x := v43) (rest := [(2, iv a2), (0, rv D a0), (1, iv a1)]) (Nat.le_of_ble_eq_true rfl) [1, 2, 3] rfl rfl (dl_at t_X25_beginsAt 29 rfl) ?_
  refine g_aload_n (pc := 48) X (j := 0) (i := 0) (q := 2) (x := a0) rfl rfl (dl_at t_X25_beginsAt 30 rfl) ?_
  refine r_getr (pc := 49) X fX25_14 k32 q3782 (dl_at t_X25_beginsAt 31 rfl) ?_
  refine g_iload_n (pc := 52) X (j := 1) (i := 1) (q := 3) (x := a1) rfl rfl (dl_at t_X25_beginsAt 32 rfl) ?_
  refine g_gd fun k53 => ?_
  refine g_iald (pc := 53) X r1 k53 (dl_at t_X25_beginsAt 33 rfl) fun g53 => ?_
  refine g_iload_n (pc := 54) X (j := 2) (i := 2) (q := 1) (x := a2) rfl rfl (dl_at t_X25_beginsAt 34 rfl) ?_
  refine g_join (γ := Int × Int) (fun q => r32 q.1 ∧ r32 q.2) 68 (fun q => [(0, rv D a0), (4, iv v43)]) (fun q => [iv q.2, iv q.1]) (fun q => h28) (fun q => m_X25_beginsAt_j68 v43 a0 q.1 q.2 h28) ?_ ?_
  · rintro ⟨s0_68, s1_68⟩ ⟨rs0_68, rs1_68⟩
    try dsimp only
    unfold m_X25_beginsAt_j68
    refine g_iadd (pc := 68) X rs0_68 rs1_68 (dl_at t_X25_beginsAt 42 rfl) ?_
    refine g_i2l (pc := 69) X (r32_w _) (dl_at t_X25_beginsAt 43 rfl) ?_
    refine g_ltl (r64_of (r32_w _)) fun x5_70 r5_70 => ?_
    refine g_lstoreN (pc := 70) X (i := 5) (x := x5_70) (b := 4) (w := iv v43) (rest := [(0, rv D a0)]) (Nat.le_of_ble_eq_true rfl) [1, 0] rfl (by decide) (by decide) rfl rfl (dl_at t_X25_beginsAt 44 rfl) ?_
    refine g_aload_n (pc := 72) X (j := 0) (i := 0) (q := 2) (x := a0) rfl rfl (dl_at t_X25_beginsAt 45 rfl) ?_
    refine r_getl (pc := 73) X fX25_112 k32 q3924 (dl_at t_X25_beginsAt 46 rfl) fun g73 => ?_
    refine g_aload_n (pc := 76) X (j := 0) (i := 0) (q := 2) (x := a0) rfl rfl (dl_at t_X25_beginsAt 47 rfl) ?_
    refine r_getl (pc := 77) X fX25_113 k32 q3925 (dl_at t_X25_beginsAt 48 rfl) fun g77 => ?_
    refine g_lcmp (pc := 80) X g73 g77 (dl_at t_X25_beginsAt 49 rfl) ?_
    refine g_iflt (pc := 81) X (r32_lcmp _ _) (off := 6) (tgt := 87) rfl (dl_at t_X25_beginsAt 50 rfl) (fun _ => ?_) (fun _ => ?_)
    · refine g_iload (pc := 87) X (i := 4) (q := 1) (x := v43) rfl (dl_at t_X25_beginsAt 53 rfl) ?_
      refine g_iconst (pc := 89) X (n := 2) (dl_at t_X25_beginsAt 54 rfl) ?_
      refine g_icmpne (pc := 90) X g43 (r32_c rfl) (off := 18) (tgt := 108) rfl (dl_at t_X25_beginsAt 55 rfl) (fun _ => ?_) (fun _ => ?_)
      · refine g_iload (pc := 108) X (i := 4) (q := 1) (x := v43) rfl (dl_at t_X25_beginsAt 64 rfl) ?_
        refine g_iconst (pc := 110) X (n := 3) (dl_at t_X25_beginsAt 65 rfl) ?_
        refine g_icmpne (pc := 111) X g43 (r32_c rfl) (off := 22) (tgt := 133) rfl (dl_at t_X25_beginsAt 66 rfl) (fun _ => ?_) (fun _ => ?_)
        · refine g_lload (pc := 133) X (i := 5) (q := 0) (x := x5_70) rfl (dl_at t_X25_beginsAt 77 rfl) ?_
          exact g_lret (pc := 135) X r5_70 rfl rfl (dl_at t_X25_beginsAt 78 rfl)
        refine g_lload (pc := 114) X (i := 5) (q := 0) (x := x5_70) rfl (dl_at t_X25_beginsAt 67 rfl) ?_
        refine g_aload_n (pc := 116) X (j := 0) (i := 0) (q := 2) (x := a0) rfl rfl (dl_at t_X25_beginsAt 68 rfl) ?_
        refine r_getl (pc := 117) X fX25_113 k32 q3925 (dl_at t_X25_beginsAt 69 rfl) fun g117 => ?_
        refine g_aload_n (pc := 120) X (j := 0) (i := 0) (q := 2) (x := a0) rfl rfl (dl_at t_X25_beginsAt 70 rfl) ?_
        refine r_getl (pc := 121) X fX25_112 k32 q3924 (dl_at t_X25_beginsAt 71 rfl) fun g121 => ?_
        refine g_lsub (pc := 124) X g117 g121 (dl_at t_X25_beginsAt 72 rfl) ?_
        refine g_ldc2 (pc := 125) X (index := 695) (n := 2) q5005 (dl_at t_X25_beginsAt 73 rfl) ?_
        refine g_ldiv (pc := 128) X (r64_w _) (r64_c rfl) (by decide) (dl_at t_X25_beginsAt 74 rfl) ?_
        refine g_ladd (pc := 129) X r5_70 (r64_w _) (dl_at t_X25_beginsAt 75 rfl) ?_
        refine g_goto (pc := 130) X (off := 5) (tgt := 135) rfl (dl_at t_X25_beginsAt 76 rfl) ?_
        exact g_lret (pc := 135) X (r64_w _) rfl rfl (dl_at t_X25_beginsAt 78 rfl)
      refine g_lload (pc := 93) X (i := 5) (q := 0) (x := x5_70) rfl (dl_at t_X25_beginsAt 56 rfl) ?_
      refine g_aload_n (pc := 95) X (j := 0) (i := 0) (q := 2) (x := a0) rfl rfl (dl_at t_X25_beginsAt 57 rfl) ?_
      refine r_getl (pc := 96) X fX25_113 k32 q3925 (dl_at t_X25_beginsAt 58 rfl) fun g96 => ?_
      refine g_ladd (pc := 99) X r5_70 g96 (dl_at t_X25_beginsAt 59 rfl) ?_
      refine g_aload_n (pc := 100) X (j := 0) (i := 0) (q := 2) (x := a0) rfl rfl (dl_at t_X25_beginsAt 60 rfl) ?_
      refine r_getl (pc := 101) X fX25_112 k32 q3924 (dl_at t_X25_beginsAt 61 rfl) fun g101 => ?_
      refine g_lsub (pc := 104) X (r64_w _) g101 (dl_at t_X25_beginsAt 62 rfl) ?_
      refine g_goto (pc := 105) X (off := 30) (tgt := 135) rfl (dl_at t_X25_beginsAt 63 rfl) ?_
      exact g_lret (pc := 135) X (r64_w _) rfl rfl (dl_at t_X25_beginsAt 78 rfl)
    refine g_lload (pc := 84) X (i := 5) (q := 0) (x := x5_70) rfl (dl_at t_X25_beginsAt 51 rfl) ?_
    exact g_lret (pc := 86) X r5_70 rfl rfl (dl_at t_X25_beginsAt 52 rfl)
  intro J68
  refine g_ifne (pc := 55) X r2 (off := 12) (tgt := 67) rfl (dl_at t_X25_beginsAt 35 rfl) (fun _ => ?_) (fun _ => ?_)
  · refine g_iconst (pc := 67) X (n := 0) (dl_at t_X25_beginsAt 41 rfl) ?_
    refine g_ls (ls2 := [(0, rv D a0), (4, iv v43)]) [2, 0] rfl ?_
    exact J68 ((h28 (h28 a0 14) a1), 0) ⟨g53, (r32_c rfl)⟩
  refine g_aload_n (pc := 58) X (j := 0) (i := 0) (q := 2) (x := a0) rfl rfl (dl_at t_X25_beginsAt 36 rfl) ?_
  refine r_getr (pc := 59) X fX25_20 k32 q3792 (dl_at t_X25_beginsAt 37 rfl) ?_
  refine g_iload_n (pc := 62) X (j := 1) (i := 1) (q := 3) (x := a1) rfl rfl (dl_at t_X25_beginsAt 38 rfl) ?_
  refine g_gd fun k63 => ?_
  refine g_iald (pc := 63) X r1 k63 (dl_at t_X25_beginsAt 39 rfl) fun g63 => ?_
  refine g_goto (pc := 64) X (off := 4) (tgt := 68) rfl (dl_at t_X25_beginsAt 40 rfl) ?_
  refine g_ls (ls2 := [(0, rv D a0), (4, iv v43)]) [2, 0] rfl ?_
  exact J68 ((h28 (h28 a0 14) a1), (h28 (h28 a0 20) a1)) ⟨g53, g63⟩
def k_X18_line : List (Nat × Instr × Nat) := [(0, .iload_n 2, 1), (1, .iconst 0, 1), (2, .bipush 6, 2), (4, .invokestatic 162, 3), (7, .ifCond .ne 9, 3), (10, .aload_n 0, 1), (11, .iconst 1, 1), (12, .invokevirtual 107, 3), (15, .ireturn, 1), (16, .aload_n 0, 1), (17, .getfield 174, 3), (20, .ifCond .ne 9, 3), (23, .aload_n 0, 1), (24, .iconst 2, 1), (25, .invokevirtual 107, 3), (28, .ireturn, 1), (29, .iload_n 1, 1), (30, .ifCond .lt 14, 3), (33, .iload_n 1, 1), (34, .aload_n 0, 1), (35, .getfield 70, 3), (38, .getfield 221, 3), (41, .if_icmp .lt 9, 3), (44, .aload_n 0, 1), (45, .iconst 3, 1), (46, .invokevirtual 107, 3), (49, .ireturn, 1), (50, .aload_n 0, 1), (51, .iconst 0, 1), (52, .putfield 87, 3), (55, .aload_n 0, 1), (56, .getfield 70, 3), (59, .getfield 242, 3), (62, .iload_n 1, 1), (63, .iaload, 1), (64, .istore_n 3, 1), (65, .aload_n 0, 1), (66, .getfield 70, 3), (69, .getfield 245, 3), (72, .iload_n 1, 1), (73, .iaload, 1), (74, .istore 4, 2), (76, .iload_n 2, 1), (116, .aload_n 0, 1), (117, .getfield 70, 3), (120, .getfield 248, 3), (123, .iload_n 1, 1), (124, .iaload, 1), (125, .ireturn, 1), (126, .aload_n 0, 1), (127, .getfield 70, 3), (130, .getfield 251, 3), (133, .iload_n 1, 1), (134, .laload, 1), (135, .l2i, 1), (136, .ireturn, 1), (137, .iload_n 3, 1), (138, .ireturn, 1), (139, .aload_n 0, 1), (140, .getfield 70, 3), (143, .getfield 255, 3), (146, .iload_n 1, 1), (147, .iaload, 1), (148, .ireturn, 1), (149, .iload_n 3, 1), (150, .ifCond .ge 7, 3), (153, .iconst 0, 1), (154, .goto 23, 3), (157, .aload_n 0, 1), (158, .getfield 70, 3), (161, .getfield 258, 3), (164, .aload_n 0, 1), (165, .getfield 70, 3), (168, .getfield 261, 3), (171, .iload_n 3, 1), (172, .iaload, 1), (173, .iload 4, 2), (175, .iadd, 1), (176, .iaload, 1), (177, .ireturn, 1), (178, .iload_n 3, 1), (179, .ifCond .ge 7, 3), (182, .iconst 0, 1), (183, .goto 23, 3), (186, .aload_n 0, 1), (187, .getfield 70, 3), (190, .getfield 264, 3), (193, .aload_n 0, 1), (194, .getfield 70, 3), (197, .getfield 261, 3), (200, .iload_n 3, 1), (201, .iaload, 1), (202, .iload 4, 2), (204, .iadd, 1), (205, .iaload, 1), (206, .ireturn, 1), (207, .iload_n 3, 1), (208, .ifCond .ge 34, 3), (211, .aload_n 0, 1), (212, .getfield 70, 3), (215, .getfield 267, 3), (218, .aload_n 0, 1), (219, .getfield 70, 3), (222, .getfield 270, 3), (225, .getfield 184, 3), (228, .aload_n 0, 1), (229, .getfield 70, 3), (232, .getfield 273, 3), (235, .iload_n 1, 1), (236, .iaload, 1), (237, .iaload, 1), (238, .iaload, 1), (239, .goto 14, 3), (242, .aload_n 0, 1), (243, .getfield 70, 3), (246, .iload_n 3, 1), (247, .iload 4, 2), (249, .invokevirtual 276, 3), (252, .l2i, 1), (253, .ireturn, 1)]
theorem t_X18_line : ∀ q ∈ k_X18_line, decode cX18_line q.1 = .ok q.2 := dl_all (by decide +kernel)
theorem dS_X18_line_77 : decode cX18_line 77 = .ok (.tableswitch 130 0 5 #[39, 49, 60, 62, 72, 101], 39) := by decide +kernel
noncomputable def m_X18_line (a0 a1 a2 : Int) (h : Hp) : Option (Int × Hp) :=
  (m_X18_in a2 0 6).bind fun v4 =>
  if v4 ≠ 0 then (if (h a0 17) ≠ 0 then (if a1 < 0 then (bW (m_X18_refuse a0 3 h) fun v46 h46 =>
  some (v46, h46))
  else (gd (h (h a0 15) (-2) = 416) (if a1 < (h (h a0 15) 42) then (pt h a0 0 0 fun h52 =>
  gd (h52 (h52 a0 15) (-2) = 416) (gd (h52 (h52 (h52 a0 15) 43) (-2) % 16 = 1 ∧ (0 : Int) ≤ a1 ∧ a1 < h52 (h52 (h52 a0 15) 43) (-1)) (lt_ (h52 (h52 (h52 a0 15) 43) a1) fun x3_64 =>
  gd (h52 (h52 (h52 a0 15) 44) (-2) % 16 = 1 ∧ (0 : Int) ≤ a1 ∧ a1 < h52 (h52 (h52 a0 15) 44) (-1)) (lt_ (h52 (h52 (h52 a0 15) 44) a1) fun x4_74 =>
  if a2 = 0 then (gd (h52 (h52 (h52 a0 15) 49) (-2) % 16 = 1 ∧ (0 : Int) ≤ a1 ∧ a1 < h52 (h52 (h52 a0 15) 49) (-1)) (some ((h52 (h52 (h52 a0 15) 49) a1), h52)))
  else (if a2 = 1 then (gd (h52 (h52 (h52 a0 15) 52) (-2) % 16 = 4 ∧ (0 : Int) ≤ a1 ∧ a1 < h52 (h52 (h52 a0 15) 52) (-1)) (some ((w32 (h52 (h52 (h52 a0 15) 52) a1)), h52)))
  else (if a2 = 2 then (some (x3_64, h52))
  else (if a2 = 3 then (gd (h52 (h52 (h52 a0 15) 48) (-2) % 16 = 1 ∧ (0 : Int) ≤ a1 ∧ a1 < h52 (h52 (h52 a0 15) 48) (-1)) (some ((h52 (h52 (h52 a0 15) 48) a1), h52)))
  else (if a2 = 4 then (if 0 ≤ x3_64 then (gd (h52 (h52 (h52 a0 15) 18) (-2) % 16 = 1 ∧ (0 : Int) ≤ x3_64 ∧ x3_64 < h52 (h52 (h52 a0 15) 18) (-1)) (gd (h52 (h52 (h52 a0 15) 29) (-2) % 16 = 1 ∧ (0 : Int) ≤ (w32 ((h52 (h52 (h52 a0 15) 18) x3_64) + x4_74)) ∧ (w32 ((h52 (h52 (h52 a0 15) 18) x3_64) + x4_74)) < h52 (h52 (h52 a0 15) 29) (-1)) (some ((h52 (h52 (h52 a0 15) 29) (w32 ((h52 (h52 (h52 a0 15) 18) x3_64) + x4_74))), h52))))
  else (some (0, h52)))
  else (if a2 = 5 then (if 0 ≤ x3_64 then (gd (h52 (h52 (h52 a0 15) 18) (-2) % 16 = 1 ∧ (0 : Int) ≤ x3_64 ∧ x3_64 < h52 (h52 (h52 a0 15) 18) (-1)) (gd (h52 (h52 (h52 a0 15) 28) (-2) % 16 = 1 ∧ (0 : Int) ≤ (w32 ((h52 (h52 (h52 a0 15) 18) x3_64) + x4_74)) ∧ (w32 ((h52 (h52 (h52 a0 15) 18) x3_64) + x4_74)) < h52 (h52 (h52 a0 15) 28) (-1)) (some ((h52 (h52 (h52 a0 15) 28) (w32 ((h52 (h52 (h52 a0 15) 18) x3_64) + x4_74))), h52))))
  else (some (0, h52)))
  else (if 0 ≤ x3_64 then (bW (m_X25_beginsAt (h52 a0 15) x3_64 x4_74 h52) fun v249 h249 =>
  some ((w32 v249), h249))
  else (gd (h52 (h52 (h52 a0 15) 1) (-2) = 384) (gd (h52 (h52 (h52 a0 15) 45) (-2) % 16 = 1 ∧ (0 : Int) ≤ a1 ∧ a1 < h52 (h52 (h52 a0 15) 45) (-1)) (gd (h52 (h52 (h52 (h52 a0 15) 1) 11) (-2) % 16 = 1 ∧ (0 : Int) ≤ (h52 (h52 (h52 a0 15) 45) a1) ∧ (h52 (h52 (h52 a0 15) 45) a1) < h52 (h52 (h52 (h52 a0 15) 1) 11) (-1)) (gd (h52 (h52 (h52 a0 15) 36) (-2) % 16 = 1 ∧ (0 : Int) ≤ (h52 (h52 (h52 (h52 a0 15) 1) 11) (h52 (h52 (h52 a0 15) 45) a1)) ∧ (h52 (h52 (h52 (h52 a0 15) 1) 11) (h52 (h52 (h52 a0 15) 45) a1)) < h52 (h52 (h52 a0 15) 36) (-1)) (some ((h52 (h52 (h52 a0 15) 36) (h52 (h52 (h52 (h52 a0 15) 1) 11) (h52 (h52 (h52 a0 15) 45) a1))), h52))))))))))))))))
  else (bW (m_X18_refuse a0 3 h) fun v46_1 h46_1 =>
  some (v46_1, h46_1)))))
  else (bW (m_X18_refuse a0 2 h) fun v25 h25 =>
  some (v25, h25)))
  else (bW (m_X18_refuse a0 1 h) fun v12 h12 =>
  some (v12, h12))
theorem s_X18_line {l : Launch} [NoTr l] {D : SD} {a0 a1 a2 : Int} {h : Hp} (hk : h a0 (-2) = 304) (r1 : r32 a1) (r2 : r32 a2) {r : Int × Hp} (hm : m_X18_line a0 a1 a2 h = some r) : Sim l D yX18_line (Cond.code yX18_line cX18_line 5 (Option.some Jvm.ClassFile.FieldType.int)) 4 163 [rv D a0, iv a1, iv a2] h 1 ((0, r.1), r.2) := by
  refine Sim.of (fin := fun (v : Int × Hp) => ((0, v.1), v.2)) (lsE := [(0, rv D a0), (1, iv a1), (2, iv a2)]) hm rfl cwS_code (la_r (la_i (la_i la_n))) (ll_r (ll_i (ll_i ll_n))) ?_
  intro p e s m below meth c X hcw hmm hcc hnm hname
  unfold m_X18_line
  refine g_iload_n (pc := 0) X (j := 2) (i := 2) (q := 2) (x := a2) rfl rfl (dl_at t_X18_line 0 rfl) ?_
  refine g_iconst (pc := 1) X (n := 0) (dl_at t_X18_line 1 rfl) ?_
  refine g_bipush (pc := 2) X (n := 6) rfl (dl_at t_X18_line 2 rfl) ?_
  refine r_callRz (pc := 4) X (fun _ hv => s_X18_in r2 (r32_c rfl) (r32_c rfl) hv) cw_code q4660 q372 (in_Sc X (As := [iv a2, iv 0, iv 6]) (Or.inl q4658) q4659 q372 q4660 ⟨by decide, by decide⟩ rfl (dl_at t_X18_line 3 rfl)) (dl_at t_X18_line 3 rfl) (cat24 (st := []) (Nat.le_of_ble_eq_true rfl)) (Nat.le_of_ble_eq_true rfl) (Nat.le_of_ble_eq_true rfl) fun v4 g4 => ?_
  refine g_ifne (pc := 7) X (r32_z g4) (off := 9) (tgt := 16) rfl (dl_at t_X18_line 4 rfl) (fun _ => ?_) (fun _ => ?_)
  · refine g_aload_n (pc := 16) X (j := 0) (i := 0) (q := 0) (x := a0) rfl rfl (dl_at t_X18_line 9 rfl) ?_
    refine r_getz (pc := 17) X fX18_17 hk q4253 (dl_at t_X18_line 10 rfl) fun g17 => ?_
    refine g_ifne (pc := 20) X (r32_z g17) (off := 9) (tgt := 29) rfl (dl_at t_X18_line 11 rfl) (fun _ => ?_) (fun _ => ?_)
    · refine g_iload_n (pc := 29) X (j := 1) (i := 1) (q := 1) (x := a1) rfl rfl (dl_at t_X18_line 16 rfl) ?_
      refine g_iflt (pc := 30) X r1 (off := 14) (tgt := 44) rfl (dl_at t_X18_line 17 rfl) (fun _ => ?_) (fun _ => ?_)
      · refine g_aload_n (pc := 44) X (j := 0) (i := 0) (q := 0) (x := a0) rfl rfl (dl_at t_X18_line 23 rfl) ?_
        refine g_iconst (pc := 45) X (n := 3) (dl_at t_X18_line 24 rfl) ?_
        refine r_callWi (pc := 46) X (fun _ hv => s_X18_refuse hk (r32_c rfl) hv) cw_code q4317 q372 (in_Vk X (As := [iv 3]) kX18 hk (Or.inl q4314) q4316 qs237 cw_code q4317 ⟨by decide, by decide⟩ rfl (dl_at t_X18_line 25 rfl)) (dl_at t_X18_line 25 rfl) (cat24 (st := []) (Nat.le_of_ble_eq_true rfl)) (Nat.le_of_ble_eq_true rfl) (Nat.le_of_ble_eq_true rfl) fun v46 h46 g46 E46 => ?_
        exact g_iret (pc := 49) X g46 rfl rfl (dl_at t_X18_line 26 rfl)
      refine g_iload_n (pc := 33) X (j := 1) (i := 1) (q := 1) (x := a1) rfl rfl (dl_at t_X18_line 18 rfl) ?_
      refine g_aload_n (pc := 34) X (j := 0) (i := 0) (q := 0) (x := a0) rfl rfl (dl_at t_X18_line 19 rfl) ?_
      refine r_getr (pc := 35) X fX18_15 hk q4251 (dl_at t_X18_line 20 rfl) ?_
      refine g_gd fun k38 => ?_
      refine r_geti (pc := 38) X fX25_42 k38 q3820 (dl_at t_X18_line 21 rfl) fun g38 => ?_
      refine g_icmplt (pc := 41) X r1 g38 (off := 9) (tgt := 50) rfl (dl_at t_X18_line 22 rfl) (fun _ => ?_) (fun _ => ?_)
      · refine g_aload_n (pc := 50) X (j := 0) (i := 0) (q := 0) (x := a0) rfl rfl (dl_at t_X18_line 27 rfl) ?_
        refine g_iconst (pc := 51) X (n := 0) (dl_at t_X18_line 28 rfl) ?_
        refine r_puti (pc := 52) X fX18_0 hk q4236 rfl (dl_at t_X18_line 29 rfl) (r32_c rfl) (fun h52 E52 => ?_)
        refine g_aload_n (pc := 55) X (j := 0) (i := 0) (q := 0) (x := a0) rfl rfl (dl_at t_X18_line 30 rfl) ?_
        have k56 := kx E52 (by decide) hk
        refine r_getr (pc := 56) X fX18_15 k56 q4251 (dl_at t_X18_line 31 rfl) ?_
        refine g_gd fun k59 => ?_
        refine r_getr (pc := 59) X fX25_43 k59 q3823 (dl_at t_X18_line 32 rfl) ?_
        refine g_iload_n (pc := 62) X (j := 1) (i := 1) (q := 1) (x := a1) rfl rfl (dl_at t_X18_line 33 rfl) ?_
        refine g_gd fun k63 => ?_
        refine g_iald (pc := 63) X r1 k63 (dl_at t_X18_line 34 rfl) fun g63 => ?_
        refine g_lti g63 fun x3_64 r3_64 => ?_
        refine g_istore_nN (pc := 64) X (j := 3) (i := 3) (x := x3_64) (b := 2) (w := iv a2) (rest := [(0, rv D a0), (1, iv a1)]) rfl (Nat.le_of_ble_eq_true rfl) [2, 0, 1] rfl (by decide) rfl rfl (dl_at t_X18_line 35 rfl) ?_
        refine g_aload_n (pc := 65) X (j := 0) (i := 0) (q := 2) (x := a0) rfl rfl (dl_at t_X18_line 36 rfl) ?_
        refine r_getr (pc := 66) X fX18_15 k56 q4251 (dl_at t_X18_line 37 rfl) ?_
        refine r_getr (pc := 69) X fX25_44 k59 q3825 (dl_at t_X18_line 38 rfl) ?_
        refine g_iload_n (pc := 72) X (j := 1) (i := 1) (q := 3) (x := a1) rfl rfl (dl_at t_X18_line 39 rfl) ?_
        refine g_gd fun k73 => ?_
        refine g_iald (pc := 73) X r1 k73 (dl_at t_X18_line 40 rfl) fun g73 => ?_
        refine g_lti g73 fun x4_74 r4_74 => ?_
        refine g_istoreN (pc := 74) X (i := 4) (x := x4_74) (b := 3) (w := iv x3_64) (rest := [(2, iv a2), (0, rv D a0), (1, iv a1)]) (Nat.le_of_ble_eq_true rfl) [0, 1, 2, 3] rfl (by decide) rfl rfl (dl_at t_X18_line 41 rfl) ?_
        refine g_iload_n (pc := 76) X (j := 2) (i := 2) (q := 2) (x := a2) rfl rfl (dl_at t_X18_line 42 rfl) ?_
        refine g_case (fun w77 => ?_) (fun nw77 => ?_)
        · refine g_tabIn (pc := 77) X (off := 39) (tgt := 116) r2 w77 (by decide) (by decide) rfl rfl dS_X18_line_77 ?_
          refine g_aload_n (pc := 116) X (j := 0) (i := 0) (q := 3) (x := a0) rfl rfl (dl_at t_X18_line 43 rfl) ?_
          refine r_getr (pc := 117) X fX18_15 k56 q4251 (dl_at t_X18_line 44 rfl) ?_
          refine r_getr (pc := 120) X fX25_49 k59 q3833 (dl_at t_X18_line 45 rfl) ?_
          refine g_iload_n (pc := 123) X (j := 1) (i := 1) (q := 4) (x := a1) rfl rfl (dl_at t_X18_line 46 rfl) ?_
          refine g_gd fun k124 => ?_
          refine g_iald (pc := 124) X r1 k124 (dl_at t_X18_line 47 rfl) fun g124 => ?_
          exact g_iret (pc := 125) X g124 rfl rfl (dl_at t_X18_line 48 rfl)
        refine g_case (fun w77_1 => ?_) (fun nw77_1 => ?_)
        · refine g_tabIn (pc := 77) X (off := 49) (tgt := 126) r2 w77_1 (by decide) (by decide) rfl rfl dS_X18_line_77 ?_
          refine g_aload_n (pc := 126) X (j := 0) (i := 0) (q := 3) (x := a0) rfl rfl (dl_at t_X18_line 49 rfl) ?_
          refine r_getr (pc := 127) X fX18_15 k56 q4251 (dl_at t_X18_line 50 rfl) ?_
          refine r_getr (pc := 130) X fX25_52 k59 q3837 (dl_at t_X18_line 51 rfl) ?_
          refine g_iload_n (pc := 133) X (j := 1) (i := 1) (q := 4) (x := a1) rfl rfl (dl_at t_X18_line 52 rfl) ?_
          refine g_gd fun k134 => ?_
          refine g_lald (pc := 134) X r1 k134 (dl_at t_X18_line 53 rfl) fun g134 => ?_
          refine g_l2i (pc := 135) X g134 (dl_at t_X18_line 54 rfl) ?_
          exact g_iret (pc := 136) X (r32_w _) rfl rfl (dl_at t_X18_line 55 rfl)
        refine g_case (fun w77_2 => ?_) (fun nw77_2 => ?_)
        · refine g_tabIn (pc := 77) X (off := 60) (tgt := 137) r2 w77_2 (by decide) (by decide) rfl rfl dS_X18_line_77 ?_
          refine g_iload_n (pc := 137) X (j := 3) (i := 3) (q := 1) (x := x3_64) rfl rfl (dl_at t_X18_line 56 rfl) ?_
          exact g_iret (pc := 138) X r3_64 rfl rfl (dl_at t_X18_line 57 rfl)
        refine g_case (fun w77_3 => ?_) (fun nw77_3 => ?_)
        · refine g_tabIn (pc := 77) X (off := 62) (tgt := 139) r2 w77_3 (by decide) (by decide) rfl rfl dS_X18_line_77 ?_
          refine g_aload_n (pc := 139) X (j := 0) (i := 0) (q := 3) (x := a0) rfl rfl (dl_at t_X18_line 58 rfl) ?_
          refine r_getr (pc := 140) X fX18_15 k56 q4251 (dl_at t_X18_line 59 rfl) ?_
          refine r_getr (pc := 143) X fX25_48 k59 q3831 (dl_at t_X18_line 60 rfl) ?_
          refine g_iload_n (pc := 146) X (j := 1) (i := 1) (q := 4) (x := a1) rfl rfl (dl_at t_X18_line 61 rfl) ?_
          refine g_gd fun k147 => ?_
          refine g_iald (pc := 147) X r1 k147 (dl_at t_X18_line 62 rfl) fun g147 => ?_
          exact g_iret (pc := 148) X g147 rfl rfl (dl_at t_X18_line 63 rfl)
        refine g_case (fun w77_4 => ?_) (fun nw77_4 => ?_)
        · refine g_tabIn (pc := 77) X (off := 72) (tgt := 149) r2 w77_4 (by decide) (by decide) rfl rfl dS_X18_line_77 ?_
          refine g_iload_n (pc := 149) X (j := 3) (i := 3) (q := 1) (x := x3_64) rfl rfl (dl_at t_X18_line 64 rfl) ?_
          refine g_ifge (pc := 150) X r3_64 (off := 7) (tgt := 157) rfl (dl_at t_X18_line 65 rfl) (fun _ => ?_) (fun _ => ?_)
          · refine g_aload_n (pc := 157) X (j := 0) (i := 0) (q := 3) (x := a0) rfl rfl (dl_at t_X18_line 68 rfl) ?_
            refine r_getr (pc := 158) X fX18_15 k56 q4251 (dl_at t_X18_line 69 rfl) ?_
            refine r_getr (pc := 161) X fX25_29 k59 q3805 (dl_at t_X18_line 70 rfl) ?_
            refine g_aload_n (pc := 164) X (j := 0) (i := 0) (q := 3) (x := a0) rfl rfl (dl_at t_X18_line 71 rfl) ?_
            refine r_getr (pc := 165) X fX18_15 k56 q4251 (dl_at t_X18_line 72 rfl) ?_
            refine r_getr (pc := 168) X fX25_18 k59 q3789 (dl_at t_X18_line 73 rfl) ?_
            refine g_iload_n (pc := 171) X (j := 3) (i := 3) (q := 1) (x := x3_64) rfl rfl (dl_at t_X18_line 74 rfl) ?_
            refine g_gd fun k172 => ?_
            refine g_iald (pc := 172) X r3_64 k172 (dl_at t_X18_line 75 rfl) fun g172 => ?_
            refine g_iload (pc := 173) X (i := 4) (q := 0) (x := x4_74) rfl (dl_at t_X18_line 76 rfl) ?_
            refine g_iadd (pc := 175) X g172 r4_74 (dl_at t_X18_line 77 rfl) ?_
            refine g_gd fun k176 => ?_
            refine g_iald (pc := 176) X (r32_w _) k176 (dl_at t_X18_line 78 rfl) fun g176 => ?_
            exact g_iret (pc := 177) X g176 rfl rfl (dl_at t_X18_line 79 rfl)
          refine g_iconst (pc := 153) X (n := 0) (dl_at t_X18_line 66 rfl) ?_
          refine g_goto (pc := 154) X (off := 23) (tgt := 177) rfl (dl_at t_X18_line 67 rfl) ?_
          exact g_iret (pc := 177) X (r32_c rfl) rfl rfl (dl_at t_X18_line 79 rfl)
        refine g_case (fun w77_5 => ?_) (fun nw77_5 => ?_)
        · refine g_tabIn (pc := 77) X (off := 101) (tgt := 178) r2 w77_5 (by decide) (by decide) rfl rfl dS_X18_line_77 ?_
          refine g_iload_n (pc := 178) X (j := 3) (i := 3) (q := 1) (x := x3_64) rfl rfl (dl_at t_X18_line 80 rfl) ?_
          refine g_ifge (pc := 179) X r3_64 (off := 7) (tgt := 186) rfl (dl_at t_X18_line 81 rfl) (fun _ => ?_) (fun _ => ?_)
          · refine g_aload_n (pc := 186) X (j := 0) (i := 0) (q := 3) (x := a0) rfl rfl (dl_at t_X18_line 84 rfl) ?_
            refine r_getr (pc := 187) X fX18_15 k56 q4251 (dl_at t_X18_line 85 rfl) ?_
            refine r_getr (pc := 190) X fX25_28 k59 q3803 (dl_at t_X18_line 86 rfl) ?_
            refine g_aload_n (pc := 193) X (j := 0) (i := 0) (q := 3) (x := a0) rfl rfl (dl_at t_X18_line 87 rfl) ?_
            refine r_getr (pc := 194) X fX18_15 k56 q4251 (dl_at t_X18_line 88 rfl) ?_
            refine r_getr (pc := 197) X fX25_18 k59 q3789 (dl_at t_X18_line 89 rfl) ?_
            refine g_iload_n (pc := 200) X (j := 3) (i := 3) (q := 1) (x := x3_64) rfl rfl (dl_at t_X18_line 90 rfl) ?_
            refine g_gd fun k201 => ?_
            refine g_iald (pc := 201) X r3_64 k201 (dl_at t_X18_line 91 rfl) fun g201 => ?_
            refine g_iload (pc := 202) X (i := 4) (q := 0) (x := x4_74) rfl (dl_at t_X18_line 92 rfl) ?_
            refine g_iadd (pc := 204) X g201 r4_74 (dl_at t_X18_line 93 rfl) ?_
            refine g_gd fun k205 => ?_
            refine g_iald (pc := 205) X (r32_w _) k205 (dl_at t_X18_line 94 rfl) fun g205 => ?_
            exact g_iret (pc := 206) X g205 rfl rfl (dl_at t_X18_line 95 rfl)
          refine g_iconst (pc := 182) X (n := 0) (dl_at t_X18_line 82 rfl) ?_
          refine g_goto (pc := 183) X (off := 23) (tgt := 206) rfl (dl_at t_X18_line 83 rfl) ?_
          exact g_iret (pc := 206) X (r32_c rfl) rfl rfl (dl_at t_X18_line 95 rfl)
        have w77_6 : ¬ a2 ∈ ([0, 1, 2, 3, 4, 5] : List Int) := by simp only [List.mem_cons, List.not_mem_nil, or_false, not_or] at *; simp only [*, not_false_eq_true, and_self]
        refine g_tabElse (pc := 77) X (tgt := 207) [0, 1, 2, 3, 4, 5] r2 w77_6 rfl rfl dS_X18_line_77 ?_
        refine g_iload_n (pc := 207) X (j := 3) (i := 3) (q := 1) (x := x3_64) rfl rfl (dl_at t_X18_line 96 rfl) ?_
        refine g_ifge (pc := 208) X r3_64 (off := 34) (tgt := 242) rfl (dl_at t_X18_line 97 rfl) (fun _ => ?_) (fun _ => ?_)
        · refine g_aload_n (pc := 242) X (j := 0) (i := 0) (q := 3) (x := a0) rfl rfl (dl_at t_X18_line 113 rfl) ?_
          refine r_getr (pc := 243) X fX18_15 k56 q4251 (dl_at t_X18_line 114 rfl) ?_
          refine g_iload_n (pc := 246) X (j := 3) (i := 3) (q := 1) (x := x3_64) rfl rfl (dl_at t_X18_line 115 rfl) ?_
          refine g_iload (pc := 247) X (i := 4) (q := 0) (x := x4_74) rfl (dl_at t_X18_line 116 rfl) ?_
          refine r_callWl (pc := 249) X (fun _ hv => s_X25_beginsAt k59 r3_64 r4_74 hv) cw_code q5160 q379 (in_Vk X (As := [iv x3_64, iv x4_74]) kX25 k59 (Or.inl q5157) q5158 q5159 cw_code q5160 ⟨by decide, by decide⟩ rfl (dl_at t_X18_line 117 rfl)) (dl_at t_X18_line 117 rfl) (cat24 (st := []) (Nat.le_of_ble_eq_true rfl)) (Nat.le_of_ble_eq_true rfl) (Nat.le_of_ble_eq_true rfl) fun v249 h249 g249 E249 => ?_
          refine g_l2i (pc := 252) X g249 (dl_at t_X18_line 118 rfl) ?_
          exact g_iret (pc := 253) X (r32_w _) rfl rfl (dl_at t_X18_line 119 rfl)
        refine g_aload_n (pc := 211) X (j := 0) (i := 0) (q := 3) (x := a0) rfl rfl (dl_at t_X18_line 98 rfl) ?_
        refine r_getr (pc := 212) X fX18_15 k56 q4251 (dl_at t_X18_line 99 rfl) ?_
        refine r_getr (pc := 215) X fX25_36 k59 q3814 (dl_at t_X18_line 100 rfl) ?_
        refine g_aload_n (pc := 218) X (j := 0) (i := 0) (q := 3) (x := a0) rfl rfl (dl_at t_X18_line 101 rfl) ?_
        refine r_getr (pc := 219) X fX18_15 k56 q4251 (dl_at t_X18_line 102 rfl) ?_
        refine r_getr (pc := 222) X fX25_1 k59 q3764 (dl_at t_X18_line 103 rfl) ?_
        refine g_gd fun k225 => ?_
        refine r_getr (pc := 225) X fX23_11 k225 q3549 (dl_at t_X18_line 104 rfl) ?_
        refine g_aload_n (pc := 228) X (j := 0) (i := 0) (q := 3) (x := a0) rfl rfl (dl_at t_X18_line 105 rfl) ?_
        refine r_getr (pc := 229) X fX18_15 k56 q4251 (dl_at t_X18_line 106 rfl) ?_
        refine r_getr (pc := 232) X fX25_45 k59 q3827 (dl_at t_X18_line 107 rfl) ?_
        refine g_iload_n (pc := 235) X (j := 1) (i := 1) (q := 4) (x := a1) rfl rfl (dl_at t_X18_line 108 rfl) ?_
        refine g_gd fun k236 => ?_
        refine g_iald (pc := 236) X r1 k236 (dl_at t_X18_line 109 rfl) fun g236 => ?_
        refine g_gd fun k237 => ?_
        refine g_iald (pc := 237) X g236 k237 (dl_at t_X18_line 110 rfl) fun g237 => ?_
        refine g_gd fun k238 => ?_
        refine g_iald (pc := 238) X g237 k238 (dl_at t_X18_line 111 rfl) fun g238 => ?_
        refine g_goto (pc := 239) X (off := 14) (tgt := 253) rfl (dl_at t_X18_line 112 rfl) ?_
        exact g_iret (pc := 253) X g238 rfl rfl (dl_at t_X18_line 119 rfl)
      refine g_aload_n (pc := 44) X (j := 0) (i := 0) (q := 0) (x := a0) rfl rfl (dl_at t_X18_line 23 rfl) ?_
      refine g_iconst (pc := 45) X (n := 3) (dl_at t_X18_line 24 rfl) ?_
      refine r_callWi (pc := 46) X (fun _ hv => s_X18_refuse hk (r32_c rfl) hv) cw_code q4317 q372 (in_Vk X (As := [iv 3]) kX18 hk (Or.inl q4314) q4316 qs237 cw_code q4317 ⟨by decide, by decide⟩ rfl (dl_at t_X18_line 25 rfl)) (dl_at t_X18_line 25 rfl) (cat24 (st := []) (Nat.le_of_ble_eq_true rfl)) (Nat.le_of_ble_eq_true rfl) (Nat.le_of_ble_eq_true rfl) fun v46_1 h46_1 g46_1 E46_1 => ?_
      exact g_iret (pc := 49) X g46_1 rfl rfl (dl_at t_X18_line 26 rfl)
    refine g_aload_n (pc := 23) X (j := 0) (i := 0) (q := 0) (x := a0) rfl rfl (dl_at t_X18_line 12 rfl) ?_
    refine g_iconst (pc := 24) X (n := 2) (dl_at t_X18_line 13 rfl) ?_
    refine r_callWi (pc := 25) X (fun _ hv => s_X18_refuse hk (r32_c rfl) hv) cw_code q4317 q372 (in_Vk X (As := [iv 2]) kX18 hk (Or.inl q4314) q4316 qs237 cw_code q4317 ⟨by decide, by decide⟩ rfl (dl_at t_X18_line 14 rfl)) (dl_at t_X18_line 14 rfl) (cat24 (st := []) (Nat.le_of_ble_eq_true rfl)) (Nat.le_of_ble_eq_true rfl) (Nat.le_of_ble_eq_true rfl) fun v25 h25 g25 E25 => ?_
    exact g_iret (pc := 28) X g25 rfl rfl (dl_at t_X18_line 15 rfl)
  refine g_aload_n (pc := 10) X (j := 0) (i := 0) (q := 0) (x := a0) rfl rfl (dl_at t_X18_line 5 rfl) ?_
  refine g_iconst (pc := 11) X (n := 1) (dl_at t_X18_line 6 rfl) ?_
  refine r_callWi (pc := 12) X (fun _ hv => s_X18_refuse hk (r32_c rfl) hv) cw_code q4317 q372 (in_Vk X (As := [iv 1]) kX18 hk (Or.inl q4314) q4316 qs237 cw_code q4317 ⟨by decide, by decide⟩ rfl (dl_at t_X18_line 7 rfl)) (dl_at t_X18_line 7 rfl) (cat24 (st := []) (Nat.le_of_ble_eq_true rfl)) (Nat.le_of_ble_eq_true rfl) (Nat.le_of_ble_eq_true rfl) fun v12 h12 g12 E12 => ?_
  exact g_iret (pc := 15) X g12 rfl rfl (dl_at t_X18_line 8 rfl)
def k_X25_words : List (Nat × Instr × Nat) := [(0, .iconst 1, 1), (1, .istore_n 3, 1), (2, .aload_n 0, 1), (3, .iload_n 1, 1), (4, .iload_n 2, 1), (5, .invokevirtual 777, 3), (8, .iconst 1, 1), (9, .iadd, 1), (10, .istore 4, 2), (12, .iload 4, 2), (14, .aload_n 0, 1), (15, .getfield 84, 3), (18, .aload_n 0, 1), (19, .getfield 53, 3), (22, .iload_n 1, 1), (23, .iaload, 1), (24, .iload_n 2, 1), (25, .iadd, 1), (26, .iaload, 1), (27, .if_icmp .ge 27, 3), (30, .iload_n 3, 1), (31, .aload_n 0, 1), (32, .iload_n 1, 1), (33, .iload 4, 2), (35, .invokevirtual 699, 3), (38, .ifCond .ne 7, 3), (41, .iconst 1, 1), (42, .goto 4, 3), (45, .iconst 0, 1), (46, .iadd, 1), (47, .istore_n 3, 1), (48, .iinc 4 1, 3), (51, .goto (-39), 3), (54, .iload_n 3, 1), (55, .ireturn, 1)]
theorem t_X25_words : ∀ q ∈ k_X25_words, decode cX25_words q.1 = .ok q.2 := dl_all (by decide +kernel)
noncomputable def m_X25_words_j46 (x3_12 x4_12 s1_46 : Int) : Option ((Int × Int) ⊕ ((Int))) :=
  lt_ (w32 (x3_12 + s1_46)) fun x3_47 =>
  lt_ (w32 (x4_12 + 1)) fun x4_48 =>
  some (.inl (x3_47, x4_48))
noncomputable def m_X25_words_l12 (a0 a1 a2 x3_12 x4_12 : Int) (h : Hp) : Option ((Int × Int) ⊕ ((Int))) :=
  gd (h (h a0 18) (-2) % 16 = 1 ∧ (0 : Int) ≤ a1 ∧ a1 < h (h a0 18) (-1)) (gd (h (h a0 28) (-2) % 16 = 1 ∧ (0 : Int) ≤ (w32 ((h (h a0 18) a1) + a2)) ∧ (w32 ((h (h a0 18) a1) + a2)) < h (h a0 28) (-1)) (if (h (h a0 28) (w32 ((h (h a0 18) a1) + a2))) ≤ x4_12 then (some (.inr x3_12))
  else ((m_X25_typeOf a0 a1 x4_12 h).bind fun v35 =>
  if v35 ≠ 0 then (m_X25_words_j46 x3_12 x4_12 0)
  else (m_X25_words_j46 x3_12 x4_12 1))))
noncomputable def m_X25_words (a0 a1 a2 : Int) (h : Hp) : Option (Int) :=
  lt_ 1 fun x3_1 =>
  (m_X25_lineStart a0 a1 a2 h).bind fun v5 =>
  lt_ (w32 (v5 + 1)) fun x4_10 =>
  (lp (fun (q : Int × Int) => m_X25_words_l12 a0 a1 a2 q.1 q.2 h) (x3_1, x4_10)).bind (fun (x : Int) => some x)
theorem s_X25_words {l : Launch} [NoTr l] {D : SD} {a0 a1 a2 : Int} {h : Hp} (hk : h a0 (-2) = 416) (r1 : r32 a1) (r2 : r32 a2) {r : Int} (hm : m_X25_words a0 a1 a2 h = some r) : Sim l D yX25_words (Cond.code yX25_words cX25_words 5 (Option.some Jvm.ClassFile.FieldType.int)) 1 38 [rv D a0, iv a1, iv a2] h 1 ((0, r), h) := by
  refine Sim.of (fin := fun (v : Int) => ((0, v), h)) (lsE := [(0, rv D a0), (1, iv a1), (2, iv a2)]) hm rfl cwS_code (la_r (la_i (la_i la_n))) (ll_r (ll_i (ll_i ll_n))) ?_
  intro p e s m below meth c X hcw hmm hcc hnm hname
  unfold m_X25_words
  refine g_iconst (pc := 0) X (n := 1) (dl_at t_X25_words 0 rfl) ?_
  refine g_ltz (Or.inr rfl) fun x3_1 r3_1 => ?_
  refine g_istore_nN (pc := 1) X (j := 3) (i := 3) (x := x3_1) (b := 2) (w := iv a2) (rest := [(0, rv D a0), (1, iv a1)]) rfl (Nat.le_of_ble_eq_true rfl) [2, 0, 1] rfl (by decide) rfl rfl (dl_at t_X25_words 1 rfl) ?_
  refine g_aload_n (pc := 2) X (j := 0) (i := 0) (q := 2) (x := a0) rfl rfl (dl_at t_X25_words 2 rfl) ?_
  refine g_iload_n (pc := 3) X (j := 1) (i := 1) (q := 3) (x := a1) rfl rfl (dl_at t_X25_words 3 rfl) ?_
  refine g_iload_n (pc := 4) X (j := 2) (i := 2) (q := 1) (x := a2) rfl rfl (dl_at t_X25_words 4 rfl) ?_
  refine r_callRi (pc := 5) X (fun _ hv => s_X25_lineStart hk r1 r2 hv) cw_code q5164 q379 (in_Vk X (As := [iv a1, iv a2]) kX25 hk (Or.inl q5161) q5162 q5163 cw_code q5164 ⟨by decide, by decide⟩ rfl (dl_at t_X25_words 5 rfl)) (dl_at t_X25_words 5 rfl) (cat24 (st := []) (Nat.le_of_ble_eq_true rfl)) (Nat.le_of_ble_eq_true rfl) (Nat.le_of_ble_eq_true rfl) fun v5 g5 => ?_
  refine g_iconst (pc := 8) X (n := 1) (dl_at t_X25_words 6 rfl) ?_
  refine g_iadd (pc := 9) X g5 (r32_c rfl) (dl_at t_X25_words 7 rfl) ?_
  refine g_lti (r32_w _) fun x4_10 r4_10 => ?_
  refine g_istoreN (pc := 10) X (i := 4) (x := x4_10) (b := 3) (w := iv x3_1) (rest := [(2, iv a2), (0, rv D a0), (1, iv a1)]) (Nat.le_of_ble_eq_true rfl) [0, 1, 2, 3] rfl (by decide) rfl rfl (dl_at t_X25_words 8 rfl) ?_
  refine g_ls (ls2 := [(0, rv D a0), (1, iv a1), (2, iv a2), (3, iv x3_1), (4, iv x4_10)]) [3, 4, 2, 1, 0] rfl ?_
  refine g_loop0F (fun (q : Int × Int) => [(0, rv D a0), (1, iv a1), (2, iv a2), (3, iv q.1), (4, iv q.2)]) (fun (q : Int × Int) => h) (fun (q : Int × Int) => r32 q.1 ∧ r32 q.2) (x3_1, x4_10) ⟨(r32_z r3_1), r4_10⟩ ?_ (fun _ => rfl)
  · rintro ⟨x3_12, x4_12⟩ ⟨r3_12, r4_12⟩
    try dsimp only
    unfold m_X25_words_l12
    refine g_iload (pc := 12) X (i := 4) (q := 4) (x := x4_12) rfl (dl_at t_X25_words 9 rfl) ?_
    refine g_aload_n (pc := 14) X (j := 0) (i := 0) (q := 0) (x := a0) rfl rfl (dl_at t_X25_words 10 rfl) ?_
    refine r_getr (pc := 15) X fX25_28 hk q3802 (dl_at t_X25_words 11 rfl) ?_
    refine g_aload_n (pc := 18) X (j := 0) (i := 0) (q := 0) (x := a0) rfl rfl (dl_at t_X25_words 12 rfl) ?_
    refine r_getr (pc := 19) X fX25_18 hk q3788 (dl_at t_X25_words 13 rfl) ?_
    refine g_iload_n (pc := 22) X (j := 1) (i := 1) (q := 1) (x := a1) rfl rfl (dl_at t_X25_words 14 rfl) ?_
    refine g_gd fun k23 => ?_
    refine g_iald (pc := 23) X r1 k23 (dl_at t_X25_words 15 rfl) fun g23 => ?_
    refine g_iload_n (pc := 24) X (j := 2) (i := 2) (q := 2) (x := a2) rfl rfl (dl_at t_X25_words 16 rfl) ?_
    refine g_iadd (pc := 25) X g23 r2 (dl_at t_X25_words 17 rfl) ?_
    refine g_gd fun k26 => ?_
    refine g_iald (pc := 26) X (r32_w _) k26 (dl_at t_X25_words 18 rfl) fun g26 => ?_
    refine g_icmpge (pc := 27) X r4_12 g26 (off := 27) (tgt := 54) rfl (dl_at t_X25_words 19 rfl) (fun _ => ?_) (fun _ => ?_)
    · refine g_iload_n (pc := 54) X (j := 3) (i := 3) (q := 3) (x := x3_12) rfl rfl (dl_at t_X25_words 33 rfl) ?_
      exact g_at fun Q hQ => (g_iret (pc := 55) X r3_12 rfl rfl (dl_at t_X25_words 34 rfl)) _ Q rfl hQ
    refine g_iload_n (pc := 30) X (j := 3) (i := 3) (q := 3) (x := x3_12) rfl rfl (dl_at t_X25_words 20 rfl) ?_
    refine g_aload_n (pc := 31) X (j := 0) (i := 0) (q := 0) (x := a0) rfl rfl (dl_at t_X25_words 21 rfl) ?_
    refine g_iload_n (pc := 32) X (j := 1) (i := 1) (q := 1) (x := a1) rfl rfl (dl_at t_X25_words 22 rfl) ?_
    refine g_iload (pc := 33) X (i := 4) (q := 4) (x := x4_12) rfl (dl_at t_X25_words 23 rfl) ?_
    refine r_callRi (pc := 35) X (fun _ hv => s_X25_typeOf hk r1 r4_12 hv) cw_code q5018 q379 (in_Vk X (As := [iv a1, iv x4_12]) kX25 hk (Or.inl q5015) q5017 qs326 cw_code q5018 ⟨by decide, by decide⟩ rfl (dl_at t_X25_words 24 rfl)) (dl_at t_X25_words 24 rfl) (cat24 (st := [iv x3_12]) (Nat.le_of_ble_eq_true rfl)) (Nat.le_of_ble_eq_true rfl) (Nat.le_of_ble_eq_true rfl) fun v35 g35 => ?_
    refine g_join (γ := Int) (fun q => (q = 0 ∨ q = 1)) 46 (fun q => [(0, rv D a0), (1, iv a1), (2, iv a2), (4, iv x4_12)]) (fun q => [iv q, iv x3_12]) (fun q => h) (fun q => m_X25_words_j46 x3_12 x4_12 q) ?_ ?_
    · rintro s1_46 rs1_46
      try dsimp only
      unfold m_X25_words_j46
      refine g_iadd (pc := 46) X r3_12 (r32_z rs1_46) (dl_at t_X25_words 29 rfl) ?_
      refine g_lti (r32_w _) fun x3_47 r3_47 => ?_
      refine g_istore_nN (pc := 47) X (j := 3) (i := 3) (x := x3_47) (b := 2) (w := iv a2) (rest := [(0, rv D a0), (1, iv a1), (4, iv x4_12)]) rfl (Nat.le_of_ble_eq_true rfl) [2, 0, 1, 3] rfl (by decide) rfl rfl (dl_at t_X25_words 30 rfl) ?_
      refine r_iincN (pc := 48) X (i := 4) (q := 4) (n := 1) (x := x4_12) (b := 3) (w := iv x3_47) (rest := [(2, iv a2), (0, rv D a0), (1, iv a1)]) rfl r4_12 (r32_c rfl) (Nat.le_of_ble_eq_true rfl) [0, 1, 2, 3] rfl (by decide) rfl rfl (dl_at t_X25_words 31 rfl) fun x4_48 r4_48 => ?_
      refine g_goto (pc := 51) X (off := (-39)) (tgt := 12) rfl (dl_at t_X25_words 32 rfl) ?_
      refine g_ls (ls2 := [(0, rv D a0), (1, iv a1), (2, iv a2), (3, iv x3_47), (4, iv x4_48)]) [3, 4, 2, 1, 0] rfl ?_
      exact g_at fun Q hQ => hQ ⟨r3_47, r4_48⟩
    intro J46
    refine g_ifne (pc := 38) X g35 (off := 7) (tgt := 45) rfl (dl_at t_X25_words 25 rfl) (fun _ => ?_) (fun _ => ?_)
    · refine g_iconst (pc := 45) X (n := 0) (dl_at t_X25_words 28 rfl) ?_
      refine g_ls (ls2 := [(0, rv D a0), (1, iv a1), (2, iv a2), (4, iv x4_12)]) [0, 1, 2, 4] rfl ?_
      exact J46 0 (Or.inl rfl)
    refine g_iconst (pc := 41) X (n := 1) (dl_at t_X25_words 26 rfl) ?_
    refine g_goto (pc := 42) X (off := 4) (tgt := 46) rfl (dl_at t_X25_words 27 rfl) ?_
    refine g_ls (ls2 := [(0, rv D a0), (1, iv a1), (2, iv a2), (4, iv x4_12)]) [0, 1, 2, 4] rfl ?_
    exact J46 1 (Or.inr rfl)
def k_X25_spot : List (Nat × Instr × Nat) := [(0, .aload_n 0, 1), (1, .iload_n 1, 1), (2, .iload_n 2, 1), (3, .invokevirtual 780, 3), (6, .lstore 4, 2), (8, .aload_n 0, 1), (9, .iload_n 1, 1), (10, .iload_n 2, 1), (11, .invokevirtual 777, 3), (14, .istore 6, 2), (16, .aload_n 0, 1), (17, .getfield 84, 3), (20, .aload_n 0, 1), (21, .getfield 53, 3), (24, .iload_n 1, 1), (25, .iaload, 1), (26, .iload_n 2, 1), (27, .iadd, 1), (28, .iaload, 1), (29, .istore 7, 2), (31, .aload_n 0, 1), (32, .getfield 14, 3), (35, .aload_n 0, 1), (36, .getfield 35, 3), (39, .iload_n 1, 1), (40, .iaload, 1), (41, .bipush 8, 2), (43, .invokevirtual 477, 3), (46, .ifCond .ne 7, 3), (49, .iconst 1, 1), (50, .goto 4, 3), (53, .iconst 0, 1), (54, .istore 8, 2), (56, .iconst 0, 1), (57, .istore 9, 2), (59, .lload 4, 2), (61, .lstore 10, 2), (63, .lconst 0, 1), (64, .lstore 12, 2), (66, .lconst 0, 1), (67, .lstore 14, 2), (69, .iload_n 3, 1), (70, .ifCond .ne 6, 3), (73, .lload 4, 2), (75, .lreturn, 1), (76, .iload 6, 2), (78, .iconst 1, 1), (79, .iadd, 1), (80, .istore 16, 2), (82, .iload 16, 2), (84, .iload 7, 2), (86, .if_icmp .ge 217, 3), (89, .aload_n 0, 1), (90, .getfield 47, 3), (93, .iload_n 1, 1), (94, .iaload, 1), (95, .iload 16, 2), (97, .iadd, 1), (98, .iconst 1, 1), (99, .isub, 1), (100, .istore 17, 2), (102, .lload 10, 2), (104, .aload_n 0, 1), (105, .getfield 75, 3), (108, .iload 17, 2), (110, .laload, 1), (111, .ladd, 1), (112, .lstore 10, 2), (114, .aload_n 0, 1), (115, .getfield 69, 3), (118, .iload 17, 2), (120, .iaload, 1), (121, .ifCond .eq 6, 3), (124, .goto 173, 3), (127, .lload 10, 2), (129, .aload_n 0, 1), (130, .getfield 78, 3), (133, .iload 17, 2), (135, .laload, 1), (136, .ladd, 1), (137, .lstore 10, 2), (139, .lload 12, 2), (141, .aload_n 0, 1), (142, .getfield 78, 3), (145, .iload 17, 2), (147, .laload, 1), (148, .ldc2_w 695, 3), (151, .ldiv, 1), (152, .ladd, 1), (153, .lstore 12, 2), (155, .lload 14, 2), (157, .aload_n 0, 1), (158, .getfield 78, 3), (161, .iload 17, 2), (163, .laload, 1), (164, .ldc2_w 697, 3), (167, .ldiv, 1), (168, .ladd, 1), (169, .lstore 14, 2), (171, .iinc 9 1, 3), (174, .iload 9, 2), (176, .iload_n 3, 1), (177, .if_icmp .ge 6, 3), (180, .goto 117, 3), (183, .iload 8, 2), (185, .ifCond .ne 6, 3), (188, .lload 10, 2), (190, .lreturn, 1), (191, .aload_n 0, 1), (192, .getfield 702, 3), (195, .aload_n 0, 1), (196, .getfield 710, 3), (199, .lcmp, 1), (200, .ifCond .ge 49, 3), (203, .aload_n 0, 1), (204, .iload_n 1, 1), (205, .iload 7, 2), (207, .invokevirtual 699, 3), (210, .iconst 3, 1), (211, .if_icmp .eq 12, 3), (214, .aload_n 0, 1), (215, .getfield 713, 3), (218, .lconst 0, 1), (219, .lcmp, 1), (220, .ifCond .ne 8, 3), (223, .lload 10, 2), (225, .goto 23, 3), (228, .lload 10, 2), (230, .aload_n 0, 1), (231, .getfield 710, 3), (234, .aload_n 0, 1), (235, .getfield 702, 3), (238, .lsub, 1), (239, .lload 12, 2), (241, .lmul, 1), (242, .aload_n 0, 1), (243, .getfield 713, 3), (246, .ldiv, 1), (247, .ladd, 1), (248, .lreturn, 1), (249, .aload_n 0, 1), (250, .getfield 702, 3), (253, .aload_n 0, 1), (254, .getfield 710, 3), (257, .lcmp, 1), (258, .ifCond .ne 6, 3), (261, .lload 10, 2), (263, .lreturn, 1), (264, .lload 10, 2), (266, .aload_n 0, 1), (267, .getfield 719, 3), (270, .ifCond .eq 8, 3), (273, .lload 14, 2), (275, .goto 20, 3), (278, .aload_n 0, 1), (279, .getfield 702, 3), (282, .aload_n 0, 1), (283, .getfield 710, 3), (286, .lsub, 1), (287, .lload 14, 2), (289, .lmul, 1), (290, .aload_n 0, 1), (291, .getfield 716, 3), (294, .ldiv, 1), (295, .lsub, 1), (296, .lreturn, 1), (297, .iinc 16 1, 3), (300, .goto (-218), 3), (303, .ldc2_w 775, 3), (306, .lreturn, 1)]
theorem t_X25_spot : ∀ q ∈ k_X25_spot, decode cX25_spot q.1 = .ok q.2 := dl_all (by decide +kernel)
noncomputable def m_X25_spot_j297 (x16_82 x9_297 x10_297 x12_297 x14_297 : Int) : Option ((Int × Int × Int × Int × Int) ⊕ ((Int × Int × Int) ⊕ ((Int × Hp)))) :=
  lt_ (w32 (x16_82 + 1)) fun x16_297 =>
  some (.inl (x9_297, x10_297, x12_297, x14_297, x16_297))
noncomputable def m_X25_spot_l82 (a0 a1 a3 x7_29 x9_82 x10_82 x12_82 x14_82 x16_82 : Int) (h3 : Hp) : Option ((Int × Int × Int × Int × Int) ⊕ ((Int × Int × Int) ⊕ ((Int × Hp)))) :=
  if x7_29 ≤ x16_82 then (some (.inr (.inr ((-1), h3))))
  else (gd (h3 (h3 a0 16) (-2) % 16 = 1 ∧ (0 : Int) ≤ a1 ∧ a1 < h3 (h3 a0 16) (-1)) (lt_ (w32 ((w32 ((h3 (h3 a0 16) a1) + x16_82)) - 1)) fun x17_100 =>
  gd (h3 (h3 a0 25) (-2) % 16 = 4 ∧ (0 : Int) ≤ x17_100 ∧ x17_100 < h3 (h3 a0 25) (-1)) (lt_ (w64 (x10_82 + (h3 (h3 a0 25) x17_100))) fun x10_112 =>
  gd (h3 (h3 a0 23) (-2) % 16 = 1 ∧ (0 : Int) ≤ x17_100 ∧ x17_100 < h3 (h3 a0 23) (-1)) (if (h3 (h3 a0 23) x17_100) = 0 then (gd (h3 (h3 a0 26) (-2) % 16 = 4 ∧ (0 : Int) ≤ x17_100 ∧ x17_100 < h3 (h3 a0 26) (-1)) (lt_ (w64 (x10_112 + (h3 (h3 a0 26) x17_100))) fun x10_137 =>
  lt_ (w64 (x12_82 + (w64 (Int.tdiv (h3 (h3 a0 26) x17_100) 2)))) fun x12_153 =>
  lt_ (w64 (x14_82 + (w64 (Int.tdiv (h3 (h3 a0 26) x17_100) 3)))) fun x14_169 =>
  lt_ (w32 (x9_82 + 1)) fun x9_171 =>
  if a3 ≤ x9_171 then (some (.inr (.inl (x10_137, x12_153, x14_169))))
  else (m_X25_spot_j297 x16_82 x9_171 x10_137 x12_153 x14_169)))
  else (m_X25_spot_j297 x16_82 x9_82 x10_112 x12_82 x14_82)))))
noncomputable def m_X25_spot_j54 (x7_29 v11 v3 a3 a0 a1 s0_54 : Int) (h3 : Hp) : Option (Int × Hp) :=
  lt_ 0 fun x9_57 =>
  lt_ 0 fun x12_64 =>
  lt_ 0 fun x14_67 =>
  if a3 ≠ 0 then (lt_ (w32 (v11 + 1)) fun x16_80 =>
  (lp (fun (q : Int × Int × Int × Int × Int) => m_X25_spot_l82 a0 a1 a3 x7_29 q.1 q.2.1 q.2.2.1 q.2.2.2.1 q.2.2.2.2 h3) (x9_57, v3, x12_64, x14_67, x16_80)).bind (sE (fun (y183 : Int × Int × Int) => if s0_54 ≠ 0 then (if 0 ≤ (lcmp_ (h3 a0 112) (h3 a0 113)) then (if (lcmp_ (h3 a0 112) (h3 a0 113)) ≠ 0 then (if (h3 a0 120) = 0 then (gd ((h3 a0 115) ≠ 0) (some ((w64 (y183.1 - (w64 (Int.tdiv (w64 ((w64 ((h3 a0 112) - (h3 a0 113))) * y183.2.2)) (h3 a0 115))))), h3)))
  else (some ((w64 (y183.1 - y183.2.2)), h3)))
  else (some (y183.1, h3)))
  else ((m_X25_typeOf a0 a1 x7_29 h3).bind fun v207 =>
  if v207 = 3 then (some (y183.1, h3))
  else (if (lcmp_ (h3 a0 114) 0) ≠ 0 then (gd ((h3 a0 114) ≠ 0) (some ((w64 (y183.1 + (w64 (Int.tdiv (w64 ((w64 ((h3 a0 113) - (h3 a0 112))) * y183.2.1)) (h3 a0 114))))), h3)))
  else (some (y183.1, h3)))))
  else (some (y183.1, h3))) (fun (x : Int × Hp) => some x)))
  else (some (v3, h3))
noncomputable def m_X25_spot (a0 a1 a2 a3 : Int) (h : Hp) : Option (Int × Hp) :=
  bW (m_X25_beginsAt a0 a1 a2 h) fun v3 h3 =>
  (m_X25_lineStart a0 a1 a2 h3).bind fun v11 =>
  gd (h3 (h3 a0 18) (-2) % 16 = 1 ∧ (0 : Int) ≤ a1 ∧ a1 < h3 (h3 a0 18) (-1)) (gd (h3 (h3 a0 28) (-2) % 16 = 1 ∧ (0 : Int) ≤ (w32 ((h3 (h3 a0 18) a1) + a2)) ∧ (w32 ((h3 (h3 a0 18) a1) + a2)) < h3 (h3 a0 28) (-1)) (lt_ (h3 (h3 a0 28) (w32 ((h3 (h3 a0 18) a1) + a2))) fun x7_29 =>
  gd (h3 (h3 a0 12) (-2) % 16 = 1 ∧ (0 : Int) ≤ a1 ∧ a1 < h3 (h3 a0 12) (-1)) (gd (h3 (h3 a0 0) (-2) = 400) ((m_X24_of (h3 a0 0) (h3 (h3 a0 12) a1) 8 h3).bind fun v43 =>
  if v43 ≠ 0 then (m_X25_spot_j54 x7_29 v11 v3 a3 a0 a1 0 h3)
  else (m_X25_spot_j54 x7_29 v11 v3 a3 a0 a1 1 h3)))))
theorem s_X25_spot {l : Launch} [NoTr l] {D : SD} {a0 a1 a2 a3 : Int} {h : Hp} (hk : h a0 (-2) = 416) (r1 : r32 a1) (r2 : r32 a2) (r3 : r32 a3) {r : Int × Hp} (hm : m_X25_spot a0 a1 a2 a3 h = some r) : Sim l D yX25_spot (Cond.code yX25_spot cX25_spot 18 (Option.some Jvm.ClassFile.FieldType.long)) 4 163 [rv D a0, iv a1, iv a2, iv a3] h 4 ((0, r.1), r.2) := by
  refine Sim.of (fin := fun (v : Int × Hp) => ((0, v.1), v.2)) (lsE := [(0, rv D a0), (1, iv a1), (2, iv a2), (3, iv a3)]) hm rfl cwS_code (la_r (la_i (la_i (la_i la_n)))) (ll_r (ll_i (ll_i (ll_i ll_n)))) ?_
  intro p e s m below meth c X hcw hmm hcc hnm hname
  unfold m_X25_spot
  refine g_aload_n (pc := 0) X (j := 0) (i := 0) (q := 0) (x := a0) rfl rfl (dl_at t_X25_spot 0 rfl) ?_
  refine g_iload_n (pc := 1) X (j := 1) (i := 1) (q := 1) (x := a1) rfl rfl (dl_at t_X25_spot 1 rfl) ?_
  refine g_iload_n (pc := 2) X (j := 2) (i := 2) (q := 2) (x := a2) rfl rfl (dl_at t_X25_spot 2 rfl) ?_
  refine r_callWl (pc := 3) X (fun _ hv => s_X25_beginsAt hk r1 r2 hv) cw_code q5160 q379 (in_Vk X (As := [iv a1, iv a2]) kX25 hk (Or.inl q5177) q5158 q5159 cw_code q5160 ⟨by decide, by decide⟩ rfl (dl_at t_X25_spot 3 rfl)) (dl_at t_X25_spot 3 rfl) (cat24 (st := []) (Nat.le_of_ble_eq_true rfl)) (Nat.le_of_ble_eq_true rfl) (Nat.le_of_ble_eq_true rfl) fun v3 h3 g3 E3 => ?_
  refine g_lstoreN (pc := 6) X (i := 4) (x := v3) (b := 3) (w := iv a3) (rest := [(0, rv D a0), (1, iv a1), (2, iv a2)]) (Nat.le_of_ble_eq_true rfl) [3, 0, 1, 2] rfl (by decide) (by decide) rfl rfl (dl_at t_X25_spot 4 rfl) ?_
  refine g_aload_n (pc := 8) X (j := 0) (i := 0) (q := 2) (x := a0) rfl rfl (dl_at t_X25_spot 5 rfl) ?_
  refine g_iload_n (pc := 9) X (j := 1) (i := 1) (q := 3) (x := a1) rfl rfl (dl_at t_X25_spot 6 rfl) ?_
  refine g_iload_n (pc := 10) X (j := 2) (i := 2) (q := 4) (x := a2) rfl rfl (dl_at t_X25_spot 7 rfl) ?_
  have k11 := kx E3 (by decide) hk
  refine r_callRi (pc := 11) X (fun _ hv => s_X25_lineStart k11 r1 r2 hv) cw_code q5164 q379 (in_Vk X (As := [iv a1, iv a2]) kX25 k11 (Or.inl q5161) q5162 q5163 cw_code q5164 ⟨by decide, by decide⟩ rfl (dl_at t_X25_spot 8 rfl)) (dl_at t_X25_spot 8 rfl) (cat24 (st := []) (Nat.le_of_ble_eq_true rfl)) (Nat.le_of_ble_eq_true rfl) (Nat.le_of_ble_eq_true rfl) fun v11 g11 => ?_
  refine g_istore (pc := 14) X (i := 6) (x := v11) (rest := [(4, jv v3), (3, iv a3), (0, rv D a0), (1, iv a1), (2, iv a2)]) (Nat.le_of_ble_eq_true rfl) [0, 1, 2, 3, 4] rfl rfl (dl_at t_X25_spot 9 rfl) ?_
  refine g_aload_n (pc := 16) X (j := 0) (i := 0) (q := 3) (x := a0) rfl rfl (dl_at t_X25_spot 10 rfl) ?_
  refine r_getr (pc := 17) X fX25_28 k11 q3802 (dl_at t_X25_spot 11 rfl) ?_
  refine g_aload_n (pc := 20) X (j := 0) (i := 0) (q := 3) (x := a0) rfl rfl (dl_at t_X25_spot 12 rfl) ?_
  refine r_getr (pc := 21) X fX25_18 k11 q3788 (dl_at t_X25_spot 13 rfl) ?_
  refine g_iload_n (pc := 24) X (j := 1) (i := 1) (q := 4) (x := a1) rfl rfl (dl_at t_X25_spot 14 rfl) ?_
  refine g_gd fun k25 => ?_
  refine g_iald (pc := 25) X r1 k25 (dl_at t_X25_spot 15 rfl) fun g25 => ?_
  refine g_iload_n (pc := 26) X (j := 2) (i := 2) (q := 5) (x := a2) rfl rfl (dl_at t_X25_spot 16 rfl) ?_
  refine g_iadd (pc := 27) X g25 r2 (dl_at t_X25_spot 17 rfl) ?_
  refine g_gd fun k28 => ?_
  refine g_iald (pc := 28) X (r32_w _) k28 (dl_at t_X25_spot 18 rfl) fun g28 => ?_
  refine g_lti g28 fun x7_29 r7_29 => ?_
  refine g_istoreN (pc := 29) X (i := 7) (x := x7_29) (b := 6) (w := iv v11) (rest := [(4, jv v3), (3, iv a3), (0, rv D a0), (1, iv a1)]) (Nat.le_of_ble_eq_true rfl) [0, 1, 2, 3, 4] rfl (by decide) rfl rfl (dl_at t_X25_spot 19 rfl) ?_
  refine g_aload_n (pc := 31) X (j := 0) (i := 0) (q := 4) (x := a0) rfl rfl (dl_at t_X25_spot 20 rfl) ?_
  refine r_getr (pc := 32) X fX25_0 k11 q3761 (dl_at t_X25_spot 21 rfl) ?_
  refine g_aload_n (pc := 35) X (j := 0) (i := 0) (q := 4) (x := a0) rfl rfl (dl_at t_X25_spot 22 rfl) ?_
  refine r_getr (pc := 36) X fX25_12 k11 q3779 (dl_at t_X25_spot 23 rfl) ?_
  refine g_iload_n (pc := 39) X (j := 1) (i := 1) (q := 5) (x := a1) rfl rfl (dl_at t_X25_spot 24 rfl) ?_
  refine g_gd fun k40 => ?_
  refine g_iald (pc := 40) X r1 k40 (dl_at t_X25_spot 25 rfl) fun g40 => ?_
  refine g_bipush (pc := 41) X (n := 8) rfl (dl_at t_X25_spot 26 rfl) ?_
  refine g_gd fun k43 => ?_
  refine r_callRi (pc := 43) X (fun _ hv => s_X24_of k43 g40 (r32_c rfl) hv) cw_code q4704 q378 (in_Vk X (As := [iv (h3 (h3 a0 12) a1), iv 8]) kX24 k43 (Or.inl q4844) q4702 q4703 cw_code q4704 ⟨by decide, by decide⟩ rfl (dl_at t_X25_spot 27 rfl)) (dl_at t_X25_spot 27 rfl) (cat24 (st := []) (Nat.le_of_ble_eq_true rfl)) (Nat.le_of_ble_eq_true rfl) (Nat.le_of_ble_eq_true rfl) fun v43 g43 => ?_
  refine g_join (γ := Int) (fun q => (q = 0 ∨ q = 1)) 54 (fun q => [(0, rv D a0), (1, iv a1), (3, iv a3), (4, jv v3), (6, iv v11), (7, iv x7_29)]) (fun q => [iv q]) (fun q => h3) (fun q => m_X25_spot_j54 x7_29 v11 v3 a3 a0 a1 q h3) ?_ ?_
  · rintro s0_54 rs0_54
    try dsimp only
    unfold m_X25_spot_j54
    refine g_istoreN (pc := 54) X (i := 8) (x := s0_54) (b := 7) (w := iv x7_29) (rest := [(0, rv D a0), (1, iv a1), (3, iv a3), (4, jv v3), (6, iv v11)]) (Nat.le_of_ble_eq_true rfl) [5, 0, 1, 2, 3, 4] rfl (by decide) rfl rfl (dl_at t_X25_spot 32 rfl) ?_
    refine g_iconst (pc := 56) X (n := 0) (dl_at t_X25_spot 33 rfl) ?_
    refine g_ltz (Or.inl rfl) fun x9_57 r9_57 => ?_
    refine g_istoreN (pc := 57) X (i := 9) (x := x9_57) (b := 8) (w := iv s0_54) (rest := [(7, iv x7_29), (0, rv D a0), (1, iv a1), (3, iv a3), (4, jv v3), (6, iv v11)]) (Nat.le_of_ble_eq_true rfl) [0, 1, 2, 3, 4, 5, 6] rfl (by decide) rfl rfl (dl_at t_X25_spot 34 rfl) ?_
    refine g_lload (pc := 59) X (i := 4) (q := 6) (x := v3) rfl (dl_at t_X25_spot 35 rfl) ?_
    refine g_lstoreN (pc := 61) X (i := 10) (x := v3) (b := 9) (w := iv x9_57) (rest := [(8, iv s0_54), (7, iv x7_29), (0, rv D a0), (1, iv a1), (3, iv a3), (4, jv v3), (6, iv v11)]) (Nat.le_of_ble_eq_true rfl) [0, 1, 2, 3, 4, 5, 6, 7] rfl (by decide) (by decide) rfl rfl (dl_at t_X25_spot 36 rfl) ?_
    refine g_lconst0 (pc := 63) X (dl_at t_X25_spot 37 rfl) ?_
    refine g_ltl (r64_c rfl) fun x12_64 r12_64 => ?_
    refine g_lstore (pc := 64) X (i := 12) (x := x12_64) (rest := [(10, jv v3), (9, iv x9_57), (8, iv s0_54), (7, iv x7_29), (0, rv D a0), (1, iv a1), (3, iv a3), (4, jv v3), (6, iv v11)]) (Nat.le_of_ble_eq_true rfl) [0, 1, 2, 3, 4, 5, 6, 7, 8] rfl rfl (dl_at t_X25_spot 38 rfl) ?_
    refine g_lconst0 (pc := 66) X (dl_at t_X25_spot 39 rfl) ?_
    refine g_ltl (r64_c rfl) fun x14_67 r14_67 => ?_
    refine g_lstore (pc := 67) X (i := 14) (x := x14_67) (rest := [(12, jv x12_64), (10, jv v3), (9, iv x9_57), (8, iv s0_54), (7, iv x7_29), (0, rv D a0), (1, iv a1), (3, iv a3), (4, jv v3), (6, iv v11)]) (Nat.le_of_ble_eq_true rfl) [0, 1, 2, 3, 4, 5, 6, 7, 8, 9] rfl rfl (dl_at t_X25_spot 40 rfl) ?_
    refine g_iload_n (pc := 69) X (j := 3) (i := 3) (q := 8) (x := a3) rfl rfl (dl_at t_X25_spot 41 rfl) ?_
    refine g_ifne (pc := 70) X r3 (off := 6) (tgt := 76) rfl (dl_at t_X25_spot 42 rfl) (fun _ => ?_) (fun _ => ?_)
    · refine g_iload (pc := 76) X (i := 6) (q := 10) (x := v11) rfl (dl_at t_X25_spot 45 rfl) ?_
      refine g_iconst (pc := 78) X (n := 1) (dl_at t_X25_spot 46 rfl) ?_
      refine g_iadd (pc := 79) X g11 (r32_c rfl) (dl_at t_X25_spot 47 rfl) ?_
      refine g_lti (r32_w _) fun x16_80 r16_80 => ?_
      refine g_istore (pc := 80) X (i := 16) (x := x16_80) (rest := [(14, jv x14_67), (12, jv x12_64), (10, jv v3), (9, iv x9_57), (8, iv s0_54), (7, iv x7_29), (0, rv D a0), (1, iv a1), (3, iv a3)]) (Nat.le_of_ble_eq_true rfl) [0, 1, 2, 3, 4, 5, 6, 7, 8] rfl rfl (dl_at t_X25_spot 48 rfl) ?_
      refine g_ls (ls2 := [(0, rv D a0), (1, iv a1), (3, iv a3), (7, iv x7_29), (8, iv s0_54), (9, iv x9_57), (10, jv v3), (12, jv x12_64), (14, jv x14_67), (16, iv x16_80)]) [7, 8, 9, 6, 5, 4, 3, 2, 1, 0] rfl ?_
      refine g_loop1F (fun (q : Int × Int × Int × Int × Int) => [(0, rv D a0), (1, iv a1), (3, iv a3), (7, iv x7_29), (8, iv s0_54), (9, iv q.1), (10, jv q.2.1), (12, jv q.2.2.1), (14, jv q.2.2.2.1), (16, iv q.2.2.2.2)]) (fun (q : Int × Int × Int × Int × Int) => h3) (fun (q : Int × Int × Int × Int × Int) => r32 q.1 ∧ r64 q.2.1 ∧ r64 q.2.2.1 ∧ r64 q.2.2.2.1 ∧ r32 q.2.2.2.2) 183 (fun (y183 : Int × Int × Int) => [(0, rv D a0), (1, iv a1), (7, iv x7_29), (8, iv s0_54), (10, jv y183.1), (12, jv y183.2.1), (14, jv y183.2.2)]) (fun (y183 : Int × Int × Int) => h3) (fun (y183 : Int × Int × Int) => r64 y183.1 ∧ r64 y183.2.1 ∧ r64 y183.2.2) (x9_57, v3, x12_64, x14_67, x16_80) ⟨(r32_z r9_57), g3, r12_64, r14_67, r16_80⟩ ?_ ?_ (fun _ => rfl)
      · rintro ⟨x9_82, x10_82, x12_82, x14_82, x16_82⟩ ⟨r9_82, r10_82, r12_82, r14_82, r16_82⟩
        try dsimp only
        unfold m_X25_spot_l82
        refine g_iload (pc := 82) X (i := 16) (q := 9) (x := x16_82) rfl (dl_at t_X25_spot 49 rfl) ?_
        refine g_iload (pc := 84) X (i := 7) (q := 3) (x := x7_29) rfl (dl_at t_X25_spot 50 rfl) ?_
        refine g_icmpge (pc := 86) X r16_82 r7_29 (off := 217) (tgt := 303) rfl (dl_at t_X25_spot 51 rfl) (fun _ => ?_) (fun _ => ?_)
        · refine g_ldc2 (pc := 303) X (index := 775) (n := (-1)) (cnegL (by decide) q5178) (dl_at t_X25_spot 168 rfl) ?_
          exact g_at fun Q hQ => (g_lret (pc := 306) X (r64_c rfl) rfl rfl (dl_at t_X25_spot 169 rfl)) _ Q rfl hQ
        refine g_aload_n (pc := 89) X (j := 0) (i := 0) (q := 0) (x := a0) rfl rfl (dl_at t_X25_spot 52 rfl) ?_
        refine r_getr (pc := 90) X fX25_16 k11 q3785 (dl_at t_X25_spot 53 rfl) ?_
        refine g_iload_n (pc := 93) X (j := 1) (i := 1) (q := 1) (x := a1) rfl rfl (dl_at t_X25_spot 54 rfl) ?_
        refine g_gd fun k94 => ?_
        refine g_iald (pc := 94) X r1 k94 (dl_at t_X25_spot 55 rfl) fun g94 => ?_
        refine g_iload (pc := 95) X (i := 16) (q := 9) (x := x16_82) rfl (dl_at t_X25_spot 56 rfl) ?_
        refine g_iadd (pc := 97) X g94 r16_82 (dl_at t_X25_spot 57 rfl) ?_
        refine g_iconst (pc := 98) X (n := 1) (dl_at t_X25_spot 58 rfl) ?_
        refine g_isub (pc := 99) X (r32_w _) (r32_c rfl) (dl_at t_X25_spot 59 rfl) ?_
        refine g_lti (r32_w _) fun x17_100 r17_100 => ?_
        refine g_istoreN (pc := 100) X (i := 17) (x := x17_100) (b := 16) (w := iv x16_82) (rest := [(0, rv D a0), (1, iv a1), (3, iv a3), (7, iv x7_29), (8, iv s0_54), (9, iv x9_82), (10, jv x10_82), (12, jv x12_82), (14, jv x14_82)]) (Nat.le_of_ble_eq_true rfl) [9, 0, 1, 2, 3, 4, 5, 6, 7, 8] rfl (by decide) rfl rfl (dl_at t_X25_spot 60 rfl) ?_
        refine g_lload (pc := 102) X (i := 10) (q := 8) (x := x10_82) rfl (dl_at t_X25_spot 61 rfl) ?_
        refine g_aload_n (pc := 104) X (j := 0) (i := 0) (q := 2) (x := a0) rfl rfl (dl_at t_X25_spot 62 rfl) ?_
        refine r_getr (pc := 105) X fX25_25 k11 q3799 (dl_at t_X25_spot 63 rfl) ?_
        refine g_iload (pc := 108) X (i := 17) (q := 0) (x := x17_100) rfl (dl_at t_X25_spot 64 rfl) ?_
        refine g_gd fun k110 => ?_
        refine g_lald (pc := 110) X r17_100 k110 (dl_at t_X25_spot 65 rfl) fun g110 => ?_
        refine g_ladd (pc := 111) X r10_82 g110 (dl_at t_X25_spot 66 rfl) ?_
        refine g_ltl (r64_w _) fun x10_112 r10_112 => ?_
        refine g_lstoreN (pc := 112) X (i := 10) (x := x10_112) (b := 9) (w := iv x9_82) (rest := [(17, iv x17_100), (16, iv x16_82), (0, rv D a0), (1, iv a1), (3, iv a3), (7, iv x7_29), (8, iv s0_54), (12, jv x12_82), (14, jv x14_82)]) (Nat.le_of_ble_eq_true rfl) [7, 0, 1, 2, 3, 4, 5, 6, 9, 10] rfl (by decide) (by decide) rfl rfl (dl_at t_X25_spot 67 rfl) ?_
        refine g_aload_n (pc := 114) X (j := 0) (i := 0) (q := 4) (x := a0) rfl rfl (dl_at t_X25_spot 68 rfl) ?_
        refine r_getr (pc := 115) X fX25_23 k11 q3797 (dl_at t_X25_spot 69 rfl) ?_
        refine g_iload (pc := 118) X (i := 17) (q := 2) (x := x17_100) rfl (dl_at t_X25_spot 70 rfl) ?_
        refine g_gd fun k120 => ?_
        refine g_iald (pc := 120) X r17_100 k120 (dl_at t_X25_spot 71 rfl) fun g120 => ?_
        refine g_join (γ := Int × Int × Int × Int) (fun q => r32 q.1 ∧ r64 q.2.1 ∧ r64 q.2.2.1 ∧ r64 q.2.2.2) 297 (fun q => [(0, rv D a0), (1, iv a1), (3, iv a3), (7, iv x7_29), (8, iv s0_54), (9, iv q.1), (10, jv q.2.1), (12, jv q.2.2.1), (14, jv q.2.2.2), (16, iv x16_82)]) (fun q => []) (fun q => h3) (fun q => m_X25_spot_j297 x16_82 q.1 q.2.1 q.2.2.1 q.2.2.2) ?_ ?_
        · rintro ⟨x9_297, x10_297, x12_297, x14_297⟩ ⟨r9_297, r10_297, r12_297, r14_297⟩
          try dsimp only
          unfold m_X25_spot_j297
          refine r_iinc (pc := 297) X (i := 16) (q := 9) (n := 1) (x := x16_82) (rest := [(0, rv D a0), (1, iv a1), (3, iv a3), (7, iv x7_29), (8, iv s0_54), (9, iv x9_297), (10, jv x10_297), (12, jv x12_297), (14, jv x14_297)]) rfl r16_82 (r32_c rfl) (Nat.le_of_ble_eq_true rfl) [0, 1, 2, 3, 4, 5, 6, 7, 8] rfl rfl (dl_at t_X25_spot 166 rfl) fun x16_297 r16_297 => ?_
          refine g_goto (pc := 300) X (off := (-218)) (tgt := 82) rfl (dl_at t_X25_spot 167 rfl) ?_
          refine g_ls (ls2 := [(0, rv D a0), (1, iv a1), (3, iv a3), (7, iv x7_29), (8, iv s0_54), (9, iv x9_297), (10, jv x10_297), (12, jv x12_297), (14, jv x14_297), (16, iv x16_297)]) [1, 2, 3, 4, 5, 6, 7, 8, 9, 0] rfl ?_
          exact g_at fun Q hQ => hQ ⟨r9_297, r10_297, r12_297, r14_297, r16_297⟩
        intro J297
        refine g_ifeq (pc := 121) X g120 (off := 6) (tgt := 127) rfl (dl_at t_X25_spot 72 rfl) (fun _ => ?_) (fun _ => ?_)
        · refine g_lload (pc := 127) X (i := 10) (q := 0) (x := x10_112) rfl (dl_at t_X25_spot 74 rfl) ?_
          refine g_aload_n (pc := 129) X (j := 0) (i := 0) (q := 4) (x := a0) rfl rfl (dl_at t_X25_spot 75 rfl) ?_
          refine r_getr (pc := 130) X fX25_26 k11 q3800 (dl_at t_X25_spot 76 rfl) ?_
          refine g_iload (pc := 133) X (i := 17) (q := 2) (x := x17_100) rfl (dl_at t_X25_spot 77 rfl) ?_
          refine g_gd fun k135 => ?_
          refine g_lald (pc := 135) X r17_100 k135 (dl_at t_X25_spot 78 rfl) fun g135 => ?_
          refine g_ladd (pc := 136) X r10_112 g135 (dl_at t_X25_spot 79 rfl) ?_
          refine g_ltl (r64_w _) fun x10_137 r10_137 => ?_
          refine g_lstoreN (pc := 137) X (i := 10) (x := x10_137) (b := 9) (w := iv x9_82) (rest := [(17, iv x17_100), (16, iv x16_82), (0, rv D a0), (1, iv a1), (3, iv a3), (7, iv x7_29), (8, iv s0_54), (12, jv x12_82), (14, jv x14_82)]) (Nat.le_of_ble_eq_true rfl) [1, 2, 3, 4, 5, 6, 7, 8, 9, 10] rfl (by decide) (by decide) rfl rfl (dl_at t_X25_spot 80 rfl) ?_
          refine g_lload (pc := 139) X (i := 12) (q := 9) (x := x12_82) rfl (dl_at t_X25_spot 81 rfl) ?_
          refine g_aload_n (pc := 141) X (j := 0) (i := 0) (q := 4) (x := a0) rfl rfl (dl_at t_X25_spot 82 rfl) ?_
          refine r_getr (pc := 142) X fX25_26 k11 q3800 (dl_at t_X25_spot 83 rfl) ?_
          refine g_iload (pc := 145) X (i := 17) (q := 2) (x := x17_100) rfl (dl_at t_X25_spot 84 rfl) ?_
          refine g_lald (pc := 147) X r17_100 k135 (dl_at t_X25_spot 85 rfl) fun g147 => ?_
          refine g_ldc2 (pc := 148) X (index := 695) (n := 2) q5005 (dl_at t_X25_spot 86 rfl) ?_
          refine g_ldiv (pc := 151) X g147 (r64_c rfl) (by decide) (dl_at t_X25_spot 87 rfl) ?_
          refine g_ladd (pc := 152) X r12_82 (r64_w _) (dl_at t_X25_spot 88 rfl) ?_
          refine g_ltl (r64_w _) fun x12_153 r12_153 => ?_
          refine g_lstore (pc := 153) X (i := 12) (x := x12_153) (rest := [(10, jv x10_137), (9, iv x9_82), (17, iv x17_100), (16, iv x16_82), (0, rv D a0), (1, iv a1), (3, iv a3), (7, iv x7_29), (8, iv s0_54), (14, jv x14_82)]) (Nat.le_of_ble_eq_true rfl) [0, 1, 2, 3, 4, 5, 6, 7, 8, 10] rfl rfl (dl_at t_X25_spot 89 rfl) ?_
          refine g_lload (pc := 155) X (i := 14) (q := 10) (x := x14_82) rfl (dl_at t_X25_spot 90 rfl) ?_
          refine g_aload_n (pc := 157) X (j := 0) (i := 0) (q := 5) (x := a0) rfl rfl (dl_at t_X25_spot 91 rfl) ?_
          refine r_getr (pc := 158) X fX25_26 k11 q3800 (dl_at t_X25_spot 92 rfl) ?_
          refine g_iload (pc := 161) X (i := 17) (q := 3) (x := x17_100) rfl (dl_at t_X25_spot 93 rfl) ?_
          refine g_lald (pc := 163) X r17_100 k135 (dl_at t_X25_spot 94 rfl) fun g163 => ?_
          refine g_ldc2 (pc := 164) X (index := 697) (n := 3) q5006 (dl_at t_X25_spot 95 rfl) ?_
          refine g_ldiv (pc := 167) X g163 (r64_c rfl) (by decide) (dl_at t_X25_spot 96 rfl) ?_
          refine g_ladd (pc := 168) X r14_82 (r64_w _) (dl_at t_X25_spot 97 rfl) ?_
          refine g_ltl (r64_w _) fun x14_169 r14_169 => ?_
          refine g_lstore (pc := 169) X (i := 14) (x := x14_169) (rest := [(12, jv x12_153), (10, jv x10_137), (9, iv x9_82), (16, iv x16_82), (0, rv D a0), (1, iv a1), (3, iv a3), (7, iv x7_29), (8, iv s0_54)]) (Nat.le_of_ble_eq_true rfl) [0, 1, 2, 4, 5, 6, 7, 8, 9] rfl rfl (dl_at t_X25_spot 98 rfl) ?_
          refine r_iincN (pc := 171) X (i := 9) (q := 3) (n := 1) (x := x9_82) (b := 8) (w := iv s0_54) (rest := [(14, jv x14_169), (12, jv x12_153), (10, jv x10_137), (16, iv x16_82), (0, rv D a0), (1, iv a1), (3, iv a3), (7, iv x7_29)]) rfl r9_82 (r32_c rfl) (Nat.le_of_ble_eq_true rfl) [9, 0, 1, 2, 4, 5, 6, 7, 8] rfl (by decide) rfl rfl (dl_at t_X25_spot 99 rfl) fun x9_171 r9_171 => ?_
          refine g_iload (pc := 174) X (i := 9) (q := 0) (x := x9_171) rfl (dl_at t_X25_spot 100 rfl) ?_
          refine g_iload_n (pc := 176) X (j := 3) (i := 3) (q := 8) (x := a3) rfl rfl (dl_at t_X25_spot 101 rfl) ?_
          refine g_icmpge (pc := 177) X r9_171 r3 (off := 6) (tgt := 183) rfl (dl_at t_X25_spot 102 rfl) (fun _ => ?_) (fun _ => ?_)
          · refine g_ls (ls2 := [(0, rv D a0), (1, iv a1), (7, iv x7_29), (8, iv s0_54), (10, jv x10_137), (12, jv x12_153), (14, jv x14_169)]) [6, 7, 9, 1, 4, 3, 2] rfl ?_
            exact g_at fun Q hQ => hQ ⟨r10_137, r12_153, r14_169⟩
          refine g_goto (pc := 180) X (off := 117) (tgt := 297) rfl (dl_at t_X25_spot 103 rfl) ?_
          refine g_ls (ls2 := [(0, rv D a0), (1, iv a1), (3, iv a3), (7, iv x7_29), (8, iv s0_54), (9, iv x9_171), (10, jv x10_137), (12, jv x12_153), (14, jv x14_169), (16, iv x16_82)]) [6, 7, 8, 9, 1, 0, 4, 3, 2, 5] rfl ?_
          exact J297 (x9_171, x10_137, x12_153, x14_169) ⟨r9_171, r10_137, r12_153, r14_169⟩
        refine g_goto (pc := 124) X (off := 173) (tgt := 297) rfl (dl_at t_X25_spot 73 rfl) ?_
        refine g_ls (ls2 := [(0, rv D a0), (1, iv a1), (3, iv a3), (7, iv x7_29), (8, iv s0_54), (9, iv x9_82), (10, jv x10_112), (12, jv x12_82), (14, jv x14_82), (16, iv x16_82)]) [4, 5, 6, 7, 8, 1, 0, 9, 10, 3] rfl ?_
        exact J297 (x9_82, x10_112, x12_82, x14_82) ⟨r9_82, r10_112, r12_82, r14_82⟩
      · rintro ⟨x10_183, x12_183, x14_183⟩ ⟨r10_183, r12_183, r14_183⟩
        try dsimp only [sE]
        refine g_iload (pc := 183) X (i := 8) (q := 3) (x := s0_54) rfl (dl_at t_X25_spot 104 rfl) ?_
        refine g_ifne (pc := 185) X (r32_z rs0_54) (off := 6) (tgt := 191) rfl (dl_at t_X25_spot 105 rfl) (fun _ => ?_) (fun _ => ?_)
        · refine g_aload_n (pc := 191) X (j := 0) (i := 0) (q := 0) (x := a0) rfl rfl (dl_at t_X25_spot 108 rfl) ?_
          refine r_getl (pc := 192) X fX25_112 k11 q3924 (dl_at t_X25_spot 109 rfl) fun g192 => ?_
          refine g_aload_n (pc := 195) X (j := 0) (i := 0) (q := 0) (x := a0) rfl rfl (dl_at t_X25_spot 110 rfl) ?_
          refine r_getl (pc := 196) X fX25_113 k11 q3925 (dl_at t_X25_spot 111 rfl) fun g196 => ?_
          refine g_lcmp (pc := 199) X g192 g196 (dl_at t_X25_spot 112 rfl) ?_
          refine g_ifge (pc := 200) X (r32_lcmp _ _) (off := 49) (tgt := 249) rfl (dl_at t_X25_spot 113 rfl) (fun _ => ?_) (fun _ => ?_)
          · refine g_aload_n (pc := 249) X (j := 0) (i := 0) (q := 0) (x := a0) rfl rfl (dl_at t_X25_spot 140 rfl) ?_
            refine r_getl (pc := 250) X fX25_112 k11 q3924 (dl_at t_X25_spot 141 rfl) fun g250 => ?_
            refine g_aload_n (pc := 253) X (j := 0) (i := 0) (q := 0) (x := a0) rfl rfl (dl_at t_X25_spot 142 rfl) ?_
            refine r_getl (pc := 254) X fX25_113 k11 q3925 (dl_at t_X25_spot 143 rfl) fun g254 => ?_
            refine g_lcmp (pc := 257) X g250 g254 (dl_at t_X25_spot 144 rfl) ?_
            refine g_ifne (pc := 258) X (r32_lcmp _ _) (off := 6) (tgt := 264) rfl (dl_at t_X25_spot 145 rfl) (fun _ => ?_) (fun _ => ?_)
            · refine g_lload (pc := 264) X (i := 10) (q := 4) (x := x10_183) rfl (dl_at t_X25_spot 148 rfl) ?_
              refine g_aload_n (pc := 266) X (j := 0) (i := 0) (q := 0) (x := a0) rfl rfl (dl_at t_X25_spot 149 rfl) ?_
              refine r_getz (pc := 267) X fX25_120 k11 q3932 (dl_at t_X25_spot 150 rfl) fun g267 => ?_
              refine g_ifeq (pc := 270) X (r32_z g267) (off := 8) (tgt := 278) rfl (dl_at t_X25_spot 151 rfl) (fun _ => ?_) (fun _ => ?_)
              · refine g_aload_n (pc := 278) X (j := 0) (i := 0) (q := 0) (x := a0) rfl rfl (dl_at t_X25_spot 154 rfl) ?_
                refine r_getl (pc := 279) X fX25_112 k11 q3924 (dl_at t_X25_spot 155 rfl) fun g279 => ?_
                refine g_aload_n (pc := 282) X (j := 0) (i := 0) (q := 0) (x := a0) rfl rfl (dl_at t_X25_spot 156 rfl) ?_
                refine r_getl (pc := 283) X fX25_113 k11 q3925 (dl_at t_X25_spot 157 rfl) fun g283 => ?_
                refine g_lsub (pc := 286) X g279 g283 (dl_at t_X25_spot 158 rfl) ?_
                refine g_lload (pc := 287) X (i := 14) (q := 6) (x := x14_183) rfl (dl_at t_X25_spot 159 rfl) ?_
                refine g_lmul (pc := 289) X (r64_w _) r14_183 (dl_at t_X25_spot 160 rfl) ?_
                refine g_aload_n (pc := 290) X (j := 0) (i := 0) (q := 0) (x := a0) rfl rfl (dl_at t_X25_spot 161 rfl) ?_
                refine r_getl (pc := 291) X fX25_115 k11 q3927 (dl_at t_X25_spot 162 rfl) fun g291 => ?_
                refine g_gd fun z294 => ?_
                refine g_ldiv (pc := 294) X (r64_w _) g291 z294 (dl_at t_X25_spot 163 rfl) ?_
                refine g_lsub (pc := 295) X r10_183 (r64_w _) (dl_at t_X25_spot 164 rfl) ?_
                exact g_lret (pc := 296) X (r64_w _) rfl rfl (dl_at t_X25_spot 165 rfl)
              refine g_lload (pc := 273) X (i := 14) (q := 6) (x := x14_183) rfl (dl_at t_X25_spot 152 rfl) ?_
              refine g_goto (pc := 275) X (off := 20) (tgt := 295) rfl (dl_at t_X25_spot 153 rfl) ?_
              refine g_lsub (pc := 295) X r10_183 r14_183 (dl_at t_X25_spot 164 rfl) ?_
              exact g_lret (pc := 296) X (r64_w _) rfl rfl (dl_at t_X25_spot 165 rfl)
            refine g_lload (pc := 261) X (i := 10) (q := 4) (x := x10_183) rfl (dl_at t_X25_spot 146 rfl) ?_
            exact g_lret (pc := 263) X r10_183 rfl rfl (dl_at t_X25_spot 147 rfl)
          refine g_aload_n (pc := 203) X (j := 0) (i := 0) (q := 0) (x := a0) rfl rfl (dl_at t_X25_spot 114 rfl) ?_
          refine g_iload_n (pc := 204) X (j := 1) (i := 1) (q := 1) (x := a1) rfl rfl (dl_at t_X25_spot 115 rfl) ?_
          refine g_iload (pc := 205) X (i := 7) (q := 2) (x := x7_29) rfl (dl_at t_X25_spot 116 rfl) ?_
          refine r_callRi (pc := 207) X (fun _ hv => s_X25_typeOf k11 r1 r7_29 hv) cw_code q5018 q379 (in_Vk X (As := [iv a1, iv x7_29]) kX25 k11 (Or.inl q5015) q5017 qs326 cw_code q5018 ⟨by decide, by decide⟩ rfl (dl_at t_X25_spot 117 rfl)) (dl_at t_X25_spot 117 rfl) (cat24 (st := []) (Nat.le_of_ble_eq_true rfl)) (Nat.le_of_ble_eq_true rfl) (Nat.le_of_ble_eq_true rfl) fun v207 g207 => ?_
          refine g_iconst (pc := 210) X (n := 3) (dl_at t_X25_spot 118 rfl) ?_
          refine g_icmpeq (pc := 211) X g207 (r32_c rfl) (off := 12) (tgt := 223) rfl (dl_at t_X25_spot 119 rfl) (fun _ => ?_) (fun _ => ?_)
          · refine g_lload (pc := 223) X (i := 10) (q := 4) (x := x10_183) rfl (dl_at t_X25_spot 125 rfl) ?_
            refine g_goto (pc := 225) X (off := 23) (tgt := 248) rfl (dl_at t_X25_spot 126 rfl) ?_
            exact g_lret (pc := 248) X r10_183 rfl rfl (dl_at t_X25_spot 139 rfl)
          refine g_aload_n (pc := 214) X (j := 0) (i := 0) (q := 0) (x := a0) rfl rfl (dl_at t_X25_spot 120 rfl) ?_
          refine r_getl (pc := 215) X fX25_114 k11 q3926 (dl_at t_X25_spot 121 rfl) fun g215 => ?_
          refine g_lconst0 (pc := 218) X (dl_at t_X25_spot 122 rfl) ?_
          refine g_lcmp (pc := 219) X g215 (r64_c rfl) (dl_at t_X25_spot 123 rfl) ?_
          refine g_ifne (pc := 220) X (r32_lcmp _ _) (off := 8) (tgt := 228) rfl (dl_at t_X25_spot 124 rfl) (fun _ => ?_) (fun _ => ?_)
          · refine g_lload (pc := 228) X (i := 10) (q := 4) (x := x10_183) rfl (dl_at t_X25_spot 127 rfl) ?_
            refine g_aload_n (pc := 230) X (j := 0) (i := 0) (q := 0) (x := a0) rfl rfl (dl_at t_X25_spot 128 rfl) ?_
            refine r_getl (pc := 231) X fX25_113 k11 q3925 (dl_at t_X25_spot 129 rfl) fun g231 => ?_
            refine g_aload_n (pc := 234) X (j := 0) (i := 0) (q := 0) (x := a0) rfl rfl (dl_at t_X25_spot 130 rfl) ?_
            refine r_getl (pc := 235) X fX25_112 k11 q3924 (dl_at t_X25_spot 131 rfl) fun g235 => ?_
            refine g_lsub (pc := 238) X g231 g235 (dl_at t_X25_spot 132 rfl) ?_
            refine g_lload (pc := 239) X (i := 12) (q := 5) (x := x12_183) rfl (dl_at t_X25_spot 133 rfl) ?_
            refine g_lmul (pc := 241) X (r64_w _) r12_183 (dl_at t_X25_spot 134 rfl) ?_
            refine g_aload_n (pc := 242) X (j := 0) (i := 0) (q := 0) (x := a0) rfl rfl (dl_at t_X25_spot 135 rfl) ?_
            refine r_getl (pc := 243) X fX25_114 k11 q3926 (dl_at t_X25_spot 136 rfl) fun g243 => ?_
            refine g_gd fun z246 => ?_
            refine g_ldiv (pc := 246) X (r64_w _) g243 z246 (dl_at t_X25_spot 137 rfl) ?_
            refine g_ladd (pc := 247) X r10_183 (r64_w _) (dl_at t_X25_spot 138 rfl) ?_
            exact g_lret (pc := 248) X (r64_w _) rfl rfl (dl_at t_X25_spot 139 rfl)
          refine g_lload (pc := 223) X (i := 10) (q := 4) (x := x10_183) rfl (dl_at t_X25_spot 125 rfl) ?_
          refine g_goto (pc := 225) X (off := 23) (tgt := 248) rfl (dl_at t_X25_spot 126 rfl) ?_
          exact g_lret (pc := 248) X r10_183 rfl rfl (dl_at t_X25_spot 139 rfl)
        refine g_lload (pc := 188) X (i := 10) (q := 4) (x := x10_183) rfl (dl_at t_X25_spot 106 rfl) ?_
        exact g_lret (pc := 190) X r10_183 rfl rfl (dl_at t_X25_spot 107 rfl)
    refine g_lload (pc := 73) X (i := 4) (q := 9) (x := v3) rfl (dl_at t_X25_spot 43 rfl) ?_
    exact g_lret (pc := 75) X g3 rfl rfl (dl_at t_X25_spot 44 rfl)
  intro J54
  refine g_ifne (pc := 46) X g43 (off := 7) (tgt := 53) rfl (dl_at t_X25_spot 28 rfl) (fun _ => ?_) (fun _ => ?_)
  · refine g_iconst (pc := 53) X (n := 0) (dl_at t_X25_spot 31 rfl) ?_
    refine g_ls (ls2 := [(0, rv D a0), (1, iv a1), (3, iv a3), (4, jv v3), (6, iv v11), (7, iv x7_29)]) [4, 5, 3, 2, 1, 0] rfl ?_
    exact J54 0 (Or.inl rfl)
  refine g_iconst (pc := 49) X (n := 1) (dl_at t_X25_spot 29 rfl) ?_
  refine g_goto (pc := 50) X (off := 4) (tgt := 54) rfl (dl_at t_X25_spot 30 rfl) ?_
  refine g_ls (ls2 := [(0, rv D a0), (1, iv a1), (3, iv a3), (4, jv v3), (6, iv v11), (7, iv x7_29)]) [4, 5, 3, 2, 1, 0] rfl ?_
  exact J54 1 (Or.inr rfl)
def k_X18_spot : List (Nat × Instr × Nat) := [(0, .aload_n 0, 1), (1, .getfield 174, 3), (4, .ifCond .ne 10, 3), (7, .aload_n 0, 1), (8, .iconst 1, 1), (9, .invokevirtual 107, 3), (12, .i2l, 1), (13, .lreturn, 1), (14, .iload_n 1, 1), (15, .ifCond .lt 14, 3), (18, .iload_n 1, 1), (19, .aload_n 0, 1), (20, .getfield 70, 3), (23, .getfield 221, 3), (26, .if_icmp .lt 10, 3), (29, .aload_n 0, 1), (30, .iconst 2, 1), (31, .invokevirtual 107, 3), (34, .i2l, 1), (35, .lreturn, 1), (36, .aload_n 0, 1), (37, .getfield 70, 3), (40, .getfield 242, 3), (43, .iload_n 1, 1), (44, .iaload, 1), (45, .istore_n 3, 1), (46, .aload_n 0, 1), (47, .getfield 70, 3), (50, .getfield 245, 3), (53, .iload_n 1, 1), (54, .iaload, 1), (55, .istore 4, 2), (57, .iload_n 3, 1), (58, .ifCond .lt 21, 3), (61, .iload_n 2, 1), (62, .ifCond .lt 17, 3), (65, .iload_n 2, 1), (66, .aload_n 0, 1), (67, .getfield 70, 3), (70, .iload_n 3, 1), (71, .iload 4, 2), (73, .invokevirtual 280, 3), (76, .if_icmp .lt 10, 3), (79, .aload_n 0, 1), (80, .iconst 2, 1), (81, .invokevirtual 107, 3), (84, .i2l, 1), (85, .lreturn, 1), (86, .aload_n 0, 1), (87, .iconst 0, 1), (88, .putfield 87, 3), (91, .aload_n 0, 1), (92, .getfield 70, 3), (95, .iload_n 3, 1), (96, .iload 4, 2), (98, .iload_n 2, 1), (99, .invokevirtual 283, 3), (102, .lreturn, 1)]
theorem t_X18_spot : ∀ q ∈ k_X18_spot, decode cX18_spot q.1 = .ok q.2 := dl_all (by decide +kernel)
noncomputable def m_X18_spot (a0 a1 a2 : Int) (h : Hp) : Option (Int × Hp) :=
  if (h a0 17) ≠ 0 then (if a1 < 0 then (bW (m_X18_refuse a0 2 h) fun v31 h31 =>
  some (v31, h31))
  else (gd (h (h a0 15) (-2) = 416) (if a1 < (h (h a0 15) 42) then (gd (h (h (h a0 15) 43) (-2) % 16 = 1 ∧ (0 : Int) ≤ a1 ∧ a1 < h (h (h a0 15) 43) (-1)) (lt_ (h (h (h a0 15) 43) a1) fun x3_45 =>
  gd (h (h (h a0 15) 44) (-2) % 16 = 1 ∧ (0 : Int) ≤ a1 ∧ a1 < h (h (h a0 15) 44) (-1)) (lt_ (h (h (h a0 15) 44) a1) fun x4_55 =>
  if x3_45 < 0 then (bW (m_X18_refuse a0 2 h) fun v81 h81 =>
  some (v81, h81))
  else (if a2 < 0 then (bW (m_X18_refuse a0 2 h) fun v81_1 h81_1 =>
  some (v81_1, h81_1))
  else ((m_X25_words (h a0 15) x3_45 x4_55 h).bind fun v73 =>
  if a2 < v73 then (pt h a0 0 0 fun h88 =>
  gd (h88 (h88 a0 15) (-2) = 416) (bW (m_X25_spot (h88 a0 15) x3_45 x4_55 a2 h88) fun v99 h99 =>
  some (v99, h99)))
  else (bW (m_X18_refuse a0 2 h) fun v81_2 h81_2 =>
  some (v81_2, h81_2)))))))
  else (bW (m_X18_refuse a0 2 h) fun v31_1 h31_1 =>
  some (v31_1, h31_1)))))
  else (bW (m_X18_refuse a0 1 h) fun v9 h9 =>
  some (v9, h9))
theorem s_X18_spot {l : Launch} [NoTr l] {D : SD} {a0 a1 a2 : Int} {h : Hp} (hk : h a0 (-2) = 304) (r1 : r32 a1) (r2 : r32 a2) {r : Int × Hp} (hm : m_X18_spot a0 a1 a2 h = some r) : Sim l D yX18_spot (Cond.code yX18_spot cX18_spot 5 (Option.some Jvm.ClassFile.FieldType.long)) 5 216 [rv D a0, iv a1, iv a2] h 4 ((0, r.1), r.2) := by
  refine Sim.of (fin := fun (v : Int × Hp) => ((0, v.1), v.2)) (lsE := [(0, rv D a0), (1, iv a1), (2, iv a2)]) hm rfl cwS_code (la_r (la_i (la_i la_n))) (ll_r (ll_i (ll_i ll_n))) ?_
  intro p e s m below meth c X hcw hmm hcc hnm hname
  unfold m_X18_spot
  refine g_aload_n (pc := 0) X (j := 0) (i := 0) (q := 0) (x := a0) rfl rfl (dl_at t_X18_spot 0 rfl) ?_
  refine r_getz (pc := 1) X fX18_17 hk q4253 (dl_at t_X18_spot 1 rfl) fun g1 => ?_
  refine g_ifne (pc := 4) X (r32_z g1) (off := 10) (tgt := 14) rfl (dl_at t_X18_spot 2 rfl) (fun _ => ?_) (fun _ => ?_)
  · refine g_iload_n (pc := 14) X (j := 1) (i := 1) (q := 1) (x := a1) rfl rfl (dl_at t_X18_spot 8 rfl) ?_
    refine g_iflt (pc := 15) X r1 (off := 14) (tgt := 29) rfl (dl_at t_X18_spot 9 rfl) (fun _ => ?_) (fun _ => ?_)
    · refine g_aload_n (pc := 29) X (j := 0) (i := 0) (q := 0) (x := a0) rfl rfl (dl_at t_X18_spot 15 rfl) ?_
      refine g_iconst (pc := 30) X (n := 2) (dl_at t_X18_spot 16 rfl) ?_
      refine r_callWi (pc := 31) X (fun _ hv => s_X18_refuse hk (r32_c rfl) hv) cw_code q4317 q372 (in_Vk X (As := [iv 2]) kX18 hk (Or.inl q4314) q4316 qs237 cw_code q4317 ⟨by decide, by decide⟩ rfl (dl_at t_X18_spot 17 rfl)) (dl_at t_X18_spot 17 rfl) (cat24 (st := []) (Nat.le_of_ble_eq_true rfl)) (Nat.le_of_ble_eq_true rfl) (Nat.le_of_ble_eq_true rfl) fun v31 h31 g31 E31 => ?_
      refine g_i2l (pc := 34) X g31 (dl_at t_X18_spot 18 rfl) ?_
      exact g_lret (pc := 35) X (r64_of g31) rfl rfl (dl_at t_X18_spot 19 rfl)
    refine g_iload_n (pc := 18) X (j := 1) (i := 1) (q := 1) (x := a1) rfl rfl (dl_at t_X18_spot 10 rfl) ?_
    refine g_aload_n (pc := 19) X (j := 0) (i := 0) (q := 0) (x := a0) rfl rfl (dl_at t_X18_spot 11 rfl) ?_
    refine r_getr (pc := 20) X fX18_15 hk q4251 (dl_at t_X18_spot 12 rfl) ?_
    refine g_gd fun k23 => ?_
    refine r_geti (pc := 23) X fX25_42 k23 q3820 (dl_at t_X18_spot 13 rfl) fun g23 => ?_
    refine g_icmplt (pc := 26) X r1 g23 (off := 10) (tgt := 36) rfl (dl_at t_X18_spot 14 rfl) (fun _ => ?_) (fun _ => ?_)
    · refine g_aload_n (pc := 36) X (j := 0) (i := 0) (q := 0) (x := a0) rfl rfl (dl_at t_X18_spot 20 rfl) ?_
      refine r_getr (pc := 37) X fX18_15 hk q4251 (dl_at t_X18_spot 21 rfl) ?_
      refine r_getr (pc := 40) X fX25_43 k23 q3823 (dl_at t_X18_spot 22 rfl) ?_
      refine g_iload_n (pc := 43) X (j := 1) (i := 1) (q := 1) (x := a1) rfl rfl (dl_at t_X18_spot 23 rfl) ?_
      refine g_gd fun k44 => ?_
      refine g_iald (pc := 44) X r1 k44 (dl_at t_X18_spot 24 rfl) fun g44 => ?_
      refine g_lti g44 fun x3_45 r3_45 => ?_
      refine g_istore_nN (pc := 45) X (j := 3) (i := 3) (x := x3_45) (b := 2) (w := iv a2) (rest := [(0, rv D a0), (1, iv a1)]) rfl (Nat.le_of_ble_eq_true rfl) [2, 0, 1] rfl (by decide) rfl rfl (dl_at t_X18_spot 25 rfl) ?_
      refine g_aload_n (pc := 46) X (j := 0) (i := 0) (q := 2) (x := a0) rfl rfl (dl_at t_X18_spot 26 rfl) ?_
      refine r_getr (pc := 47) X fX18_15 hk q4251 (dl_at t_X18_spot 27 rfl) ?_
      refine r_getr (pc := 50) X fX25_44 k23 q3825 (dl_at t_X18_spot 28 rfl) ?_
      refine g_iload_n (pc := 53) X (j := 1) (i := 1) (q := 3) (x := a1) rfl rfl (dl_at t_X18_spot 29 rfl) ?_
      refine g_gd fun k54 => ?_
      refine g_iald (pc := 54) X r1 k54 (dl_at t_X18_spot 30 rfl) fun g54 => ?_
      refine g_lti g54 fun x4_55 r4_55 => ?_
      refine g_istoreN (pc := 55) X (i := 4) (x := x4_55) (b := 3) (w := iv x3_45) (rest := [(2, iv a2), (0, rv D a0)]) (Nat.le_of_ble_eq_true rfl) [0, 1, 2] rfl (by decide) rfl rfl (dl_at t_X18_spot 31 rfl) ?_
      refine g_iload_n (pc := 57) X (j := 3) (i := 3) (q := 1) (x := x3_45) rfl rfl (dl_at t_X18_spot 32 rfl) ?_
      refine g_iflt (pc := 58) X r3_45 (off := 21) (tgt := 79) rfl (dl_at t_X18_spot 33 rfl) (fun _ => ?_) (fun _ => ?_)
      · refine g_aload_n (pc := 79) X (j := 0) (i := 0) (q := 3) (x := a0) rfl rfl (dl_at t_X18_spot 43 rfl) ?_
        refine g_iconst (pc := 80) X (n := 2) (dl_at t_X18_spot 44 rfl) ?_
        refine r_callWi (pc := 81) X (fun _ hv => s_X18_refuse hk (r32_c rfl) hv) cw_code q4317 q372 (in_Vk X (As := [iv 2]) kX18 hk (Or.inl q4314) q4316 qs237 cw_code q4317 ⟨by decide, by decide⟩ rfl (dl_at t_X18_spot 45 rfl)) (dl_at t_X18_spot 45 rfl) (cat24 (st := []) (Nat.le_of_ble_eq_true rfl)) (Nat.le_of_ble_eq_true rfl) (Nat.le_of_ble_eq_true rfl) fun v81 h81 g81 E81 => ?_
        refine g_i2l (pc := 84) X g81 (dl_at t_X18_spot 46 rfl) ?_
        exact g_lret (pc := 85) X (r64_of g81) rfl rfl (dl_at t_X18_spot 47 rfl)
      refine g_iload_n (pc := 61) X (j := 2) (i := 2) (q := 2) (x := a2) rfl rfl (dl_at t_X18_spot 34 rfl) ?_
      refine g_iflt (pc := 62) X r2 (off := 17) (tgt := 79) rfl (dl_at t_X18_spot 35 rfl) (fun _ => ?_) (fun _ => ?_)
      · refine g_aload_n (pc := 79) X (j := 0) (i := 0) (q := 3) (x := a0) rfl rfl (dl_at t_X18_spot 43 rfl) ?_
        refine g_iconst (pc := 80) X (n := 2) (dl_at t_X18_spot 44 rfl) ?_
        refine r_callWi (pc := 81) X (fun _ hv => s_X18_refuse hk (r32_c rfl) hv) cw_code q4317 q372 (in_Vk X (As := [iv 2]) kX18 hk (Or.inl q4314) q4316 qs237 cw_code q4317 ⟨by decide, by decide⟩ rfl (dl_at t_X18_spot 45 rfl)) (dl_at t_X18_spot 45 rfl) (cat24 (st := []) (Nat.le_of_ble_eq_true rfl)) (Nat.le_of_ble_eq_true rfl) (Nat.le_of_ble_eq_true rfl) fun v81_1 h81_1 g81_1 E81_1 => ?_
        refine g_i2l (pc := 84) X g81_1 (dl_at t_X18_spot 46 rfl) ?_
        exact g_lret (pc := 85) X (r64_of g81_1) rfl rfl (dl_at t_X18_spot 47 rfl)
      refine g_iload_n (pc := 65) X (j := 2) (i := 2) (q := 2) (x := a2) rfl rfl (dl_at t_X18_spot 36 rfl) ?_
      refine g_aload_n (pc := 66) X (j := 0) (i := 0) (q := 3) (x := a0) rfl rfl (dl_at t_X18_spot 37 rfl) ?_
      refine r_getr (pc := 67) X fX18_15 hk q4251 (dl_at t_X18_spot 38 rfl) ?_
      refine g_iload_n (pc := 70) X (j := 3) (i := 3) (q := 1) (x := x3_45) rfl rfl (dl_at t_X18_spot 39 rfl) ?_
      refine g_iload (pc := 71) X (i := 4) (q := 0) (x := x4_55) rfl (dl_at t_X18_spot 40 rfl) ?_
      refine r_callRi (pc := 73) X (fun _ hv => s_X25_words k23 r3_45 r4_55 hv) cw_code q5172 q379 (in_Vk X (As := [iv x3_45, iv x4_55]) kX25 k23 (Or.inl q5169) q5170 q5171 cw_code q5172 ⟨by decide, by decide⟩ rfl (dl_at t_X18_spot 41 rfl)) (dl_at t_X18_spot 41 rfl) (cat24 (st := [iv a2]) (Nat.le_of_ble_eq_true rfl)) (Nat.le_of_ble_eq_true rfl) (Nat.le_of_ble_eq_true rfl) fun v73 g73 => ?_
      refine g_icmplt (pc := 76) X r2 g73 (off := 10) (tgt := 86) rfl (dl_at t_X18_spot 42 rfl) (fun _ => ?_) (fun _ => ?_)
      · refine g_aload_n (pc := 86) X (j := 0) (i := 0) (q := 3) (x := a0) rfl rfl (dl_at t_X18_spot 48 rfl) ?_
        refine g_iconst (pc := 87) X (n := 0) (dl_at t_X18_spot 49 rfl) ?_
        refine r_puti (pc := 88) X fX18_0 hk q4236 rfl (dl_at t_X18_spot 50 rfl) (r32_c rfl) (fun h88 E88 => ?_)
        refine g_aload_n (pc := 91) X (j := 0) (i := 0) (q := 3) (x := a0) rfl rfl (dl_at t_X18_spot 51 rfl) ?_
        have k92 := kx E88 (by decide) hk
        refine r_getr (pc := 92) X fX18_15 k92 q4251 (dl_at t_X18_spot 52 rfl) ?_
        refine g_iload_n (pc := 95) X (j := 3) (i := 3) (q := 1) (x := x3_45) rfl rfl (dl_at t_X18_spot 53 rfl) ?_
        refine g_iload (pc := 96) X (i := 4) (q := 0) (x := x4_55) rfl (dl_at t_X18_spot 54 rfl) ?_
        refine g_iload_n (pc := 98) X (j := 2) (i := 2) (q := 2) (x := a2) rfl rfl (dl_at t_X18_spot 55 rfl) ?_
        refine g_gd fun k99 => ?_
        refine r_callWl (pc := 99) X (fun _ hv => s_X25_spot k99 r3_45 r4_55 r2 hv) cw_code q5176 q379 (in_Vk X (As := [iv x3_45, iv x4_55, iv a2]) kX25 k99 (Or.inl q5173) q5174 q5175 cw_code q5176 ⟨by decide, by decide⟩ rfl (dl_at t_X18_spot 56 rfl)) (dl_at t_X18_spot 56 rfl) (cat24 (st := []) (Nat.le_of_ble_eq_true rfl)) (Nat.le_of_ble_eq_true rfl) (Nat.le_of_ble_eq_true rfl) fun v99 h99 g99 E99 => ?_
        exact g_lret (pc := 102) X g99 rfl rfl (dl_at t_X18_spot 57 rfl)
      refine g_aload_n (pc := 79) X (j := 0) (i := 0) (q := 3) (x := a0) rfl rfl (dl_at t_X18_spot 43 rfl) ?_
      refine g_iconst (pc := 80) X (n := 2) (dl_at t_X18_spot 44 rfl) ?_
      refine r_callWi (pc := 81) X (fun _ hv => s_X18_refuse hk (r32_c rfl) hv) cw_code q4317 q372 (in_Vk X (As := [iv 2]) kX18 hk (Or.inl q4314) q4316 qs237 cw_code q4317 ⟨by decide, by decide⟩ rfl (dl_at t_X18_spot 45 rfl)) (dl_at t_X18_spot 45 rfl) (cat24 (st := []) (Nat.le_of_ble_eq_true rfl)) (Nat.le_of_ble_eq_true rfl) (Nat.le_of_ble_eq_true rfl) fun v81_2 h81_2 g81_2 E81_2 => ?_
      refine g_i2l (pc := 84) X g81_2 (dl_at t_X18_spot 46 rfl) ?_
      exact g_lret (pc := 85) X (r64_of g81_2) rfl rfl (dl_at t_X18_spot 47 rfl)
    refine g_aload_n (pc := 29) X (j := 0) (i := 0) (q := 0) (x := a0) rfl rfl (dl_at t_X18_spot 15 rfl) ?_
    refine g_iconst (pc := 30) X (n := 2) (dl_at t_X18_spot 16 rfl) ?_
    refine r_callWi (pc := 31) X (fun _ hv => s_X18_refuse hk (r32_c rfl) hv) cw_code q4317 q372 (in_Vk X (As := [iv 2]) kX18 hk (Or.inl q4314) q4316 qs237 cw_code q4317 ⟨by decide, by decide⟩ rfl (dl_at t_X18_spot 17 rfl)) (dl_at t_X18_spot 17 rfl) (cat24 (st := []) (Nat.le_of_ble_eq_true rfl)) (Nat.le_of_ble_eq_true rfl) (Nat.le_of_ble_eq_true rfl) fun v31_1 h31_1 g31_1 E31_1 => ?_
    refine g_i2l (pc := 34) X g31_1 (dl_at t_X18_spot 18 rfl) ?_
    exact g_lret (pc := 35) X (r64_of g31_1) rfl rfl (dl_at t_X18_spot 19 rfl)
  refine g_aload_n (pc := 7) X (j := 0) (i := 0) (q := 0) (x := a0) rfl rfl (dl_at t_X18_spot 3 rfl) ?_
  refine g_iconst (pc := 8) X (n := 1) (dl_at t_X18_spot 4 rfl) ?_
  refine r_callWi (pc := 9) X (fun _ hv => s_X18_refuse hk (r32_c rfl) hv) cw_code q4317 q372 (in_Vk X (As := [iv 1]) kX18 hk (Or.inl q4314) q4316 qs237 cw_code q4317 ⟨by decide, by decide⟩ rfl (dl_at t_X18_spot 5 rfl)) (dl_at t_X18_spot 5 rfl) (cat24 (st := []) (Nat.le_of_ble_eq_true rfl)) (Nat.le_of_ble_eq_true rfl) (Nat.le_of_ble_eq_true rfl) fun v9 h9 g9 E9 => ?_
  refine g_i2l (pc := 12) X g9 (dl_at t_X18_spot 6 rfl) ?_
  exact g_lret (pc := 13) X (r64_of g9) rfl rfl (dl_at t_X18_spot 7 rfl)
def k_X18_paragraph : List (Nat × Instr × Nat) := [(0, .iload_n 2, 1), (1, .iconst 0, 1), (2, .bipush 6, 2), (4, .invokestatic 162, 3), (7, .ifCond .ne 10, 3), (10, .aload_n 0, 1), (11, .iconst 1, 1), (12, .invokevirtual 107, 3), (15, .i2l, 1), (16, .lreturn, 1), (17, .aload_n 0, 1), (18, .getfield 174, 3), (21, .ifCond .ne 10, 3), (24, .aload_n 0, 1), (25, .iconst 2, 1), (26, .invokevirtual 107, 3), (29, .i2l, 1), (30, .lreturn, 1), (31, .iload_n 1, 1), (32, .ifCond .lt 14, 3), (35, .iload_n 1, 1), (36, .aload_n 0, 1), (37, .getfield 70, 3), (40, .getfield 224, 3), (43, .if_icmp .lt 10, 3), (46, .aload_n 0, 1), (47, .iconst 3, 1), (48, .invokevirtual 107, 3), (51, .i2l, 1), (52, .lreturn, 1), (53, .aload_n 0, 1), (54, .iconst 0, 1), (55, .putfield 87, 3), (58, .iload_n 2, 1), (96, .aload_n 0, 1), (97, .getfield 70, 3), (100, .getfield 287, 3), (103, .iload_n 1, 1), (104, .laload, 1), (105, .lreturn, 1), (106, .aload_n 0, 1), (107, .getfield 70, 3), (110, .getfield 290, 3), (113, .iload_n 1, 1), (114, .iaload, 1), (115, .i2l, 1), (116, .lreturn, 1), (117, .aload_n 0, 1), (118, .getfield 70, 3), (121, .getfield 293, 3), (124, .iload_n 1, 1), (125, .iaload, 1), (126, .i2l, 1), (127, .lreturn, 1), (128, .aload_n 0, 1), (129, .getfield 70, 3), (132, .getfield 296, 3), (135, .iload_n 1, 1), (136, .iaload, 1), (137, .i2l, 1), (138, .lreturn, 1), (139, .aload_n 0, 1), (140, .getfield 70, 3), (143, .getfield 299, 3), (146, .iload_n 1, 1), (147, .laload, 1), (148, .lreturn, 1), (149, .aload_n 0, 1), (150, .getfield 70, 3), (153, .getfield 302, 3), (156, .iload_n 1, 1), (157, .iaload, 1), (158, .aload_n 0, 1), (159, .getfield 70, 3), (162, .getfield 303, 3), (165, .iload_n 1, 1), (166, .iaload, 1), (167, .isub, 1), (168, .i2l, 1), (169, .lreturn, 1), (170, .aload_n 0, 1), (171, .getfield 70, 3), (174, .getfield 304, 3), (177, .iload_n 1, 1), (178, .iaload, 1), (179, .i2l, 1), (180, .lreturn, 1)]
theorem t_X18_paragraph : ∀ q ∈ k_X18_paragraph, decode cX18_paragraph q.1 = .ok q.2 := dl_all (by decide +kernel)
theorem dS_X18_paragraph_59 : decode cX18_paragraph 59 = .ok (.tableswitch 111 0 5 #[37, 47, 58, 69, 80, 90], 37) := by decide +kernel
noncomputable def m_X18_paragraph (a0 a1 a2 : Int) (h : Hp) : Option (Int × Hp) :=
  (m_X18_in a2 0 6).bind fun v4 =>
  if v4 ≠ 0 then (if (h a0 17) ≠ 0 then (if a1 < 0 then (bW (m_X18_refuse a0 3 h) fun v48 h48 =>
  some (v48, h48))
  else (gd (h (h a0 15) (-2) = 416) (if a1 < (h (h a0 15) 9) then (pt h a0 0 0 fun h55 =>
  if a2 = 0 then (gd (h55 (h55 a0 15) (-2) = 416) (gd (h55 (h55 (h55 a0 15) 22) (-2) % 16 = 4 ∧ (0 : Int) ≤ a1 ∧ a1 < h55 (h55 (h55 a0 15) 22) (-1)) (some ((h55 (h55 (h55 a0 15) 22) a1), h55))))
  else (if a2 = 1 then (gd (h55 (h55 a0 15) (-2) = 416) (gd (h55 (h55 (h55 a0 15) 17) (-2) % 16 = 1 ∧ (0 : Int) ≤ a1 ∧ a1 < h55 (h55 (h55 a0 15) 17) (-1)) (some ((h55 (h55 (h55 a0 15) 17) a1), h55))))
  else (if a2 = 2 then (gd (h55 (h55 a0 15) (-2) = 416) (gd (h55 (h55 (h55 a0 15) 15) (-2) % 16 = 1 ∧ (0 : Int) ≤ a1 ∧ a1 < h55 (h55 (h55 a0 15) 15) (-1)) (some ((h55 (h55 (h55 a0 15) 15) a1), h55))))
  else (if a2 = 3 then (gd (h55 (h55 a0 15) (-2) = 416) (gd (h55 (h55 (h55 a0 15) 19) (-2) % 16 = 1 ∧ (0 : Int) ≤ a1 ∧ a1 < h55 (h55 (h55 a0 15) 19) (-1)) (some ((h55 (h55 (h55 a0 15) 19) a1), h55))))
  else (if a2 = 4 then (gd (h55 (h55 a0 15) (-2) = 416) (gd (h55 (h55 (h55 a0 15) 21) (-2) % 16 = 4 ∧ (0 : Int) ≤ a1 ∧ a1 < h55 (h55 (h55 a0 15) 21) (-1)) (some ((h55 (h55 (h55 a0 15) 21) a1), h55))))
  else (if a2 = 5 then (gd (h55 (h55 a0 15) (-2) = 416) (gd (h55 (h55 (h55 a0 15) 11) (-2) % 16 = 1 ∧ (0 : Int) ≤ a1 ∧ a1 < h55 (h55 (h55 a0 15) 11) (-1)) (gd (h55 (h55 (h55 a0 15) 10) (-2) % 16 = 1 ∧ (0 : Int) ≤ a1 ∧ a1 < h55 (h55 (h55 a0 15) 10) (-1)) (some ((w32 ((h55 (h55 (h55 a0 15) 11) a1) - (h55 (h55 (h55 a0 15) 10) a1))), h55)))))
  else (gd (h55 (h55 a0 15) (-2) = 416) (gd (h55 (h55 (h55 a0 15) 12) (-2) % 16 = 1 ∧ (0 : Int) ≤ a1 ∧ a1 < h55 (h55 (h55 a0 15) 12) (-1)) (some ((h55 (h55 (h55 a0 15) 12) a1), h55))))))))))
  else (bW (m_X18_refuse a0 3 h) fun v48_1 h48_1 =>
  some (v48_1, h48_1)))))
  else (bW (m_X18_refuse a0 2 h) fun v26 h26 =>
  some (v26, h26)))
  else (bW (m_X18_refuse a0 1 h) fun v12 h12 =>
  some (v12, h12))
theorem s_X18_paragraph {l : Launch} [NoTr l] {D : SD} {a0 a1 a2 : Int} {h : Hp} (hk : h a0 (-2) = 304) (r1 : r32 a1) (r2 : r32 a2) {r : Int × Hp} (hm : m_X18_paragraph a0 a1 a2 h = some r) : Sim l D yX18_paragraph (Cond.code yX18_paragraph cX18_paragraph 3 (Option.some Jvm.ClassFile.FieldType.long)) 1 38 [rv D a0, iv a1, iv a2] h 4 ((0, r.1), r.2) := by
  refine Sim.of (fin := fun (v : Int × Hp) => ((0, v.1), v.2)) (lsE := [(0, rv D a0), (1, iv a1), (2, iv a2)]) hm rfl cwS_code (la_r (la_i (la_i la_n))) (ll_r (ll_i (ll_i ll_n))) ?_
  intro p e s m below meth c X hcw hmm hcc hnm hname
  unfold m_X18_paragraph
  refine g_iload_n (pc := 0) X (j := 2) (i := 2) (q := 2) (x := a2) rfl rfl (dl_at t_X18_paragraph 0 rfl) ?_
  refine g_iconst (pc := 1) X (n := 0) (dl_at t_X18_paragraph 1 rfl) ?_
  refine g_bipush (pc := 2) X (n := 6) rfl (dl_at t_X18_paragraph 2 rfl) ?_
  refine r_callRz (pc := 4) X (fun _ hv => s_X18_in r2 (r32_c rfl) (r32_c rfl) hv) cw_code q4660 q372 (in_Sc X (As := [iv a2, iv 0, iv 6]) (Or.inl q4658) q4659 q372 q4660 ⟨by decide, by decide⟩ rfl (dl_at t_X18_paragraph 3 rfl)) (dl_at t_X18_paragraph 3 rfl) (cat24 (st := []) (Nat.le_of_ble_eq_true rfl)) (Nat.le_of_ble_eq_true rfl) (Nat.le_of_ble_eq_true rfl) fun v4 g4 => ?_
  refine g_ifne (pc := 7) X (r32_z g4) (off := 10) (tgt := 17) rfl (dl_at t_X18_paragraph 4 rfl) (fun _ => ?_) (fun _ => ?_)
  · refine g_aload_n (pc := 17) X (j := 0) (i := 0) (q := 0) (x := a0) rfl rfl (dl_at t_X18_paragraph 10 rfl) ?_
    refine r_getz (pc := 18) X fX18_17 hk q4253 (dl_at t_X18_paragraph 11 rfl) fun g18 => ?_
    refine g_ifne (pc := 21) X (r32_z g18) (off := 10) (tgt := 31) rfl (dl_at t_X18_paragraph 12 rfl) (fun _ => ?_) (fun _ => ?_)
    · refine g_iload_n (pc := 31) X (j := 1) (i := 1) (q := 1) (x := a1) rfl rfl (dl_at t_X18_paragraph 18 rfl) ?_
      refine g_iflt (pc := 32) X r1 (off := 14) (tgt := 46) rfl (dl_at t_X18_paragraph 19 rfl) (fun _ => ?_) (fun _ => ?_)
      · refine g_aload_n (pc := 46) X (j := 0) (i := 0) (q := 0) (x := a0) rfl rfl (dl_at t_X18_paragraph 25 rfl) ?_
        refine g_iconst (pc := 47) X (n := 3) (dl_at t_X18_paragraph 26 rfl) ?_
        refine r_callWi (pc := 48) X (fun _ hv => s_X18_refuse hk (r32_c rfl) hv) cw_code q4317 q372 (in_Vk X (As := [iv 3]) kX18 hk (Or.inl q4314) q4316 qs237 cw_code q4317 ⟨by decide, by decide⟩ rfl (dl_at t_X18_paragraph 27 rfl)) (dl_at t_X18_paragraph 27 rfl) (cat24 (st := []) (Nat.le_of_ble_eq_true rfl)) (Nat.le_of_ble_eq_true rfl) (Nat.le_of_ble_eq_true rfl) fun v48 h48 g48 E48 => ?_
        refine g_i2l (pc := 51) X g48 (dl_at t_X18_paragraph 28 rfl) ?_
        exact g_lret (pc := 52) X (r64_of g48) rfl rfl (dl_at t_X18_paragraph 29 rfl)
      refine g_iload_n (pc := 35) X (j := 1) (i := 1) (q := 1) (x := a1) rfl rfl (dl_at t_X18_paragraph 20 rfl) ?_
      refine g_aload_n (pc := 36) X (j := 0) (i := 0) (q := 0) (x := a0) rfl rfl (dl_at t_X18_paragraph 21 rfl) ?_
      refine r_getr (pc := 37) X fX18_15 hk q4251 (dl_at t_X18_paragraph 22 rfl) ?_
      refine g_gd fun k40 => ?_
      refine r_geti (pc := 40) X fX25_9 k40 q3774 (dl_at t_X18_paragraph 23 rfl) fun g40 => ?_
      refine g_icmplt (pc := 43) X r1 g40 (off := 10) (tgt := 53) rfl (dl_at t_X18_paragraph 24 rfl) (fun _ => ?_) (fun _ => ?_)
      · refine g_aload_n (pc := 53) X (j := 0) (i := 0) (q := 0) (x := a0) rfl rfl (dl_at t_X18_paragraph 30 rfl) ?_
        refine g_iconst (pc := 54) X (n := 0) (dl_at t_X18_paragraph 31 rfl) ?_
        refine r_puti (pc := 55) X fX18_0 hk q4236 rfl (dl_at t_X18_paragraph 32 rfl) (r32_c rfl) (fun h55 E55 => ?_)
        refine g_iload_n (pc := 58) X (j := 2) (i := 2) (q := 2) (x := a2) rfl rfl (dl_at t_X18_paragraph 33 rfl) ?_
        refine g_case (fun w59 => ?_) (fun nw59 => ?_)
        · refine g_tabIn (pc := 59) X (off := 37) (tgt := 96) r2 w59 (by decide) (by decide) rfl rfl dS_X18_paragraph_59 ?_
          refine g_aload_n (pc := 96) X (j := 0) (i := 0) (q := 0) (x := a0) rfl rfl (dl_at t_X18_paragraph 34 rfl) ?_
          have k97 := kx E55 (by decide) hk
          refine r_getr (pc := 97) X fX18_15 k97 q4251 (dl_at t_X18_paragraph 35 rfl) ?_
          refine g_gd fun k100 => ?_
          refine r_getr (pc := 100) X fX25_22 k100 q3796 (dl_at t_X18_paragraph 36 rfl) ?_
          refine g_iload_n (pc := 103) X (j := 1) (i := 1) (q := 1) (x := a1) rfl rfl (dl_at t_X18_paragraph 37 rfl) ?_
          refine g_gd fun k104 => ?_
          refine g_lald (pc := 104) X r1 k104 (dl_at t_X18_paragraph 38 rfl) fun g104 => ?_
          exact g_lret (pc := 105) X g104 rfl rfl (dl_at t_X18_paragraph 39 rfl)
        refine g_case (fun w59_1 => ?_) (fun nw59_1 => ?_)
        · refine g_tabIn (pc := 59) X (off := 47) (tgt := 106) r2 w59_1 (by decide) (by decide) rfl rfl dS_X18_paragraph_59 ?_
          refine g_aload_n (pc := 106) X (j := 0) (i := 0) (q := 0) (x := a0) rfl rfl (dl_at t_X18_paragraph 40 rfl) ?_
          have k107 := kx E55 (by decide) hk
          refine r_getr (pc := 107) X fX18_15 k107 q4251 (dl_at t_X18_paragraph 41 rfl) ?_
          refine g_gd fun k110 => ?_
          refine r_getr (pc := 110) X fX25_17 k110 q3787 (dl_at t_X18_paragraph 42 rfl) ?_
          refine g_iload_n (pc := 113) X (j := 1) (i := 1) (q := 1) (x := a1) rfl rfl (dl_at t_X18_paragraph 43 rfl) ?_
          refine g_gd fun k114 => ?_
          refine g_iald (pc := 114) X r1 k114 (dl_at t_X18_paragraph 44 rfl) fun g114 => ?_
          refine g_i2l (pc := 115) X g114 (dl_at t_X18_paragraph 45 rfl) ?_
          exact g_lret (pc := 116) X (r64_of g114) rfl rfl (dl_at t_X18_paragraph 46 rfl)
        refine g_case (fun w59_2 => ?_) (fun nw59_2 => ?_)
        · refine g_tabIn (pc := 59) X (off := 58) (tgt := 117) r2 w59_2 (by decide) (by decide) rfl rfl dS_X18_paragraph_59 ?_
          refine g_aload_n (pc := 117) X (j := 0) (i := 0) (q := 0) (x := a0) rfl rfl (dl_at t_X18_paragraph 47 rfl) ?_
          have k118 := kx E55 (by decide) hk
          refine r_getr (pc := 118) X fX18_15 k118 q4251 (dl_at t_X18_paragraph 48 rfl) ?_
          refine g_gd fun k121 => ?_
          refine r_getr (pc := 121) X fX25_15 k121 q3784 (dl_at t_X18_paragraph 49 rfl) ?_
          refine g_iload_n (pc := 124) X (j := 1) (i := 1) (q := 1) (x := a1) rfl rfl (dl_at t_X18_paragraph 50 rfl) ?_
          refine g_gd fun k125 => ?_
          refine g_iald (pc := 125) X r1 k125 (dl_at t_X18_paragraph 51 rfl) fun g125 => ?_
          refine g_i2l (pc := 126) X g125 (dl_at t_X18_paragraph 52 rfl) ?_
          exact g_lret (pc := 127) X (r64_of g125) rfl rfl (dl_at t_X18_paragraph 53 rfl)
        refine g_case (fun w59_3 => ?_) (fun nw59_3 => ?_)
        · refine g_tabIn (pc := 59) X (off := 69) (tgt := 128) r2 w59_3 (by decide) (by decide) rfl rfl dS_X18_paragraph_59 ?_
          refine g_aload_n (pc := 128) X (j := 0) (i := 0) (q := 0) (x := a0) rfl rfl (dl_at t_X18_paragraph 54 rfl) ?_
          have k129 := kx E55 (by decide) hk
          refine r_getr (pc := 129) X fX18_15 k129 q4251 (dl_at t_X18_paragraph 55 rfl) ?_
          refine g_gd fun k132 => ?_
          refine r_getr (pc := 132) X fX25_19 k132 q3791 (dl_at t_X18_paragraph 56 rfl) ?_
          refine g_iload_n (pc := 135) X (j := 1) (i := 1) (q := 1) (x := a1) rfl rfl (dl_at t_X18_paragraph 57 rfl) ?_
          refine g_gd fun k136 => ?_
          refine g_iald (pc := 136) X r1 k136 (dl_at t_X18_paragraph 58 rfl) fun g136 => ?_
          refine g_i2l (pc := 137) X g136 (dl_at t_X18_paragraph 59 rfl) ?_
          exact g_lret (pc := 138) X (r64_of g136) rfl rfl (dl_at t_X18_paragraph 60 rfl)
        refine g_case (fun w59_4 => ?_) (fun nw59_4 => ?_)
        · refine g_tabIn (pc := 59) X (off := 80) (tgt := 139) r2 w59_4 (by decide) (by decide) rfl rfl dS_X18_paragraph_59 ?_
          refine g_aload_n (pc := 139) X (j := 0) (i := 0) (q := 0) (x := a0) rfl rfl (dl_at t_X18_paragraph 61 rfl) ?_
          have k140 := kx E55 (by decide) hk
          refine r_getr (pc := 140) X fX18_15 k140 q4251 (dl_at t_X18_paragraph 62 rfl) ?_
          refine g_gd fun k143 => ?_
          refine r_getr (pc := 143) X fX25_21 k143 q3794 (dl_at t_X18_paragraph 63 rfl) ?_
          refine g_iload_n (pc := 146) X (j := 1) (i := 1) (q := 1) (x := a1) rfl rfl (dl_at t_X18_paragraph 64 rfl) ?_
          refine g_gd fun k147 => ?_
          refine g_lald (pc := 147) X r1 k147 (dl_at t_X18_paragraph 65 rfl) fun g147 => ?_
          exact g_lret (pc := 148) X g147 rfl rfl (dl_at t_X18_paragraph 66 rfl)
        refine g_case (fun w59_5 => ?_) (fun nw59_5 => ?_)
        · refine g_tabIn (pc := 59) X (off := 90) (tgt := 149) r2 w59_5 (by decide) (by decide) rfl rfl dS_X18_paragraph_59 ?_
          refine g_aload_n (pc := 149) X (j := 0) (i := 0) (q := 0) (x := a0) rfl rfl (dl_at t_X18_paragraph 67 rfl) ?_
          have k150 := kx E55 (by decide) hk
          refine r_getr (pc := 150) X fX18_15 k150 q4251 (dl_at t_X18_paragraph 68 rfl) ?_
          refine g_gd fun k153 => ?_
          refine r_getr (pc := 153) X fX25_11 k153 q3778 (dl_at t_X18_paragraph 69 rfl) ?_
          refine g_iload_n (pc := 156) X (j := 1) (i := 1) (q := 1) (x := a1) rfl rfl (dl_at t_X18_paragraph 70 rfl) ?_
          refine g_gd fun k157 => ?_
          refine g_iald (pc := 157) X r1 k157 (dl_at t_X18_paragraph 71 rfl) fun g157 => ?_
          refine g_aload_n (pc := 158) X (j := 0) (i := 0) (q := 0) (x := a0) rfl rfl (dl_at t_X18_paragraph 72 rfl) ?_
          refine r_getr (pc := 159) X fX18_15 k150 q4251 (dl_at t_X18_paragraph 73 rfl) ?_
          refine r_getr (pc := 162) X fX25_10 k153 q3776 (dl_at t_X18_paragraph 74 rfl) ?_
          refine g_iload_n (pc := 165) X (j := 1) (i := 1) (q := 1) (x := a1) rfl rfl (dl_at t_X18_paragraph 75 rfl) ?_
          refine g_gd fun k166 => ?_
          refine g_iald (pc := 166) X r1 k166 (dl_at t_X18_paragraph 76 rfl) fun g166 => ?_
          refine g_isub (pc := 167) X g157 g166 (dl_at t_X18_paragraph 77 rfl) ?_
          refine g_i2l (pc := 168) X (r32_w _) (dl_at t_X18_paragraph 78 rfl) ?_
          exact g_lret (pc := 169) X (r64_of (r32_w _)) rfl rfl (dl_at t_X18_paragraph 79 rfl)
        have w59_6 : ¬ a2 ∈ ([0, 1, 2, 3, 4, 5] : List Int) := by simp only [List.mem_cons, List.not_mem_nil, or_false, not_or] at *; simp only [*, not_false_eq_true, and_self]
        refine g_tabElse (pc := 59) X (tgt := 170) [0, 1, 2, 3, 4, 5] r2 w59_6 rfl rfl dS_X18_paragraph_59 ?_
        refine g_aload_n (pc := 170) X (j := 0) (i := 0) (q := 0) (x := a0) rfl rfl (dl_at t_X18_paragraph 80 rfl) ?_
        have k171 := kx E55 (by decide) hk
        refine r_getr (pc := 171) X fX18_15 k171 q4251 (dl_at t_X18_paragraph 81 rfl) ?_
        refine g_gd fun k174 => ?_
        refine r_getr (pc := 174) X fX25_12 k174 q3780 (dl_at t_X18_paragraph 82 rfl) ?_
        refine g_iload_n (pc := 177) X (j := 1) (i := 1) (q := 1) (x := a1) rfl rfl (dl_at t_X18_paragraph 83 rfl) ?_
        refine g_gd fun k178 => ?_
        refine g_iald (pc := 178) X r1 k178 (dl_at t_X18_paragraph 84 rfl) fun g178 => ?_
        refine g_i2l (pc := 179) X g178 (dl_at t_X18_paragraph 85 rfl) ?_
        exact g_lret (pc := 180) X (r64_of g178) rfl rfl (dl_at t_X18_paragraph 86 rfl)
      refine g_aload_n (pc := 46) X (j := 0) (i := 0) (q := 0) (x := a0) rfl rfl (dl_at t_X18_paragraph 25 rfl) ?_
      refine g_iconst (pc := 47) X (n := 3) (dl_at t_X18_paragraph 26 rfl) ?_
      refine r_callWi (pc := 48) X (fun _ hv => s_X18_refuse hk (r32_c rfl) hv) cw_code q4317 q372 (in_Vk X (As := [iv 3]) kX18 hk (Or.inl q4314) q4316 qs237 cw_code q4317 ⟨by decide, by decide⟩ rfl (dl_at t_X18_paragraph 27 rfl)) (dl_at t_X18_paragraph 27 rfl) (cat24 (st := []) (Nat.le_of_ble_eq_true rfl)) (Nat.le_of_ble_eq_true rfl) (Nat.le_of_ble_eq_true rfl) fun v48_1 h48_1 g48_1 E48_1 => ?_
      refine g_i2l (pc := 51) X g48_1 (dl_at t_X18_paragraph 28 rfl) ?_
      exact g_lret (pc := 52) X (r64_of g48_1) rfl rfl (dl_at t_X18_paragraph 29 rfl)
    refine g_aload_n (pc := 24) X (j := 0) (i := 0) (q := 0) (x := a0) rfl rfl (dl_at t_X18_paragraph 13 rfl) ?_
    refine g_iconst (pc := 25) X (n := 2) (dl_at t_X18_paragraph 14 rfl) ?_
    refine r_callWi (pc := 26) X (fun _ hv => s_X18_refuse hk (r32_c rfl) hv) cw_code q4317 q372 (in_Vk X (As := [iv 2]) kX18 hk (Or.inl q4314) q4316 qs237 cw_code q4317 ⟨by decide, by decide⟩ rfl (dl_at t_X18_paragraph 15 rfl)) (dl_at t_X18_paragraph 15 rfl) (cat24 (st := []) (Nat.le_of_ble_eq_true rfl)) (Nat.le_of_ble_eq_true rfl) (Nat.le_of_ble_eq_true rfl) fun v26 h26 g26 E26 => ?_
    refine g_i2l (pc := 29) X g26 (dl_at t_X18_paragraph 16 rfl) ?_
    exact g_lret (pc := 30) X (r64_of g26) rfl rfl (dl_at t_X18_paragraph 17 rfl)
  refine g_aload_n (pc := 10) X (j := 0) (i := 0) (q := 0) (x := a0) rfl rfl (dl_at t_X18_paragraph 5 rfl) ?_
  refine g_iconst (pc := 11) X (n := 1) (dl_at t_X18_paragraph 6 rfl) ?_
  refine r_callWi (pc := 12) X (fun _ hv => s_X18_refuse hk (r32_c rfl) hv) cw_code q4317 q372 (in_Vk X (As := [iv 1]) kX18 hk (Or.inl q4314) q4316 qs237 cw_code q4317 ⟨by decide, by decide⟩ rfl (dl_at t_X18_paragraph 7 rfl)) (dl_at t_X18_paragraph 7 rfl) (cat24 (st := []) (Nat.le_of_ble_eq_true rfl)) (Nat.le_of_ble_eq_true rfl) (Nat.le_of_ble_eq_true rfl) fun v12 h12 g12 E12 => ?_
  refine g_i2l (pc := 15) X g12 (dl_at t_X18_paragraph 8 rfl) ?_
  exact g_lret (pc := 16) X (r64_of g12) rfl rfl (dl_at t_X18_paragraph 9 rfl)
def k_X25_judge : List (Nat × Instr × Nat) := [(0, .aload_n 0, 1), (1, .iload_n 1, 1), (2, .invokevirtual 769, 3), (5, .lconst 0, 1), (6, .lstore 4, 2), (8, .iconst 0, 1), (9, .istore 6, 2), (11, .iconst 1, 1), (12, .istore 7, 2), (14, .iconst 0, 1), (15, .istore 8, 2), (17, .iload 8, 2), (19, .iload_n 3, 1), (20, .if_icmp .gt 97, 3), (23, .iload 8, 2), (25, .iload_n 3, 1), (26, .if_icmp .ge 10, 3), (29, .aload_n 2, 1), (30, .iload 8, 2), (32, .iaload, 1), (33, .goto 9, 3), (36, .aload_n 0, 1), (37, .getfield 44, 3), (40, .iload_n 1, 1), (41, .iaload, 1), (42, .istore 9, 2), (44, .aload_n 0, 1), (45, .iload_n 1, 1), (46, .iload 6, 2), (48, .iload 9, 2), (50, .invokevirtual 759, 3), (53, .aload_n 0, 1), (54, .aload_n 0, 1), (55, .getfield 56, 3), (58, .iload_n 1, 1), (59, .iaload, 1), (60, .invokevirtual 762, 3), (63, .ifCond .ne 7, 3), (66, .ldc2_w 775, 3), (69, .lreturn, 1), (70, .lload 4, 2), (72, .aload_n 0, 1), (73, .getfield 749, 3), (76, .iload 7, 2), (78, .aload_n 0, 1), (79, .getfield 740, 3), (82, .isub, 1), (83, .invokestatic 669, 3), (86, .iconst 1, 1), (87, .if_icmp .le 9, 3), (90, .ldc2_w 731, 3), (93, .goto 4, 3), (96, .lconst 0, 1), (97, .ladd, 1), (98, .ladd, 1), (99, .lstore 4, 2), (101, .aload_n 0, 1), (102, .getfield 740, 3), (105, .istore 7, 2), (107, .iload 9, 2), (109, .istore 6, 2), (111, .iinc 8 1, 3), (114, .goto (-97), 3), (117, .lload 4, 2), (119, .lreturn, 1)]
theorem t_X25_judge : ∀ q ∈ k_X25_judge, decode cX25_judge q.1 = .ok q.2 := dl_all (by decide +kernel)
noncomputable def m_X25_judge_j97 (s0_42 x8_17 a0 x4_17 s1_97 s2_97 : Int) (h50 : Hp) : Option ((Int × Int × Int × Int × Hp) ⊕ ((Int × Hp))) :=
  lt_ (w64 (x4_17 + (w64 (s1_97 + s2_97)))) fun x4_99 =>
  lt_ (h50 a0 119) fun x7_105 =>
  lt_ (w32 (x8_17 + 1)) fun x8_111 =>
  some (.inl (x4_99, s0_42, x7_105, x8_111, h50))
noncomputable def m_X25_judge_j42 (a0 a1 x4_17 x6_17 x7_17 x8_17 s0_42 : Int) (h_17 : Hp) : Option ((Int × Int × Int × Int × Hp) ⊕ ((Int × Hp))) :=
  (m_X25_measure a0 a1 x6_17 s0_42 h_17).bind fun h50 =>
  gd (h50 (h50 a0 19) (-2) % 16 = 1 ∧ (0 : Int) ≤ a1 ∧ a1 < h50 (h50 a0 19) (-1)) ((m_X25_isAllowed a0 (h50 (h50 a0 19) a1) h50).bind fun v60 =>
  if v60 ≠ 0 then (if (abs_ (w32 (x7_17 - (h50 a0 119)))) ≤ 1 then (m_X25_judge_j97 s0_42 x8_17 a0 x4_17 (h50 a0 116) 0 h50)
  else (m_X25_judge_j97 s0_42 x8_17 a0 x4_17 (h50 a0 116) 10000 h50))
  else (some (.inr ((-1), h50))))
noncomputable def m_X25_judge_l17 (a0 a1 a2 a3 x4_17 x6_17 x7_17 x8_17 : Int) (h_17 : Hp) : Option ((Int × Int × Int × Int × Hp) ⊕ ((Int × Hp))) :=
  if a3 < x8_17 then (some (.inr (x4_17, h_17)))
  else (if a3 ≤ x8_17 then (gd (h_17 (h_17 a0 15) (-2) % 16 = 1 ∧ (0 : Int) ≤ a1 ∧ a1 < h_17 (h_17 a0 15) (-1)) (m_X25_judge_j42 a0 a1 x4_17 x6_17 x7_17 x8_17 (h_17 (h_17 a0 15) a1) h_17))
  else (gd (h_17 a2 (-2) % 16 = 1 ∧ (0 : Int) ≤ x8_17 ∧ x8_17 < h_17 a2 (-1)) (m_X25_judge_j42 a0 a1 x4_17 x6_17 x7_17 x8_17 (h_17 a2 x8_17) h_17)))
noncomputable def m_X25_judge (a0 a1 a2 a3 : Int) (h : Hp) : Option (Int × Hp) :=
  (m_X25_sums a0 a1 h).bind fun h2 =>
  lt_ 0 fun x4_6 =>
  lt_ 0 fun x6_9 =>
  lt_ 1 fun x7_12 =>
  lt_ 0 fun x8_15 =>
  (lp (fun (q : Int × Int × Int × Int × Hp) => m_X25_judge_l17 a0 a1 a2 a3 q.1 q.2.1 q.2.2.1 q.2.2.2.1 q.2.2.2.2) (x4_6, x6_9, x7_12, x8_15, h2)).bind (fun (x : Int × Hp) => some x)
theorem s_X25_judge {l : Launch} [NoTr l] {D : SD} {a0 a1 a2 a3 : Int} {h : Hp} (hk : h a0 (-2) = 416) (r1 : r32 a1) (r3 : r32 a3) {r : Int × Hp} (hm : m_X25_judge a0 a1 a2 a3 h = some r) : Sim l D yX25_judge (Cond.code yX25_judge cX25_judge 10 (Option.some Jvm.ClassFile.FieldType.long)) 3 121 [rv D a0, iv a1, rv D a2, iv a3] h 4 ((0, r.1), r.2) := by
  refine Sim.of (fin := fun (v : Int × Hp) => ((0, v.1), v.2)) (lsE := [(0, rv D a0), (1, iv a1), (2, rv D a2), (3, iv a3)]) hm rfl cwS_code (la_r (la_i (la_r (la_i la_n)))) (ll_r (ll_i (ll_r (ll_i ll_n)))) ?_
  intro p e s m below meth c X hcw hmm hcc hnm hname
  unfold m_X25_judge
  refine g_aload_n (pc := 0) X (j := 0) (i := 0) (q := 0) (x := a0) rfl rfl (dl_at t_X25_judge 0 rfl) ?_
  refine g_iload_n (pc := 1) X (j := 1) (i := 1) (q := 1) (x := a1) rfl rfl (dl_at t_X25_judge 1 rfl) ?_
  refine r_callV (pc := 2) X (fun _ hv => s_X25_sums hk r1 hv) cw_code q5004 q379 (in_Vk X (As := [iv a1]) kX25 hk (Or.inl q5001) q5003 qs323 cw_code q5004 ⟨by decide, by decide⟩ rfl (dl_at t_X25_judge 2 rfl)) (dl_at t_X25_judge 2 rfl) (cat24 (st := []) (Nat.le_of_ble_eq_true rfl)) (Nat.le_of_ble_eq_true rfl) (Nat.le_of_ble_eq_true rfl) fun h2 E2 => ?_
  refine g_lconst0 (pc := 5) X (dl_at t_X25_judge 3 rfl) ?_
  refine g_ltl (r64_c rfl) fun x4_6 r4_6 => ?_
  refine g_lstoreN (pc := 6) X (i := 4) (x := x4_6) (b := 3) (w := iv a3) (rest := [(0, rv D a0), (1, iv a1), (2, rv D a2)]) (Nat.le_of_ble_eq_true rfl) [3, 0, 1, 2] rfl (by decide) (by decide) rfl rfl (dl_at t_X25_judge 4 rfl) ?_
  refine g_iconst (pc := 8) X (n := 0) (dl_at t_X25_judge 5 rfl) ?_
  refine g_ltz (Or.inl rfl) fun x6_9 r6_9 => ?_
  refine g_istore (pc := 9) X (i := 6) (x := x6_9) (rest := [(4, jv x4_6), (3, iv a3), (0, rv D a0), (1, iv a1), (2, rv D a2)]) (Nat.le_of_ble_eq_true rfl) [0, 1, 2, 3, 4] rfl rfl (dl_at t_X25_judge 6 rfl) ?_
  refine g_iconst (pc := 11) X (n := 1) (dl_at t_X25_judge 7 rfl) ?_
  refine g_ltz (Or.inr rfl) fun x7_12 r7_12 => ?_
  refine g_istoreN (pc := 12) X (i := 7) (x := x7_12) (b := 6) (w := iv x6_9) (rest := [(4, jv x4_6), (3, iv a3), (0, rv D a0), (1, iv a1), (2, rv D a2)]) (Nat.le_of_ble_eq_true rfl) [0, 1, 2, 3, 4, 5] rfl (by decide) rfl rfl (dl_at t_X25_judge 8 rfl) ?_
  refine g_iconst (pc := 14) X (n := 0) (dl_at t_X25_judge 9 rfl) ?_
  refine g_ltz (Or.inl rfl) fun x8_15 r8_15 => ?_
  refine g_istoreN (pc := 15) X (i := 8) (x := x8_15) (b := 7) (w := iv x7_12) (rest := [(6, iv x6_9), (4, jv x4_6), (3, iv a3), (0, rv D a0), (1, iv a1), (2, rv D a2)]) (Nat.le_of_ble_eq_true rfl) [0, 1, 2, 3, 4, 5, 6] rfl (by decide) rfl rfl (dl_at t_X25_judge 10 rfl) ?_
  refine g_ls (ls2 := [(0, rv D a0), (1, iv a1), (2, rv D a2), (3, iv a3), (4, jv x4_6), (6, iv x6_9), (7, iv x7_12), (8, iv x8_15)]) [5, 6, 7, 4, 3, 2, 1, 0] rfl ?_
  refine g_loop0F (fun (q : Int × Int × Int × Int × Hp) => [(0, rv D a0), (1, iv a1), (2, rv D a2), (3, iv a3), (4, jv q.1), (6, iv q.2.1), (7, iv q.2.2.1), (8, iv q.2.2.2.1)]) (fun (q : Int × Int × Int × Int × Hp) => q.2.2.2.2) (fun (q : Int × Int × Int × Int × Hp) => r64 q.1 ∧ r32 q.2.1 ∧ r32 q.2.2.1 ∧ r32 q.2.2.2.1 ∧ Ext h2 q.2.2.2.2) (x4_6, x6_9, x7_12, x8_15, h2) ⟨r4_6, (r32_z r6_9), (r32_z r7_12), (r32_z r8_15), (Ext.refl _)⟩ ?_ (fun _ => rfl)
  · rintro ⟨x4_17, x6_17, x7_17, x8_17, h_17⟩ ⟨r4_17, r6_17, r7_17, r8_17, E_17⟩
    try dsimp only
    unfold m_X25_judge_l17
    refine g_iload (pc := 17) X (i := 8) (q := 7) (x := x8_17) rfl (dl_at t_X25_judge 11 rfl) ?_
    refine g_iload_n (pc := 19) X (j := 3) (i := 3) (q := 3) (x := a3) rfl rfl (dl_at t_X25_judge 12 rfl) ?_
    refine g_icmpgt (pc := 20) X r8_17 r3 (off := 97) (tgt := 117) rfl (dl_at t_X25_judge 13 rfl) (fun _ => ?_) (fun _ => ?_)
    · refine g_lload (pc := 117) X (i := 4) (q := 4) (x := x4_17) rfl (dl_at t_X25_judge 63 rfl) ?_
      exact g_at fun Q hQ => (g_lret (pc := 119) X r4_17 rfl rfl (dl_at t_X25_judge 64 rfl)) _ Q rfl hQ
    refine g_iload (pc := 23) X (i := 8) (q := 7) (x := x8_17) rfl (dl_at t_X25_judge 14 rfl) ?_
    refine g_iload_n (pc := 25) X (j := 3) (i := 3) (q := 3) (x := a3) rfl rfl (dl_at t_X25_judge 15 rfl) ?_
    refine g_join (γ := Int) (fun q => r32 q) 42 (fun q => [(0, rv D a0), (1, iv a1), (2, rv D a2), (3, iv a3), (4, jv x4_17), (6, iv x6_17), (7, iv x7_17), (8, iv x8_17)]) (fun q => [iv q]) (fun q => h_17) (fun q => m_X25_judge_j42 a0 a1 x4_17 x6_17 x7_17 x8_17 q h_17) ?_ ?_
    · rintro s0_42 rs0_42
      try dsimp only
      unfold m_X25_judge_j42
      refine g_istoreN (pc := 42) X (i := 9) (x := s0_42) (b := 8) (w := iv x8_17) (rest := [(0, rv D a0), (1, iv a1), (2, rv D a2), (3, iv a3), (4, jv x4_17), (6, iv x6_17), (7, iv x7_17)]) (Nat.le_of_ble_eq_true rfl) [7, 0, 1, 2, 3, 4, 5, 6] rfl (by decide) rfl rfl (dl_at t_X25_judge 25 rfl) ?_
      refine g_aload_n (pc := 44) X (j := 0) (i := 0) (q := 2) (x := a0) rfl rfl (dl_at t_X25_judge 26 rfl) ?_
      refine g_iload_n (pc := 45) X (j := 1) (i := 1) (q := 3) (x := a1) rfl rfl (dl_at t_X25_judge 27 rfl) ?_
      refine g_iload (pc := 46) X (i := 6) (q := 7) (x := x6_17) rfl (dl_at t_X25_judge 28 rfl) ?_
      refine g_iload (pc := 48) X (i := 9) (q := 0) (x := s0_42) rfl (dl_at t_X25_judge 29 rfl) ?_
      have k50 := kx (E2.trans E_17) (by decide) hk
      refine r_callV (pc := 50) X (fun _ hv => s_X25_measure k50 r1 r6_17 rs0_42 hv) cw_code q5014 q379 (in_Vk X (As := [iv a1, iv x6_17, iv s0_42]) kX25 k50 (Or.inl q5011) q5013 qs325 cw_code q5014 ⟨by decide, by decide⟩ rfl (dl_at t_X25_judge 30 rfl)) (dl_at t_X25_judge 30 rfl) (cat24 (st := []) (Nat.le_of_ble_eq_true rfl)) (Nat.le_of_ble_eq_true rfl) (Nat.le_of_ble_eq_true rfl) fun h50 E50 => ?_
      refine g_aload_n (pc := 53) X (j := 0) (i := 0) (q := 2) (x := a0) rfl rfl (dl_at t_X25_judge 31 rfl) ?_
      refine g_aload_n (pc := 54) X (j := 0) (i := 0) (q := 2) (x := a0) rfl rfl (dl_at t_X25_judge 32 rfl) ?_
      have k55 := kx E50 (by decide) k50
      refine r_getr (pc := 55) X fX25_19 k55 q3790 (dl_at t_X25_judge 33 rfl) ?_
      refine g_iload_n (pc := 58) X (j := 1) (i := 1) (q := 3) (x := a1) rfl rfl (dl_at t_X25_judge 34 rfl) ?_
      refine g_gd fun k59 => ?_
      refine g_iald (pc := 59) X r1 k59 (dl_at t_X25_judge 35 rfl) fun g59 => ?_
      refine r_callRz (pc := 60) X (fun _ hv => s_X25_isAllowed k55 g59 hv) cw_code q5043 q379 (in_Vk X (As := [iv (h50 (h50 a0 19) a1)]) kX25 k55 (Or.inl q5040) q5042 qs329 cw_code q5043 ⟨by decide, by decide⟩ rfl (dl_at t_X25_judge 36 rfl)) (dl_at t_X25_judge 36 rfl) (cat24 (st := []) (Nat.le_of_ble_eq_true rfl)) (Nat.le_of_ble_eq_true rfl) (Nat.le_of_ble_eq_true rfl) fun v60 g60 => ?_
      refine g_ifne (pc := 63) X (r32_z g60) (off := 7) (tgt := 70) rfl (dl_at t_X25_judge 37 rfl) (fun _ => ?_) (fun _ => ?_)
      · refine g_lload (pc := 70) X (i := 4) (q := 6) (x := x4_17) rfl (dl_at t_X25_judge 40 rfl) ?_
        refine g_aload_n (pc := 72) X (j := 0) (i := 0) (q := 2) (x := a0) rfl rfl (dl_at t_X25_judge 41 rfl) ?_
        refine r_getl (pc := 73) X fX25_116 k55 q3928 (dl_at t_X25_judge 42 rfl) fun g73 => ?_
        refine g_iload (pc := 76) X (i := 7) (q := 8) (x := x7_17) rfl (dl_at t_X25_judge 43 rfl) ?_
        refine g_aload_n (pc := 78) X (j := 0) (i := 0) (q := 2) (x := a0) rfl rfl (dl_at t_X25_judge 44 rfl) ?_
        refine r_geti (pc := 79) X fX25_119 k55 q3931 (dl_at t_X25_judge 45 rfl) fun g79 => ?_
        refine g_isub (pc := 82) X r7_17 g79 (dl_at t_X25_judge 46 rfl) ?_
        refine g_mabs (pc := 83) X (r32_w _) q4982 q4983 q398 q4984 (cat24 (st := [jv (h50 a0 116), jv x4_17]) (Nat.le_of_ble_eq_true rfl)) (Nat.le_of_ble_eq_true rfl) (Nat.le_of_ble_eq_true rfl) (dl_at t_X25_judge 47 rfl) ?_
        refine g_iconst (pc := 86) X (n := 1) (dl_at t_X25_judge 48 rfl) ?_
        refine g_join (γ := Int × Int) (fun q => r64 q.1 ∧ r64 q.2) 97 (fun q => [(0, rv D a0), (1, iv a1), (2, rv D a2), (3, iv a3), (8, iv x8_17), (9, iv s0_42)]) (fun q => [jv q.2, jv q.1, jv x4_17]) (fun q => h50) (fun q => m_X25_judge_j97 s0_42 x8_17 a0 x4_17 q.1 q.2 h50) ?_ ?_
        · rintro ⟨s1_97, s2_97⟩ ⟨rs1_97, rs2_97⟩
          try dsimp only
          unfold m_X25_judge_j97
          refine g_ladd (pc := 97) X rs1_97 rs2_97 (dl_at t_X25_judge 53 rfl) ?_
          refine g_ladd (pc := 98) X r4_17 (r64_w _) (dl_at t_X25_judge 54 rfl) ?_
          refine g_ltl (r64_w _) fun x4_99 r4_99 => ?_
          refine g_lstoreN (pc := 99) X (i := 4) (x := x4_99) (b := 3) (w := iv a3) (rest := [(0, rv D a0), (1, iv a1), (2, rv D a2), (8, iv x8_17), (9, iv s0_42)]) (Nat.le_of_ble_eq_true rfl) [3, 0, 1, 2, 4, 5] rfl (by decide) (by decide) rfl rfl (dl_at t_X25_judge 55 rfl) ?_
          refine g_aload_n (pc := 101) X (j := 0) (i := 0) (q := 2) (x := a0) rfl rfl (dl_at t_X25_judge 56 rfl) ?_
          refine r_geti (pc := 102) X fX25_119 k55 q3931 (dl_at t_X25_judge 57 rfl) fun g102 => ?_
          refine g_lti g102 fun x7_105 r7_105 => ?_
          refine g_istore (pc := 105) X (i := 7) (x := x7_105) (rest := [(4, jv x4_99), (3, iv a3), (0, rv D a0), (1, iv a1), (2, rv D a2), (8, iv x8_17), (9, iv s0_42)]) (Nat.le_of_ble_eq_true rfl) [0, 1, 2, 3, 4, 5, 6] rfl rfl (dl_at t_X25_judge 58 rfl) ?_
          refine g_iload (pc := 107) X (i := 9) (q := 7) (x := s0_42) rfl (dl_at t_X25_judge 59 rfl) ?_
          refine g_istore (pc := 109) X (i := 6) (x := s0_42) (rest := [(7, iv x7_105), (4, jv x4_99), (3, iv a3), (0, rv D a0), (1, iv a1), (2, rv D a2), (8, iv x8_17)]) (Nat.le_of_ble_eq_true rfl) [0, 1, 2, 3, 4, 5, 6] rfl rfl (dl_at t_X25_judge 60 rfl) ?_
          refine r_iincN (pc := 111) X (i := 8) (q := 7) (n := 1) (x := x8_17) (b := 7) (w := iv x7_105) (rest := [(6, iv s0_42), (4, jv x4_99), (3, iv a3), (0, rv D a0), (1, iv a1), (2, rv D a2)]) rfl r8_17 (r32_c rfl) (Nat.le_of_ble_eq_true rfl) [1, 0, 2, 3, 4, 5, 6] rfl (by decide) rfl rfl (dl_at t_X25_judge 61 rfl) fun x8_111 r8_111 => ?_
          refine g_goto (pc := 114) X (off := (-97)) (tgt := 17) rfl (dl_at t_X25_judge 62 rfl) ?_
          refine g_ls (ls2 := [(0, rv D a0), (1, iv a1), (2, rv D a2), (3, iv a3), (4, jv x4_99), (6, iv s0_42), (7, iv x7_105), (8, iv x8_111)]) [5, 6, 7, 4, 3, 2, 1, 0] rfl ?_
          exact g_at fun Q hQ => hQ ⟨r4_99, rs0_42, r7_105, r8_111, (E_17.trans E50)⟩
        intro J97
        refine g_icmple (pc := 87) X (r32_abs (r32_w _)) (r32_c rfl) (off := 9) (tgt := 96) rfl (dl_at t_X25_judge 49 rfl) (fun _ => ?_) (fun _ => ?_)
        · refine g_lconst0 (pc := 96) X (dl_at t_X25_judge 52 rfl) ?_
          refine g_ls (ls2 := [(0, rv D a0), (1, iv a1), (2, rv D a2), (3, iv a3), (8, iv x8_17), (9, iv s0_42)]) [2, 3, 4, 5, 1, 0] rfl ?_
          exact J97 ((h50 a0 116), 0) ⟨g73, (r64_c rfl)⟩
        refine g_ldc2 (pc := 90) X (index := 731) (n := 10000) q5028 (dl_at t_X25_judge 50 rfl) ?_
        refine g_goto (pc := 93) X (off := 4) (tgt := 97) rfl (dl_at t_X25_judge 51 rfl) ?_
        refine g_ls (ls2 := [(0, rv D a0), (1, iv a1), (2, rv D a2), (3, iv a3), (8, iv x8_17), (9, iv s0_42)]) [2, 3, 4, 5, 1, 0] rfl ?_
        exact J97 ((h50 a0 116), 10000) ⟨g73, (r64_c rfl)⟩
      refine g_ldc2 (pc := 66) X (index := 775) (n := (-1)) (cnegL (by decide) q5178) (dl_at t_X25_judge 38 rfl) ?_
      exact g_at fun Q hQ => (g_lret (pc := 69) X (r64_c rfl) rfl rfl (dl_at t_X25_judge 39 rfl)) _ Q rfl hQ
    intro J42
    refine g_icmpge (pc := 26) X r8_17 r3 (off := 10) (tgt := 36) rfl (dl_at t_X25_judge 16 rfl) (fun _ => ?_) (fun _ => ?_)
    · refine g_aload_n (pc := 36) X (j := 0) (i := 0) (q := 0) (x := a0) rfl rfl (dl_at t_X25_judge 21 rfl) ?_
      have k37 := kx (E2.trans E_17) (by decide) hk
      refine r_getr (pc := 37) X fX25_15 k37 q3783 (dl_at t_X25_judge 22 rfl) ?_
      refine g_iload_n (pc := 40) X (j := 1) (i := 1) (q := 1) (x := a1) rfl rfl (dl_at t_X25_judge 23 rfl) ?_
      refine g_gd fun k41 => ?_
      refine g_iald (pc := 41) X r1 k41 (dl_at t_X25_judge 24 rfl) fun g41 => ?_
      exact J42 (h_17 (h_17 a0 15) a1) g41
    refine g_aload_n (pc := 29) X (j := 2) (i := 2) (q := 2) (x := a2) rfl rfl (dl_at t_X25_judge 17 rfl) ?_
    refine g_iload (pc := 30) X (i := 8) (q := 7) (x := x8_17) rfl (dl_at t_X25_judge 18 rfl) ?_
    refine g_gd fun k32 => ?_
    refine g_iald (pc := 32) X r8_17 k32 (dl_at t_X25_judge 19 rfl) fun g32 => ?_
    refine g_goto (pc := 33) X (off := 9) (tgt := 42) rfl (dl_at t_X25_judge 20 rfl) ?_
    exact J42 (h_17 a2 x8_17) g32
def k_X18_judge : List (Nat × Instr × Nat) := [(0, .aload_n 0, 1), (1, .getfield 174, 3), (4, .ifCond .ne 10, 3), (7, .aload_n 0, 1), (8, .iconst 1, 1), (9, .invokevirtual 107, 3), (12, .i2l, 1), (13, .lreturn, 1), (14, .iload_n 1, 1), (15, .ifCond .lt 14, 3), (18, .iload_n 1, 1), (19, .aload_n 0, 1), (20, .getfield 70, 3), (23, .getfield 224, 3), (26, .if_icmp .lt 11, 3), (29, .aload_n 0, 1), (30, .iconst (-1), 1), (31, .iconst 2, 1), (32, .invokevirtual 125, 3), (35, .i2l, 1), (36, .lreturn, 1), (37, .iconst 0, 1), (38, .istore_n 2, 1), (39, .iconst 0, 1), (40, .istore_n 3, 1), (41, .iload_n 3, 1), (42, .aload_n 0, 1), (43, .getfield 104, 3), (46, .if_icmp .ge 185, 3), (49, .aload_n 0, 1), (50, .getfield 13, 3), (53, .iload_n 3, 1), (54, .baload, 1), (55, .invokestatic 307, 3), (58, .ifCond .eq 9, 3), (61, .iinc 3 1, 3), (64, .goto (-23), 3), (67, .aload_n 0, 1), (68, .getfield 13, 3), (71, .iload_n 3, 1), (72, .baload, 1), (73, .invokestatic 310, 3), (76, .ifCond .ne 11, 3), (79, .aload_n 0, 1), (80, .iload_n 3, 1), (81, .iconst 3, 1), (82, .invokevirtual 125, 3), (85, .i2l, 1), (86, .lreturn, 1), (87, .iload_n 3, 1), (88, .istore 4, 2), (90, .iconst 0, 1), (91, .istore 5, 2), (93, .iload_n 3, 1), (94, .aload_n 0, 1), (95, .getfield 104, 3), (98, .if_icmp .ge 52, 3), (101, .aload_n 0, 1), (102, .getfield 13, 3), (105, .iload_n 3, 1), (106, .baload, 1), (107, .invokestatic 310, 3), (110, .ifCond .eq 40, 3), (113, .iload_n 3, 1), (114, .iload 4, 2), (116, .isub, 1), (117, .bipush 7, 2), (119, .if_icmp .ge 21, 3), (122, .bipush 10, 2), (124, .iload 5, 2), (126, .imul, 1), (127, .aload_n 0, 1), (128, .getfield 13, 3), (131, .iload_n 3, 1), (132, .baload, 1), (133, .iadd, 1), (134, .bipush 48, 2), (136, .isub, 1), (137, .goto 5, 3), (140, .iload 5, 2), (142, .istore 5, 2), (144, .iinc 3 1, 3), (147, .goto (-54), 3), (150, .iload_n 3, 1), (151, .iload 4, 2), (153, .isub, 1), (154, .bipush 7, 2), (156, .if_icmp .gt 44, 3), (159, .iload 5, 2), (161, .iconst 1, 1), (162, .if_icmp .lt 38, 3), (165, .iload 5, 2), (167, .aload_n 0, 1), (168, .getfield 70, 3), (171, .getfield 293, 3), (174, .iload_n 1, 1), (175, .iaload, 1), (176, .if_icmp .ge 24, 3), (179, .iload_n 2, 1), (180, .ifCond .eq 16, 3), (183, .iload 5, 2), (185, .aload_n 0, 1), (186, .getfield 83, 3), (189, .iload_n 2, 1), (190, .iconst 1, 1), (191, .isub, 1), (192, .iaload, 1), (193, .if_icmp .le 7, 3), (196, .iconst 1, 1), (197, .goto 4, 3), (200, .iconst 0, 1), (201, .istore 6, 2), (203, .iload 6, 2), (205, .ifCond .ne 12, 3), (208, .aload_n 0, 1), (209, .iload 4, 2), (211, .iconst 3, 1), (212, .invokevirtual 125, 3), (215, .i2l, 1), (216, .lreturn, 1), (217, .aload_n 0, 1), (218, .getfield 83, 3), (221, .iload_n 2, 1), (222, .iload 5, 2), (224, .iastore, 1), (225, .iinc 2 1, 3), (228, .goto (-187), 3), (231, .aload_n 0, 1), (232, .iconst 0, 1), (233, .putfield 87, 3), (236, .aload_n 0, 1), (237, .iconst (-1), 1), (238, .invokevirtual 115, 3), (241, .aload_n 0, 1), (242, .getfield 70, 3), (245, .iload_n 1, 1), (246, .aload_n 0, 1), (247, .getfield 83, 3), (250, .iload_n 2, 1), (251, .invokevirtual 313, 3), (254, .lreturn, 1)]
theorem t_X18_judge : ∀ q ∈ k_X18_judge, decode cX18_judge q.1 = .ok q.2 := dl_all (by decide +kernel)
noncomputable def m_X18_judge_j142 (x3_93 s0_142 : Int) : Option ((Int × Int) ⊕ ((Int × Int))) :=
  lt_ (w32 (x3_93 + 1)) fun x3_144 =>
  some (.inl (x3_144, s0_142))
noncomputable def m_X18_judge_l93 (a0 x3_41 x3_93 x5_93 : Int) (h_41 : Hp) : Option ((Int × Int) ⊕ ((Int × Int))) :=
  if (h_41 a0 3) ≤ x3_93 then (some (.inr (x3_93, x5_93)))
  else (gd (h_41 (h_41 a0 2) (-2) % 16 = 2 ∧ (0 : Int) ≤ x3_93 ∧ x3_93 < h_41 (h_41 a0 2) (-1)) ((m_X18_isDigit (h_41 (h_41 a0 2) x3_93)).bind fun v107 =>
  if v107 = 0 then (some (.inr (x3_93, x5_93)))
  else (if 7 ≤ (w32 (x3_93 - x3_41)) then (m_X18_judge_j142 x3_93 x5_93)
  else (m_X18_judge_j142 x3_93 (w32 ((w32 ((w32 (10 * x5_93)) + (h_41 (h_41 a0 2) x3_93))) - 48))))))
noncomputable def m_X18_judge_j201 (a0 x2_41 x3_150 x3_41 x5_150 s0_201 : Int) (h_41 : Hp) : Option ((Int × Int × Hp) ⊕ ((Int × Hp) ⊕ ((Int × Hp)))) :=
  if s0_201 ≠ 0 then (gd (h_41 (h_41 a0 22) (-2) % 16 = 1 ∧ (0 : Int) ≤ x2_41 ∧ x2_41 < h_41 (h_41 a0 22) (-1)) (pt h_41 (h_41 a0 22) x2_41 x5_150 fun h224 =>
  lt_ (w32 (x2_41 + 1)) fun x2_225 =>
  some (.inl (x2_225, x3_150, h224))))
  else (bW (m_X18_broken a0 x3_41 3 h_41) fun v212 h212 =>
  some (.inr (.inr (v212, h212))))
noncomputable def m_X18_judge_j200 (a0 x2_41 x3_150 x3_41 x5_150 : Int) (h_41 : Hp) : Option ((Int × Int × Hp) ⊕ ((Int × Hp) ⊕ ((Int × Hp)))) :=
  m_X18_judge_j201 a0 x2_41 x3_150 x3_41 x5_150 0 h_41
noncomputable def m_X18_judge_j196 (a0 x2_41 x3_150 x3_41 x5_150 : Int) (h_41 : Hp) : Option ((Int × Int × Hp) ⊕ ((Int × Hp) ⊕ ((Int × Hp)))) :=
  m_X18_judge_j201 a0 x2_41 x3_150 x3_41 x5_150 1 h_41
noncomputable def m_X18_judge_l41 (a0 a1 x2_41 x3_41 : Int) (h_41 : Hp) : Option ((Int × Int × Hp) ⊕ ((Int × Hp) ⊕ ((Int × Hp)))) :=
  if (h_41 a0 3) ≤ x3_41 then (some (.inr (.inl (x2_41, h_41))))
  else (gd (h_41 (h_41 a0 2) (-2) % 16 = 2 ∧ (0 : Int) ≤ x3_41 ∧ x3_41 < h_41 (h_41 a0 2) (-1)) ((m_X18_isBlank (h_41 (h_41 a0 2) x3_41)).bind fun v55 =>
  if v55 = 0 then ((m_X18_isDigit (h_41 (h_41 a0 2) x3_41)).bind fun v73 =>
  if v73 ≠ 0 then (lt_ 0 fun x5_91 =>
  (lp (fun (q : Int × Int) => m_X18_judge_l93 a0 x3_41 q.1 q.2 h_41) (x3_41, x5_91)).bind (fun (y150 : Int × Int) => if 7 < (w32 (y150.1 - x3_41)) then (m_X18_judge_j200 a0 x2_41 y150.1 x3_41 y150.2 h_41)
  else (if y150.2 < 1 then (m_X18_judge_j200 a0 x2_41 y150.1 x3_41 y150.2 h_41)
  else (gd (h_41 (h_41 a0 15) (-2) = 416) (gd (h_41 (h_41 (h_41 a0 15) 15) (-2) % 16 = 1 ∧ (0 : Int) ≤ a1 ∧ a1 < h_41 (h_41 (h_41 a0 15) 15) (-1)) (if (h_41 (h_41 (h_41 a0 15) 15) a1) ≤ y150.2 then (m_X18_judge_j200 a0 x2_41 y150.1 x3_41 y150.2 h_41)
  else (if x2_41 = 0 then (m_X18_judge_j196 a0 x2_41 y150.1 x3_41 y150.2 h_41)
  else (gd (h_41 (h_41 a0 22) (-2) % 16 = 1 ∧ (0 : Int) ≤ (w32 (x2_41 - 1)) ∧ (w32 (x2_41 - 1)) < h_41 (h_41 a0 22) (-1)) (if y150.2 ≤ (h_41 (h_41 a0 22) (w32 (x2_41 - 1))) then (m_X18_judge_j200 a0 x2_41 y150.1 x3_41 y150.2 h_41)
  else (m_X18_judge_j196 a0 x2_41 y150.1 x3_41 y150.2 h_41))))))))))
  else (bW (m_X18_broken a0 x3_41 3 h_41) fun v82 h82 =>
  some (.inr (.inr (v82, h82)))))
  else (lt_ (w32 (x3_41 + 1)) fun x3_61 =>
  some (.inl (x2_41, x3_61, h_41)))))
noncomputable def m_X18_judge (a0 a1 : Int) (h : Hp) : Option (Int × Hp) :=
  if (h a0 17) ≠ 0 then (if a1 < 0 then (bW (m_X18_broken a0 (-1) 2 h) fun v32 h32 =>
  some (v32, h32))
  else (gd (h (h a0 15) (-2) = 416) (if a1 < (h (h a0 15) 9) then (lt_ 0 fun x2_38 =>
  lt_ 0 fun x3_40 =>
  (lp (fun (q : Int × Int × Hp) => m_X18_judge_l41 a0 a1 q.1 q.2.1 q.2.2) (x2_38, x3_40, h)).bind (sE (fun (y231 : Int × Hp) => pt y231.2 a0 0 0 fun h233 =>
  (m_X18_wasRead a0 (-1) h233).bind fun h238 =>
  gd (h238 (h238 a0 15) (-2) = 416) (bW (m_X25_judge (h238 a0 15) a1 (h238 a0 22) y231.1 h238) fun v251 h251 =>
  some (v251, h251))) (fun (x : Int × Hp) => some x)))
  else (bW (m_X18_broken a0 (-1) 2 h) fun v32_1 h32_1 =>
  some (v32_1, h32_1)))))
  else (bW (m_X18_refuse a0 1 h) fun v9 h9 =>
  some (v9, h9))
theorem s_X18_judge {l : Launch} [NoTr l] {D : SD} {a0 a1 : Int} {h : Hp} (hk : h a0 (-2) = 304) (r1 : r32 a1) {r : Int × Hp} (hm : m_X18_judge a0 a1 h = some r) : Sim l D yX18_judge (Cond.code yX18_judge cX18_judge 7 (Option.some Jvm.ClassFile.FieldType.long)) 4 166 [rv D a0, iv a1] h 4 ((0, r.1), r.2) := by
  refine Sim.of (fin := fun (v : Int × Hp) => ((0, v.1), v.2)) (lsE := [(0, rv D a0), (1, iv a1)]) hm rfl cwS_code (la_r (la_i la_n)) (ll_r (ll_i ll_n)) ?_
  intro p e s m below meth c X hcw hmm hcc hnm hname
  unfold m_X18_judge
  refine g_aload_n (pc := 0) X (j := 0) (i := 0) (q := 0) (x := a0) rfl rfl (dl_at t_X18_judge 0 rfl) ?_
  refine r_getz (pc := 1) X fX18_17 hk q4253 (dl_at t_X18_judge 1 rfl) fun g1 => ?_
  refine g_ifne (pc := 4) X (r32_z g1) (off := 10) (tgt := 14) rfl (dl_at t_X18_judge 2 rfl) (fun _ => ?_) (fun _ => ?_)
  · refine g_iload_n (pc := 14) X (j := 1) (i := 1) (q := 1) (x := a1) rfl rfl (dl_at t_X18_judge 8 rfl) ?_
    refine g_iflt (pc := 15) X r1 (off := 14) (tgt := 29) rfl (dl_at t_X18_judge 9 rfl) (fun _ => ?_) (fun _ => ?_)
    · refine g_aload_n (pc := 29) X (j := 0) (i := 0) (q := 0) (x := a0) rfl rfl (dl_at t_X18_judge 15 rfl) ?_
      refine g_iconst (pc := 30) X (n := (-1)) (dl_at t_X18_judge 16 rfl) ?_
      refine g_iconst (pc := 31) X (n := 2) (dl_at t_X18_judge 17 rfl) ?_
      refine r_callWi (pc := 32) X (fun _ hv => s_X18_broken hk (r32_c rfl) (r32_c rfl) hv) cw_code q4431 q372 (in_Vk X (As := [iv (-1), iv 2]) kX18 hk (Or.inl q4428) q4430 qs241 cw_code q4431 ⟨by decide, by decide⟩ rfl (dl_at t_X18_judge 18 rfl)) (dl_at t_X18_judge 18 rfl) (cat24 (st := []) (Nat.le_of_ble_eq_true rfl)) (Nat.le_of_ble_eq_true rfl) (Nat.le_of_ble_eq_true rfl) fun v32 h32 g32 E32 => ?_
      refine g_i2l (pc := 35) X g32 (dl_at t_X18_judge 19 rfl) ?_
      exact g_lret (pc := 36) X (r64_of g32) rfl rfl (dl_at t_X18_judge 20 rfl)
    refine g_iload_n (pc := 18) X (j := 1) (i := 1) (q := 1) (x := a1) rfl rfl (dl_at t_X18_judge 10 rfl) ?_
    refine g_aload_n (pc := 19) X (j := 0) (i := 0) (q := 0) (x := a0) rfl rfl (dl_at t_X18_judge 11 rfl) ?_
    refine r_getr (pc := 20) X fX18_15 hk q4251 (dl_at t_X18_judge 12 rfl) ?_
    refine g_gd fun k23 => ?_
    refine r_geti (pc := 23) X fX25_9 k23 q3774 (dl_at t_X18_judge 13 rfl) fun g23 => ?_
    refine g_icmplt (pc := 26) X r1 g23 (off := 11) (tgt := 37) rfl (dl_at t_X18_judge 14 rfl) (fun _ => ?_) (fun _ => ?_)
    · refine g_iconst (pc := 37) X (n := 0) (dl_at t_X18_judge 21 rfl) ?_
      refine g_ltz (Or.inl rfl) fun x2_38 r2_38 => ?_
      refine g_istore_nN (pc := 38) X (j := 2) (i := 2) (x := x2_38) (b := 1) (w := iv a1) (rest := [(0, rv D a0)]) rfl (Nat.le_of_ble_eq_true rfl) [1, 0] rfl (by decide) rfl rfl (dl_at t_X18_judge 22 rfl) ?_
      refine g_iconst (pc := 39) X (n := 0) (dl_at t_X18_judge 23 rfl) ?_
      refine g_ltz (Or.inl rfl) fun x3_40 r3_40 => ?_
      refine g_istore_nN (pc := 40) X (j := 3) (i := 3) (x := x3_40) (b := 2) (w := iv x2_38) (rest := [(1, iv a1), (0, rv D a0)]) rfl (Nat.le_of_ble_eq_true rfl) [0, 1, 2] rfl (by decide) rfl rfl (dl_at t_X18_judge 24 rfl) ?_
      refine g_ls (ls2 := [(0, rv D a0), (1, iv a1), (2, iv x2_38), (3, iv x3_40)]) [3, 2, 1, 0] rfl ?_
      refine g_loop1F (fun (q : Int × Int × Hp) => [(0, rv D a0), (1, iv a1), (2, iv q.1), (3, iv q.2.1)]) (fun (q : Int × Int × Hp) => q.2.2) (fun (q : Int × Int × Hp) => r32 q.1 ∧ r32 q.2.1 ∧ Ext h q.2.2) 231 (fun (y231 : Int × Hp) => [(0, rv D a0), (1, iv a1), (2, iv y231.1)]) (fun (y231 : Int × Hp) => y231.2) (fun (y231 : Int × Hp) => r32 y231.1 ∧ Ext h y231.2) (x2_38, x3_40, h) ⟨(r32_z r2_38), (r32_z r3_40), (Ext.refl _)⟩ ?_ ?_ (fun _ => rfl)
      · rintro ⟨x2_41, x3_41, h_41⟩ ⟨r2_41, r3_41, E_41⟩
        try dsimp only
        unfold m_X18_judge_l41
        refine g_iload_n (pc := 41) X (j := 3) (i := 3) (q := 3) (x := x3_41) rfl rfl (dl_at t_X18_judge 25 rfl) ?_
        refine g_aload_n (pc := 42) X (j := 0) (i := 0) (q := 0) (x := a0) rfl rfl (dl_at t_X18_judge 26 rfl) ?_
        have k43 := kx E_41 (by decide) hk
        refine r_geti (pc := 43) X fX18_3 k43 q4239 (dl_at t_X18_judge 27 rfl) fun g43 => ?_
        refine g_icmpge (pc := 46) X r3_41 g43 (off := 185) (tgt := 231) rfl (dl_at t_X18_judge 28 rfl) (fun _ => ?_) (fun _ => ?_)
        · refine g_ls (ls2 := [(0, rv D a0), (1, iv a1), (2, iv x2_41)]) [0, 1, 2] rfl ?_
          exact g_at fun Q hQ => hQ ⟨r2_41, E_41⟩
        refine g_aload_n (pc := 49) X (j := 0) (i := 0) (q := 0) (x := a0) rfl rfl (dl_at t_X18_judge 29 rfl) ?_
        refine r_getr (pc := 50) X fX18_2 k43 q4238 (dl_at t_X18_judge 30 rfl) ?_
        refine g_iload_n (pc := 53) X (j := 3) (i := 3) (q := 3) (x := x3_41) rfl rfl (dl_at t_X18_judge 31 rfl) ?_
        refine g_gd fun k54 => ?_
        refine g_bald (pc := 54) X r3_41 k54 (dl_at t_X18_judge 32 rfl) fun g54 => ?_
        refine r_callRz (pc := 55) X (fun _ hv => s_X18_isBlank (r32_b g54) hv) cw_code q4349 q372 (in_Sc X (As := [iv (h_41 (h_41 a0 2) x3_41)]) (Or.inl q5187) q4348 q372 q4349 ⟨by decide, by decide⟩ rfl (dl_at t_X18_judge 33 rfl)) (dl_at t_X18_judge 33 rfl) (cat24 (st := []) (Nat.le_of_ble_eq_true rfl)) (Nat.le_of_ble_eq_true rfl) (Nat.le_of_ble_eq_true rfl) fun v55 g55 => ?_
        refine g_ifeq (pc := 58) X (r32_z g55) (off := 9) (tgt := 67) rfl (dl_at t_X18_judge 34 rfl) (fun _ => ?_) (fun _ => ?_)
        · refine g_aload_n (pc := 67) X (j := 0) (i := 0) (q := 0) (x := a0) rfl rfl (dl_at t_X18_judge 37 rfl) ?_
          refine r_getr (pc := 68) X fX18_2 k43 q4238 (dl_at t_X18_judge 38 rfl) ?_
          refine g_iload_n (pc := 71) X (j := 3) (i := 3) (q := 3) (x := x3_41) rfl rfl (dl_at t_X18_judge 39 rfl) ?_
          refine g_bald (pc := 72) X r3_41 k54 (dl_at t_X18_judge 40 rfl) fun g72 => ?_
          refine r_callRz (pc := 73) X (fun _ hv => s_X18_isDigit (r32_b g72) hv) cw_code q4355 q372 (in_Sc X (As := [iv (h_41 (h_41 a0 2) x3_41)]) (Or.inl q5188) q4354 q372 q4355 ⟨by decide, by decide⟩ rfl (dl_at t_X18_judge 41 rfl)) (dl_at t_X18_judge 41 rfl) (cat24 (st := []) (Nat.le_of_ble_eq_true rfl)) (Nat.le_of_ble_eq_true rfl) (Nat.le_of_ble_eq_true rfl) fun v73 g73 => ?_
          refine g_ifne (pc := 76) X (r32_z g73) (off := 11) (tgt := 87) rfl (dl_at t_X18_judge 42 rfl) (fun _ => ?_) (fun _ => ?_)
          · refine g_iload_n (pc := 87) X (j := 3) (i := 3) (q := 3) (x := x3_41) rfl rfl (dl_at t_X18_judge 49 rfl) ?_
            refine g_istoreN (pc := 88) X (i := 4) (x := x3_41) (b := 3) (w := iv x3_41) (rest := [(0, rv D a0), (1, iv a1), (2, iv x2_41)]) (Nat.le_of_ble_eq_true rfl) [3, 0, 1, 2] rfl (by decide) rfl rfl (dl_at t_X18_judge 50 rfl) ?_
            refine g_iconst (pc := 90) X (n := 0) (dl_at t_X18_judge 51 rfl) ?_
            refine g_ltz (Or.inl rfl) fun x5_91 r5_91 => ?_
            refine g_istoreN (pc := 91) X (i := 5) (x := x5_91) (b := 4) (w := iv x3_41) (rest := [(3, iv x3_41), (0, rv D a0), (1, iv a1), (2, iv x2_41)]) (Nat.le_of_ble_eq_true rfl) [0, 1, 2, 3, 4] rfl (by decide) rfl rfl (dl_at t_X18_judge 52 rfl) ?_
            refine g_ls (ls2 := [(0, rv D a0), (1, iv a1), (2, iv x2_41), (3, iv x3_41), (4, iv x3_41), (5, iv x5_91)]) [3, 4, 5, 2, 1, 0] rfl ?_
            refine g_loop1 (fun (q : Int × Int) => [(0, rv D a0), (1, iv a1), (2, iv x2_41), (3, iv q.1), (4, iv x3_41), (5, iv q.2)]) (fun (q : Int × Int) => h_41) (fun (q : Int × Int) => r32 q.1 ∧ r32 q.2) 150 (fun (y150 : Int × Int) => [(0, rv D a0), (1, iv a1), (2, iv x2_41), (3, iv y150.1), (4, iv x3_41), (5, iv y150.2)]) (fun (y150 : Int × Int) => h_41) (fun (y150 : Int × Int) => r32 y150.1 ∧ r32 y150.2) (x3_41, x5_91) ⟨r3_41, (r32_z r5_91)⟩ ?_ ?_
            · rintro ⟨x3_93, x5_93⟩ ⟨r3_93, r5_93⟩
              try dsimp only
              unfold m_X18_judge_l93
              refine g_iload_n (pc := 93) X (j := 3) (i := 3) (q := 3) (x := x3_93) rfl rfl (dl_at t_X18_judge 53 rfl) ?_
              refine g_aload_n (pc := 94) X (j := 0) (i := 0) (q := 0) (x := a0) rfl rfl (dl_at t_X18_judge 54 rfl) ?_
              refine r_geti (pc := 95) X fX18_3 k43 q4239 (dl_at t_X18_judge 55 rfl) fun g95 => ?_
              refine g_icmpge (pc := 98) X r3_93 g95 (off := 52) (tgt := 150) rfl (dl_at t_X18_judge 56 rfl) (fun _ => ?_) (fun _ => ?_)
              · exact g_at fun Q hQ => hQ ⟨r3_93, r5_93⟩
              refine g_aload_n (pc := 101) X (j := 0) (i := 0) (q := 0) (x := a0) rfl rfl (dl_at t_X18_judge 57 rfl) ?_
              refine r_getr (pc := 102) X fX18_2 k43 q4238 (dl_at t_X18_judge 58 rfl) ?_
              refine g_iload_n (pc := 105) X (j := 3) (i := 3) (q := 3) (x := x3_93) rfl rfl (dl_at t_X18_judge 59 rfl) ?_
              refine g_gd fun k106 => ?_
              refine g_bald (pc := 106) X r3_93 k106 (dl_at t_X18_judge 60 rfl) fun g106 => ?_
              refine r_callRz (pc := 107) X (fun _ hv => s_X18_isDigit (r32_b g106) hv) cw_code q4355 q372 (in_Sc X (As := [iv (h_41 (h_41 a0 2) x3_93)]) (Or.inl q5188) q4354 q372 q4355 ⟨by decide, by decide⟩ rfl (dl_at t_X18_judge 61 rfl)) (dl_at t_X18_judge 61 rfl) (cat24 (st := []) (Nat.le_of_ble_eq_true rfl)) (Nat.le_of_ble_eq_true rfl) (Nat.le_of_ble_eq_true rfl) fun v107 g107 => ?_
              refine g_ifeq (pc := 110) X (r32_z g107) (off := 40) (tgt := 150) rfl (dl_at t_X18_judge 62 rfl) (fun _ => ?_) (fun _ => ?_)
              · exact g_at fun Q hQ => hQ ⟨r3_93, r5_93⟩
              refine g_iload_n (pc := 113) X (j := 3) (i := 3) (q := 3) (x := x3_93) rfl rfl (dl_at t_X18_judge 63 rfl) ?_
              refine g_iload (pc := 114) X (i := 4) (q := 4) (x := x3_41) rfl (dl_at t_X18_judge 64 rfl) ?_
              refine g_isub (pc := 116) X r3_93 r3_41 (dl_at t_X18_judge 65 rfl) ?_
              refine g_bipush (pc := 117) X (n := 7) rfl (dl_at t_X18_judge 66 rfl) ?_
              refine g_join (γ := Int) (fun q => r32 q) 142 (fun q => [(0, rv D a0), (1, iv a1), (2, iv x2_41), (3, iv x3_93), (4, iv x3_41)]) (fun q => [iv q]) (fun q => h_41) (fun q => m_X18_judge_j142 x3_93 q) ?_ ?_
              · rintro s0_142 rs0_142
                try dsimp only
                unfold m_X18_judge_j142
                refine g_istoreN (pc := 142) X (i := 5) (x := s0_142) (b := 4) (w := iv x3_41) (rest := [(0, rv D a0), (1, iv a1), (2, iv x2_41), (3, iv x3_93)]) (Nat.le_of_ble_eq_true rfl) [4, 0, 1, 2, 3] rfl (by decide) rfl rfl (dl_at t_X18_judge 80 rfl) ?_
                refine r_iincN (pc := 144) X (i := 3) (q := 5) (n := 1) (x := x3_93) (b := 2) (w := iv x2_41) (rest := [(5, iv s0_142), (4, iv x3_41), (0, rv D a0), (1, iv a1)]) rfl r3_93 (r32_c rfl) (Nat.le_of_ble_eq_true rfl) [4, 0, 1, 2, 3] rfl (by decide) rfl rfl (dl_at t_X18_judge 81 rfl) fun x3_144 r3_144 => ?_
                refine g_goto (pc := 147) X (off := (-54)) (tgt := 93) rfl (dl_at t_X18_judge 82 rfl) ?_
                refine g_ls (ls2 := [(0, rv D a0), (1, iv a1), (2, iv x2_41), (3, iv x3_144), (4, iv x3_41), (5, iv s0_142)]) [4, 5, 1, 0, 3, 2] rfl ?_
                exact g_at fun Q hQ => hQ ⟨r3_144, rs0_142⟩
              intro J142
              refine g_icmpge (pc := 119) X (r32_w _) (r32_c rfl) (off := 21) (tgt := 140) rfl (dl_at t_X18_judge 67 rfl) (fun _ => ?_) (fun _ => ?_)
              · refine g_iload (pc := 140) X (i := 5) (q := 5) (x := x5_93) rfl (dl_at t_X18_judge 79 rfl) ?_
                refine g_ls (ls2 := [(0, rv D a0), (1, iv a1), (2, iv x2_41), (3, iv x3_93), (4, iv x3_41)]) [0, 1, 2, 3, 4] rfl ?_
                exact J142 x5_93 r5_93
              refine g_bipush (pc := 122) X (n := 10) rfl (dl_at t_X18_judge 68 rfl) ?_
              refine g_iload (pc := 124) X (i := 5) (q := 5) (x := x5_93) rfl (dl_at t_X18_judge 69 rfl) ?_
              refine g_imul (pc := 126) X (r32_c rfl) r5_93 (dl_at t_X18_judge 70 rfl) ?_
              refine g_aload_n (pc := 127) X (j := 0) (i := 0) (q := 0) (x := a0) rfl rfl (dl_at t_X18_judge 71 rfl) ?_
              refine r_getr (pc := 128) X fX18_2 k43 q4238 (dl_at t_X18_judge 72 rfl) ?_
              refine g_iload_n (pc := 131) X (j := 3) (i := 3) (q := 3) (x := x3_93) rfl rfl (dl_at t_X18_judge 73 rfl) ?_
              refine g_bald (pc := 132) X r3_93 k106 (dl_at t_X18_judge 74 rfl) fun g132 => ?_
              refine g_iadd (pc := 133) X (r32_w _) (r32_b g132) (dl_at t_X18_judge 75 rfl) ?_
              refine g_bipush (pc := 134) X (n := 48) rfl (dl_at t_X18_judge 76 rfl) ?_
              refine g_isub (pc := 136) X (r32_w _) (r32_c rfl) (dl_at t_X18_judge 77 rfl) ?_
              refine g_goto (pc := 137) X (off := 5) (tgt := 142) rfl (dl_at t_X18_judge 78 rfl) ?_
              refine g_ls (ls2 := [(0, rv D a0), (1, iv a1), (2, iv x2_41), (3, iv x3_93), (4, iv x3_41)]) [0, 1, 2, 3, 4] rfl ?_
              exact J142 (w32 ((w32 ((w32 (10 * x5_93)) + (h_41 (h_41 a0 2) x3_93))) - 48)) (r32_w _)
            · rintro ⟨x3_150, x5_150⟩ ⟨r3_150, r5_150⟩
              try dsimp only [sE]
              refine g_iload_n (pc := 150) X (j := 3) (i := 3) (q := 3) (x := x3_150) rfl rfl (dl_at t_X18_judge 83 rfl) ?_
              refine g_iload (pc := 151) X (i := 4) (q := 4) (x := x3_41) rfl (dl_at t_X18_judge 84 rfl) ?_
              refine g_isub (pc := 153) X r3_150 r3_41 (dl_at t_X18_judge 85 rfl) ?_
              refine g_bipush (pc := 154) X (n := 7) rfl (dl_at t_X18_judge 86 rfl) ?_
              refine g_join (γ := Int) (fun q => (q = 0 ∨ q = 1)) 201 (fun q => [(0, rv D a0), (1, iv a1), (2, iv x2_41), (3, iv x3_150), (4, iv x3_41), (5, iv x5_150)]) (fun q => [iv q]) (fun q => h_41) (fun q => m_X18_judge_j201 a0 x2_41 x3_150 x3_41 x5_150 q h_41) ?_ ?_
              · rintro s0_201 rs0_201
                try dsimp only
                unfold m_X18_judge_j201
                refine g_istoreN (pc := 201) X (i := 6) (x := s0_201) (b := 5) (w := iv x5_150) (rest := [(0, rv D a0), (1, iv a1), (2, iv x2_41), (3, iv x3_150), (4, iv x3_41)]) (Nat.le_of_ble_eq_true rfl) [5, 0, 1, 2, 3, 4] rfl (by decide) rfl rfl (dl_at t_X18_judge 111 rfl) ?_
                refine g_iload (pc := 203) X (i := 6) (q := 0) (x := s0_201) rfl (dl_at t_X18_judge 112 rfl) ?_
                refine g_ifne (pc := 205) X (r32_z rs0_201) (off := 12) (tgt := 217) rfl (dl_at t_X18_judge 113 rfl) (fun _ => ?_) (fun _ => ?_)
                · refine g_aload_n (pc := 217) X (j := 0) (i := 0) (q := 2) (x := a0) rfl rfl (dl_at t_X18_judge 120 rfl) ?_
                  refine r_getr (pc := 218) X fX18_22 k43 q4258 (dl_at t_X18_judge 121 rfl) ?_
                  refine g_iload_n (pc := 221) X (j := 2) (i := 2) (q := 4) (x := x2_41) rfl rfl (dl_at t_X18_judge 122 rfl) ?_
                  refine g_iload (pc := 222) X (i := 5) (q := 1) (x := x5_150) rfl (dl_at t_X18_judge 123 rfl) ?_
                  refine g_gd fun k224 => ?_
                  refine r_iast (pc := 224) X r2_41 r5_150 k224 (dl_at t_X18_judge 124 rfl) (fun h224 E224 => ?_)
                  refine r_iincN (pc := 225) X (i := 2) (q := 4) (n := 1) (x := x2_41) (b := 1) (w := iv a1) (rest := [(0, rv D a0), (3, iv x3_150)]) rfl r2_41 (r32_c rfl) (Nat.le_of_ble_eq_true rfl) [3, 2, 5] rfl (by decide) rfl rfl (dl_at t_X18_judge 125 rfl) fun x2_225 r2_225 => ?_
                  refine g_goto (pc := 228) X (off := (-187)) (tgt := 41) rfl (dl_at t_X18_judge 126 rfl) ?_
                  refine g_ls (ls2 := [(0, rv D a0), (1, iv a1), (2, iv x2_225), (3, iv x3_150)]) [2, 1, 0, 3] rfl ?_
                  exact g_at fun Q hQ => hQ ⟨r2_225, r3_150, (E_41.trans E224)⟩
                refine g_aload_n (pc := 208) X (j := 0) (i := 0) (q := 2) (x := a0) rfl rfl (dl_at t_X18_judge 114 rfl) ?_
                refine g_iload (pc := 209) X (i := 4) (q := 6) (x := x3_41) rfl (dl_at t_X18_judge 115 rfl) ?_
                refine g_iconst (pc := 211) X (n := 3) (dl_at t_X18_judge 116 rfl) ?_
                refine r_callWi (pc := 212) X (fun _ hv => s_X18_broken k43 r3_41 (r32_c rfl) hv) cw_code q4431 q372 (in_Vk X (As := [iv x3_41, iv 3]) kX18 k43 (Or.inl q4428) q4430 qs241 cw_code q4431 ⟨by decide, by decide⟩ rfl (dl_at t_X18_judge 117 rfl)) (dl_at t_X18_judge 117 rfl) (cat24 (st := []) (Nat.le_of_ble_eq_true rfl)) (Nat.le_of_ble_eq_true rfl) (Nat.le_of_ble_eq_true rfl) fun v212 h212 g212 E212 => ?_
                refine g_i2l (pc := 215) X g212 (dl_at t_X18_judge 118 rfl) ?_
                exact g_at fun Q hQ => (g_lret (pc := 216) X (r64_of g212) rfl rfl (dl_at t_X18_judge 119 rfl)) _ Q rfl hQ
              intro J201
              refine g_join (γ := Unit) (fun q => True) 200 (fun q => [(0, rv D a0), (1, iv a1), (2, iv x2_41), (3, iv x3_150), (4, iv x3_41), (5, iv x5_150)]) (fun q => []) (fun q => h_41) (fun q => m_X18_judge_j200 a0 x2_41 x3_150 x3_41 x5_150 h_41) ?_ ?_
              · rintro _ _
                try dsimp only
                unfold m_X18_judge_j200
                refine g_iconst (pc := 200) X (n := 0) (dl_at t_X18_judge 110 rfl) ?_
                exact J201 0 (Or.inl rfl)
              intro J200
              refine g_icmpgt (pc := 156) X (r32_w _) (r32_c rfl) (off := 44) (tgt := 200) rfl (dl_at t_X18_judge 87 rfl) (fun _ => ?_) (fun _ => ?_)
              · exact J200 () trivial
              refine g_iload (pc := 159) X (i := 5) (q := 5) (x := x5_150) rfl (dl_at t_X18_judge 88 rfl) ?_
              refine g_iconst (pc := 161) X (n := 1) (dl_at t_X18_judge 89 rfl) ?_
              refine g_icmplt (pc := 162) X r5_150 (r32_c rfl) (off := 38) (tgt := 200) rfl (dl_at t_X18_judge 90 rfl) (fun _ => ?_) (fun _ => ?_)
              · exact J200 () trivial
              refine g_iload (pc := 165) X (i := 5) (q := 5) (x := x5_150) rfl (dl_at t_X18_judge 91 rfl) ?_
              refine g_aload_n (pc := 167) X (j := 0) (i := 0) (q := 0) (x := a0) rfl rfl (dl_at t_X18_judge 92 rfl) ?_
              refine r_getr (pc := 168) X fX18_15 k43 q4251 (dl_at t_X18_judge 93 rfl) ?_
              refine g_gd fun k171 => ?_
              refine r_getr (pc := 171) X fX25_15 k171 q3784 (dl_at t_X18_judge 94 rfl) ?_
              refine g_iload_n (pc := 174) X (j := 1) (i := 1) (q := 1) (x := a1) rfl rfl (dl_at t_X18_judge 95 rfl) ?_
              refine g_gd fun k175 => ?_
              refine g_iald (pc := 175) X r1 k175 (dl_at t_X18_judge 96 rfl) fun g175 => ?_
              refine g_icmpge (pc := 176) X r5_150 g175 (off := 24) (tgt := 200) rfl (dl_at t_X18_judge 97 rfl) (fun _ => ?_) (fun _ => ?_)
              · exact J200 () trivial
              refine g_iload_n (pc := 179) X (j := 2) (i := 2) (q := 2) (x := x2_41) rfl rfl (dl_at t_X18_judge 98 rfl) ?_
              refine g_join (γ := Unit) (fun q => True) 196 (fun q => [(0, rv D a0), (1, iv a1), (2, iv x2_41), (3, iv x3_150), (4, iv x3_41), (5, iv x5_150)]) (fun q => []) (fun q => h_41) (fun q => m_X18_judge_j196 a0 x2_41 x3_150 x3_41 x5_150 h_41) ?_ ?_
              · rintro _ _
                try dsimp only
                unfold m_X18_judge_j196
                refine g_iconst (pc := 196) X (n := 1) (dl_at t_X18_judge 108 rfl) ?_
                refine g_goto (pc := 197) X (off := 4) (tgt := 201) rfl (dl_at t_X18_judge 109 rfl) ?_
                exact J201 1 (Or.inr rfl)
              intro J196
              refine g_ifeq (pc := 180) X r2_41 (off := 16) (tgt := 196) rfl (dl_at t_X18_judge 99 rfl) (fun _ => ?_) (fun _ => ?_)
              · exact J196 () trivial
              refine g_iload (pc := 183) X (i := 5) (q := 5) (x := x5_150) rfl (dl_at t_X18_judge 100 rfl) ?_
              refine g_aload_n (pc := 185) X (j := 0) (i := 0) (q := 0) (x := a0) rfl rfl (dl_at t_X18_judge 101 rfl) ?_
              refine r_getr (pc := 186) X fX18_22 k43 q4258 (dl_at t_X18_judge 102 rfl) ?_
              refine g_iload_n (pc := 189) X (j := 2) (i := 2) (q := 2) (x := x2_41) rfl rfl (dl_at t_X18_judge 103 rfl) ?_
              refine g_iconst (pc := 190) X (n := 1) (dl_at t_X18_judge 104 rfl) ?_
              refine g_isub (pc := 191) X r2_41 (r32_c rfl) (dl_at t_X18_judge 105 rfl) ?_
              refine g_gd fun k192 => ?_
              refine g_iald (pc := 192) X (r32_w _) k192 (dl_at t_X18_judge 106 rfl) fun g192 => ?_
              refine g_icmple (pc := 193) X r5_150 g192 (off := 7) (tgt := 200) rfl (dl_at t_X18_judge 107 rfl) (fun _ => ?_) (fun _ => ?_)
              · exact J200 () trivial
              exact J196 () trivial
          refine g_aload_n (pc := 79) X (j := 0) (i := 0) (q := 0) (x := a0) rfl rfl (dl_at t_X18_judge 43 rfl) ?_
          refine g_iload_n (pc := 80) X (j := 3) (i := 3) (q := 3) (x := x3_41) rfl rfl (dl_at t_X18_judge 44 rfl) ?_
          refine g_iconst (pc := 81) X (n := 3) (dl_at t_X18_judge 45 rfl) ?_
          refine r_callWi (pc := 82) X (fun _ hv => s_X18_broken k43 r3_41 (r32_c rfl) hv) cw_code q4431 q372 (in_Vk X (As := [iv x3_41, iv 3]) kX18 k43 (Or.inl q4428) q4430 qs241 cw_code q4431 ⟨by decide, by decide⟩ rfl (dl_at t_X18_judge 46 rfl)) (dl_at t_X18_judge 46 rfl) (cat24 (st := []) (Nat.le_of_ble_eq_true rfl)) (Nat.le_of_ble_eq_true rfl) (Nat.le_of_ble_eq_true rfl) fun v82 h82 g82 E82 => ?_
          refine g_i2l (pc := 85) X g82 (dl_at t_X18_judge 47 rfl) ?_
          exact g_at fun Q hQ => (g_lret (pc := 86) X (r64_of g82) rfl rfl (dl_at t_X18_judge 48 rfl)) _ Q rfl hQ
        refine r_iincN (pc := 61) X (i := 3) (q := 3) (n := 1) (x := x3_41) (b := 2) (w := iv x2_41) (rest := [(0, rv D a0), (1, iv a1)]) rfl r3_41 (r32_c rfl) (Nat.le_of_ble_eq_true rfl) [2, 0, 1] rfl (by decide) rfl rfl (dl_at t_X18_judge 35 rfl) fun x3_61 r3_61 => ?_
        refine g_goto (pc := 64) X (off := (-23)) (tgt := 41) rfl (dl_at t_X18_judge 36 rfl) ?_
        refine g_ls (ls2 := [(0, rv D a0), (1, iv a1), (2, iv x2_41), (3, iv x3_61)]) [2, 3, 1, 0] rfl ?_
        exact g_at fun Q hQ => hQ ⟨r2_41, r3_61, E_41⟩
      · rintro ⟨x2_231, h_231⟩ ⟨r2_231, E_231⟩
        try dsimp only [sE]
        refine g_aload_n (pc := 231) X (j := 0) (i := 0) (q := 0) (x := a0) rfl rfl (dl_at t_X18_judge 127 rfl) ?_
        refine g_iconst (pc := 232) X (n := 0) (dl_at t_X18_judge 128 rfl) ?_
        have k233 := kx E_231 (by decide) hk
        refine r_puti (pc := 233) X fX18_0 k233 q4236 rfl (dl_at t_X18_judge 129 rfl) (r32_c rfl) (fun h233 E233 => ?_)
        refine g_aload_n (pc := 236) X (j := 0) (i := 0) (q := 0) (x := a0) rfl rfl (dl_at t_X18_judge 130 rfl) ?_
        refine g_iconst (pc := 237) X (n := (-1)) (dl_at t_X18_judge 131 rfl) ?_
        have k238 := kx E233 (by decide) k233
        refine r_callV (pc := 238) X (fun _ hv => s_X18_wasRead k238 (r32_c rfl) hv) cw_code q4435 q372 (in_Vk X (As := [iv (-1)]) kX18 k238 (Or.inl q4432) q4434 qs242 cw_code q4435 ⟨by decide, by decide⟩ rfl (dl_at t_X18_judge 132 rfl)) (dl_at t_X18_judge 132 rfl) (cat24 (st := []) (Nat.le_of_ble_eq_true rfl)) (Nat.le_of_ble_eq_true rfl) (Nat.le_of_ble_eq_true rfl) fun h238 E238 => ?_
        refine g_aload_n (pc := 241) X (j := 0) (i := 0) (q := 0) (x := a0) rfl rfl (dl_at t_X18_judge 133 rfl) ?_
        have k242 := kx E238 (by decide) k238
        refine r_getr (pc := 242) X fX18_15 k242 q4251 (dl_at t_X18_judge 134 rfl) ?_
        refine g_iload_n (pc := 245) X (j := 1) (i := 1) (q := 1) (x := a1) rfl rfl (dl_at t_X18_judge 135 rfl) ?_
        refine g_aload_n (pc := 246) X (j := 0) (i := 0) (q := 0) (x := a0) rfl rfl (dl_at t_X18_judge 136 rfl) ?_
        refine r_getr (pc := 247) X fX18_22 k242 q4258 (dl_at t_X18_judge 137 rfl) ?_
        refine g_iload_n (pc := 250) X (j := 2) (i := 2) (q := 2) (x := x2_231) rfl rfl (dl_at t_X18_judge 138 rfl) ?_
        refine g_gd fun k251 => ?_
        refine r_callWl (pc := 251) X (fun _ hv => s_X25_judge k251 r1 r2_231 hv) cw_code q5192 q379 (in_Vk X (As := [iv a1, rv D (h238 a0 22), iv x2_231]) kX25 k251 (Or.inl q5189) q5190 q5191 cw_code q5192 ⟨by decide, by decide⟩ rfl (dl_at t_X18_judge 139 rfl)) (dl_at t_X18_judge 139 rfl) (cat24 (st := []) (Nat.le_of_ble_eq_true rfl)) (Nat.le_of_ble_eq_true rfl) (Nat.le_of_ble_eq_true rfl) fun v251 h251 g251 E251 => ?_
        exact g_lret (pc := 254) X g251 rfl rfl (dl_at t_X18_judge 140 rfl)
    refine g_aload_n (pc := 29) X (j := 0) (i := 0) (q := 0) (x := a0) rfl rfl (dl_at t_X18_judge 15 rfl) ?_
    refine g_iconst (pc := 30) X (n := (-1)) (dl_at t_X18_judge 16 rfl) ?_
    refine g_iconst (pc := 31) X (n := 2) (dl_at t_X18_judge 17 rfl) ?_
    refine r_callWi (pc := 32) X (fun _ hv => s_X18_broken hk (r32_c rfl) (r32_c rfl) hv) cw_code q4431 q372 (in_Vk X (As := [iv (-1), iv 2]) kX18 hk (Or.inl q4428) q4430 qs241 cw_code q4431 ⟨by decide, by decide⟩ rfl (dl_at t_X18_judge 18 rfl)) (dl_at t_X18_judge 18 rfl) (cat24 (st := []) (Nat.le_of_ble_eq_true rfl)) (Nat.le_of_ble_eq_true rfl) (Nat.le_of_ble_eq_true rfl) fun v32_1 h32_1 g32_1 E32_1 => ?_
    refine g_i2l (pc := 35) X g32_1 (dl_at t_X18_judge 19 rfl) ?_
    exact g_lret (pc := 36) X (r64_of g32_1) rfl rfl (dl_at t_X18_judge 20 rfl)
  refine g_aload_n (pc := 7) X (j := 0) (i := 0) (q := 0) (x := a0) rfl rfl (dl_at t_X18_judge 3 rfl) ?_
  refine g_iconst (pc := 8) X (n := 1) (dl_at t_X18_judge 4 rfl) ?_
  refine r_callWi (pc := 9) X (fun _ hv => s_X18_refuse hk (r32_c rfl) hv) cw_code q4317 q372 (in_Vk X (As := [iv 1]) kX18 hk (Or.inl q4314) q4316 qs237 cw_code q4317 ⟨by decide, by decide⟩ rfl (dl_at t_X18_judge 5 rfl)) (dl_at t_X18_judge 5 rfl) (cat24 (st := []) (Nat.le_of_ble_eq_true rfl)) (Nat.le_of_ble_eq_true rfl) (Nat.le_of_ble_eq_true rfl) fun v9 h9 g9 E9 => ?_
  refine g_i2l (pc := 12) X g9 (dl_at t_X18_judge 6 rfl) ?_
  exact g_lret (pc := 13) X (r64_of g9) rfl rfl (dl_at t_X18_judge 7 rfl)
def k_X18_where : List (Nat × Instr × Nat) := [(0, .iload_n 1, 1), (1, .iconst 0, 1), (2, .iconst 5, 1), (3, .invokestatic 162, 3), (6, .ifCond .ne 9, 3), (9, .aload_n 0, 1), (10, .iconst 1, 1), (11, .invokevirtual 107, 3), (14, .ireturn, 1), (15, .aload_n 0, 1), (16, .getfield 174, 3), (19, .ifCond .ne 9, 3), (22, .aload_n 0, 1), (23, .iconst 2, 1), (24, .invokevirtual 107, 3), (27, .ireturn, 1), (28, .aload_n 0, 1), (29, .getfield 70, 3), (32, .getfield 270, 3), (35, .aload_n 0, 1), (36, .getfield 13, 3), (39, .iconst 0, 1), (40, .aload_n 0, 1), (41, .getfield 104, 3), (44, .invokevirtual 317, 3), (47, .istore_n 2, 1), (48, .aload_n 0, 1), (49, .iconst 0, 1), (50, .putfield 104, 3), (53, .iload_n 2, 1), (54, .ifCond .lt 18, 3), (57, .aload_n 0, 1), (58, .getfield 70, 3), (61, .getfield 321, 3), (64, .getfield 206, 3), (67, .iload_n 2, 1), (68, .baload, 1), (69, .ifCond .ne 9, 3), (72, .aload_n 0, 1), (73, .iconst 3, 1), (74, .invokevirtual 107, 3), (77, .ireturn, 1), (78, .aload_n 0, 1), (79, .iconst 0, 1), (80, .putfield 87, 3), (83, .iload_n 1, 1), (120, .iload_n 2, 1), (121, .ireturn, 1), (122, .aload_n 0, 1), (123, .getfield 70, 3), (126, .getfield 322, 3), (129, .iload_n 2, 1), (130, .iaload, 1), (131, .ireturn, 1), (132, .aload_n 0, 1), (133, .getfield 70, 3), (136, .getfield 325, 3), (139, .iload_n 2, 1), (140, .iaload, 1), (141, .ireturn, 1), (142, .aload_n 0, 1), (143, .getfield 70, 3), (146, .getfield 328, 3), (149, .iload_n 2, 1), (150, .iaload, 1), (151, .ireturn, 1), (152, .aload_n 0, 1), (153, .getfield 70, 3), (156, .getfield 331, 3), (159, .iload_n 2, 1), (160, .iaload, 1), (161, .ireturn, 1), (162, .aload_n 0, 1), (163, .getfield 70, 3), (166, .getfield 321, 3), (169, .getfield 200, 3), (172, .iload_n 2, 1), (173, .iaload, 1), (174, .ireturn, 1)]
theorem t_X18_where : ∀ q ∈ k_X18_where, decode cX18_where q.1 = .ok q.2 := dl_all (by decide +kernel)
theorem dS_X18_where_84 : decode cX18_where 84 = .ok (.tableswitch 78 0 4 #[36, 38, 48, 58, 68], 36) := by decide +kernel
noncomputable def m_X18_where (a0 a1 : Int) (h : Hp) : Option (Int × Hp) :=
  (m_X18_in a1 0 5).bind fun v3 =>
  if v3 ≠ 0 then (if (h a0 17) ≠ 0 then (gd (h (h a0 15) (-2) = 416) (gd (h (h (h a0 15) 1) (-2) = 384) ((m_X23_elementOf (h (h a0 15) 1) (h a0 2) 0 (h a0 3) h).bind fun v44 =>
  pt h a0 3 0 fun h50 =>
  if v44 < 0 then (bW (m_X18_refuse a0 3 h50) fun v74 h74 =>
  some (v74, h74))
  else (gd (h50 (h50 a0 15) (-2) = 416) (gd (h50 (h50 (h50 a0 15) 0) (-2) = 400) (gd (h50 (h50 (h50 (h50 a0 15) 0) 10) (-2) % 16 = 3 ∧ (0 : Int) ≤ v44 ∧ v44 < h50 (h50 (h50 (h50 a0 15) 0) 10) (-1)) (if (h50 (h50 (h50 (h50 a0 15) 0) 10) v44) ≠ 0 then (pt h50 a0 0 0 fun h80 =>
  if a1 = 0 then (some (v44, h80))
  else (if a1 = 1 then (gd (h80 (h80 a0 15) (-2) = 416) (gd (h80 (h80 (h80 a0 15) 83) (-2) % 16 = 1 ∧ (0 : Int) ≤ v44 ∧ v44 < h80 (h80 (h80 a0 15) 83) (-1)) (some ((h80 (h80 (h80 a0 15) 83) v44), h80))))
  else (if a1 = 2 then (gd (h80 (h80 a0 15) (-2) = 416) (gd (h80 (h80 (h80 a0 15) 84) (-2) % 16 = 1 ∧ (0 : Int) ≤ v44 ∧ v44 < h80 (h80 (h80 a0 15) 84) (-1)) (some ((h80 (h80 (h80 a0 15) 84) v44), h80))))
  else (if a1 = 3 then (gd (h80 (h80 a0 15) (-2) = 416) (gd (h80 (h80 (h80 a0 15) 77) (-2) % 16 = 1 ∧ (0 : Int) ≤ v44 ∧ v44 < h80 (h80 (h80 a0 15) 77) (-1)) (some ((h80 (h80 (h80 a0 15) 77) v44), h80))))
  else (if a1 = 4 then (gd (h80 (h80 a0 15) (-2) = 416) (gd (h80 (h80 (h80 a0 15) 78) (-2) % 16 = 1 ∧ (0 : Int) ≤ v44 ∧ v44 < h80 (h80 (h80 a0 15) 78) (-1)) (some ((h80 (h80 (h80 a0 15) 78) v44), h80))))
  else (gd (h80 (h80 a0 15) (-2) = 416) (gd (h80 (h80 (h80 a0 15) 0) (-2) = 400) (gd (h80 (h80 (h80 (h80 a0 15) 0) 6) (-2) % 16 = 1 ∧ (0 : Int) ≤ v44 ∧ v44 < h80 (h80 (h80 (h80 a0 15) 0) 6) (-1)) (some ((h80 (h80 (h80 (h80 a0 15) 0) 6) v44), h80))))))))))
  else (bW (m_X18_refuse a0 3 h50) fun v74_1 h74_1 =>
  some (v74_1, h74_1)))))))))
  else (bW (m_X18_refuse a0 2 h) fun v24 h24 =>
  some (v24, h24)))
  else (bW (m_X18_refuse a0 1 h) fun v11 h11 =>
  some (v11, h11))
theorem s_X18_where {l : Launch} [NoTr l] {D : SD} {a0 a1 : Int} {h : Hp} (hk : h a0 (-2) = 304) (r1 : r32 a1) {r : Int × Hp} (hm : m_X18_where a0 a1 h = some r) : Sim l D yX18_where (Cond.code yX18_where cX18_where 3 (Option.some Jvm.ClassFile.FieldType.int)) 7 320 [rv D a0, iv a1] h 1 ((0, r.1), r.2) := by
  refine Sim.of (fin := fun (v : Int × Hp) => ((0, v.1), v.2)) (lsE := [(0, rv D a0), (1, iv a1)]) hm rfl cwS_code (la_r (la_i la_n)) (ll_r (ll_i ll_n)) ?_
  intro p e s m below meth c X hcw hmm hcc hnm hname
  unfold m_X18_where
  refine g_iload_n (pc := 0) X (j := 1) (i := 1) (q := 1) (x := a1) rfl rfl (dl_at t_X18_where 0 rfl) ?_
  refine g_iconst (pc := 1) X (n := 0) (dl_at t_X18_where 1 rfl) ?_
  refine g_iconst (pc := 2) X (n := 5) (dl_at t_X18_where 2 rfl) ?_
  refine r_callRz (pc := 3) X (fun _ hv => s_X18_in r1 (r32_c rfl) (r32_c rfl) hv) cw_code q4660 q372 (in_Sc X (As := [iv a1, iv 0, iv 5]) (Or.inl q4658) q4659 q372 q4660 ⟨by decide, by decide⟩ rfl (dl_at t_X18_where 3 rfl)) (dl_at t_X18_where 3 rfl) (cat24 (st := []) (Nat.le_of_ble_eq_true rfl)) (Nat.le_of_ble_eq_true rfl) (Nat.le_of_ble_eq_true rfl) fun v3 g3 => ?_
  refine g_ifne (pc := 6) X (r32_z g3) (off := 9) (tgt := 15) rfl (dl_at t_X18_where 4 rfl) (fun _ => ?_) (fun _ => ?_)
  · refine g_aload_n (pc := 15) X (j := 0) (i := 0) (q := 0) (x := a0) rfl rfl (dl_at t_X18_where 9 rfl) ?_
    refine r_getz (pc := 16) X fX18_17 hk q4253 (dl_at t_X18_where 10 rfl) fun g16 => ?_
    refine g_ifne (pc := 19) X (r32_z g16) (off := 9) (tgt := 28) rfl (dl_at t_X18_where 11 rfl) (fun _ => ?_) (fun _ => ?_)
    · refine g_aload_n (pc := 28) X (j := 0) (i := 0) (q := 0) (x := a0) rfl rfl (dl_at t_X18_where 16 rfl) ?_
      refine r_getr (pc := 29) X fX18_15 hk q4251 (dl_at t_X18_where 17 rfl) ?_
      refine g_gd fun k32 => ?_
      refine r_getr (pc := 32) X fX25_1 k32 q3764 (dl_at t_X18_where 18 rfl) ?_
      refine g_aload_n (pc := 35) X (j := 0) (i := 0) (q := 0) (x := a0) rfl rfl (dl_at t_X18_where 19 rfl) ?_
      refine r_getr (pc := 36) X fX18_2 hk q4238 (dl_at t_X18_where 20 rfl) ?_
      refine g_iconst (pc := 39) X (n := 0) (dl_at t_X18_where 21 rfl) ?_
      refine g_aload_n (pc := 40) X (j := 0) (i := 0) (q := 0) (x := a0) rfl rfl (dl_at t_X18_where 22 rfl) ?_
      refine r_geti (pc := 41) X fX18_3 hk q4239 (dl_at t_X18_where 23 rfl) fun g41 => ?_
      refine g_gd fun k44 => ?_
      refine r_callRi (pc := 44) X (fun _ hv => s_X23_elementOf k44 (r32_c rfl) g41 hv) cw_code q4909 q377 (in_Vk X (As := [rv D (h a0 2), iv 0, iv (h a0 3)]) kX23 k44 (Or.inl q5197) q4907 q4908 cw_code q4909 ⟨by decide, by decide⟩ rfl (dl_at t_X18_where 24 rfl)) (dl_at t_X18_where 24 rfl) (cat24 (st := []) (Nat.le_of_ble_eq_true rfl)) (Nat.le_of_ble_eq_true rfl) (Nat.le_of_ble_eq_true rfl) fun v44 g44 => ?_
      refine g_istore_nN (pc := 47) X (j := 2) (i := 2) (x := v44) (b := 1) (w := iv a1) (rest := [(0, rv D a0)]) rfl (Nat.le_of_ble_eq_true rfl) [1, 0] rfl (by decide) rfl rfl (dl_at t_X18_where 25 rfl) ?_
      refine g_aload_n (pc := 48) X (j := 0) (i := 0) (q := 2) (x := a0) rfl rfl (dl_at t_X18_where 26 rfl) ?_
      refine g_iconst (pc := 49) X (n := 0) (dl_at t_X18_where 27 rfl) ?_
      refine r_puti (pc := 50) X fX18_3 hk q4239 rfl (dl_at t_X18_where 28 rfl) (r32_c rfl) (fun h50 E50 => ?_)
      refine g_iload_n (pc := 53) X (j := 2) (i := 2) (q := 0) (x := v44) rfl rfl (dl_at t_X18_where 29 rfl) ?_
      refine g_iflt (pc := 54) X g44 (off := 18) (tgt := 72) rfl (dl_at t_X18_where 30 rfl) (fun _ => ?_) (fun _ => ?_)
      · refine g_aload_n (pc := 72) X (j := 0) (i := 0) (q := 2) (x := a0) rfl rfl (dl_at t_X18_where 38 rfl) ?_
        refine g_iconst (pc := 73) X (n := 3) (dl_at t_X18_where 39 rfl) ?_
        have k74 := kx E50 (by decide) hk
        refine r_callWi (pc := 74) X (fun _ hv => s_X18_refuse k74 (r32_c rfl) hv) cw_code q4317 q372 (in_Vk X (As := [iv 3]) kX18 k74 (Or.inl q4314) q4316 qs237 cw_code q4317 ⟨by decide, by decide⟩ rfl (dl_at t_X18_where 40 rfl)) (dl_at t_X18_where 40 rfl) (cat24 (st := []) (Nat.le_of_ble_eq_true rfl)) (Nat.le_of_ble_eq_true rfl) (Nat.le_of_ble_eq_true rfl) fun v74 h74 g74 E74 => ?_
        exact g_iret (pc := 77) X g74 rfl rfl (dl_at t_X18_where 41 rfl)
      refine g_aload_n (pc := 57) X (j := 0) (i := 0) (q := 2) (x := a0) rfl rfl (dl_at t_X18_where 31 rfl) ?_
      have k58 := kx E50 (by decide) hk
      refine r_getr (pc := 58) X fX18_15 k58 q4251 (dl_at t_X18_where 32 rfl) ?_
      refine g_gd fun k61 => ?_
      refine r_getr (pc := 61) X fX25_0 k61 q3762 (dl_at t_X18_where 33 rfl) ?_
      refine g_gd fun k64 => ?_
      refine r_getr (pc := 64) X fX24_10 k64 q3667 (dl_at t_X18_where 34 rfl) ?_
      refine g_iload_n (pc := 67) X (j := 2) (i := 2) (q := 0) (x := v44) rfl rfl (dl_at t_X18_where 35 rfl) ?_
      refine g_gd fun k68 => ?_
      refine g_zald (pc := 68) X g44 k68 (dl_at t_X18_where 36 rfl) fun g68 => ?_
      refine g_ifne (pc := 69) X (r32_z g68) (off := 9) (tgt := 78) rfl (dl_at t_X18_where 37 rfl) (fun _ => ?_) (fun _ => ?_)
      · refine g_aload_n (pc := 78) X (j := 0) (i := 0) (q := 2) (x := a0) rfl rfl (dl_at t_X18_where 42 rfl) ?_
        refine g_iconst (pc := 79) X (n := 0) (dl_at t_X18_where 43 rfl) ?_
        refine r_puti (pc := 80) X fX18_0 k58 q4236 rfl (dl_at t_X18_where 44 rfl) (r32_c rfl) (fun h80 E80 => ?_)
        refine g_iload_n (pc := 83) X (j := 1) (i := 1) (q := 1) (x := a1) rfl rfl (dl_at t_X18_where 45 rfl) ?_
        refine g_case (fun w84 => ?_) (fun nw84 => ?_)
        · refine g_tabIn (pc := 84) X (off := 36) (tgt := 120) r1 w84 (by decide) (by decide) rfl rfl dS_X18_where_84 ?_
          refine g_iload_n (pc := 120) X (j := 2) (i := 2) (q := 0) (x := v44) rfl rfl (dl_at t_X18_where 46 rfl) ?_
          exact g_iret (pc := 121) X g44 rfl rfl (dl_at t_X18_where 47 rfl)
        refine g_case (fun w84_1 => ?_) (fun nw84_1 => ?_)
        · refine g_tabIn (pc := 84) X (off := 38) (tgt := 122) r1 w84_1 (by decide) (by decide) rfl rfl dS_X18_where_84 ?_
          refine g_aload_n (pc := 122) X (j := 0) (i := 0) (q := 2) (x := a0) rfl rfl (dl_at t_X18_where 48 rfl) ?_
          have k123 := kx E80 (by decide) k58
          refine r_getr (pc := 123) X fX18_15 k123 q4251 (dl_at t_X18_where 49 rfl) ?_
          refine g_gd fun k126 => ?_
          refine r_getr (pc := 126) X fX25_83 k126 q3884 (dl_at t_X18_where 50 rfl) ?_
          refine g_iload_n (pc := 129) X (j := 2) (i := 2) (q := 0) (x := v44) rfl rfl (dl_at t_X18_where 51 rfl) ?_
          refine g_gd fun k130 => ?_
          refine g_iald (pc := 130) X g44 k130 (dl_at t_X18_where 52 rfl) fun g130 => ?_
          exact g_iret (pc := 131) X g130 rfl rfl (dl_at t_X18_where 53 rfl)
        refine g_case (fun w84_2 => ?_) (fun nw84_2 => ?_)
        · refine g_tabIn (pc := 84) X (off := 48) (tgt := 132) r1 w84_2 (by decide) (by decide) rfl rfl dS_X18_where_84 ?_
          refine g_aload_n (pc := 132) X (j := 0) (i := 0) (q := 2) (x := a0) rfl rfl (dl_at t_X18_where 54 rfl) ?_
          have k133 := kx E80 (by decide) k58
          refine r_getr (pc := 133) X fX18_15 k133 q4251 (dl_at t_X18_where 55 rfl) ?_
          refine g_gd fun k136 => ?_
          refine r_getr (pc := 136) X fX25_84 k136 q3886 (dl_at t_X18_where 56 rfl) ?_
          refine g_iload_n (pc := 139) X (j := 2) (i := 2) (q := 0) (x := v44) rfl rfl (dl_at t_X18_where 57 rfl) ?_
          refine g_gd fun k140 => ?_
          refine g_iald (pc := 140) X g44 k140 (dl_at t_X18_where 58 rfl) fun g140 => ?_
          exact g_iret (pc := 141) X g140 rfl rfl (dl_at t_X18_where 59 rfl)
        refine g_case (fun w84_3 => ?_) (fun nw84_3 => ?_)
        · refine g_tabIn (pc := 84) X (off := 58) (tgt := 142) r1 w84_3 (by decide) (by decide) rfl rfl dS_X18_where_84 ?_
          refine g_aload_n (pc := 142) X (j := 0) (i := 0) (q := 2) (x := a0) rfl rfl (dl_at t_X18_where 60 rfl) ?_
          have k143 := kx E80 (by decide) k58
          refine r_getr (pc := 143) X fX18_15 k143 q4251 (dl_at t_X18_where 61 rfl) ?_
          refine g_gd fun k146 => ?_
          refine r_getr (pc := 146) X fX25_77 k146 q3876 (dl_at t_X18_where 62 rfl) ?_
          refine g_iload_n (pc := 149) X (j := 2) (i := 2) (q := 0) (x := v44) rfl rfl (dl_at t_X18_where 63 rfl) ?_
          refine g_gd fun k150 => ?_
          refine g_iald (pc := 150) X g44 k150 (dl_at t_X18_where 64 rfl) fun g150 => ?_
          exact g_iret (pc := 151) X g150 rfl rfl (dl_at t_X18_where 65 rfl)
        refine g_case (fun w84_4 => ?_) (fun nw84_4 => ?_)
        · refine g_tabIn (pc := 84) X (off := 68) (tgt := 152) r1 w84_4 (by decide) (by decide) rfl rfl dS_X18_where_84 ?_
          refine g_aload_n (pc := 152) X (j := 0) (i := 0) (q := 2) (x := a0) rfl rfl (dl_at t_X18_where 66 rfl) ?_
          have k153 := kx E80 (by decide) k58
          refine r_getr (pc := 153) X fX18_15 k153 q4251 (dl_at t_X18_where 67 rfl) ?_
          refine g_gd fun k156 => ?_
          refine r_getr (pc := 156) X fX25_78 k156 q3878 (dl_at t_X18_where 68 rfl) ?_
          refine g_iload_n (pc := 159) X (j := 2) (i := 2) (q := 0) (x := v44) rfl rfl (dl_at t_X18_where 69 rfl) ?_
          refine g_gd fun k160 => ?_
          refine g_iald (pc := 160) X g44 k160 (dl_at t_X18_where 70 rfl) fun g160 => ?_
          exact g_iret (pc := 161) X g160 rfl rfl (dl_at t_X18_where 71 rfl)
        have w84_5 : ¬ a1 ∈ ([0, 1, 2, 3, 4] : List Int) := by simp only [List.mem_cons, List.not_mem_nil, or_false, not_or] at *; simp only [*, not_false_eq_true, and_self]
        refine g_tabElse (pc := 84) X (tgt := 162) [0, 1, 2, 3, 4] r1 w84_5 rfl rfl dS_X18_where_84 ?_
        refine g_aload_n (pc := 162) X (j := 0) (i := 0) (q := 2) (x := a0) rfl rfl (dl_at t_X18_where 72 rfl) ?_
        have k163 := kx E80 (by decide) k58
        refine r_getr (pc := 163) X fX18_15 k163 q4251 (dl_at t_X18_where 73 rfl) ?_
        refine g_gd fun k166 => ?_
        refine r_getr (pc := 166) X fX25_0 k166 q3762 (dl_at t_X18_where 74 rfl) ?_
        refine g_gd fun k169 => ?_
        refine r_getr (pc := 169) X fX24_6 k169 q3656 (dl_at t_X18_where 75 rfl) ?_
        refine g_iload_n (pc := 172) X (j := 2) (i := 2) (q := 0) (x := v44) rfl rfl (dl_at t_X18_where 76 rfl) ?_
        refine g_gd fun k173 => ?_
        refine g_iald (pc := 173) X g44 k173 (dl_at t_X18_where 77 rfl) fun g173 => ?_
        exact g_iret (pc := 174) X g173 rfl rfl (dl_at t_X18_where 78 rfl)
      refine g_aload_n (pc := 72) X (j := 0) (i := 0) (q := 2) (x := a0) rfl rfl (dl_at t_X18_where 38 rfl) ?_
      refine g_iconst (pc := 73) X (n := 3) (dl_at t_X18_where 39 rfl) ?_
      refine r_callWi (pc := 74) X (fun _ hv => s_X18_refuse k58 (r32_c rfl) hv) cw_code q4317 q372 (in_Vk X (As := [iv 3]) kX18 k58 (Or.inl q4314) q4316 qs237 cw_code q4317 ⟨by decide, by decide⟩ rfl (dl_at t_X18_where 40 rfl)) (dl_at t_X18_where 40 rfl) (cat24 (st := []) (Nat.le_of_ble_eq_true rfl)) (Nat.le_of_ble_eq_true rfl) (Nat.le_of_ble_eq_true rfl) fun v74_1 h74_1 g74_1 E74_1 => ?_
      exact g_iret (pc := 77) X g74_1 rfl rfl (dl_at t_X18_where 41 rfl)
    refine g_aload_n (pc := 22) X (j := 0) (i := 0) (q := 0) (x := a0) rfl rfl (dl_at t_X18_where 12 rfl) ?_
    refine g_iconst (pc := 23) X (n := 2) (dl_at t_X18_where 13 rfl) ?_
    refine r_callWi (pc := 24) X (fun _ hv => s_X18_refuse hk (r32_c rfl) hv) cw_code q4317 q372 (in_Vk X (As := [iv 2]) kX18 hk (Or.inl q4314) q4316 qs237 cw_code q4317 ⟨by decide, by decide⟩ rfl (dl_at t_X18_where 14 rfl)) (dl_at t_X18_where 14 rfl) (cat24 (st := []) (Nat.le_of_ble_eq_true rfl)) (Nat.le_of_ble_eq_true rfl) (Nat.le_of_ble_eq_true rfl) fun v24 h24 g24 E24 => ?_
    exact g_iret (pc := 27) X g24 rfl rfl (dl_at t_X18_where 15 rfl)
  refine g_aload_n (pc := 9) X (j := 0) (i := 0) (q := 0) (x := a0) rfl rfl (dl_at t_X18_where 5 rfl) ?_
  refine g_iconst (pc := 10) X (n := 1) (dl_at t_X18_where 6 rfl) ?_
  refine r_callWi (pc := 11) X (fun _ hv => s_X18_refuse hk (r32_c rfl) hv) cw_code q4317 q372 (in_Vk X (As := [iv 1]) kX18 hk (Or.inl q4314) q4316 qs237 cw_code q4317 ⟨by decide, by decide⟩ rfl (dl_at t_X18_where 7 rfl)) (dl_at t_X18_where 7 rfl) (cat24 (st := []) (Nat.le_of_ble_eq_true rfl)) (Nat.le_of_ble_eq_true rfl) (Nat.le_of_ble_eq_true rfl) fun v11 h11 g11 E11 => ?_
  exact g_iret (pc := 14) X g11 rfl rfl (dl_at t_X18_where 8 rfl)
def k_X18_note : List (Nat × Instr × Nat) := [(0, .iload_n 2, 1), (1, .iconst 0, 1), (2, .iconst 5, 1), (3, .invokestatic 162, 3), (6, .ifCond .ne 20, 3), (9, .iload_n 2, 1), (10, .bipush 10, 2), (12, .bipush 13, 2), (14, .invokestatic 162, 3), (17, .ifCond .ne 9, 3), (20, .aload_n 0, 1), (21, .iconst 1, 1), (22, .invokevirtual 107, 3), (25, .ireturn, 1), (26, .aload_n 0, 1), (27, .getfield 174, 3), (30, .ifCond .ne 9, 3), (33, .aload_n 0, 1), (34, .iconst 2, 1), (35, .invokevirtual 107, 3), (38, .ireturn, 1), (39, .iload_n 1, 1), (40, .ifCond .lt 30, 3), (43, .iload_n 1, 1), (44, .iload_n 2, 1), (45, .bipush 10, 2), (47, .if_icmp .ge 13, 3), (50, .aload_n 0, 1), (51, .getfield 70, 3), (54, .getfield 227, 3), (57, .goto 10, 3), (60, .aload_n 0, 1), (61, .getfield 70, 3), (64, .getfield 230, 3), (67, .if_icmp .lt 9, 3), (70, .aload_n 0, 1), (71, .iconst 3, 1), (72, .invokevirtual 107, 3), (75, .ireturn, 1), (76, .aload_n 0, 1), (77, .iconst 0, 1), (78, .putfield 87, 3), (81, .aload_n 0, 1), (82, .getfield 70, 3), (85, .getfield 221, 3), (88, .ifCond .ne 7, 3), (91, .iconst 1, 1), (92, .goto 4, 3), (95, .iconst 0, 1), (96, .istore_n 3, 1), (97, .iload_n 2, 1), (164, .aload_n 0, 1), (165, .getfield 70, 3), (168, .getfield 334, 3), (171, .iload_n 1, 1), (172, .iaload, 1), (173, .ireturn, 1), (174, .aload_n 0, 1), (175, .getfield 70, 3), (178, .getfield 337, 3), (181, .iload_n 1, 1), (182, .iaload, 1), (183, .ireturn, 1), (184, .aload_n 0, 1), (185, .getfield 70, 3), (188, .getfield 290, 3), (191, .aload_n 0, 1), (192, .getfield 70, 3), (195, .getfield 340, 3), (198, .iload_n 1, 1), (199, .iaload, 1), (200, .iaload, 1), (201, .ireturn, 1), (202, .aload_n 0, 1), (203, .getfield 70, 3), (206, .getfield 343, 3), (209, .iload_n 1, 1), (210, .iaload, 1), (211, .ireturn, 1), (212, .aload_n 0, 1), (213, .getfield 70, 3), (216, .getfield 346, 3), (219, .iload_n 1, 1), (220, .iaload, 1), (221, .ireturn, 1), (222, .aload_n 0, 1), (223, .getfield 70, 3), (226, .getfield 349, 3), (229, .iload_n 1, 1), (230, .laload, 1), (231, .l2i, 1), (232, .ireturn, 1), (233, .aload_n 0, 1), (234, .getfield 70, 3), (237, .getfield 352, 3), (240, .iload_n 1, 1), (241, .iaload, 1), (242, .ireturn, 1), (243, .iload_n 3, 1), (244, .ifCond .eq 7, 3), (247, .iconst (-1), 1), (248, .goto 12, 3), (251, .aload_n 0, 1), (252, .getfield 70, 3), (255, .getfield 355, 3), (258, .iload_n 1, 1), (259, .iaload, 1), (260, .ireturn, 1), (261, .iload_n 3, 1), (262, .ifCond .eq 7, 3), (265, .iconst (-1), 1), (266, .goto 12, 3), (269, .aload_n 0, 1), (270, .getfield 70, 3), (273, .getfield 358, 3), (276, .iload_n 1, 1), (277, .iaload, 1), (278, .ireturn, 1), (279, .iload_n 3, 1), (280, .ifCond .eq 7, 3), (283, .iconst 0, 1), (284, .goto 13, 3), (287, .aload_n 0, 1), (288, .getfield 70, 3), (291, .getfield 361, 3), (294, .iload_n 1, 1), (295, .laload, 1), (296, .l2i, 1), (297, .ireturn, 1)]
theorem t_X18_note : ∀ q ∈ k_X18_note, decode cX18_note q.1 = .ok q.2 := dl_all (by decide +kernel)
theorem dS_X18_note_98 : decode cX18_note 98 = .ok (.tableswitch 181 0 12 #[66, 76, 86, 104, 114, 124, 181, 181, 181, 181, 135, 145, 163], 66) := by decide +kernel
noncomputable def m_X18_note_j96 (a0 a1 a2 s0_96 : Int) (h78 : Hp) : Option (Int × Hp) :=
  if a2 = 0 then (gd (h78 (h78 (h78 a0 15) 55) (-2) % 16 = 1 ∧ (0 : Int) ≤ a1 ∧ a1 < h78 (h78 (h78 a0 15) 55) (-1)) (some ((h78 (h78 (h78 a0 15) 55) a1), h78)))
  else (if a2 = 1 then (gd (h78 (h78 (h78 a0 15) 56) (-2) % 16 = 1 ∧ (0 : Int) ≤ a1 ∧ a1 < h78 (h78 (h78 a0 15) 56) (-1)) (some ((h78 (h78 (h78 a0 15) 56) a1), h78)))
  else (if a2 = 2 then (gd (h78 (h78 (h78 a0 15) 57) (-2) % 16 = 1 ∧ (0 : Int) ≤ a1 ∧ a1 < h78 (h78 (h78 a0 15) 57) (-1)) (gd (h78 (h78 (h78 a0 15) 17) (-2) % 16 = 1 ∧ (0 : Int) ≤ (h78 (h78 (h78 a0 15) 57) a1) ∧ (h78 (h78 (h78 a0 15) 57) a1) < h78 (h78 (h78 a0 15) 17) (-1)) (some ((h78 (h78 (h78 a0 15) 17) (h78 (h78 (h78 a0 15) 57) a1)), h78))))
  else (if a2 = 3 then (gd (h78 (h78 (h78 a0 15) 58) (-2) % 16 = 1 ∧ (0 : Int) ≤ a1 ∧ a1 < h78 (h78 (h78 a0 15) 58) (-1)) (some ((h78 (h78 (h78 a0 15) 58) a1), h78)))
  else (if a2 = 4 then (gd (h78 (h78 (h78 a0 15) 59) (-2) % 16 = 1 ∧ (0 : Int) ≤ a1 ∧ a1 < h78 (h78 (h78 a0 15) 59) (-1)) (some ((h78 (h78 (h78 a0 15) 59) a1), h78)))
  else (if a2 = 5 then (gd (h78 (h78 (h78 a0 15) 63) (-2) % 16 = 4 ∧ (0 : Int) ≤ a1 ∧ a1 < h78 (h78 (h78 a0 15) 63) (-1)) (some ((w32 (h78 (h78 (h78 a0 15) 63) a1)), h78)))
  else (if a2 = 10 then (gd (h78 (h78 (h78 a0 15) 60) (-2) % 16 = 1 ∧ (0 : Int) ≤ a1 ∧ a1 < h78 (h78 (h78 a0 15) 60) (-1)) (some ((h78 (h78 (h78 a0 15) 60) a1), h78)))
  else (if a2 = 11 then (if s0_96 = 0 then (gd (h78 (h78 (h78 a0 15) 61) (-2) % 16 = 1 ∧ (0 : Int) ≤ a1 ∧ a1 < h78 (h78 (h78 a0 15) 61) (-1)) (some ((h78 (h78 (h78 a0 15) 61) a1), h78)))
  else (some ((-1), h78)))
  else (if a2 = 12 then (if s0_96 = 0 then (gd (h78 (h78 (h78 a0 15) 62) (-2) % 16 = 1 ∧ (0 : Int) ≤ a1 ∧ a1 < h78 (h78 (h78 a0 15) 62) (-1)) (some ((h78 (h78 (h78 a0 15) 62) a1), h78)))
  else (some ((-1), h78)))
  else (if s0_96 = 0 then (gd (h78 (h78 (h78 a0 15) 64) (-2) % 16 = 4 ∧ (0 : Int) ≤ a1 ∧ a1 < h78 (h78 (h78 a0 15) 64) (-1)) (some ((w32 (h78 (h78 (h78 a0 15) 64) a1)), h78)))
  else (some (0, h78)))))))))))
noncomputable def m_X18_note_j67 (a0 a1 a2 s1_67 : Int) (h : Hp) : Option (Int × Hp) :=
  if a1 < s1_67 then (pt h a0 0 0 fun h78 =>
  gd (h78 (h78 a0 15) (-2) = 416) (if (h78 (h78 a0 15) 42) ≠ 0 then (m_X18_note_j96 a0 a1 a2 0 h78)
  else (m_X18_note_j96 a0 a1 a2 1 h78)))
  else (bW (m_X18_refuse a0 3 h) fun v72_1 h72_1 =>
  some (v72_1, h72_1))
noncomputable def m_X18_note_j26 (a0 a1 a2 : Int) (h : Hp) : Option (Int × Hp) :=
  if (h a0 17) ≠ 0 then (if a1 < 0 then (bW (m_X18_refuse a0 3 h) fun v72 h72 =>
  some (v72, h72))
  else (if 10 ≤ a2 then (gd (h (h a0 15) (-2) = 416) (m_X18_note_j67 a0 a1 a2 (h (h a0 15) 54) h))
  else (gd (h (h a0 15) (-2) = 416) (m_X18_note_j67 a0 a1 a2 (h (h a0 15) 53) h))))
  else (bW (m_X18_refuse a0 2 h) fun v35 h35 =>
  some (v35, h35))
noncomputable def m_X18_note (a0 a1 a2 : Int) (h : Hp) : Option (Int × Hp) :=
  (m_X18_in a2 0 5).bind fun v3 =>
  if v3 ≠ 0 then (m_X18_note_j26 a0 a1 a2 h)
  else ((m_X18_in a2 10 13).bind fun v14 =>
  if v14 ≠ 0 then (m_X18_note_j26 a0 a1 a2 h)
  else (bW (m_X18_refuse a0 1 h) fun v22 h22 =>
  some (v22, h22)))
theorem s_X18_note {l : Launch} [NoTr l] {D : SD} {a0 a1 a2 : Int} {h : Hp} (hk : h a0 (-2) = 304) (r1 : r32 a1) (r2 : r32 a2) {r : Int × Hp} (hm : m_X18_note a0 a1 a2 h = some r) : Sim l D yX18_note (Cond.code yX18_note cX18_note 4 (Option.some Jvm.ClassFile.FieldType.int)) 1 38 [rv D a0, iv a1, iv a2] h 1 ((0, r.1), r.2) := by
  refine Sim.of (fin := fun (v : Int × Hp) => ((0, v.1), v.2)) (lsE := [(0, rv D a0), (1, iv a1), (2, iv a2)]) hm rfl cwS_code (la_r (la_i (la_i la_n))) (ll_r (ll_i (ll_i ll_n))) ?_
  intro p e s m below meth c X hcw hmm hcc hnm hname
  unfold m_X18_note
  refine g_iload_n (pc := 0) X (j := 2) (i := 2) (q := 2) (x := a2) rfl rfl (dl_at t_X18_note 0 rfl) ?_
  refine g_iconst (pc := 1) X (n := 0) (dl_at t_X18_note 1 rfl) ?_
  refine g_iconst (pc := 2) X (n := 5) (dl_at t_X18_note 2 rfl) ?_
  refine r_callRz (pc := 3) X (fun _ hv => s_X18_in r2 (r32_c rfl) (r32_c rfl) hv) cw_code q4660 q372 (in_Sc X (As := [iv a2, iv 0, iv 5]) (Or.inl q4658) q4659 q372 q4660 ⟨by decide, by decide⟩ rfl (dl_at t_X18_note 3 rfl)) (dl_at t_X18_note 3 rfl) (cat24 (st := []) (Nat.le_of_ble_eq_true rfl)) (Nat.le_of_ble_eq_true rfl) (Nat.le_of_ble_eq_true rfl) fun v3 g3 => ?_
  refine g_join (γ := Unit) (fun q => True) 26 (fun q => [(0, rv D a0), (1, iv a1), (2, iv a2)]) (fun q => []) (fun q => h) (fun q => m_X18_note_j26 a0 a1 a2 h) ?_ ?_
  · rintro _ _
    try dsimp only
    unfold m_X18_note_j26
    refine g_aload_n (pc := 26) X (j := 0) (i := 0) (q := 0) (x := a0) rfl rfl (dl_at t_X18_note 14 rfl) ?_
    refine r_getz (pc := 27) X fX18_17 hk q4253 (dl_at t_X18_note 15 rfl) fun g27 => ?_
    refine g_ifne (pc := 30) X (r32_z g27) (off := 9) (tgt := 39) rfl (dl_at t_X18_note 16 rfl) (fun _ => ?_) (fun _ => ?_)
    · refine g_iload_n (pc := 39) X (j := 1) (i := 1) (q := 1) (x := a1) rfl rfl (dl_at t_X18_note 21 rfl) ?_
      refine g_iflt (pc := 40) X r1 (off := 30) (tgt := 70) rfl (dl_at t_X18_note 22 rfl) (fun _ => ?_) (fun _ => ?_)
      · refine g_aload_n (pc := 70) X (j := 0) (i := 0) (q := 0) (x := a0) rfl rfl (dl_at t_X18_note 35 rfl) ?_
        refine g_iconst (pc := 71) X (n := 3) (dl_at t_X18_note 36 rfl) ?_
        refine r_callWi (pc := 72) X (fun _ hv => s_X18_refuse hk (r32_c rfl) hv) cw_code q4317 q372 (in_Vk X (As := [iv 3]) kX18 hk (Or.inl q4314) q4316 qs237 cw_code q4317 ⟨by decide, by decide⟩ rfl (dl_at t_X18_note 37 rfl)) (dl_at t_X18_note 37 rfl) (cat24 (st := []) (Nat.le_of_ble_eq_true rfl)) (Nat.le_of_ble_eq_true rfl) (Nat.le_of_ble_eq_true rfl) fun v72 h72 g72 E72 => ?_
        exact g_iret (pc := 75) X g72 rfl rfl (dl_at t_X18_note 38 rfl)
      refine g_iload_n (pc := 43) X (j := 1) (i := 1) (q := 1) (x := a1) rfl rfl (dl_at t_X18_note 23 rfl) ?_
      refine g_iload_n (pc := 44) X (j := 2) (i := 2) (q := 2) (x := a2) rfl rfl (dl_at t_X18_note 24 rfl) ?_
      refine g_bipush (pc := 45) X (n := 10) rfl (dl_at t_X18_note 25 rfl) ?_
      refine g_join (γ := Int) (fun q => r32 q) 67 (fun q => [(0, rv D a0), (1, iv a1), (2, iv a2)]) (fun q => [iv q, iv a1]) (fun q => h) (fun q => m_X18_note_j67 a0 a1 a2 q h) ?_ ?_
      · rintro s1_67 rs1_67
        try dsimp only
        unfold m_X18_note_j67
        refine g_icmplt (pc := 67) X r1 rs1_67 (off := 9) (tgt := 76) rfl (dl_at t_X18_note 34 rfl) (fun _ => ?_) (fun _ => ?_)
        · refine g_aload_n (pc := 76) X (j := 0) (i := 0) (q := 0) (x := a0) rfl rfl (dl_at t_X18_note 39 rfl) ?_
          refine g_iconst (pc := 77) X (n := 0) (dl_at t_X18_note 40 rfl) ?_
          refine r_puti (pc := 78) X fX18_0 hk q4236 rfl (dl_at t_X18_note 41 rfl) (r32_c rfl) (fun h78 E78 => ?_)
          refine g_aload_n (pc := 81) X (j := 0) (i := 0) (q := 0) (x := a0) rfl rfl (dl_at t_X18_note 42 rfl) ?_
          have k82 := kx E78 (by decide) hk
          refine r_getr (pc := 82) X fX18_15 k82 q4251 (dl_at t_X18_note 43 rfl) ?_
          refine g_gd fun k85 => ?_
          refine r_geti (pc := 85) X fX25_42 k85 q3820 (dl_at t_X18_note 44 rfl) fun g85 => ?_
          refine g_join (γ := Int) (fun q => (q = 0 ∨ q = 1)) 96 (fun q => [(0, rv D a0), (1, iv a1), (2, iv a2)]) (fun q => [iv q]) (fun q => h78) (fun q => m_X18_note_j96 a0 a1 a2 q h78) ?_ ?_
          · rintro s0_96 rs0_96
            try dsimp only
            unfold m_X18_note_j96
            refine g_istore_nN (pc := 96) X (j := 3) (i := 3) (x := s0_96) (b := 2) (w := iv a2) (rest := [(0, rv D a0), (1, iv a1)]) rfl (Nat.le_of_ble_eq_true rfl) [2, 0, 1] rfl (by decide) rfl rfl (dl_at t_X18_note 49 rfl) ?_
            refine g_iload_n (pc := 97) X (j := 2) (i := 2) (q := 1) (x := a2) rfl rfl (dl_at t_X18_note 50 rfl) ?_
            refine g_case (fun w98 => ?_) (fun nw98 => ?_)
            · refine g_tabIn (pc := 98) X (off := 66) (tgt := 164) r2 w98 (by decide) (by decide) rfl rfl dS_X18_note_98 ?_
              refine g_aload_n (pc := 164) X (j := 0) (i := 0) (q := 2) (x := a0) rfl rfl (dl_at t_X18_note 51 rfl) ?_
              refine r_getr (pc := 165) X fX18_15 k82 q4251 (dl_at t_X18_note 52 rfl) ?_
              refine r_getr (pc := 168) X fX25_55 k85 q3843 (dl_at t_X18_note 53 rfl) ?_
              refine g_iload_n (pc := 171) X (j := 1) (i := 1) (q := 3) (x := a1) rfl rfl (dl_at t_X18_note 54 rfl) ?_
              refine g_gd fun k172 => ?_
              refine g_iald (pc := 172) X r1 k172 (dl_at t_X18_note 55 rfl) fun g172 => ?_
              exact g_iret (pc := 173) X g172 rfl rfl (dl_at t_X18_note 56 rfl)
            refine g_case (fun w98_1 => ?_) (fun nw98_1 => ?_)
            · refine g_tabIn (pc := 98) X (off := 76) (tgt := 174) r2 w98_1 (by decide) (by decide) rfl rfl dS_X18_note_98 ?_
              refine g_aload_n (pc := 174) X (j := 0) (i := 0) (q := 2) (x := a0) rfl rfl (dl_at t_X18_note 57 rfl) ?_
              refine r_getr (pc := 175) X fX18_15 k82 q4251 (dl_at t_X18_note 58 rfl) ?_
              refine r_getr (pc := 178) X fX25_56 k85 q3845 (dl_at t_X18_note 59 rfl) ?_
              refine g_iload_n (pc := 181) X (j := 1) (i := 1) (q := 3) (x := a1) rfl rfl (dl_at t_X18_note 60 rfl) ?_
              refine g_gd fun k182 => ?_
              refine g_iald (pc := 182) X r1 k182 (dl_at t_X18_note 61 rfl) fun g182 => ?_
              exact g_iret (pc := 183) X g182 rfl rfl (dl_at t_X18_note 62 rfl)
            refine g_case (fun w98_2 => ?_) (fun nw98_2 => ?_)
            · refine g_tabIn (pc := 98) X (off := 86) (tgt := 184) r2 w98_2 (by decide) (by decide) rfl rfl dS_X18_note_98 ?_
              refine g_aload_n (pc := 184) X (j := 0) (i := 0) (q := 2) (x := a0) rfl rfl (dl_at t_X18_note 63 rfl) ?_
              refine r_getr (pc := 185) X fX18_15 k82 q4251 (dl_at t_X18_note 64 rfl) ?_
              refine r_getr (pc := 188) X fX25_17 k85 q3787 (dl_at t_X18_note 65 rfl) ?_
              refine g_aload_n (pc := 191) X (j := 0) (i := 0) (q := 2) (x := a0) rfl rfl (dl_at t_X18_note 66 rfl) ?_
              refine r_getr (pc := 192) X fX18_15 k82 q4251 (dl_at t_X18_note 67 rfl) ?_
              refine r_getr (pc := 195) X fX25_57 k85 q3847 (dl_at t_X18_note 68 rfl) ?_
              refine g_iload_n (pc := 198) X (j := 1) (i := 1) (q := 3) (x := a1) rfl rfl (dl_at t_X18_note 69 rfl) ?_
              refine g_gd fun k199 => ?_
              refine g_iald (pc := 199) X r1 k199 (dl_at t_X18_note 70 rfl) fun g199 => ?_
              refine g_gd fun k200 => ?_
              refine g_iald (pc := 200) X g199 k200 (dl_at t_X18_note 71 rfl) fun g200 => ?_
              exact g_iret (pc := 201) X g200 rfl rfl (dl_at t_X18_note 72 rfl)
            refine g_case (fun w98_3 => ?_) (fun nw98_3 => ?_)
            · refine g_tabIn (pc := 98) X (off := 104) (tgt := 202) r2 w98_3 (by decide) (by decide) rfl rfl dS_X18_note_98 ?_
              refine g_aload_n (pc := 202) X (j := 0) (i := 0) (q := 2) (x := a0) rfl rfl (dl_at t_X18_note 73 rfl) ?_
              refine r_getr (pc := 203) X fX18_15 k82 q4251 (dl_at t_X18_note 74 rfl) ?_
              refine r_getr (pc := 206) X fX25_58 k85 q3849 (dl_at t_X18_note 75 rfl) ?_
              refine g_iload_n (pc := 209) X (j := 1) (i := 1) (q := 3) (x := a1) rfl rfl (dl_at t_X18_note 76 rfl) ?_
              refine g_gd fun k210 => ?_
              refine g_iald (pc := 210) X r1 k210 (dl_at t_X18_note 77 rfl) fun g210 => ?_
              exact g_iret (pc := 211) X g210 rfl rfl (dl_at t_X18_note 78 rfl)
            refine g_case (fun w98_4 => ?_) (fun nw98_4 => ?_)
            · refine g_tabIn (pc := 98) X (off := 114) (tgt := 212) r2 w98_4 (by decide) (by decide) rfl rfl dS_X18_note_98 ?_
              refine g_aload_n (pc := 212) X (j := 0) (i := 0) (q := 2) (x := a0) rfl rfl (dl_at t_X18_note 79 rfl) ?_
              refine r_getr (pc := 213) X fX18_15 k82 q4251 (dl_at t_X18_note 80 rfl) ?_
              refine r_getr (pc := 216) X fX25_59 k85 q3851 (dl_at t_X18_note 81 rfl) ?_
              refine g_iload_n (pc := 219) X (j := 1) (i := 1) (q := 3) (x := a1) rfl rfl (dl_at t_X18_note 82 rfl) ?_
              refine g_gd fun k220 => ?_
              refine g_iald (pc := 220) X r1 k220 (dl_at t_X18_note 83 rfl) fun g220 => ?_
              exact g_iret (pc := 221) X g220 rfl rfl (dl_at t_X18_note 84 rfl)
            refine g_case (fun w98_5 => ?_) (fun nw98_5 => ?_)
            · refine g_tabIn (pc := 98) X (off := 124) (tgt := 222) r2 w98_5 (by decide) (by decide) rfl rfl dS_X18_note_98 ?_
              refine g_aload_n (pc := 222) X (j := 0) (i := 0) (q := 2) (x := a0) rfl rfl (dl_at t_X18_note 85 rfl) ?_
              refine r_getr (pc := 223) X fX18_15 k82 q4251 (dl_at t_X18_note 86 rfl) ?_
              refine r_getr (pc := 226) X fX25_63 k85 q3859 (dl_at t_X18_note 87 rfl) ?_
              refine g_iload_n (pc := 229) X (j := 1) (i := 1) (q := 3) (x := a1) rfl rfl (dl_at t_X18_note 88 rfl) ?_
              refine g_gd fun k230 => ?_
              refine g_lald (pc := 230) X r1 k230 (dl_at t_X18_note 89 rfl) fun g230 => ?_
              refine g_l2i (pc := 231) X g230 (dl_at t_X18_note 90 rfl) ?_
              exact g_iret (pc := 232) X (r32_w _) rfl rfl (dl_at t_X18_note 91 rfl)
            refine g_case (fun w98_6 => ?_) (fun nw98_6 => ?_)
            · refine g_tabIn (pc := 98) X (off := 135) (tgt := 233) r2 w98_6 (by decide) (by decide) rfl rfl dS_X18_note_98 ?_
              refine g_aload_n (pc := 233) X (j := 0) (i := 0) (q := 2) (x := a0) rfl rfl (dl_at t_X18_note 92 rfl) ?_
              refine r_getr (pc := 234) X fX18_15 k82 q4251 (dl_at t_X18_note 93 rfl) ?_
              refine r_getr (pc := 237) X fX25_60 k85 q3853 (dl_at t_X18_note 94 rfl) ?_
              refine g_iload_n (pc := 240) X (j := 1) (i := 1) (q := 3) (x := a1) rfl rfl (dl_at t_X18_note 95 rfl) ?_
              refine g_gd fun k241 => ?_
              refine g_iald (pc := 241) X r1 k241 (dl_at t_X18_note 96 rfl) fun g241 => ?_
              exact g_iret (pc := 242) X g241 rfl rfl (dl_at t_X18_note 97 rfl)
            refine g_case (fun w98_7 => ?_) (fun nw98_7 => ?_)
            · refine g_tabIn (pc := 98) X (off := 145) (tgt := 243) r2 w98_7 (by decide) (by decide) rfl rfl dS_X18_note_98 ?_
              refine g_iload_n (pc := 243) X (j := 3) (i := 3) (q := 0) (x := s0_96) rfl rfl (dl_at t_X18_note 98 rfl) ?_
              refine g_ifeq (pc := 244) X (r32_z rs0_96) (off := 7) (tgt := 251) rfl (dl_at t_X18_note 99 rfl) (fun _ => ?_) (fun _ => ?_)
              · refine g_aload_n (pc := 251) X (j := 0) (i := 0) (q := 2) (x := a0) rfl rfl (dl_at t_X18_note 102 rfl) ?_
                refine r_getr (pc := 252) X fX18_15 k82 q4251 (dl_at t_X18_note 103 rfl) ?_
                refine r_getr (pc := 255) X fX25_61 k85 q3855 (dl_at t_X18_note 104 rfl) ?_
                refine g_iload_n (pc := 258) X (j := 1) (i := 1) (q := 3) (x := a1) rfl rfl (dl_at t_X18_note 105 rfl) ?_
                refine g_gd fun k259 => ?_
                refine g_iald (pc := 259) X r1 k259 (dl_at t_X18_note 106 rfl) fun g259 => ?_
                exact g_iret (pc := 260) X g259 rfl rfl (dl_at t_X18_note 107 rfl)
              refine g_iconst (pc := 247) X (n := (-1)) (dl_at t_X18_note 100 rfl) ?_
              refine g_goto (pc := 248) X (off := 12) (tgt := 260) rfl (dl_at t_X18_note 101 rfl) ?_
              exact g_iret (pc := 260) X (r32_c rfl) rfl rfl (dl_at t_X18_note 107 rfl)
            refine g_case (fun w98_8 => ?_) (fun nw98_8 => ?_)
            · refine g_tabIn (pc := 98) X (off := 163) (tgt := 261) r2 w98_8 (by decide) (by decide) rfl rfl dS_X18_note_98 ?_
              refine g_iload_n (pc := 261) X (j := 3) (i := 3) (q := 0) (x := s0_96) rfl rfl (dl_at t_X18_note 108 rfl) ?_
              refine g_ifeq (pc := 262) X (r32_z rs0_96) (off := 7) (tgt := 269) rfl (dl_at t_X18_note 109 rfl) (fun _ => ?_) (fun _ => ?_)
              · refine g_aload_n (pc := 269) X (j := 0) (i := 0) (q := 2) (x := a0) rfl rfl (dl_at t_X18_note 112 rfl) ?_
                refine r_getr (pc := 270) X fX18_15 k82 q4251 (dl_at t_X18_note 113 rfl) ?_
                refine r_getr (pc := 273) X fX25_62 k85 q3857 (dl_at t_X18_note 114 rfl) ?_
                refine g_iload_n (pc := 276) X (j := 1) (i := 1) (q := 3) (x := a1) rfl rfl (dl_at t_X18_note 115 rfl) ?_
                refine g_gd fun k277 => ?_
                refine g_iald (pc := 277) X r1 k277 (dl_at t_X18_note 116 rfl) fun g277 => ?_
                exact g_iret (pc := 278) X g277 rfl rfl (dl_at t_X18_note 117 rfl)
              refine g_iconst (pc := 265) X (n := (-1)) (dl_at t_X18_note 110 rfl) ?_
              refine g_goto (pc := 266) X (off := 12) (tgt := 278) rfl (dl_at t_X18_note 111 rfl) ?_
              exact g_iret (pc := 278) X (r32_c rfl) rfl rfl (dl_at t_X18_note 117 rfl)
            have w98_9 : ¬ a2 ∈ ([0, 1, 2, 3, 4, 5, 10, 11, 12] : List Int) := by simp only [List.mem_cons, List.not_mem_nil, or_false, not_or] at *; simp only [*, not_false_eq_true, and_self]
            refine g_tabElse (pc := 98) X (tgt := 279) [0, 1, 2, 3, 4, 5, 10, 11, 12] r2 w98_9 rfl rfl dS_X18_note_98 ?_
            refine g_iload_n (pc := 279) X (j := 3) (i := 3) (q := 0) (x := s0_96) rfl rfl (dl_at t_X18_note 118 rfl) ?_
            refine g_ifeq (pc := 280) X (r32_z rs0_96) (off := 7) (tgt := 287) rfl (dl_at t_X18_note 119 rfl) (fun _ => ?_) (fun _ => ?_)
            · refine g_aload_n (pc := 287) X (j := 0) (i := 0) (q := 2) (x := a0) rfl rfl (dl_at t_X18_note 122 rfl) ?_
              refine r_getr (pc := 288) X fX18_15 k82 q4251 (dl_at t_X18_note 123 rfl) ?_
              refine r_getr (pc := 291) X fX25_64 k85 q3861 (dl_at t_X18_note 124 rfl) ?_
              refine g_iload_n (pc := 294) X (j := 1) (i := 1) (q := 3) (x := a1) rfl rfl (dl_at t_X18_note 125 rfl) ?_
              refine g_gd fun k295 => ?_
              refine g_lald (pc := 295) X r1 k295 (dl_at t_X18_note 126 rfl) fun g295 => ?_
              refine g_l2i (pc := 296) X g295 (dl_at t_X18_note 127 rfl) ?_
              exact g_iret (pc := 297) X (r32_w _) rfl rfl (dl_at t_X18_note 128 rfl)
            refine g_iconst (pc := 283) X (n := 0) (dl_at t_X18_note 120 rfl) ?_
            refine g_goto (pc := 284) X (off := 13) (tgt := 297) rfl (dl_at t_X18_note 121 rfl) ?_
            exact g_iret (pc := 297) X (r32_c rfl) rfl rfl (dl_at t_X18_note 128 rfl)
          intro J96
          refine g_ifne (pc := 88) X g85 (off := 7) (tgt := 95) rfl (dl_at t_X18_note 45 rfl) (fun _ => ?_) (fun _ => ?_)
          · refine g_iconst (pc := 95) X (n := 0) (dl_at t_X18_note 48 rfl) ?_
            exact J96 0 (Or.inl rfl)
          refine g_iconst (pc := 91) X (n := 1) (dl_at t_X18_note 46 rfl) ?_
          refine g_goto (pc := 92) X (off := 4) (tgt := 96) rfl (dl_at t_X18_note 47 rfl) ?_
          exact J96 1 (Or.inr rfl)
        refine g_aload_n (pc := 70) X (j := 0) (i := 0) (q := 0) (x := a0) rfl rfl (dl_at t_X18_note 35 rfl) ?_
        refine g_iconst (pc := 71) X (n := 3) (dl_at t_X18_note 36 rfl) ?_
        refine r_callWi (pc := 72) X (fun _ hv => s_X18_refuse hk (r32_c rfl) hv) cw_code q4317 q372 (in_Vk X (As := [iv 3]) kX18 hk (Or.inl q4314) q4316 qs237 cw_code q4317 ⟨by decide, by decide⟩ rfl (dl_at t_X18_note 37 rfl)) (dl_at t_X18_note 37 rfl) (cat24 (st := []) (Nat.le_of_ble_eq_true rfl)) (Nat.le_of_ble_eq_true rfl) (Nat.le_of_ble_eq_true rfl) fun v72_1 h72_1 g72_1 E72_1 => ?_
        exact g_iret (pc := 75) X g72_1 rfl rfl (dl_at t_X18_note 38 rfl)
      intro J67
      refine g_icmpge (pc := 47) X r2 (r32_c rfl) (off := 13) (tgt := 60) rfl (dl_at t_X18_note 26 rfl) (fun _ => ?_) (fun _ => ?_)
      · refine g_aload_n (pc := 60) X (j := 0) (i := 0) (q := 0) (x := a0) rfl rfl (dl_at t_X18_note 31 rfl) ?_
        refine r_getr (pc := 61) X fX18_15 hk q4251 (dl_at t_X18_note 32 rfl) ?_
        refine g_gd fun k64 => ?_
        refine r_geti (pc := 64) X fX25_54 k64 q3841 (dl_at t_X18_note 33 rfl) fun g64 => ?_
        exact J67 (h (h a0 15) 54) g64
      refine g_aload_n (pc := 50) X (j := 0) (i := 0) (q := 0) (x := a0) rfl rfl (dl_at t_X18_note 27 rfl) ?_
      refine r_getr (pc := 51) X fX18_15 hk q4251 (dl_at t_X18_note 28 rfl) ?_
      refine g_gd fun k54 => ?_
      refine r_geti (pc := 54) X fX25_53 k54 q3839 (dl_at t_X18_note 29 rfl) fun g54 => ?_
      refine g_goto (pc := 57) X (off := 10) (tgt := 67) rfl (dl_at t_X18_note 30 rfl) ?_
      exact J67 (h (h a0 15) 53) g54
    refine g_aload_n (pc := 33) X (j := 0) (i := 0) (q := 0) (x := a0) rfl rfl (dl_at t_X18_note 17 rfl) ?_
    refine g_iconst (pc := 34) X (n := 2) (dl_at t_X18_note 18 rfl) ?_
    refine r_callWi (pc := 35) X (fun _ hv => s_X18_refuse hk (r32_c rfl) hv) cw_code q4317 q372 (in_Vk X (As := [iv 2]) kX18 hk (Or.inl q4314) q4316 qs237 cw_code q4317 ⟨by decide, by decide⟩ rfl (dl_at t_X18_note 19 rfl)) (dl_at t_X18_note 19 rfl) (cat24 (st := []) (Nat.le_of_ble_eq_true rfl)) (Nat.le_of_ble_eq_true rfl) (Nat.le_of_ble_eq_true rfl) fun v35 h35 g35 E35 => ?_
    exact g_iret (pc := 38) X g35 rfl rfl (dl_at t_X18_note 20 rfl)
  intro J26
  refine g_ifne (pc := 6) X (r32_z g3) (off := 20) (tgt := 26) rfl (dl_at t_X18_note 4 rfl) (fun _ => ?_) (fun _ => ?_)
  · exact J26 () trivial
  refine g_iload_n (pc := 9) X (j := 2) (i := 2) (q := 2) (x := a2) rfl rfl (dl_at t_X18_note 5 rfl) ?_
  refine g_bipush (pc := 10) X (n := 10) rfl (dl_at t_X18_note 6 rfl) ?_
  refine g_bipush (pc := 12) X (n := 13) rfl (dl_at t_X18_note 7 rfl) ?_
  refine r_callRz (pc := 14) X (fun _ hv => s_X18_in r2 (r32_c rfl) (r32_c rfl) hv) cw_code q4660 q372 (in_Sc X (As := [iv a2, iv 10, iv 13]) (Or.inl q4658) q4659 q372 q4660 ⟨by decide, by decide⟩ rfl (dl_at t_X18_note 8 rfl)) (dl_at t_X18_note 8 rfl) (cat24 (st := []) (Nat.le_of_ble_eq_true rfl)) (Nat.le_of_ble_eq_true rfl) (Nat.le_of_ble_eq_true rfl) fun v14 g14 => ?_
  refine g_ifne (pc := 17) X (r32_z g14) (off := 9) (tgt := 26) rfl (dl_at t_X18_note 9 rfl) (fun _ => ?_) (fun _ => ?_)
  · exact J26 () trivial
  refine g_aload_n (pc := 20) X (j := 0) (i := 0) (q := 0) (x := a0) rfl rfl (dl_at t_X18_note 10 rfl) ?_
  refine g_iconst (pc := 21) X (n := 1) (dl_at t_X18_note 11 rfl) ?_
  refine r_callWi (pc := 22) X (fun _ hv => s_X18_refuse hk (r32_c rfl) hv) cw_code q4317 q372 (in_Vk X (As := [iv 1]) kX18 hk (Or.inl q4314) q4316 qs237 cw_code q4317 ⟨by decide, by decide⟩ rfl (dl_at t_X18_note 12 rfl)) (dl_at t_X18_note 12 rfl) (cat24 (st := []) (Nat.le_of_ble_eq_true rfl)) (Nat.le_of_ble_eq_true rfl) (Nat.le_of_ble_eq_true rfl) fun v22 h22 g22 E22 => ?_
  exact g_iret (pc := 25) X g22 rfl rfl (dl_at t_X18_note 13 rfl)
def k_X18_wavering : List (Nat × Instr × Nat) := [(0, .aload_n 0, 1), (1, .getfield 174, 3), (4, .ifCond .ne 9, 3), (7, .aload_n 0, 1), (8, .iconst 1, 1), (9, .invokevirtual 107, 3), (12, .ireturn, 1), (13, .iconst 0, 1), (14, .istore_n 2, 1), (15, .iconst 0, 1), (16, .istore_n 3, 1), (17, .iload_n 3, 1), (18, .aload_n 0, 1), (19, .getfield 70, 3), (22, .getfield 270, 3), (25, .getfield 147, 3), (28, .if_icmp .ge 39, 3), (31, .aload_n 0, 1), (32, .getfield 70, 3), (35, .getfield 364, 3), (38, .iload_n 3, 1), (39, .baload, 1), (40, .ifCond .ne 6, 3), (43, .goto 18, 3), (46, .iload_n 2, 1), (47, .iload_n 1, 1), (48, .if_icmp .ne 10, 3), (51, .aload_n 0, 1), (52, .iconst 0, 1), (53, .putfield 87, 3), (56, .iload_n 3, 1), (57, .ireturn, 1), (58, .iinc 2 1, 3), (61, .iinc 3 1, 3), (64, .goto (-47), 3), (67, .aload_n 0, 1), (68, .iconst 2, 1), (69, .invokevirtual 107, 3), (72, .ireturn, 1)]
theorem t_X18_wavering : ∀ q ∈ k_X18_wavering, decode cX18_wavering q.1 = .ok q.2 := dl_all (by decide +kernel)
noncomputable def m_X18_wavering_j61 (x3_17 x2_61 : Int) : Option ((Int × Int) ⊕ ((Int × Hp))) :=
  lt_ (w32 (x3_17 + 1)) fun x3_61 =>
  some (.inl (x2_61, x3_61))
noncomputable def m_X18_wavering_l17 (a0 a1 x2_17 x3_17 : Int) (h : Hp) : Option ((Int × Int) ⊕ ((Int × Hp))) :=
  gd (h (h a0 15) (-2) = 416) (gd (h (h (h a0 15) 1) (-2) = 384) (if (h (h (h a0 15) 1) 3) ≤ x3_17 then (bW (m_X18_refuse a0 2 h) fun v69 h69 =>
  some (.inr (v69, h69)))
  else (gd (h (h (h a0 15) 99) (-2) % 16 = 3 ∧ (0 : Int) ≤ x3_17 ∧ x3_17 < h (h (h a0 15) 99) (-1)) (if (h (h (h a0 15) 99) x3_17) ≠ 0 then (if x2_17 ≠ a1 then (lt_ (w32 (x2_17 + 1)) fun x2_58 =>
  m_X18_wavering_j61 x3_17 x2_58)
  else (pt h a0 0 0 fun h53 =>
  some (.inr (x3_17, h53))))
  else (m_X18_wavering_j61 x3_17 x2_17)))))
noncomputable def m_X18_wavering (a0 a1 : Int) (h : Hp) : Option (Int × Hp) :=
  if (h a0 17) ≠ 0 then (lt_ 0 fun x2_14 =>
  lt_ 0 fun x3_16 =>
  (lp (fun (q : Int × Int) => m_X18_wavering_l17 a0 a1 q.1 q.2 h) (x2_14, x3_16)).bind (fun (x : Int × Hp) => some x))
  else (bW (m_X18_refuse a0 1 h) fun v9 h9 =>
  some (v9, h9))
theorem s_X18_wavering {l : Launch} [NoTr l] {D : SD} {a0 a1 : Int} {h : Hp} (hk : h a0 (-2) = 304) (r1 : r32 a1) {r : Int × Hp} (hm : m_X18_wavering a0 a1 h = some r) : Sim l D yX18_wavering (Cond.code yX18_wavering cX18_wavering 4 (Option.some Jvm.ClassFile.FieldType.int)) 1 37 [rv D a0, iv a1] h 1 ((0, r.1), r.2) := by
  refine Sim.of (fin := fun (v : Int × Hp) => ((0, v.1), v.2)) (lsE := [(0, rv D a0), (1, iv a1)]) hm rfl cwS_code (la_r (la_i la_n)) (ll_r (ll_i ll_n)) ?_
  intro p e s m below meth c X hcw hmm hcc hnm hname
  unfold m_X18_wavering
  refine g_aload_n (pc := 0) X (j := 0) (i := 0) (q := 0) (x := a0) rfl rfl (dl_at t_X18_wavering 0 rfl) ?_
  refine r_getz (pc := 1) X fX18_17 hk q4253 (dl_at t_X18_wavering 1 rfl) fun g1 => ?_
  refine g_ifne (pc := 4) X (r32_z g1) (off := 9) (tgt := 13) rfl (dl_at t_X18_wavering 2 rfl) (fun _ => ?_) (fun _ => ?_)
  · refine g_iconst (pc := 13) X (n := 0) (dl_at t_X18_wavering 7 rfl) ?_
    refine g_ltz (Or.inl rfl) fun x2_14 r2_14 => ?_
    refine g_istore_nN (pc := 14) X (j := 2) (i := 2) (x := x2_14) (b := 1) (w := iv a1) (rest := [(0, rv D a0)]) rfl (Nat.le_of_ble_eq_true rfl) [1, 0] rfl (by decide) rfl rfl (dl_at t_X18_wavering 8 rfl) ?_
    refine g_iconst (pc := 15) X (n := 0) (dl_at t_X18_wavering 9 rfl) ?_
    refine g_ltz (Or.inl rfl) fun x3_16 r3_16 => ?_
    refine g_istore_nN (pc := 16) X (j := 3) (i := 3) (x := x3_16) (b := 2) (w := iv x2_14) (rest := [(1, iv a1), (0, rv D a0)]) rfl (Nat.le_of_ble_eq_true rfl) [0, 1, 2] rfl (by decide) rfl rfl (dl_at t_X18_wavering 10 rfl) ?_
    refine g_ls (ls2 := [(0, rv D a0), (1, iv a1), (2, iv x2_14), (3, iv x3_16)]) [3, 2, 1, 0] rfl ?_
    refine g_loop0F (fun (q : Int × Int) => [(0, rv D a0), (1, iv a1), (2, iv q.1), (3, iv q.2)]) (fun (q : Int × Int) => h) (fun (q : Int × Int) => r32 q.1 ∧ r32 q.2) (x2_14, x3_16) ⟨(r32_z r2_14), (r32_z r3_16)⟩ ?_ (fun _ => rfl)
    · rintro ⟨x2_17, x3_17⟩ ⟨r2_17, r3_17⟩
      try dsimp only
      unfold m_X18_wavering_l17
      refine g_iload_n (pc := 17) X (j := 3) (i := 3) (q := 3) (x := x3_17) rfl rfl (dl_at t_X18_wavering 11 rfl) ?_
      refine g_aload_n (pc := 18) X (j := 0) (i := 0) (q := 0) (x := a0) rfl rfl (dl_at t_X18_wavering 12 rfl) ?_
      refine r_getr (pc := 19) X fX18_15 hk q4251 (dl_at t_X18_wavering 13 rfl) ?_
      refine g_gd fun k22 => ?_
      refine r_getr (pc := 22) X fX25_1 k22 q3764 (dl_at t_X18_wavering 14 rfl) ?_
      refine g_gd fun k25 => ?_
      refine r_geti (pc := 25) X fX23_3 k25 q3528 (dl_at t_X18_wavering 15 rfl) fun g25 => ?_
      refine g_icmpge (pc := 28) X r3_17 g25 (off := 39) (tgt := 67) rfl (dl_at t_X18_wavering 16 rfl) (fun _ => ?_) (fun _ => ?_)
      · refine g_aload_n (pc := 67) X (j := 0) (i := 0) (q := 0) (x := a0) rfl rfl (dl_at t_X18_wavering 35 rfl) ?_
        refine g_iconst (pc := 68) X (n := 2) (dl_at t_X18_wavering 36 rfl) ?_
        refine r_callWi (pc := 69) X (fun _ hv => s_X18_refuse hk (r32_c rfl) hv) cw_code q4317 q372 (in_Vk X (As := [iv 2]) kX18 hk (Or.inl q4314) q4316 qs237 cw_code q4317 ⟨by decide, by decide⟩ rfl (dl_at t_X18_wavering 37 rfl)) (dl_at t_X18_wavering 37 rfl) (cat24 (st := []) (Nat.le_of_ble_eq_true rfl)) (Nat.le_of_ble_eq_true rfl) (Nat.le_of_ble_eq_true rfl) fun v69 h69 g69 E69 => ?_
        exact g_at fun Q hQ => (g_iret (pc := 72) X g69 rfl rfl (dl_at t_X18_wavering 38 rfl)) _ Q rfl hQ
      refine g_aload_n (pc := 31) X (j := 0) (i := 0) (q := 0) (x := a0) rfl rfl (dl_at t_X18_wavering 17 rfl) ?_
      refine r_getr (pc := 32) X fX18_15 hk q4251 (dl_at t_X18_wavering 18 rfl) ?_
      refine r_getr (pc := 35) X fX25_99 k22 q3911 (dl_at t_X18_wavering 19 rfl) ?_
      refine g_iload_n (pc := 38) X (j := 3) (i := 3) (q := 3) (x := x3_17) rfl rfl (dl_at t_X18_wavering 20 rfl) ?_
      refine g_gd fun k39 => ?_
      refine g_zald (pc := 39) X r3_17 k39 (dl_at t_X18_wavering 21 rfl) fun g39 => ?_
      refine g_join (γ := Int) (fun q => r32 q) 61 (fun q => [(0, rv D a0), (1, iv a1), (2, iv q), (3, iv x3_17)]) (fun q => []) (fun q => h) (fun q => m_X18_wavering_j61 x3_17 q) ?_ ?_
      · rintro x2_61 r2_61
        try dsimp only
        unfold m_X18_wavering_j61
        refine r_iincN (pc := 61) X (i := 3) (q := 3) (n := 1) (x := x3_17) (b := 2) (w := iv x2_61) (rest := [(0, rv D a0), (1, iv a1)]) rfl r3_17 (r32_c rfl) (Nat.le_of_ble_eq_true rfl) [2, 0, 1] rfl (by decide) rfl rfl (dl_at t_X18_wavering 33 rfl) fun x3_61 r3_61 => ?_
        refine g_goto (pc := 64) X (off := (-47)) (tgt := 17) rfl (dl_at t_X18_wavering 34 rfl) ?_
        refine g_ls (ls2 := [(0, rv D a0), (1, iv a1), (2, iv x2_61), (3, iv x3_61)]) [2, 3, 1, 0] rfl ?_
        exact g_at fun Q hQ => hQ ⟨r2_61, r3_61⟩
      intro J61
      refine g_ifne (pc := 40) X (r32_z g39) (off := 6) (tgt := 46) rfl (dl_at t_X18_wavering 22 rfl) (fun _ => ?_) (fun _ => ?_)
      · refine g_iload_n (pc := 46) X (j := 2) (i := 2) (q := 2) (x := x2_17) rfl rfl (dl_at t_X18_wavering 24 rfl) ?_
        refine g_iload_n (pc := 47) X (j := 1) (i := 1) (q := 1) (x := a1) rfl rfl (dl_at t_X18_wavering 25 rfl) ?_
        refine g_icmpne (pc := 48) X r2_17 r1 (off := 10) (tgt := 58) rfl (dl_at t_X18_wavering 26 rfl) (fun _ => ?_) (fun _ => ?_)
        · refine r_iincN (pc := 58) X (i := 2) (q := 2) (n := 1) (x := x2_17) (b := 1) (w := iv a1) (rest := [(0, rv D a0), (3, iv x3_17)]) rfl r2_17 (r32_c rfl) (Nat.le_of_ble_eq_true rfl) [1, 0, 3] rfl (by decide) rfl rfl (dl_at t_X18_wavering 32 rfl) fun x2_58 r2_58 => ?_
          refine g_ls (ls2 := [(0, rv D a0), (1, iv a1), (2, iv x2_58), (3, iv x3_17)]) [2, 1, 0, 3] rfl ?_
          exact J61 x2_58 r2_58
        refine g_aload_n (pc := 51) X (j := 0) (i := 0) (q := 0) (x := a0) rfl rfl (dl_at t_X18_wavering 27 rfl) ?_
        refine g_iconst (pc := 52) X (n := 0) (dl_at t_X18_wavering 28 rfl) ?_
        refine r_puti (pc := 53) X fX18_0 hk q4236 rfl (dl_at t_X18_wavering 29 rfl) (r32_c rfl) (fun h53 E53 => ?_)
        refine g_iload_n (pc := 56) X (j := 3) (i := 3) (q := 3) (x := x3_17) rfl rfl (dl_at t_X18_wavering 30 rfl) ?_
        exact g_at fun Q hQ => (g_iret (pc := 57) X r3_17 rfl rfl (dl_at t_X18_wavering 31 rfl)) _ Q rfl hQ
      refine g_goto (pc := 43) X (off := 18) (tgt := 61) rfl (dl_at t_X18_wavering 23 rfl) ?_
      exact J61 x2_17 r2_17
  refine g_aload_n (pc := 7) X (j := 0) (i := 0) (q := 0) (x := a0) rfl rfl (dl_at t_X18_wavering 3 rfl) ?_
  refine g_iconst (pc := 8) X (n := 1) (dl_at t_X18_wavering 4 rfl) ?_
  refine r_callWi (pc := 9) X (fun _ hv => s_X18_refuse hk (r32_c rfl) hv) cw_code q4317 q372 (in_Vk X (As := [iv 1]) kX18 hk (Or.inl q4314) q4316 qs237 cw_code q4317 ⟨by decide, by decide⟩ rfl (dl_at t_X18_wavering 5 rfl)) (dl_at t_X18_wavering 5 rfl) (cat24 (st := []) (Nat.le_of_ble_eq_true rfl)) (Nat.le_of_ble_eq_true rfl) (Nat.le_of_ble_eq_true rfl) fun v9 h9 g9 E9 => ?_
  exact g_iret (pc := 12) X g9 rfl rfl (dl_at t_X18_wavering 6 rfl)
def k_X18_put : List (Nat × Instr × Nat) := [(0, .aload_n 0, 1), (1, .getfield 367, 3), (4, .aload_n 0, 1), (5, .getfield 80, 3), (8, .arraylength, 1), (9, .if_icmp .ne 43, 3), (12, .iconst 2, 1), (13, .aload_n 0, 1), (14, .getfield 80, 3), (17, .arraylength, 1), (18, .imul, 1), (19, .newarray .byte, 2), (21, .astore_n 2, 1), (22, .iconst 0, 1), (23, .istore_n 3, 1), (24, .iload_n 3, 1), (25, .aload_n 0, 1), (26, .getfield 367, 3), (29, .if_icmp .ge 18, 3), (32, .aload_n 2, 1), (33, .iload_n 3, 1), (34, .aload_n 0, 1), (35, .getfield 80, 3), (38, .iload_n 3, 1), (39, .baload, 1), (40, .bastore, 1), (41, .iinc 3 1, 3), (44, .goto (-20), 3), (47, .aload_n 0, 1), (48, .aload_n 2, 1), (49, .putfield 80, 3), (52, .aload_n 0, 1), (53, .getfield 80, 3), (56, .aload_n 0, 1), (57, .getfield 367, 3), (60, .iload_n 1, 1), (61, .i2b, 1), (62, .bastore, 1), (63, .aload_n 0, 1), (64, .dup, 1), (65, .getfield 367, 3), (68, .iconst 1, 1), (69, .iadd, 1), (70, .putfield 367, 3), (73, .return_, 1)]
theorem t_X18_put : ∀ q ∈ k_X18_put, decode cX18_put q.1 = .ok q.2 := dl_all (by decide +kernel)
noncomputable def m_X18_put_j52 (a0 a1 : Int) (h_52 : Hp) : Option (Hp) :=
  gd (h_52 (h_52 a0 20) (-2) % 16 = 2 ∧ (0 : Int) ≤ (h_52 a0 21) ∧ (h_52 a0 21) < h_52 (h_52 a0 20) (-1)) (pt h_52 (h_52 a0 20) (h_52 a0 21) (w8 a1) fun h62 =>
  pt h62 a0 21 (w32 ((h62 a0 21) + 1)) fun h70 =>
  some h70)
noncomputable def m_X18_put_l24 (a0 a19 x3_24 : Int) (h_24 : Hp) : Option ((Int × Hp) ⊕ ((Hp))) :=
  if (h_24 a0 21) ≤ x3_24 then (some (.inr h_24))
  else (gd (h_24 (h_24 a0 20) (-2) % 16 = 2 ∧ (0 : Int) ≤ x3_24 ∧ x3_24 < h_24 (h_24 a0 20) (-1)) (gd (h_24 a19 (-2) % 16 = 2 ∧ (0 : Int) ≤ x3_24 ∧ x3_24 < h_24 a19 (-1)) (pt h_24 a19 x3_24 (h_24 (h_24 a0 20) x3_24) fun h40 =>
  lt_ (w32 (x3_24 + 1)) fun x3_41 =>
  some (.inl (x3_41, h40)))))
noncomputable def m_X18_put (a0 a1 : Int) (h : Hp) : Option (Hp) :=
  gd (1 ≤ h (h a0 20) (-2) % 16 ∧ h (h a0 20) (-2) % 16 ≤ 9) (if (h a0 21) ≠ (h (h a0 20) (-1)) then (m_X18_put_j52 a0 a1 h)
  else (al h 5682 (w32 (2 * (h (h a0 20) (-1)))) fun a19 h19 =>
  lt_ 0 fun x3_23 =>
  (lp (fun (q : Int × Hp) => m_X18_put_l24 a0 a19 q.1 q.2) (x3_23, h19)).bind (fun (y47 : Hp) => pt y47 a0 20 a19 fun h49 =>
  m_X18_put_j52 a0 a1 h49)))
theorem s_X18_put {l : Launch} [NoTr l] {D : SD} {a0 a1 : Int} {h : Hp} (hk : h a0 (-2) = 304) (r1 : r32 a1) {r : Hp} (hm : m_X18_put a0 a1 h = some r) : Sim l D yX18_put (Cond.code yX18_put cX18_put 4 (Option.none : Option Jvm.ClassFile.FieldType)) 0 0 [rv D a0, iv a1] h 0 ((0, 0), r) := by
  refine Sim.of (fin := fun (v : Hp) => ((0, 0), v)) (lsE := [(0, rv D a0), (1, iv a1)]) hm rfl cwS_code (la_r (la_i la_n)) (ll_r (ll_i ll_n)) ?_
  intro p e s m below meth c X hcw hmm hcc hnm hname
  unfold m_X18_put
  refine g_aload_n (pc := 0) X (j := 0) (i := 0) (q := 0) (x := a0) rfl rfl (dl_at t_X18_put 0 rfl) ?_
  refine r_geti (pc := 1) X fX18_21 hk q4257 (dl_at t_X18_put 1 rfl) fun g1 => ?_
  refine g_aload_n (pc := 4) X (j := 0) (i := 0) (q := 0) (x := a0) rfl rfl (dl_at t_X18_put 2 rfl) ?_
  refine r_getr (pc := 5) X fX18_20 hk q4256 (dl_at t_X18_put 3 rfl) ?_
  refine g_gd fun k8 => ?_
  refine g_alen (pc := 8) X k8 (dl_at t_X18_put 4 rfl) fun g8 => ?_
  refine g_join (γ := Hp) (fun q => Ext h q) 52 (fun q => [(0, rv D a0), (1, iv a1)]) (fun q => []) (fun q => q) (fun q => m_X18_put_j52 a0 a1 q) ?_ ?_
  · rintro h_52 E_52
    try dsimp only
    unfold m_X18_put_j52
    refine g_aload_n (pc := 52) X (j := 0) (i := 0) (q := 0) (x := a0) rfl rfl (dl_at t_X18_put 31 rfl) ?_
    have k53 := kx E_52 (by decide) hk
    refine r_getr (pc := 53) X fX18_20 k53 q4256 (dl_at t_X18_put 32 rfl) ?_
    refine g_aload_n (pc := 56) X (j := 0) (i := 0) (q := 0) (x := a0) rfl rfl (dl_at t_X18_put 33 rfl) ?_
    refine r_geti (pc := 57) X fX18_21 k53 q4257 (dl_at t_X18_put 34 rfl) fun g57 => ?_
    refine g_iload_n (pc := 60) X (j := 1) (i := 1) (q := 1) (x := a1) rfl rfl (dl_at t_X18_put 35 rfl) ?_
    refine g_i2b (pc := 61) X r1 (dl_at t_X18_put 36 rfl) ?_
    refine g_gd fun k62 => ?_
    refine r_bastB (pc := 62) X g57 (b_w8 _) k62 (dl_at t_X18_put 37 rfl) (fun h62 E62 => ?_)
    refine g_aload_n (pc := 63) X (j := 0) (i := 0) (q := 0) (x := a0) rfl rfl (dl_at t_X18_put 38 rfl) ?_
    refine g_dup (pc := 64) X rv_cat (dl_at t_X18_put 39 rfl) ?_
    have k65 := kx E62 (by decide) k53
    refine r_geti (pc := 65) X fX18_21 k65 q4257 (dl_at t_X18_put 40 rfl) fun g65 => ?_
    refine g_iconst (pc := 68) X (n := 1) (dl_at t_X18_put 41 rfl) ?_
    refine g_iadd (pc := 69) X g65 (r32_c rfl) (dl_at t_X18_put 42 rfl) ?_
    refine r_puti (pc := 70) X fX18_21 k65 q4257 rfl (dl_at t_X18_put 43 rfl) (r32_w _) (fun h70 E70 => ?_)
    exact g_vret (pc := 73) X (v := 0) rfl rfl (dl_at t_X18_put 44 rfl)
  intro J52
  refine g_icmpne (pc := 9) X g1 g8 (off := 43) (tgt := 52) rfl (dl_at t_X18_put 5 rfl) (fun _ => ?_) (fun _ => ?_)
  · exact J52 h (Ext.refl _)
  refine g_iconst (pc := 12) X (n := 2) (dl_at t_X18_put 6 rfl) ?_
  refine g_aload_n (pc := 13) X (j := 0) (i := 0) (q := 0) (x := a0) rfl rfl (dl_at t_X18_put 7 rfl) ?_
  refine r_getr (pc := 14) X fX18_20 hk q4256 (dl_at t_X18_put 8 rfl) ?_
  refine g_alen (pc := 17) X k8 (dl_at t_X18_put 9 rfl) fun g17 => ?_
  refine g_imul (pc := 18) X (r32_c rfl) g17 (dl_at t_X18_put 10 rfl) ?_
  refine r_newa (pc := 19) X 2 355 (Nat.le_of_ble_eq_true rfl) (Nat.le_of_ble_eq_true rfl) rfl q449 (r32_w _) rfl (dl_at t_X18_put 11 rfl) fun a19 h19 p19 k19 l19 E19 => ?_
  refine g_astore_nN (pc := 21) X (j := 2) (i := 2) (x := a19) (b := 1) (w := iv a1) (rest := [(0, rv D a0)]) rfl (Nat.le_of_ble_eq_true rfl) [1, 0] rfl (by decide) rfl rfl (dl_at t_X18_put 12 rfl) ?_
  refine g_iconst (pc := 22) X (n := 0) (dl_at t_X18_put 13 rfl) ?_
  refine g_ltz (Or.inl rfl) fun x3_23 r3_23 => ?_
  refine g_istore_nN (pc := 23) X (j := 3) (i := 3) (x := x3_23) (b := 2) (w := rv D a19) (rest := [(1, iv a1), (0, rv D a0)]) rfl (Nat.le_of_ble_eq_true rfl) [0, 1, 2] rfl (by decide) rv_cat rfl (dl_at t_X18_put 14 rfl) ?_
  refine g_ls (ls2 := [(0, rv D a0), (1, iv a1), (2, rv D a19), (3, iv x3_23)]) [3, 2, 1, 0] rfl ?_
  refine g_loop1 (fun (q : Int × Hp) => [(0, rv D a0), (1, iv a1), (2, rv D a19), (3, iv q.1)]) (fun (q : Int × Hp) => q.2) (fun (q : Int × Hp) => r32 q.1 ∧ Ext h19 q.2) 47 (fun (y47 : Hp) => [(0, rv D a0), (1, iv a1), (2, rv D a19)]) (fun (y47 : Hp) => y47) (fun (y47 : Hp) => Ext h19 y47) (x3_23, h19) ⟨(r32_z r3_23), (Ext.refl _)⟩ ?_ ?_
  · rintro ⟨x3_24, h_24⟩ ⟨r3_24, E_24⟩
    try dsimp only
    unfold m_X18_put_l24
    refine g_iload_n (pc := 24) X (j := 3) (i := 3) (q := 3) (x := x3_24) rfl rfl (dl_at t_X18_put 15 rfl) ?_
    refine g_aload_n (pc := 25) X (j := 0) (i := 0) (q := 0) (x := a0) rfl rfl (dl_at t_X18_put 16 rfl) ?_
    have k26 := kx (E19.trans E_24) (by decide) hk
    refine r_geti (pc := 26) X fX18_21 k26 q4257 (dl_at t_X18_put 17 rfl) fun g26 => ?_
    refine g_icmpge (pc := 29) X r3_24 g26 (off := 18) (tgt := 47) rfl (dl_at t_X18_put 18 rfl) (fun _ => ?_) (fun _ => ?_)
    · refine g_ls (ls2 := [(0, rv D a0), (1, iv a1), (2, rv D a19)]) [0, 1, 2] rfl ?_
      exact g_at fun Q hQ => hQ E_24
    refine g_aload_n (pc := 32) X (j := 2) (i := 2) (q := 2) (x := a19) rfl rfl (dl_at t_X18_put 19 rfl) ?_
    refine g_iload_n (pc := 33) X (j := 3) (i := 3) (q := 3) (x := x3_24) rfl rfl (dl_at t_X18_put 20 rfl) ?_
    refine g_aload_n (pc := 34) X (j := 0) (i := 0) (q := 0) (x := a0) rfl rfl (dl_at t_X18_put 21 rfl) ?_
    refine r_getr (pc := 35) X fX18_20 k26 q4256 (dl_at t_X18_put 22 rfl) ?_
    refine g_iload_n (pc := 38) X (j := 3) (i := 3) (q := 3) (x := x3_24) rfl rfl (dl_at t_X18_put 23 rfl) ?_
    refine g_gd fun k39 => ?_
    refine g_bald (pc := 39) X r3_24 k39 (dl_at t_X18_put 24 rfl) fun g39 => ?_
    refine g_gd fun k40 => ?_
    refine r_bastB (pc := 40) X r3_24 g39 k40 (dl_at t_X18_put 25 rfl) (fun h40 E40 => ?_)
    refine r_iincN (pc := 41) X (i := 3) (q := 3) (n := 1) (x := x3_24) (b := 2) (w := rv D a19) (rest := [(0, rv D a0), (1, iv a1)]) rfl r3_24 (r32_c rfl) (Nat.le_of_ble_eq_true rfl) [2, 0, 1] rfl (by decide) rv_cat rfl (dl_at t_X18_put 26 rfl) fun x3_41 r3_41 => ?_
    refine g_goto (pc := 44) X (off := (-20)) (tgt := 24) rfl (dl_at t_X18_put 27 rfl) ?_
    refine g_ls (ls2 := [(0, rv D a0), (1, iv a1), (2, rv D a19), (3, iv x3_41)]) [2, 3, 1, 0] rfl ?_
    exact g_at fun Q hQ => hQ ⟨r3_41, (E_24.trans E40)⟩
  · rintro h_47 E_47
    try dsimp only [sE]
    refine g_aload_n (pc := 47) X (j := 0) (i := 0) (q := 0) (x := a0) rfl rfl (dl_at t_X18_put 28 rfl) ?_
    refine g_aload_n (pc := 48) X (j := 2) (i := 2) (q := 2) (x := a19) rfl rfl (dl_at t_X18_put 29 rfl) ?_
    have k49 := kx (E19.trans E_47) (by decide) hk
    refine r_putr (pc := 49) X fX18_20 k49 q4256 rfl (dl_at t_X18_put 30 rfl)  (fun h49 E49 => ?_)
    refine g_ls (ls2 := [(0, rv D a0), (1, iv a1)]) [0, 1] rfl ?_
    exact J52 h49 (E19.trans (E_47.trans E49))
def k_X18_putNumber : List (Nat × Instr × Nat) := [(0, .lload_n 1, 1), (1, .lconst 0, 1), (2, .lcmp, 1), (3, .ifCond .ge 16, 3), (6, .aload_n 0, 1), (7, .bipush 45, 2), (9, .invokevirtual 370, 3), (12, .aload_n 0, 1), (13, .lload_n 1, 1), (14, .lneg, 1), (15, .invokevirtual 373, 3), (18, .return_, 1), (19, .lload_n 1, 1), (20, .ldc2_w 377, 3), (23, .lcmp, 1), (24, .ifCond .lt 12, 3), (27, .aload_n 0, 1), (28, .lload_n 1, 1), (29, .ldc2_w 377, 3), (32, .ldiv, 1), (33, .invokevirtual 373, 3), (36, .aload_n 0, 1), (37, .ldc2_w 379, 3), (40, .lload_n 1, 1), (41, .ldc2_w 377, 3), (44, .lrem, 1), (45, .ladd, 1), (46, .l2i, 1), (47, .invokevirtual 370, 3), (50, .return_, 1)]
theorem t_X18_putNumber : ∀ q ∈ k_X18_putNumber, decode cX18_putNumber q.1 = .ok q.2 := dl_all (by decide +kernel)
noncomputable def b_X18_putNumber (rec_ : Int → Int → Hp → Option (Hp)) (a0 a1 : Int) (h : Hp) : Option (Hp) :=
  if 0 ≤ (lcmp_ a1 0) then (if (lcmp_ a1 10) < 0 then ((m_X18_put a0 (w32 (w64 (48 + (Int.tmod a1 10)))) h).bind fun h47 =>
  some h47)
  else ((rec_ a0 (w64 (Int.tdiv a1 10)) h).bind fun h33 =>
  (m_X18_put a0 (w32 (w64 (48 + (Int.tmod a1 10)))) h33).bind fun h47_1 =>
  some h47_1))
  else ((m_X18_put a0 45 h).bind fun h9 =>
  (rec_ a0 (w64 (-a1)) h9).bind fun h15 =>
  some h15)
noncomputable def m_X18_putNumber (d : Nat) : Int → Int → Hp → Option (Hp) := Nat.rec (motive := fun _ => Int → Int → Hp → Option (Hp)) (fun _ _ _ => none) (fun _ r => b_X18_putNumber r) d
theorem s_X18_putNumber {l : Launch} [NoTr l] {D : SD} {d : Nat} {a0 a1 : Int} {h : Hp} (hk : h a0 (-2) = 304) (r1 : r64 a1) {r : Hp} (hm : m_X18_putNumber d a0 a1 h = some r) : Sim l D yX18_putNumber (Cond.code yX18_putNumber cX18_putNumber 3 (Option.none : Option Jvm.ClassFile.FieldType)) (1 + d) (39 + d * 38) [rv D a0, jv a1] h 0 ((0, 0), r) := by
  induction d generalizing a0 a1 h r with
  | zero => cases hm
  | succ d ih_ =>
    have hm : b_X18_putNumber (m_X18_putNumber d) a0 a1 h = some r := hm
    refine Sim.of (fin := fun (v : Hp) => ((0, 0), v)) (lsE := [(0, rv D a0), (1, jv a1)]) hm rfl cwS_code (la_r (la_j la_n)) (ll_r (ll_j ll_n)) ?_
    intro p e s m below meth c X hcw hmm hcc hnm hname
    generalize hrec : m_X18_putNumber d = rec_ at *
    unfold b_X18_putNumber
    refine g_lload_n (pc := 0) X (j := 1) (i := 1) (q := 1) (x := a1) rfl rfl (dl_at t_X18_putNumber 0 rfl) ?_
    refine g_lconst0 (pc := 1) X (dl_at t_X18_putNumber 1 rfl) ?_
    refine g_lcmp (pc := 2) X r1 (r64_c rfl) (dl_at t_X18_putNumber 2 rfl) ?_
    refine g_ifge (pc := 3) X (r32_lcmp _ _) (off := 16) (tgt := 19) rfl (dl_at t_X18_putNumber 3 rfl) (fun _ => ?_) (fun _ => ?_)
    · refine g_lload_n (pc := 19) X (j := 1) (i := 1) (q := 1) (x := a1) rfl rfl (dl_at t_X18_putNumber 12 rfl) ?_
      refine g_ldc2 (pc := 20) X (index := 377) (n := 10) q5218 (dl_at t_X18_putNumber 13 rfl) ?_
      refine g_lcmp (pc := 23) X r1 (r64_c rfl) (dl_at t_X18_putNumber 14 rfl) ?_
      refine g_iflt (pc := 24) X (r32_lcmp _ _) (off := 12) (tgt := 36) rfl (dl_at t_X18_putNumber 15 rfl) (fun _ => ?_) (fun _ => ?_)
      · refine g_aload_n (pc := 36) X (j := 0) (i := 0) (q := 0) (x := a0) rfl rfl (dl_at t_X18_putNumber 21 rfl) ?_
        refine g_ldc2 (pc := 37) X (index := 379) (n := 48) q5219 (dl_at t_X18_putNumber 22 rfl) ?_
        refine g_lload_n (pc := 40) X (j := 1) (i := 1) (q := 1) (x := a1) rfl rfl (dl_at t_X18_putNumber 23 rfl) ?_
        refine g_ldc2 (pc := 41) X (index := 377) (n := 10) q5218 (dl_at t_X18_putNumber 24 rfl) ?_
        refine g_lrem (pc := 44) X r1 (r64_c rfl) (by decide) (dl_at t_X18_putNumber 25 rfl) ?_
        refine g_ladd (pc := 45) X (r64_c rfl) (r64_tmod r1) (dl_at t_X18_putNumber 26 rfl) ?_
        refine g_l2i (pc := 46) X (r64_w _) (dl_at t_X18_putNumber 27 rfl) ?_
        refine r_callV (pc := 47) X (fun _ hv => s_X18_put hk (r32_w _) hv) cw_code q5217 q372 (in_Vk X (As := [iv (w32 (w64 (48 + (Int.tmod a1 10))))]) kX18 hk (Or.inl q5214) q5216 qs350 cw_code q5217 ⟨by decide, by decide⟩ rfl (dl_at t_X18_putNumber 28 rfl)) (dl_at t_X18_putNumber 28 rfl) (cat24 (st := []) (Nat.le_of_ble_eq_true rfl)) (by dsimp only [rmOf]; omega) (by dsimp only [rmOf]; omega) fun h47 E47 => ?_
        exact g_vret (pc := 50) X (v := 0) rfl rfl (dl_at t_X18_putNumber 29 rfl)
      refine g_aload_n (pc := 27) X (j := 0) (i := 0) (q := 0) (x := a0) rfl rfl (dl_at t_X18_putNumber 16 rfl) ?_
      refine g_lload_n (pc := 28) X (j := 1) (i := 1) (q := 1) (x := a1) rfl rfl (dl_at t_X18_putNumber 17 rfl) ?_
      refine g_ldc2 (pc := 29) X (index := 377) (n := 10) q5218 (dl_at t_X18_putNumber 18 rfl) ?_
      refine g_ldiv (pc := 32) X r1 (r64_c rfl) (by decide) (dl_at t_X18_putNumber 19 rfl) ?_
      refine r_callV (pc := 33) X (fun _ hv => ih_ hk (r64_w _) hv) cw_code q5213 q372 (in_Vk X (As := [jv (w64 (Int.tdiv a1 10))]) kX18 hk (Or.inl q5210) q5212 qs349 cw_code q5213 ⟨by decide, by decide⟩ rfl (dl_at t_X18_putNumber 20 rfl)) (dl_at t_X18_putNumber 20 rfl) (cat24 (st := []) (Nat.le_of_ble_eq_true rfl)) (by dsimp only [rmOf]; omega) (by dsimp only [rmOf]; omega) fun h33 E33 => ?_
      refine g_aload_n (pc := 36) X (j := 0) (i := 0) (q := 0) (x := a0) rfl rfl (dl_at t_X18_putNumber 21 rfl) ?_
      refine g_ldc2 (pc := 37) X (index := 379) (n := 48) q5219 (dl_at t_X18_putNumber 22 rfl) ?_
      refine g_lload_n (pc := 40) X (j := 1) (i := 1) (q := 1) (x := a1) rfl rfl (dl_at t_X18_putNumber 23 rfl) ?_
      refine g_ldc2 (pc := 41) X (index := 377) (n := 10) q5218 (dl_at t_X18_putNumber 24 rfl) ?_
      refine g_lrem (pc := 44) X r1 (r64_c rfl) (by decide) (dl_at t_X18_putNumber 25 rfl) ?_
      refine g_ladd (pc := 45) X (r64_c rfl) (r64_tmod r1) (dl_at t_X18_putNumber 26 rfl) ?_
      refine g_l2i (pc := 46) X (r64_w _) (dl_at t_X18_putNumber 27 rfl) ?_
      have k47 := kx E33 (by decide) hk
      refine r_callV (pc := 47) X (fun _ hv => s_X18_put k47 (r32_w _) hv) cw_code q5217 q372 (in_Vk X (As := [iv (w32 (w64 (48 + (Int.tmod a1 10))))]) kX18 k47 (Or.inl q5214) q5216 qs350 cw_code q5217 ⟨by decide, by decide⟩ rfl (dl_at t_X18_putNumber 28 rfl)) (dl_at t_X18_putNumber 28 rfl) (cat24 (st := []) (Nat.le_of_ble_eq_true rfl)) (by dsimp only [rmOf]; omega) (by dsimp only [rmOf]; omega) fun h47_1 E47_1 => ?_
      exact g_vret (pc := 50) X (v := 0) rfl rfl (dl_at t_X18_putNumber 29 rfl)
    refine g_aload_n (pc := 6) X (j := 0) (i := 0) (q := 0) (x := a0) rfl rfl (dl_at t_X18_putNumber 4 rfl) ?_
    refine g_bipush (pc := 7) X (n := 45) rfl (dl_at t_X18_putNumber 5 rfl) ?_
    refine r_callV (pc := 9) X (fun _ hv => s_X18_put hk (r32_c rfl) hv) cw_code q5217 q372 (in_Vk X (As := [iv 45]) kX18 hk (Or.inl q5214) q5216 qs350 cw_code q5217 ⟨by decide, by decide⟩ rfl (dl_at t_X18_putNumber 6 rfl)) (dl_at t_X18_putNumber 6 rfl) (cat24 (st := []) (Nat.le_of_ble_eq_true rfl)) (by dsimp only [rmOf]; omega) (by dsimp only [rmOf]; omega) fun h9 E9 => ?_
    refine g_aload_n (pc := 12) X (j := 0) (i := 0) (q := 0) (x := a0) rfl rfl (dl_at t_X18_putNumber 7 rfl) ?_
    refine g_lload_n (pc := 13) X (j := 1) (i := 1) (q := 1) (x := a1) rfl rfl (dl_at t_X18_putNumber 8 rfl) ?_
    refine g_lneg (pc := 14) X r1 (dl_at t_X18_putNumber 9 rfl) ?_
    have k15 := kx E9 (by decide) hk
    refine r_callV (pc := 15) X (fun _ hv => ih_ k15 (r64_w _) hv) cw_code q5213 q372 (in_Vk X (As := [jv (w64 (-a1))]) kX18 k15 (Or.inl q5210) q5212 qs349 cw_code q5213 ⟨by decide, by decide⟩ rfl (dl_at t_X18_putNumber 10 rfl)) (dl_at t_X18_putNumber 10 rfl) (cat24 (st := []) (Nat.le_of_ble_eq_true rfl)) (by dsimp only [rmOf]; omega) (by dsimp only [rmOf]; omega) fun h15 E15 => ?_
    exact g_vret (pc := 18) X (v := 0) rfl rfl (dl_at t_X18_putNumber 11 rfl)
def k_X25_headOf : List (Nat × Instr × Nat) := [(0, .iconst (-1), 1), (1, .istore_n 2, 1), (2, .iconst 0, 1), (3, .istore_n 3, 1), (4, .iload_n 3, 1), (5, .aload_n 0, 1), (6, .getfield 342, 3), (9, .getfield 351, 3), (12, .if_icmp .ge 62, 3), (15, .aload_n 0, 1), (16, .getfield 14, 3), (19, .getfield 423, 3), (22, .iload_n 3, 1), (23, .baload, 1), (24, .ifCond .eq 44, 3), (27, .aload_n 0, 1), (28, .getfield 14, 3), (31, .iload_n 3, 1), (32, .bipush 20, 2), (34, .invokevirtual 477, 3), (37, .iconst 1, 1), (38, .if_icmp .eq 6, 3), (41, .goto 27, 3), (44, .aload_n 0, 1), (45, .getfield 232, 3), (48, .iload_n 3, 1), (49, .iaload, 1), (50, .iload_n 1, 1), (51, .if_icmp .ne 5, 3), (54, .iload_n 3, 1), (55, .ireturn, 1), (56, .aload_n 0, 1), (57, .getfield 232, 3), (60, .iload_n 3, 1), (61, .iaload, 1), (62, .iload_n 1, 1), (63, .if_icmp .ge 5, 3), (66, .iload_n 3, 1), (67, .istore_n 2, 1), (68, .iinc 3 1, 3), (71, .goto (-67), 3), (74, .iload_n 2, 1), (75, .ireturn, 1)]
theorem t_X25_headOf : ∀ q ∈ k_X25_headOf, decode cX25_headOf q.1 = .ok q.2 := dl_all (by decide +kernel)
noncomputable def m_X25_headOf_j68 (x3_4 x2_68 : Int) : Option ((Int × Int) ⊕ ((Int))) :=
  lt_ (w32 (x3_4 + 1)) fun x3_68 =>
  some (.inl (x2_68, x3_68))
noncomputable def m_X25_headOf_l4 (a0 a1 x2_4 x3_4 : Int) (h : Hp) : Option ((Int × Int) ⊕ ((Int))) :=
  gd (h (h a0 1) (-2) = 384) (if (h (h a0 1) 3) ≤ x3_4 then (some (.inr x2_4))
  else (gd (h (h a0 0) (-2) = 400) (gd (h (h (h a0 0) 10) (-2) % 16 = 3 ∧ (0 : Int) ≤ x3_4 ∧ x3_4 < h (h (h a0 0) 10) (-1)) (if (h (h (h a0 0) 10) x3_4) = 0 then (m_X25_headOf_j68 x3_4 x2_4)
  else ((m_X24_of (h a0 0) x3_4 20 h).bind fun v34 =>
  if v34 = 1 then (gd (h (h a0 83) (-2) % 16 = 1 ∧ (0 : Int) ≤ x3_4 ∧ x3_4 < h (h a0 83) (-1)) (if (h (h a0 83) x3_4) ≠ a1 then (if a1 ≤ (h (h a0 83) x3_4) then (m_X25_headOf_j68 x3_4 x2_4)
  else (m_X25_headOf_j68 x3_4 x3_4))
  else (some (.inr x3_4))))
  else (m_X25_headOf_j68 x3_4 x2_4))))))
noncomputable def m_X25_headOf (a0 a1 : Int) (h : Hp) : Option (Int) :=
  lt_ (-1) fun x2_1 =>
  lt_ 0 fun x3_3 =>
  (lp (fun (q : Int × Int) => m_X25_headOf_l4 a0 a1 q.1 q.2 h) (x2_1, x3_3)).bind (fun (x : Int) => some x)
theorem s_X25_headOf {l : Launch} [NoTr l] {D : SD} {a0 a1 : Int} {h : Hp} (hk : h a0 (-2) = 416) (r1 : r32 a1) {r : Int} (hm : m_X25_headOf a0 a1 h = some r) : Sim l D yX25_headOf (Cond.code yX25_headOf cX25_headOf 4 (Option.some Jvm.ClassFile.FieldType.int)) 2 74 [rv D a0, iv a1] h 1 ((0, r), h) := by
  refine Sim.of (fin := fun (v : Int) => ((0, v), h)) (lsE := [(0, rv D a0), (1, iv a1)]) hm rfl cwS_code (la_r (la_i la_n)) (ll_r (ll_i ll_n)) ?_
  intro p e s m below meth c X hcw hmm hcc hnm hname
  unfold m_X25_headOf
  refine g_iconst (pc := 0) X (n := (-1)) (dl_at t_X25_headOf 0 rfl) ?_
  refine g_lti (r32_c rfl) fun x2_1 r2_1 => ?_
  refine g_istore_nN (pc := 1) X (j := 2) (i := 2) (x := x2_1) (b := 1) (w := iv a1) (rest := [(0, rv D a0)]) rfl (Nat.le_of_ble_eq_true rfl) [1, 0] rfl (by decide) rfl rfl (dl_at t_X25_headOf 1 rfl) ?_
  refine g_iconst (pc := 2) X (n := 0) (dl_at t_X25_headOf 2 rfl) ?_
  refine g_ltz (Or.inl rfl) fun x3_3 r3_3 => ?_
  refine g_istore_nN (pc := 3) X (j := 3) (i := 3) (x := x3_3) (b := 2) (w := iv x2_1) (rest := [(1, iv a1), (0, rv D a0)]) rfl (Nat.le_of_ble_eq_true rfl) [0, 1, 2] rfl (by decide) rfl rfl (dl_at t_X25_headOf 3 rfl) ?_
  refine g_ls (ls2 := [(0, rv D a0), (1, iv a1), (2, iv x2_1), (3, iv x3_3)]) [3, 2, 1, 0] rfl ?_
  refine g_loop0F (fun (q : Int × Int) => [(0, rv D a0), (1, iv a1), (2, iv q.1), (3, iv q.2)]) (fun (q : Int × Int) => h) (fun (q : Int × Int) => r32 q.1 ∧ r32 q.2) (x2_1, x3_3) ⟨r2_1, (r32_z r3_3)⟩ ?_ (fun _ => rfl)
  · rintro ⟨x2_4, x3_4⟩ ⟨r2_4, r3_4⟩
    try dsimp only
    unfold m_X25_headOf_l4
    refine g_iload_n (pc := 4) X (j := 3) (i := 3) (q := 3) (x := x3_4) rfl rfl (dl_at t_X25_headOf 4 rfl) ?_
    refine g_aload_n (pc := 5) X (j := 0) (i := 0) (q := 0) (x := a0) rfl rfl (dl_at t_X25_headOf 5 rfl) ?_
    refine r_getr (pc := 6) X fX25_1 hk q3763 (dl_at t_X25_headOf 6 rfl) ?_
    refine g_gd fun k9 => ?_
    refine r_geti (pc := 9) X fX23_3 k9 q3526 (dl_at t_X25_headOf 7 rfl) fun g9 => ?_
    refine g_icmpge (pc := 12) X r3_4 g9 (off := 62) (tgt := 74) rfl (dl_at t_X25_headOf 8 rfl) (fun _ => ?_) (fun _ => ?_)
    · refine g_iload_n (pc := 74) X (j := 2) (i := 2) (q := 2) (x := x2_4) rfl rfl (dl_at t_X25_headOf 41 rfl) ?_
      exact g_at fun Q hQ => (g_iret (pc := 75) X r2_4 rfl rfl (dl_at t_X25_headOf 42 rfl)) _ Q rfl hQ
    refine g_aload_n (pc := 15) X (j := 0) (i := 0) (q := 0) (x := a0) rfl rfl (dl_at t_X25_headOf 9 rfl) ?_
    refine r_getr (pc := 16) X fX25_0 hk q3761 (dl_at t_X25_headOf 10 rfl) ?_
    refine g_gd fun k19 => ?_
    refine r_getr (pc := 19) X fX24_10 k19 q3666 (dl_at t_X25_headOf 11 rfl) ?_
    refine g_iload_n (pc := 22) X (j := 3) (i := 3) (q := 3) (x := x3_4) rfl rfl (dl_at t_X25_headOf 12 rfl) ?_
    refine g_gd fun k23 => ?_
    refine g_zald (pc := 23) X r3_4 k23 (dl_at t_X25_headOf 13 rfl) fun g23 => ?_
    refine g_join (γ := Int) (fun q => r32 q) 68 (fun q => [(0, rv D a0), (1, iv a1), (2, iv q), (3, iv x3_4)]) (fun q => []) (fun q => h) (fun q => m_X25_headOf_j68 x3_4 q) ?_ ?_
    · rintro x2_68 r2_68
      try dsimp only
      unfold m_X25_headOf_j68
      refine r_iincN (pc := 68) X (i := 3) (q := 3) (n := 1) (x := x3_4) (b := 2) (w := iv x2_68) (rest := [(0, rv D a0), (1, iv a1)]) rfl r3_4 (r32_c rfl) (Nat.le_of_ble_eq_true rfl) [2, 0, 1] rfl (by decide) rfl rfl (dl_at t_X25_headOf 39 rfl) fun x3_68 r3_68 => ?_
      refine g_goto (pc := 71) X (off := (-67)) (tgt := 4) rfl (dl_at t_X25_headOf 40 rfl) ?_
      refine g_ls (ls2 := [(0, rv D a0), (1, iv a1), (2, iv x2_68), (3, iv x3_68)]) [2, 3, 1, 0] rfl ?_
      exact g_at fun Q hQ => hQ ⟨r2_68, r3_68⟩
    intro J68
    refine g_ifeq (pc := 24) X (r32_z g23) (off := 44) (tgt := 68) rfl (dl_at t_X25_headOf 14 rfl) (fun _ => ?_) (fun _ => ?_)
    · exact J68 x2_4 r2_4
    refine g_aload_n (pc := 27) X (j := 0) (i := 0) (q := 0) (x := a0) rfl rfl (dl_at t_X25_headOf 15 rfl) ?_
    refine r_getr (pc := 28) X fX25_0 hk q3761 (dl_at t_X25_headOf 16 rfl) ?_
    refine g_iload_n (pc := 31) X (j := 3) (i := 3) (q := 3) (x := x3_4) rfl rfl (dl_at t_X25_headOf 17 rfl) ?_
    refine g_bipush (pc := 32) X (n := 20) rfl (dl_at t_X25_headOf 18 rfl) ?_
    refine r_callRi (pc := 34) X (fun _ hv => s_X24_of k19 r3_4 (r32_c rfl) hv) cw_code q4704 q378 (in_Vk X (As := [iv x3_4, iv 20]) kX24 k19 (Or.inl q4844) q4702 q4703 cw_code q4704 ⟨by decide, by decide⟩ rfl (dl_at t_X25_headOf 19 rfl)) (dl_at t_X25_headOf 19 rfl) (cat24 (st := []) (Nat.le_of_ble_eq_true rfl)) (Nat.le_of_ble_eq_true rfl) (Nat.le_of_ble_eq_true rfl) fun v34 g34 => ?_
    refine g_iconst (pc := 37) X (n := 1) (dl_at t_X25_headOf 20 rfl) ?_
    refine g_icmpeq (pc := 38) X g34 (r32_c rfl) (off := 6) (tgt := 44) rfl (dl_at t_X25_headOf 21 rfl) (fun _ => ?_) (fun _ => ?_)
    · refine g_aload_n (pc := 44) X (j := 0) (i := 0) (q := 0) (x := a0) rfl rfl (dl_at t_X25_headOf 23 rfl) ?_
      refine r_getr (pc := 45) X fX25_83 hk q3883 (dl_at t_X25_headOf 24 rfl) ?_
      refine g_iload_n (pc := 48) X (j := 3) (i := 3) (q := 3) (x := x3_4) rfl rfl (dl_at t_X25_headOf 25 rfl) ?_
      refine g_gd fun k49 => ?_
      refine g_iald (pc := 49) X r3_4 k49 (dl_at t_X25_headOf 26 rfl) fun g49 => ?_
      refine g_iload_n (pc := 50) X (j := 1) (i := 1) (q := 1) (x := a1) rfl rfl (dl_at t_X25_headOf 27 rfl) ?_
      refine g_icmpne (pc := 51) X g49 r1 (off := 5) (tgt := 56) rfl (dl_at t_X25_headOf 28 rfl) (fun _ => ?_) (fun _ => ?_)
      · refine g_aload_n (pc := 56) X (j := 0) (i := 0) (q := 0) (x := a0) rfl rfl (dl_at t_X25_headOf 31 rfl) ?_
        refine r_getr (pc := 57) X fX25_83 hk q3883 (dl_at t_X25_headOf 32 rfl) ?_
        refine g_iload_n (pc := 60) X (j := 3) (i := 3) (q := 3) (x := x3_4) rfl rfl (dl_at t_X25_headOf 33 rfl) ?_
        refine g_iald (pc := 61) X r3_4 k49 (dl_at t_X25_headOf 34 rfl) fun g61 => ?_
        refine g_iload_n (pc := 62) X (j := 1) (i := 1) (q := 1) (x := a1) rfl rfl (dl_at t_X25_headOf 35 rfl) ?_
        refine g_icmpge (pc := 63) X g61 r1 (off := 5) (tgt := 68) rfl (dl_at t_X25_headOf 36 rfl) (fun _ => ?_) (fun _ => ?_)
        · exact J68 x2_4 r2_4
        refine g_iload_n (pc := 66) X (j := 3) (i := 3) (q := 3) (x := x3_4) rfl rfl (dl_at t_X25_headOf 37 rfl) ?_
        refine g_istore_nN (pc := 67) X (j := 2) (i := 2) (x := x3_4) (b := 1) (w := iv a1) (rest := [(0, rv D a0), (3, iv x3_4)]) rfl (Nat.le_of_ble_eq_true rfl) [1, 0, 3] rfl (by decide) rfl rfl (dl_at t_X25_headOf 38 rfl) ?_
        refine g_ls (ls2 := [(0, rv D a0), (1, iv a1), (2, iv x3_4), (3, iv x3_4)]) [2, 1, 0, 3] rfl ?_
        exact J68 x3_4 r3_4
      refine g_iload_n (pc := 54) X (j := 3) (i := 3) (q := 3) (x := x3_4) rfl rfl (dl_at t_X25_headOf 29 rfl) ?_
      exact g_at fun Q hQ => (g_iret (pc := 55) X r3_4 rfl rfl (dl_at t_X25_headOf 30 rfl)) _ Q rfl hQ
    refine g_goto (pc := 41) X (off := 27) (tgt := 68) rfl (dl_at t_X25_headOf 22 rfl) ?_
    exact J68 x2_4 r2_4
def k_X25_byteFrom : List (Nat × Instr × Nat) := [(0, .aload_n 0, 1), (1, .iload_n 1, 1), (2, .iload_n 2, 1), (3, .invokevirtual 777, 3), (6, .istore_n 3, 1), (7, .iload_n 3, 1), (8, .ifCond .ne 10, 3), (11, .aload_n 0, 1), (12, .getfield 29, 3), (15, .iload_n 1, 1), (16, .iaload, 1), (17, .ireturn, 1), (18, .aload_n 0, 1), (19, .getfield 47, 3), (22, .iload_n 1, 1), (23, .iaload, 1), (24, .iload_n 3, 1), (25, .iadd, 1), (26, .iconst 1, 1), (27, .isub, 1), (28, .istore 4, 2), (30, .aload_n 0, 1), (31, .getfield 69, 3), (34, .iload 4, 2), (36, .iaload, 1), (37, .ifCond .ne 15, 3), (40, .aload_n 0, 1), (41, .getfield 72, 3), (44, .iload 4, 2), (46, .iaload, 1), (47, .iconst 1, 1), (48, .iadd, 1), (49, .goto 10, 3), (52, .aload_n 0, 1), (53, .getfield 72, 3), (56, .iload 4, 2), (58, .iaload, 1), (59, .ireturn, 1)]
theorem t_X25_byteFrom : ∀ q ∈ k_X25_byteFrom, decode cX25_byteFrom q.1 = .ok q.2 := dl_all (by decide +kernel)
noncomputable def m_X25_byteFrom (a0 a1 a2 : Int) (h : Hp) : Option (Int) :=
  (m_X25_lineStart a0 a1 a2 h).bind fun v3 =>
  if v3 ≠ 0 then (gd (h (h a0 16) (-2) % 16 = 1 ∧ (0 : Int) ≤ a1 ∧ a1 < h (h a0 16) (-1)) (lt_ (w32 ((w32 ((h (h a0 16) a1) + v3)) - 1)) fun x4_28 =>
  gd (h (h a0 23) (-2) % 16 = 1 ∧ (0 : Int) ≤ x4_28 ∧ x4_28 < h (h a0 23) (-1)) (if (h (h a0 23) x4_28) ≠ 0 then (gd (h (h a0 24) (-2) % 16 = 1 ∧ (0 : Int) ≤ x4_28 ∧ x4_28 < h (h a0 24) (-1)) (some (h (h a0 24) x4_28)))
  else (gd (h (h a0 24) (-2) % 16 = 1 ∧ (0 : Int) ≤ x4_28 ∧ x4_28 < h (h a0 24) (-1)) (some (w32 ((h (h a0 24) x4_28) + 1)))))))
  else (gd (h (h a0 10) (-2) % 16 = 1 ∧ (0 : Int) ≤ a1 ∧ a1 < h (h a0 10) (-1)) (some (h (h a0 10) a1)))
theorem s_X25_byteFrom {l : Launch} [NoTr l] {D : SD} {a0 a1 a2 : Int} {h : Hp} (hk : h a0 (-2) = 416) (r1 : r32 a1) (r2 : r32 a2) {r : Int} (hm : m_X25_byteFrom a0 a1 a2 h = some r) : Sim l D yX25_byteFrom (Cond.code yX25_byteFrom cX25_byteFrom 5 (Option.some Jvm.ClassFile.FieldType.int)) 1 38 [rv D a0, iv a1, iv a2] h 1 ((0, r), h) := by
  refine Sim.of (fin := fun (v : Int) => ((0, v), h)) (lsE := [(0, rv D a0), (1, iv a1), (2, iv a2)]) hm rfl cwS_code (la_r (la_i (la_i la_n))) (ll_r (ll_i (ll_i ll_n))) ?_
  intro p e s m below meth c X hcw hmm hcc hnm hname
  unfold m_X25_byteFrom
  refine g_aload_n (pc := 0) X (j := 0) (i := 0) (q := 0) (x := a0) rfl rfl (dl_at t_X25_byteFrom 0 rfl) ?_
  refine g_iload_n (pc := 1) X (j := 1) (i := 1) (q := 1) (x := a1) rfl rfl (dl_at t_X25_byteFrom 1 rfl) ?_
  refine g_iload_n (pc := 2) X (j := 2) (i := 2) (q := 2) (x := a2) rfl rfl (dl_at t_X25_byteFrom 2 rfl) ?_
  refine r_callRi (pc := 3) X (fun _ hv => s_X25_lineStart hk r1 r2 hv) cw_code q5164 q379 (in_Vk X (As := [iv a1, iv a2]) kX25 hk (Or.inl q5161) q5162 q5163 cw_code q5164 ⟨by decide, by decide⟩ rfl (dl_at t_X25_byteFrom 3 rfl)) (dl_at t_X25_byteFrom 3 rfl) (cat24 (st := []) (Nat.le_of_ble_eq_true rfl)) (Nat.le_of_ble_eq_true rfl) (Nat.le_of_ble_eq_true rfl) fun v3 g3 => ?_
  refine g_istore_n (pc := 6) X (j := 3) (i := 3) (x := v3) (rest := [(0, rv D a0), (1, iv a1)]) rfl (Nat.le_of_ble_eq_true rfl) [0, 1] rfl rfl (dl_at t_X25_byteFrom 4 rfl) ?_
  refine g_iload_n (pc := 7) X (j := 3) (i := 3) (q := 0) (x := v3) rfl rfl (dl_at t_X25_byteFrom 5 rfl) ?_
  refine g_ifne (pc := 8) X g3 (off := 10) (tgt := 18) rfl (dl_at t_X25_byteFrom 6 rfl) (fun _ => ?_) (fun _ => ?_)
  · refine g_aload_n (pc := 18) X (j := 0) (i := 0) (q := 1) (x := a0) rfl rfl (dl_at t_X25_byteFrom 12 rfl) ?_
    refine r_getr (pc := 19) X fX25_16 hk q3785 (dl_at t_X25_byteFrom 13 rfl) ?_
    refine g_iload_n (pc := 22) X (j := 1) (i := 1) (q := 2) (x := a1) rfl rfl (dl_at t_X25_byteFrom 14 rfl) ?_
    refine g_gd fun k23 => ?_
    refine g_iald (pc := 23) X r1 k23 (dl_at t_X25_byteFrom 15 rfl) fun g23 => ?_
    refine g_iload_n (pc := 24) X (j := 3) (i := 3) (q := 0) (x := v3) rfl rfl (dl_at t_X25_byteFrom 16 rfl) ?_
    refine g_iadd (pc := 25) X g23 g3 (dl_at t_X25_byteFrom 17 rfl) ?_
    refine g_iconst (pc := 26) X (n := 1) (dl_at t_X25_byteFrom 18 rfl) ?_
    refine g_isub (pc := 27) X (r32_w _) (r32_c rfl) (dl_at t_X25_byteFrom 19 rfl) ?_
    refine g_lti (r32_w _) fun x4_28 r4_28 => ?_
    refine g_istore (pc := 28) X (i := 4) (x := x4_28) (rest := [(0, rv D a0)]) (Nat.le_of_ble_eq_true rfl) [1] rfl rfl (dl_at t_X25_byteFrom 20 rfl) ?_
    refine g_aload_n (pc := 30) X (j := 0) (i := 0) (q := 1) (x := a0) rfl rfl (dl_at t_X25_byteFrom 21 rfl) ?_
    refine r_getr (pc := 31) X fX25_23 hk q3797 (dl_at t_X25_byteFrom 22 rfl) ?_
    refine g_iload (pc := 34) X (i := 4) (q := 0) (x := x4_28) rfl (dl_at t_X25_byteFrom 23 rfl) ?_
    refine g_gd fun k36 => ?_
    refine g_iald (pc := 36) X r4_28 k36 (dl_at t_X25_byteFrom 24 rfl) fun g36 => ?_
    refine g_ifne (pc := 37) X g36 (off := 15) (tgt := 52) rfl (dl_at t_X25_byteFrom 25 rfl) (fun _ => ?_) (fun _ => ?_)
    · refine g_aload_n (pc := 52) X (j := 0) (i := 0) (q := 1) (x := a0) rfl rfl (dl_at t_X25_byteFrom 33 rfl) ?_
      refine r_getr (pc := 53) X fX25_24 hk q3798 (dl_at t_X25_byteFrom 34 rfl) ?_
      refine g_iload (pc := 56) X (i := 4) (q := 0) (x := x4_28) rfl (dl_at t_X25_byteFrom 35 rfl) ?_
      refine g_gd fun k58 => ?_
      refine g_iald (pc := 58) X r4_28 k58 (dl_at t_X25_byteFrom 36 rfl) fun g58 => ?_
      exact g_iret (pc := 59) X g58 rfl rfl (dl_at t_X25_byteFrom 37 rfl)
    refine g_aload_n (pc := 40) X (j := 0) (i := 0) (q := 1) (x := a0) rfl rfl (dl_at t_X25_byteFrom 26 rfl) ?_
    refine r_getr (pc := 41) X fX25_24 hk q3798 (dl_at t_X25_byteFrom 27 rfl) ?_
    refine g_iload (pc := 44) X (i := 4) (q := 0) (x := x4_28) rfl (dl_at t_X25_byteFrom 28 rfl) ?_
    refine g_gd fun k46 => ?_
    refine g_iald (pc := 46) X r4_28 k46 (dl_at t_X25_byteFrom 29 rfl) fun g46 => ?_
    refine g_iconst (pc := 47) X (n := 1) (dl_at t_X25_byteFrom 30 rfl) ?_
    refine g_iadd (pc := 48) X g46 (r32_c rfl) (dl_at t_X25_byteFrom 31 rfl) ?_
    refine g_goto (pc := 49) X (off := 10) (tgt := 59) rfl (dl_at t_X25_byteFrom 32 rfl) ?_
    exact g_iret (pc := 59) X (r32_w _) rfl rfl (dl_at t_X25_byteFrom 37 rfl)
  refine g_aload_n (pc := 11) X (j := 0) (i := 0) (q := 1) (x := a0) rfl rfl (dl_at t_X25_byteFrom 7 rfl) ?_
  refine r_getr (pc := 12) X fX25_10 hk q3775 (dl_at t_X25_byteFrom 8 rfl) ?_
  refine g_iload_n (pc := 15) X (j := 1) (i := 1) (q := 2) (x := a1) rfl rfl (dl_at t_X25_byteFrom 9 rfl) ?_
  refine g_gd fun k16 => ?_
  refine g_iald (pc := 16) X r1 k16 (dl_at t_X25_byteFrom 10 rfl) fun g16 => ?_
  exact g_iret (pc := 17) X g16 rfl rfl (dl_at t_X25_byteFrom 11 rfl)
def k_X18_putLine : List (Nat × Instr × Nat) := [(0, .aload_n 0, 1), (1, .getfield 367, 3), (4, .ldc_w 381, 3), (7, .if_icmp .le 4, 3), (10, .return_, 1), (11, .aload_n 0, 1), (12, .lload_n 1, 1), (13, .invokevirtual 373, 3), (16, .aload_n 0, 1), (17, .bipush 32, 2), (19, .invokevirtual 370, 3), (22, .aload_n 0, 1), (23, .lload_n 3, 1), (24, .aload_n 0, 1), (25, .getfield 70, 3), (28, .iload 5, 2), (30, .iload 6, 2), (32, .invokevirtual 276, 3), (35, .ladd, 1), (36, .invokevirtual 373, 3), (39, .aload_n 0, 1), (40, .bipush 32, 2), (42, .invokevirtual 370, 3), (45, .aload_n 0, 1), (46, .getfield 70, 3), (49, .iload 5, 2), (51, .iload 6, 2), (53, .invokevirtual 382, 3), (56, .istore 7, 2), (58, .iload 7, 2), (60, .aload_n 0, 1), (61, .getfield 70, 3), (64, .iload 5, 2), (66, .iload 6, 2), (68, .invokevirtual 385, 3), (71, .if_icmp .ge 23, 3), (74, .aload_n 0, 1), (75, .aload_n 0, 1), (76, .getfield 70, 3), (79, .getfield 388, 3), (82, .iload 7, 2), (84, .baload, 1), (85, .invokevirtual 370, 3), (88, .iinc 7 1, 3), (91, .goto (-33), 3), (94, .aload_n 0, 1), (95, .getfield 70, 3), (98, .iload 5, 2), (100, .iload 6, 2), (102, .invokevirtual 391, 3), (105, .ifCond .eq 9, 3), (108, .aload_n 0, 1), (109, .bipush 45, 2), (111, .invokevirtual 370, 3), (114, .aload_n 0, 1), (115, .bipush 10, 2), (117, .invokevirtual 370, 3), (120, .return_, 1)]
theorem t_X18_putLine : ∀ q ∈ k_X18_putLine, decode cX18_putLine q.1 = .ok q.2 := dl_all (by decide +kernel)
noncomputable def m_X18_putLine_l58 (a0 a5 a6 x7_58 : Int) (h_58 : Hp) : Option ((Int × Hp) ⊕ ((Hp))) :=
  gd (h_58 (h_58 a0 15) (-2) = 416) ((m_X25_byteTo (h_58 a0 15) a5 a6 h_58).bind fun v68 =>
  if v68 ≤ x7_58 then (some (.inr h_58))
  else (gd (h_58 (h_58 (h_58 a0 15) 5) (-2) % 16 = 2 ∧ (0 : Int) ≤ x7_58 ∧ x7_58 < h_58 (h_58 (h_58 a0 15) 5) (-1)) ((m_X18_put a0 (h_58 (h_58 (h_58 a0 15) 5) x7_58) h_58).bind fun h85 =>
  lt_ (w32 (x7_58 + 1)) fun x7_88 =>
  some (.inl (x7_88, h85)))))
noncomputable def m_X18_putLine (a0 a1 a3 a5 a6 : Int) (h : Hp) : Option (Hp) :=
  if (h a0 21) ≤ 65536 then ((m_X18_putNumber 24 a0 a1 h).bind fun h13 =>
  (m_X18_put a0 32 h13).bind fun h19 =>
  gd (h19 (h19 a0 15) (-2) = 416) (bW (m_X25_beginsAt (h19 a0 15) a5 a6 h19) fun v32 h32 =>
  (m_X18_putNumber 24 a0 (w64 (a3 + v32)) h32).bind fun h36 =>
  (m_X18_put a0 32 h36).bind fun h42 =>
  gd (h42 (h42 a0 15) (-2) = 416) ((m_X25_byteFrom (h42 a0 15) a5 a6 h42).bind fun v53 =>
  (lp (fun (q : Int × Hp) => m_X18_putLine_l58 a0 a5 a6 q.1 q.2) (v53, h42)).bind (fun (y94 : Hp) => gd (y94 (y94 a0 15) (-2) = 416) ((m_X25_endsHyphen (y94 a0 15) a5 a6 y94).bind fun v102 =>
  if v102 = 0 then ((m_X18_put a0 10 y94).bind fun h117 =>
  some h117)
  else ((m_X18_put a0 45 y94).bind fun h111 =>
  (m_X18_put a0 10 h111).bind fun h117_1 =>
  some h117_1))))))
  else (some h)
theorem s_X18_putLine {l : Launch} [NoTr l] {D : SD} {a0 a1 a3 a5 a6 : Int} {h : Hp} (hk : h a0 (-2) = 304) (r1 : r64 a1) (r3 : r64 a3) (r5 : r32 a5) (r6 : r32 a6) {r : Hp} (hm : m_X18_putLine a0 a1 a3 a5 a6 h = some r) : Sim l D yX18_putLine (Cond.code yX18_putLine cX18_putLine 8 (Option.none : Option Jvm.ClassFile.FieldType)) 26 989 [rv D a0, jv a1, jv a3, iv a5, iv a6] h 0 ((0, 0), r) := by
  refine Sim.of (fin := fun (v : Hp) => ((0, 0), v)) (lsE := [(0, rv D a0), (1, jv a1), (3, jv a3), (5, iv a5), (6, iv a6)]) hm rfl cwS_code (la_r (la_j (la_j (la_i (la_i la_n))))) (ll_r (ll_j (ll_j (ll_i (ll_i ll_n))))) ?_
  intro p e s m below meth c X hcw hmm hcc hnm hname
  unfold m_X18_putLine
  refine g_aload_n (pc := 0) X (j := 0) (i := 0) (q := 0) (x := a0) rfl rfl (dl_at t_X18_putLine 0 rfl) ?_
  refine r_geti (pc := 1) X fX18_21 hk q4257 (dl_at t_X18_putLine 1 rfl) fun g1 => ?_
  refine g_ldcw (pc := 4) X (index := 381) (n := 65536) q5238 (dl_at t_X18_putLine 2 rfl) ?_
  refine g_icmple (pc := 7) X g1 (r32_c rfl) (off := 4) (tgt := 11) rfl (dl_at t_X18_putLine 3 rfl) (fun _ => ?_) (fun _ => ?_)
  · refine g_aload_n (pc := 11) X (j := 0) (i := 0) (q := 0) (x := a0) rfl rfl (dl_at t_X18_putLine 5 rfl) ?_
    refine g_lload_n (pc := 12) X (j := 1) (i := 1) (q := 1) (x := a1) rfl rfl (dl_at t_X18_putLine 6 rfl) ?_
    refine r_callV (pc := 13) X (fun _ hv => s_X18_putNumber (d := 24) hk r1 hv) cw_code q5213 q372 (in_Vk X (As := [jv a1]) kX18 hk (Or.inl q5210) q5212 qs349 cw_code q5213 ⟨by decide, by decide⟩ rfl (dl_at t_X18_putLine 7 rfl)) (dl_at t_X18_putLine 7 rfl) (cat24 (st := []) (Nat.le_of_ble_eq_true rfl)) (Nat.le_of_ble_eq_true rfl) (Nat.le_of_ble_eq_true rfl) fun h13 E13 => ?_
    refine g_aload_n (pc := 16) X (j := 0) (i := 0) (q := 0) (x := a0) rfl rfl (dl_at t_X18_putLine 8 rfl) ?_
    refine g_bipush (pc := 17) X (n := 32) rfl (dl_at t_X18_putLine 9 rfl) ?_
    have k19 := kx E13 (by decide) hk
    refine r_callV (pc := 19) X (fun _ hv => s_X18_put k19 (r32_c rfl) hv) cw_code q5217 q372 (in_Vk X (As := [iv 32]) kX18 k19 (Or.inl q5214) q5216 qs350 cw_code q5217 ⟨by decide, by decide⟩ rfl (dl_at t_X18_putLine 10 rfl)) (dl_at t_X18_putLine 10 rfl) (cat24 (st := []) (Nat.le_of_ble_eq_true rfl)) (Nat.le_of_ble_eq_true rfl) (Nat.le_of_ble_eq_true rfl) fun h19 E19 => ?_
    refine g_aload_n (pc := 22) X (j := 0) (i := 0) (q := 0) (x := a0) rfl rfl (dl_at t_X18_putLine 11 rfl) ?_
    refine g_lload_n (pc := 23) X (j := 3) (i := 3) (q := 2) (x := a3) rfl rfl (dl_at t_X18_putLine 12 rfl) ?_
    refine g_aload_n (pc := 24) X (j := 0) (i := 0) (q := 0) (x := a0) rfl rfl (dl_at t_X18_putLine 13 rfl) ?_
    have k25 := kx E19 (by decide) k19
    refine r_getr (pc := 25) X fX18_15 k25 q4251 (dl_at t_X18_putLine 14 rfl) ?_
    refine g_iload (pc := 28) X (i := 5) (q := 3) (x := a5) rfl (dl_at t_X18_putLine 15 rfl) ?_
    refine g_iload (pc := 30) X (i := 6) (q := 4) (x := a6) rfl (dl_at t_X18_putLine 16 rfl) ?_
    refine g_gd fun k32 => ?_
    refine r_callWl (pc := 32) X (fun _ hv => s_X25_beginsAt k32 r5 r6 hv) cw_code q5160 q379 (in_Vk X (As := [iv a5, iv a6]) kX25 k32 (Or.inl q5157) q5158 q5159 cw_code q5160 ⟨by decide, by decide⟩ rfl (dl_at t_X18_putLine 17 rfl)) (dl_at t_X18_putLine 17 rfl) (cat24 (st := [jv a3, rv D a0]) (Nat.le_of_ble_eq_true rfl)) (Nat.le_of_ble_eq_true rfl) (Nat.le_of_ble_eq_true rfl) fun v32 h32 g32 E32 => ?_
    refine g_ladd (pc := 35) X r3 g32 (dl_at t_X18_putLine 18 rfl) ?_
    have k36 := kx E32 (by decide) k25
    refine r_callV (pc := 36) X (fun _ hv => s_X18_putNumber (d := 24) k36 (r64_w _) hv) cw_code q5213 q372 (in_Vk X (As := [jv (w64 (a3 + v32))]) kX18 k36 (Or.inl q5210) q5212 qs349 cw_code q5213 ⟨by decide, by decide⟩ rfl (dl_at t_X18_putLine 19 rfl)) (dl_at t_X18_putLine 19 rfl) (cat24 (st := []) (Nat.le_of_ble_eq_true rfl)) (Nat.le_of_ble_eq_true rfl) (Nat.le_of_ble_eq_true rfl) fun h36 E36 => ?_
    refine g_aload_n (pc := 39) X (j := 0) (i := 0) (q := 0) (x := a0) rfl rfl (dl_at t_X18_putLine 20 rfl) ?_
    refine g_bipush (pc := 40) X (n := 32) rfl (dl_at t_X18_putLine 21 rfl) ?_
    have k42 := kx E36 (by decide) k36
    refine r_callV (pc := 42) X (fun _ hv => s_X18_put k42 (r32_c rfl) hv) cw_code q5217 q372 (in_Vk X (As := [iv 32]) kX18 k42 (Or.inl q5214) q5216 qs350 cw_code q5217 ⟨by decide, by decide⟩ rfl (dl_at t_X18_putLine 22 rfl)) (dl_at t_X18_putLine 22 rfl) (cat24 (st := []) (Nat.le_of_ble_eq_true rfl)) (Nat.le_of_ble_eq_true rfl) (Nat.le_of_ble_eq_true rfl) fun h42 E42 => ?_
    refine g_aload_n (pc := 45) X (j := 0) (i := 0) (q := 0) (x := a0) rfl rfl (dl_at t_X18_putLine 23 rfl) ?_
    have k46 := kx E42 (by decide) k42
    refine r_getr (pc := 46) X fX18_15 k46 q4251 (dl_at t_X18_putLine 24 rfl) ?_
    refine g_iload (pc := 49) X (i := 5) (q := 3) (x := a5) rfl (dl_at t_X18_putLine 25 rfl) ?_
    refine g_iload (pc := 51) X (i := 6) (q := 4) (x := a6) rfl (dl_at t_X18_putLine 26 rfl) ?_
    refine g_gd fun k53 => ?_
    refine r_callRi (pc := 53) X (fun _ hv => s_X25_byteFrom k53 r5 r6 hv) cw_code q5242 q379 (in_Vk X (As := [iv a5, iv a6]) kX25 k53 (Or.inl q5239) q5240 q5241 cw_code q5242 ⟨by decide, by decide⟩ rfl (dl_at t_X18_putLine 27 rfl)) (dl_at t_X18_putLine 27 rfl) (cat24 (st := []) (Nat.le_of_ble_eq_true rfl)) (Nat.le_of_ble_eq_true rfl) (Nat.le_of_ble_eq_true rfl) fun v53 g53 => ?_
    refine g_istoreN (pc := 56) X (i := 7) (x := v53) (b := 6) (w := iv a6) (rest := [(0, rv D a0), (5, iv a5)]) (Nat.le_of_ble_eq_true rfl) [4, 0, 3] rfl (by decide) rfl rfl (dl_at t_X18_putLine 28 rfl) ?_
    refine g_ls (ls2 := [(0, rv D a0), (5, iv a5), (6, iv a6), (7, iv v53)]) [2, 3, 1, 0] rfl ?_
    refine g_loop1 (fun (q : Int × Hp) => [(0, rv D a0), (5, iv a5), (6, iv a6), (7, iv q.1)]) (fun (q : Int × Hp) => q.2) (fun (q : Int × Hp) => r32 q.1 ∧ Ext h42 q.2) 94 (fun (y94 : Hp) => [(0, rv D a0), (5, iv a5), (6, iv a6)]) (fun (y94 : Hp) => y94) (fun (y94 : Hp) => Ext h42 y94) (v53, h42) ⟨g53, (Ext.refl _)⟩ ?_ ?_
    · rintro ⟨x7_58, h_58⟩ ⟨r7_58, E_58⟩
      try dsimp only
      unfold m_X18_putLine_l58
      refine g_iload (pc := 58) X (i := 7) (q := 3) (x := x7_58) rfl (dl_at t_X18_putLine 29 rfl) ?_
      refine g_aload_n (pc := 60) X (j := 0) (i := 0) (q := 0) (x := a0) rfl rfl (dl_at t_X18_putLine 30 rfl) ?_
      have k61 := kx E_58 (by decide) k46
      refine r_getr (pc := 61) X fX18_15 k61 q4251 (dl_at t_X18_putLine 31 rfl) ?_
      refine g_iload (pc := 64) X (i := 5) (q := 1) (x := a5) rfl (dl_at t_X18_putLine 32 rfl) ?_
      refine g_iload (pc := 66) X (i := 6) (q := 2) (x := a6) rfl (dl_at t_X18_putLine 33 rfl) ?_
      refine g_gd fun k68 => ?_
      refine r_callRi (pc := 68) X (fun _ hv => s_X25_byteTo k68 r5 r6 hv) cw_code q5063 q379 (in_Vk X (As := [iv a5, iv a6]) kX25 k68 (Or.inl q5243) q5061 q5062 cw_code q5063 ⟨by decide, by decide⟩ rfl (dl_at t_X18_putLine 34 rfl)) (dl_at t_X18_putLine 34 rfl) (cat24 (st := [iv x7_58]) (Nat.le_of_ble_eq_true rfl)) (Nat.le_of_ble_eq_true rfl) (Nat.le_of_ble_eq_true rfl) fun v68 g68 => ?_
      refine g_icmpge (pc := 71) X r7_58 g68 (off := 23) (tgt := 94) rfl (dl_at t_X18_putLine 35 rfl) (fun _ => ?_) (fun _ => ?_)
      · refine g_ls (ls2 := [(0, rv D a0), (5, iv a5), (6, iv a6)]) [0, 1, 2] rfl ?_
        exact g_at fun Q hQ => hQ E_58
      refine g_aload_n (pc := 74) X (j := 0) (i := 0) (q := 0) (x := a0) rfl rfl (dl_at t_X18_putLine 36 rfl) ?_
      refine g_aload_n (pc := 75) X (j := 0) (i := 0) (q := 0) (x := a0) rfl rfl (dl_at t_X18_putLine 37 rfl) ?_
      refine r_getr (pc := 76) X fX18_15 k61 q4251 (dl_at t_X18_putLine 38 rfl) ?_
      refine r_getr (pc := 79) X fX25_5 k68 q3769 (dl_at t_X18_putLine 39 rfl) ?_
      refine g_iload (pc := 82) X (i := 7) (q := 3) (x := x7_58) rfl (dl_at t_X18_putLine 40 rfl) ?_
      refine g_gd fun k84 => ?_
      refine g_bald (pc := 84) X r7_58 k84 (dl_at t_X18_putLine 41 rfl) fun g84 => ?_
      refine r_callV (pc := 85) X (fun _ hv => s_X18_put k61 (r32_b g84) hv) cw_code q5217 q372 (in_Vk X (As := [iv (h_58 (h_58 (h_58 a0 15) 5) x7_58)]) kX18 k61 (Or.inl q5214) q5216 qs350 cw_code q5217 ⟨by decide, by decide⟩ rfl (dl_at t_X18_putLine 42 rfl)) (dl_at t_X18_putLine 42 rfl) (cat24 (st := []) (Nat.le_of_ble_eq_true rfl)) (Nat.le_of_ble_eq_true rfl) (Nat.le_of_ble_eq_true rfl) fun h85 E85 => ?_
      refine r_iincN (pc := 88) X (i := 7) (q := 3) (n := 1) (x := x7_58) (b := 6) (w := iv a6) (rest := [(0, rv D a0), (5, iv a5)]) rfl r7_58 (r32_c rfl) (Nat.le_of_ble_eq_true rfl) [2, 0, 1] rfl (by decide) rfl rfl (dl_at t_X18_putLine 43 rfl) fun x7_88 r7_88 => ?_
      refine g_goto (pc := 91) X (off := (-33)) (tgt := 58) rfl (dl_at t_X18_putLine 44 rfl) ?_
      refine g_ls (ls2 := [(0, rv D a0), (5, iv a5), (6, iv a6), (7, iv x7_88)]) [2, 3, 1, 0] rfl ?_
      exact g_at fun Q hQ => hQ ⟨r7_88, (E_58.trans E85)⟩
    · rintro h_94 E_94
      try dsimp only [sE]
      refine g_aload_n (pc := 94) X (j := 0) (i := 0) (q := 0) (x := a0) rfl rfl (dl_at t_X18_putLine 45 rfl) ?_
      have k95 := kx E_94 (by decide) k46
      refine r_getr (pc := 95) X fX18_15 k95 q4251 (dl_at t_X18_putLine 46 rfl) ?_
      refine g_iload (pc := 98) X (i := 5) (q := 1) (x := a5) rfl (dl_at t_X18_putLine 47 rfl) ?_
      refine g_iload (pc := 100) X (i := 6) (q := 2) (x := a6) rfl (dl_at t_X18_putLine 48 rfl) ?_
      refine g_gd fun k102 => ?_
      refine r_callRz (pc := 102) X (fun _ hv => s_X25_endsHyphen k102 r5 r6 hv) cw_code q5094 q379 (in_Vk X (As := [iv a5, iv a6]) kX25 k102 (Or.inl q5244) q5092 q5093 cw_code q5094 ⟨by decide, by decide⟩ rfl (dl_at t_X18_putLine 49 rfl)) (dl_at t_X18_putLine 49 rfl) (cat24 (st := []) (Nat.le_of_ble_eq_true rfl)) (Nat.le_of_ble_eq_true rfl) (Nat.le_of_ble_eq_true rfl) fun v102 g102 => ?_
      refine g_ifeq (pc := 105) X (r32_z g102) (off := 9) (tgt := 114) rfl (dl_at t_X18_putLine 50 rfl) (fun _ => ?_) (fun _ => ?_)
      · refine g_aload_n (pc := 114) X (j := 0) (i := 0) (q := 0) (x := a0) rfl rfl (dl_at t_X18_putLine 54 rfl) ?_
        refine g_bipush (pc := 115) X (n := 10) rfl (dl_at t_X18_putLine 55 rfl) ?_
        refine r_callV (pc := 117) X (fun _ hv => s_X18_put k95 (r32_c rfl) hv) cw_code q5217 q372 (in_Vk X (As := [iv 10]) kX18 k95 (Or.inl q5214) q5216 qs350 cw_code q5217 ⟨by decide, by decide⟩ rfl (dl_at t_X18_putLine 56 rfl)) (dl_at t_X18_putLine 56 rfl) (cat24 (st := []) (Nat.le_of_ble_eq_true rfl)) (Nat.le_of_ble_eq_true rfl) (Nat.le_of_ble_eq_true rfl) fun h117 E117 => ?_
        exact g_vret (pc := 120) X (v := 0) rfl rfl (dl_at t_X18_putLine 57 rfl)
      refine g_aload_n (pc := 108) X (j := 0) (i := 0) (q := 0) (x := a0) rfl rfl (dl_at t_X18_putLine 51 rfl) ?_
      refine g_bipush (pc := 109) X (n := 45) rfl (dl_at t_X18_putLine 52 rfl) ?_
      refine r_callV (pc := 111) X (fun _ hv => s_X18_put k95 (r32_c rfl) hv) cw_code q5217 q372 (in_Vk X (As := [iv 45]) kX18 k95 (Or.inl q5214) q5216 qs350 cw_code q5217 ⟨by decide, by decide⟩ rfl (dl_at t_X18_putLine 53 rfl)) (dl_at t_X18_putLine 53 rfl) (cat24 (st := []) (Nat.le_of_ble_eq_true rfl)) (Nat.le_of_ble_eq_true rfl) (Nat.le_of_ble_eq_true rfl) fun h111 E111 => ?_
      refine g_aload_n (pc := 114) X (j := 0) (i := 0) (q := 0) (x := a0) rfl rfl (dl_at t_X18_putLine 54 rfl) ?_
      refine g_bipush (pc := 115) X (n := 10) rfl (dl_at t_X18_putLine 55 rfl) ?_
      have k117 := kx E111 (by decide) k95
      refine r_callV (pc := 117) X (fun _ hv => s_X18_put k117 (r32_c rfl) hv) cw_code q5217 q372 (in_Vk X (As := [iv 10]) kX18 k117 (Or.inl q5214) q5216 qs350 cw_code q5217 ⟨by decide, by decide⟩ rfl (dl_at t_X18_putLine 56 rfl)) (dl_at t_X18_putLine 56 rfl) (cat24 (st := []) (Nat.le_of_ble_eq_true rfl)) (Nat.le_of_ble_eq_true rfl) (Nat.le_of_ble_eq_true rfl) fun h117_1 E117_1 => ?_
      exact g_vret (pc := 120) X (v := 0) rfl rfl (dl_at t_X18_putLine 57 rfl)
  exact g_vret (pc := 10) X (v := 0) rfl rfl (dl_at t_X18_putLine 4 rfl)
def k_X18_putRow : List (Nat × Instr × Nat) := [(0, .aload_n 0, 1), (1, .getfield 70, 3), (4, .getfield 273, 3), (7, .iload 5, 2), (9, .iaload, 1), (10, .istore 6, 2), (12, .iconst 0, 1), (13, .istore 7, 2), (15, .iload 7, 2), (17, .aload_n 0, 1), (18, .getfield 70, 3), (21, .getfield 321, 3), (24, .getfield 395, 3), (27, .iload 6, 2), (29, .iaload, 1), (30, .if_icmp .ge 100, 3), (33, .aload_n 0, 1), (34, .getfield 70, 3), (37, .getfield 398, 3), (40, .bipush 8, 2), (42, .iload 6, 2), (44, .imul, 1), (45, .iload 7, 2), (47, .iadd, 1), (48, .iaload, 1), (49, .istore 8, 2), (51, .iload 8, 2), (53, .ifCond .ge 6, 3), (56, .goto 68, 3), (59, .aload_n 0, 1), (60, .getfield 70, 3), (63, .getfield 321, 3), (66, .aload_n 0, 1), (67, .getfield 70, 3), (70, .getfield 304, 3), (73, .iload 8, 2), (75, .iaload, 1), (76, .iconst 2, 1), (77, .invokevirtual 209, 3), (80, .istore 9, 2), (82, .iconst 0, 1), (83, .istore 10, 2), (85, .iload 10, 2), (87, .aload_n 0, 1), (88, .getfield 70, 3), (91, .getfield 290, 3), (94, .iload 8, 2), (96, .iaload, 1), (97, .if_icmp .ge 27, 3), (100, .aload_n 0, 1), (101, .lload_n 1, 1), (102, .iload 10, 2), (104, .i2l, 1), (105, .iload 9, 2), (107, .i2l, 1), (108, .lmul, 1), (109, .ladd, 1), (110, .lload_n 3, 1), (111, .iload 8, 2), (113, .iload 10, 2), (115, .invokevirtual 401, 3), (118, .iinc 10 1, 3), (121, .goto (-36), 3), (124, .iinc 7 1, 3), (127, .goto (-112), 3), (130, .return_, 1)]
theorem t_X18_putRow : ∀ q ∈ k_X18_putRow, decode cX18_putRow q.1 = .ok q.2 := dl_all (by decide +kernel)
noncomputable def m_X18_putRow_j124 (x7_15 : Int) (h_124 : Hp) : Option ((Int × Hp) ⊕ ((Hp))) :=
  lt_ (w32 (x7_15 + 1)) fun x7_124 =>
  some (.inl (x7_124, h_124))
noncomputable def m_X18_putRow_l85 (a0 a1 a3 x8_49 v77 x10_85 : Int) (h_85 : Hp) : Option ((Int × Hp) ⊕ ((Hp))) :=
  gd (h_85 (h_85 a0 15) (-2) = 416) (gd (h_85 (h_85 (h_85 a0 15) 17) (-2) % 16 = 1 ∧ (0 : Int) ≤ x8_49 ∧ x8_49 < h_85 (h_85 (h_85 a0 15) 17) (-1)) (if (h_85 (h_85 (h_85 a0 15) 17) x8_49) ≤ x10_85 then (some (.inr h_85))
  else ((m_X18_putLine a0 (w64 (a1 + (w64 (x10_85 * v77)))) a3 x8_49 x10_85 h_85).bind fun h115 =>
  lt_ (w32 (x10_85 + 1)) fun x10_118 =>
  some (.inl (x10_118, h115)))))
noncomputable def m_X18_putRow_l15 (a0 a1 a3 x6_10 x7_15 : Int) (h_15 : Hp) : Option ((Int × Hp) ⊕ ((Hp))) :=
  gd (h_15 (h_15 a0 15) (-2) = 416) (gd (h_15 (h_15 (h_15 a0 15) 0) (-2) = 400) (gd (h_15 (h_15 (h_15 (h_15 a0 15) 0) 7) (-2) % 16 = 1 ∧ (0 : Int) ≤ x6_10 ∧ x6_10 < h_15 (h_15 (h_15 (h_15 a0 15) 0) 7) (-1)) (if (h_15 (h_15 (h_15 (h_15 a0 15) 0) 7) x6_10) ≤ x7_15 then (some (.inr h_15))
  else (gd (h_15 (h_15 (h_15 a0 15) 34) (-2) % 16 = 1 ∧ (0 : Int) ≤ (w32 ((w32 (8 * x6_10)) + x7_15)) ∧ (w32 ((w32 (8 * x6_10)) + x7_15)) < h_15 (h_15 (h_15 a0 15) 34) (-1)) (lt_ (h_15 (h_15 (h_15 a0 15) 34) (w32 ((w32 (8 * x6_10)) + x7_15))) fun x8_49 =>
  if 0 ≤ x8_49 then (gd (h_15 (h_15 (h_15 a0 15) 12) (-2) % 16 = 1 ∧ (0 : Int) ≤ x8_49 ∧ x8_49 < h_15 (h_15 (h_15 a0 15) 12) (-1)) ((m_X24_of (h_15 (h_15 a0 15) 0) (h_15 (h_15 (h_15 a0 15) 12) x8_49) 2 h_15).bind fun v77 =>
  lt_ 0 fun x10_83 =>
  (lp (fun (q : Int × Hp) => m_X18_putRow_l85 a0 a1 a3 x8_49 v77 q.1 q.2) (x10_83, h_15)).bind (fun (y124 : Hp) => m_X18_putRow_j124 x7_15 y124)))
  else (m_X18_putRow_j124 x7_15 h_15))))))
noncomputable def m_X18_putRow (a0 a1 a3 a5 : Int) (h : Hp) : Option (Hp) :=
  gd (h (h a0 15) (-2) = 416) (gd (h (h (h a0 15) 45) (-2) % 16 = 1 ∧ (0 : Int) ≤ a5 ∧ a5 < h (h (h a0 15) 45) (-1)) (lt_ (h (h (h a0 15) 45) a5) fun x6_10 =>
  lt_ 0 fun x7_13 =>
  (lp (fun (q : Int × Hp) => m_X18_putRow_l15 a0 a1 a3 x6_10 q.1 q.2) (x7_13, h)).bind (fun (x : Hp) => some x)))
theorem s_X18_putRow {l : Launch} [NoTr l] {D : SD} {a0 a1 a3 a5 : Int} {h : Hp} (hk : h a0 (-2) = 304) (r1 : r64 a1) (r3 : r64 a3) (r5 : r32 a5) {r : Hp} (hm : m_X18_putRow a0 a1 a3 a5 h = some r) : Sim l D yX18_putRow (Cond.code yX18_putRow cX18_putRow 11 (Option.none : Option Jvm.ClassFile.FieldType)) 27 1032 [rv D a0, jv a1, jv a3, iv a5] h 0 ((0, 0), r) := by
  refine Sim.of (fin := fun (v : Hp) => ((0, 0), v)) (lsE := [(0, rv D a0), (1, jv a1), (3, jv a3), (5, iv a5)]) hm rfl cwS_code (la_r (la_j (la_j (la_i la_n)))) (ll_r (ll_j (ll_j (ll_i ll_n)))) ?_
  intro p e s m below meth c X hcw hmm hcc hnm hname
  unfold m_X18_putRow
  refine g_aload_n (pc := 0) X (j := 0) (i := 0) (q := 0) (x := a0) rfl rfl (dl_at t_X18_putRow 0 rfl) ?_
  refine r_getr (pc := 1) X fX18_15 hk q4251 (dl_at t_X18_putRow 1 rfl) ?_
  refine g_gd fun k4 => ?_
  refine r_getr (pc := 4) X fX25_45 k4 q3827 (dl_at t_X18_putRow 2 rfl) ?_
  refine g_iload (pc := 7) X (i := 5) (q := 3) (x := a5) rfl (dl_at t_X18_putRow 3 rfl) ?_
  refine g_gd fun k9 => ?_
  refine g_iald (pc := 9) X r5 k9 (dl_at t_X18_putRow 4 rfl) fun g9 => ?_
  refine g_lti g9 fun x6_10 r6_10 => ?_
  refine g_istore (pc := 10) X (i := 6) (x := x6_10) (rest := [(0, rv D a0), (1, jv a1), (3, jv a3)]) (Nat.le_of_ble_eq_true rfl) [0, 1, 2] rfl rfl (dl_at t_X18_putRow 5 rfl) ?_
  refine g_iconst (pc := 12) X (n := 0) (dl_at t_X18_putRow 6 rfl) ?_
  refine g_ltz (Or.inl rfl) fun x7_13 r7_13 => ?_
  refine g_istoreN (pc := 13) X (i := 7) (x := x7_13) (b := 6) (w := iv x6_10) (rest := [(0, rv D a0), (1, jv a1), (3, jv a3)]) (Nat.le_of_ble_eq_true rfl) [0, 1, 2, 3] rfl (by decide) rfl rfl (dl_at t_X18_putRow 7 rfl) ?_
  refine g_ls (ls2 := [(0, rv D a0), (1, jv a1), (3, jv a3), (6, iv x6_10), (7, iv x7_13)]) [2, 3, 4, 1, 0] rfl ?_
  refine g_loop0F (fun (q : Int × Hp) => [(0, rv D a0), (1, jv a1), (3, jv a3), (6, iv x6_10), (7, iv q.1)]) (fun (q : Int × Hp) => q.2) (fun (q : Int × Hp) => r32 q.1 ∧ Ext h q.2) (x7_13, h) ⟨(r32_z r7_13), (Ext.refl _)⟩ ?_ (fun _ => rfl)
  · rintro ⟨x7_15, h_15⟩ ⟨r7_15, E_15⟩
    try dsimp only
    unfold m_X18_putRow_l15
    refine g_iload (pc := 15) X (i := 7) (q := 4) (x := x7_15) rfl (dl_at t_X18_putRow 8 rfl) ?_
    refine g_aload_n (pc := 17) X (j := 0) (i := 0) (q := 0) (x := a0) rfl rfl (dl_at t_X18_putRow 9 rfl) ?_
    have k18 := kx E_15 (by decide) hk
    refine r_getr (pc := 18) X fX18_15 k18 q4251 (dl_at t_X18_putRow 10 rfl) ?_
    refine g_gd fun k21 => ?_
    refine r_getr (pc := 21) X fX25_0 k21 q3762 (dl_at t_X18_putRow 11 rfl) ?_
    refine g_gd fun k24 => ?_
    refine r_getr (pc := 24) X fX24_7 k24 q3658 (dl_at t_X18_putRow 12 rfl) ?_
    refine g_iload (pc := 27) X (i := 6) (q := 3) (x := x6_10) rfl (dl_at t_X18_putRow 13 rfl) ?_
    refine g_gd fun k29 => ?_
    refine g_iald (pc := 29) X r6_10 k29 (dl_at t_X18_putRow 14 rfl) fun g29 => ?_
    refine g_icmpge (pc := 30) X r7_15 g29 (off := 100) (tgt := 130) rfl (dl_at t_X18_putRow 15 rfl) (fun _ => ?_) (fun _ => ?_)
    · exact g_at fun Q hQ => (g_vret (pc := 130) X (v := 0) rfl rfl (dl_at t_X18_putRow 65 rfl)) _ Q rfl hQ
    refine g_aload_n (pc := 33) X (j := 0) (i := 0) (q := 0) (x := a0) rfl rfl (dl_at t_X18_putRow 16 rfl) ?_
    refine r_getr (pc := 34) X fX18_15 k18 q4251 (dl_at t_X18_putRow 17 rfl) ?_
    refine r_getr (pc := 37) X fX25_34 k21 q3811 (dl_at t_X18_putRow 18 rfl) ?_
    refine g_bipush (pc := 40) X (n := 8) rfl (dl_at t_X18_putRow 19 rfl) ?_
    refine g_iload (pc := 42) X (i := 6) (q := 3) (x := x6_10) rfl (dl_at t_X18_putRow 20 rfl) ?_
    refine g_imul (pc := 44) X (r32_c rfl) r6_10 (dl_at t_X18_putRow 21 rfl) ?_
    refine g_iload (pc := 45) X (i := 7) (q := 4) (x := x7_15) rfl (dl_at t_X18_putRow 22 rfl) ?_
    refine g_iadd (pc := 47) X (r32_w _) r7_15 (dl_at t_X18_putRow 23 rfl) ?_
    refine g_gd fun k48 => ?_
    refine g_iald (pc := 48) X (r32_w _) k48 (dl_at t_X18_putRow 24 rfl) fun g48 => ?_
    refine g_lti g48 fun x8_49 r8_49 => ?_
    refine g_istoreN (pc := 49) X (i := 8) (x := x8_49) (b := 7) (w := iv x7_15) (rest := [(0, rv D a0), (1, jv a1), (3, jv a3), (6, iv x6_10)]) (Nat.le_of_ble_eq_true rfl) [4, 0, 1, 2, 3] rfl (by decide) rfl rfl (dl_at t_X18_putRow 25 rfl) ?_
    refine g_iload (pc := 51) X (i := 8) (q := 0) (x := x8_49) rfl (dl_at t_X18_putRow 26 rfl) ?_
    refine g_join (γ := Hp) (fun q => Ext h_15 q) 124 (fun q => [(0, rv D a0), (1, jv a1), (3, jv a3), (6, iv x6_10), (7, iv x7_15)]) (fun q => []) (fun q => q) (fun q => m_X18_putRow_j124 x7_15 q) ?_ ?_
    · rintro h_124 E_124
      try dsimp only
      unfold m_X18_putRow_j124
      refine r_iincN (pc := 124) X (i := 7) (q := 4) (n := 1) (x := x7_15) (b := 6) (w := iv x6_10) (rest := [(0, rv D a0), (1, jv a1), (3, jv a3)]) rfl r7_15 (r32_c rfl) (Nat.le_of_ble_eq_true rfl) [3, 0, 1, 2] rfl (by decide) rfl rfl (dl_at t_X18_putRow 63 rfl) fun x7_124 r7_124 => ?_
      refine g_goto (pc := 127) X (off := (-112)) (tgt := 15) rfl (dl_at t_X18_putRow 64 rfl) ?_
      refine g_ls (ls2 := [(0, rv D a0), (1, jv a1), (3, jv a3), (6, iv x6_10), (7, iv x7_124)]) [2, 3, 4, 1, 0] rfl ?_
      exact g_at fun Q hQ => hQ ⟨r7_124, (E_15.trans E_124)⟩
    intro J124
    refine g_ifge (pc := 53) X r8_49 (off := 6) (tgt := 59) rfl (dl_at t_X18_putRow 27 rfl) (fun _ => ?_) (fun _ => ?_)
    · refine g_aload_n (pc := 59) X (j := 0) (i := 0) (q := 2) (x := a0) rfl rfl (dl_at t_X18_putRow 29 rfl) ?_
      refine r_getr (pc := 60) X fX18_15 k18 q4251 (dl_at t_X18_putRow 30 rfl) ?_
      refine r_getr (pc := 63) X fX25_0 k21 q3762 (dl_at t_X18_putRow 31 rfl) ?_
      refine g_aload_n (pc := 66) X (j := 0) (i := 0) (q := 2) (x := a0) rfl rfl (dl_at t_X18_putRow 32 rfl) ?_
      refine r_getr (pc := 67) X fX18_15 k18 q4251 (dl_at t_X18_putRow 33 rfl) ?_
      refine r_getr (pc := 70) X fX25_12 k21 q3780 (dl_at t_X18_putRow 34 rfl) ?_
      refine g_iload (pc := 73) X (i := 8) (q := 0) (x := x8_49) rfl (dl_at t_X18_putRow 35 rfl) ?_
      refine g_gd fun k75 => ?_
      refine g_iald (pc := 75) X r8_49 k75 (dl_at t_X18_putRow 36 rfl) fun g75 => ?_
      refine g_iconst (pc := 76) X (n := 2) (dl_at t_X18_putRow 37 rfl) ?_
      refine r_callRi (pc := 77) X (fun _ hv => s_X24_of k24 g75 (r32_c rfl) hv) cw_code q4704 q378 (in_Vk X (As := [iv (h_15 (h_15 (h_15 a0 15) 12) x8_49), iv 2]) kX24 k24 (Or.inl q5148) q4702 q4703 cw_code q4704 ⟨by decide, by decide⟩ rfl (dl_at t_X18_putRow 38 rfl)) (dl_at t_X18_putRow 38 rfl) (cat24 (st := []) (Nat.le_of_ble_eq_true rfl)) (Nat.le_of_ble_eq_true rfl) (Nat.le_of_ble_eq_true rfl) fun v77 g77 => ?_
      refine g_istoreN (pc := 80) X (i := 9) (x := v77) (b := 8) (w := iv x8_49) (rest := [(7, iv x7_15), (0, rv D a0), (1, jv a1), (3, jv a3), (6, iv x6_10)]) (Nat.le_of_ble_eq_true rfl) [0, 1, 2, 3, 4, 5] rfl (by decide) rfl rfl (dl_at t_X18_putRow 39 rfl) ?_
      refine g_iconst (pc := 82) X (n := 0) (dl_at t_X18_putRow 40 rfl) ?_
      refine g_ltz (Or.inl rfl) fun x10_83 r10_83 => ?_
      refine g_istoreN (pc := 83) X (i := 10) (x := x10_83) (b := 9) (w := iv v77) (rest := [(8, iv x8_49), (7, iv x7_15), (0, rv D a0), (1, jv a1), (3, jv a3), (6, iv x6_10)]) (Nat.le_of_ble_eq_true rfl) [0, 1, 2, 3, 4, 5, 6] rfl (by decide) rfl rfl (dl_at t_X18_putRow 41 rfl) ?_
      refine g_ls (ls2 := [(0, rv D a0), (1, jv a1), (3, jv a3), (6, iv x6_10), (7, iv x7_15), (8, iv x8_49), (9, iv v77), (10, iv x10_83)]) [4, 5, 6, 7, 3, 2, 1, 0] rfl ?_
      refine g_loop1 (fun (q : Int × Hp) => [(0, rv D a0), (1, jv a1), (3, jv a3), (6, iv x6_10), (7, iv x7_15), (8, iv x8_49), (9, iv v77), (10, iv q.1)]) (fun (q : Int × Hp) => q.2) (fun (q : Int × Hp) => r32 q.1 ∧ Ext h_15 q.2) 124 (fun (y124 : Hp) => [(0, rv D a0), (1, jv a1), (3, jv a3), (6, iv x6_10), (7, iv x7_15)]) (fun (y124 : Hp) => y124) (fun (y124 : Hp) => Ext h_15 y124) (x10_83, h_15) ⟨(r32_z r10_83), (Ext.refl _)⟩ ?_ ?_
      · rintro ⟨x10_85, h_85⟩ ⟨r10_85, E_85⟩
        try dsimp only
        unfold m_X18_putRow_l85
        refine g_iload (pc := 85) X (i := 10) (q := 7) (x := x10_85) rfl (dl_at t_X18_putRow 42 rfl) ?_
        refine g_aload_n (pc := 87) X (j := 0) (i := 0) (q := 0) (x := a0) rfl rfl (dl_at t_X18_putRow 43 rfl) ?_
        have k88 := kx E_85 (by decide) k18
        refine r_getr (pc := 88) X fX18_15 k88 q4251 (dl_at t_X18_putRow 44 rfl) ?_
        refine g_gd fun k91 => ?_
        refine r_getr (pc := 91) X fX25_17 k91 q3787 (dl_at t_X18_putRow 45 rfl) ?_
        refine g_iload (pc := 94) X (i := 8) (q := 5) (x := x8_49) rfl (dl_at t_X18_putRow 46 rfl) ?_
        refine g_gd fun k96 => ?_
        refine g_iald (pc := 96) X r8_49 k96 (dl_at t_X18_putRow 47 rfl) fun g96 => ?_
        refine g_icmpge (pc := 97) X r10_85 g96 (off := 27) (tgt := 124) rfl (dl_at t_X18_putRow 48 rfl) (fun _ => ?_) (fun _ => ?_)
        · refine g_ls (ls2 := [(0, rv D a0), (1, jv a1), (3, jv a3), (6, iv x6_10), (7, iv x7_15)]) [0, 1, 2, 3, 4] rfl ?_
          exact g_at fun Q hQ => hQ E_85
        refine g_aload_n (pc := 100) X (j := 0) (i := 0) (q := 0) (x := a0) rfl rfl (dl_at t_X18_putRow 49 rfl) ?_
        refine g_lload_n (pc := 101) X (j := 1) (i := 1) (q := 1) (x := a1) rfl rfl (dl_at t_X18_putRow 50 rfl) ?_
        refine g_iload (pc := 102) X (i := 10) (q := 7) (x := x10_85) rfl (dl_at t_X18_putRow 51 rfl) ?_
        refine g_i2l (pc := 104) X r10_85 (dl_at t_X18_putRow 52 rfl) ?_
        refine g_iload (pc := 105) X (i := 9) (q := 6) (x := v77) rfl (dl_at t_X18_putRow 53 rfl) ?_
        refine g_i2l (pc := 107) X g77 (dl_at t_X18_putRow 54 rfl) ?_
        refine g_lmul (pc := 108) X (r64_of r10_85) (r64_of g77) (dl_at t_X18_putRow 55 rfl) ?_
        refine g_ladd (pc := 109) X r1 (r64_w _) (dl_at t_X18_putRow 56 rfl) ?_
        refine g_lload_n (pc := 110) X (j := 3) (i := 3) (q := 2) (x := a3) rfl rfl (dl_at t_X18_putRow 57 rfl) ?_
        refine g_iload (pc := 111) X (i := 8) (q := 5) (x := x8_49) rfl (dl_at t_X18_putRow 58 rfl) ?_
        refine g_iload (pc := 113) X (i := 10) (q := 7) (x := x10_85) rfl (dl_at t_X18_putRow 59 rfl) ?_
        refine r_callV (pc := 115) X (fun _ hv => s_X18_putLine k88 (r64_w _) r3 r8_49 r10_85 hv) cw_code q5237 q372 (in_Vk X (As := [jv (w64 (a1 + (w64 (x10_85 * v77)))), jv a3, iv x8_49, iv x10_85]) kX18 k88 (Or.inl q5234) q5236 qs353 cw_code q5237 ⟨by decide, by decide⟩ rfl (dl_at t_X18_putRow 60 rfl)) (dl_at t_X18_putRow 60 rfl) (cat24 (st := []) (Nat.le_of_ble_eq_true rfl)) (Nat.le_of_ble_eq_true rfl) (Nat.le_of_ble_eq_true rfl) fun h115 E115 => ?_
        refine r_iincN (pc := 118) X (i := 10) (q := 7) (n := 1) (x := x10_85) (b := 9) (w := iv v77) (rest := [(0, rv D a0), (1, jv a1), (3, jv a3), (6, iv x6_10), (7, iv x7_15), (8, iv x8_49)]) rfl r10_85 (r32_c rfl) (Nat.le_of_ble_eq_true rfl) [6, 0, 1, 2, 3, 4, 5] rfl (by decide) rfl rfl (dl_at t_X18_putRow 61 rfl) fun x10_118 r10_118 => ?_
        refine g_goto (pc := 121) X (off := (-36)) (tgt := 85) rfl (dl_at t_X18_putRow 62 rfl) ?_
        refine g_ls (ls2 := [(0, rv D a0), (1, jv a1), (3, jv a3), (6, iv x6_10), (7, iv x7_15), (8, iv x8_49), (9, iv v77), (10, iv x10_118)]) [2, 3, 4, 5, 6, 7, 1, 0] rfl ?_
        exact g_at fun Q hQ => hQ ⟨r10_118, (E_85.trans E115)⟩
      · rintro h_124_1 E_124_1
        try dsimp only [sE]
        exact J124 h_124_1 E_124_1
    refine g_goto (pc := 56) X (off := 68) (tgt := 124) rfl (dl_at t_X18_putRow 28 rfl) ?_
    refine g_ls (ls2 := [(0, rv D a0), (1, jv a1), (3, jv a3), (6, iv x6_10), (7, iv x7_15)]) [2, 3, 4, 5, 1] rfl ?_
    exact J124 h_15 (Ext.refl _)
def k_X18_putColumn : List (Nat × Instr × Nat) := [(0, .iload_n 1, 1), (1, .aload_n 0, 1), (2, .getfield 70, 3), (5, .getfield 321, 3), (8, .getfield 405, 3), (11, .iconst 2, 1), (12, .iaload, 1), (13, .irem, 1), (14, .i2l, 1), (15, .aload_n 0, 1), (16, .getfield 70, 3), (19, .getfield 321, 3), (22, .getfield 405, 3), (25, .iconst 0, 1), (26, .iaload, 1), (27, .aload_n 0, 1), (28, .getfield 70, 3), (31, .getfield 321, 3), (34, .getfield 405, 3), (37, .iconst 3, 1), (38, .iaload, 1), (39, .iadd, 1), (40, .i2l, 1), (41, .lmul, 1), (42, .lstore_n 2, 1), (43, .iconst 0, 1), (44, .istore 4, 2), (46, .iload 4, 2), (48, .aload_n 0, 1), (49, .getfield 70, 3), (52, .getfield 230, 3), (55, .if_icmp .ge 58, 3), (58, .aload_n 0, 1), (59, .getfield 70, 3), (62, .getfield 358, 3), (65, .iload 4, 2), (67, .iaload, 1), (68, .iload_n 1, 1), (69, .if_icmp .eq 6, 3), (72, .goto 35, 3), (75, .aload_n 0, 1), (76, .aload_n 0, 1), (77, .getfield 70, 3), (80, .getfield 361, 3), (83, .iload 4, 2), (85, .laload, 1), (86, .invokevirtual 373, 3), (89, .aload_n 0, 1), (90, .bipush 32, 2), (92, .invokevirtual 370, 3), (95, .aload_n 0, 1), (96, .bipush 61, 2), (98, .invokevirtual 370, 3), (101, .aload_n 0, 1), (102, .bipush 10, 2), (104, .invokevirtual 370, 3), (107, .iinc 4 1, 3), (110, .goto (-64), 3), (113, .iconst 0, 1), (114, .istore 4, 2), (116, .iload 4, 2), (118, .aload_n 0, 1), (119, .getfield 70, 3), (122, .getfield 221, 3), (125, .if_icmp .ge 94, 3), (128, .aload_n 0, 1), (129, .getfield 70, 3), (132, .getfield 248, 3), (135, .iload 4, 2), (137, .iaload, 1), (138, .iload_n 1, 1), (139, .if_icmp .eq 6, 3), (142, .goto 71, 3), (145, .aload_n 0, 1), (146, .getfield 70, 3), (149, .getfield 273, 3), (152, .iload 4, 2), (154, .iaload, 1), (155, .ifCond .lt 23, 3), (158, .aload_n 0, 1), (159, .aload_n 0, 1), (160, .getfield 70, 3), (163, .getfield 251, 3), (166, .iload 4, 2), (168, .laload, 1), (169, .lload_n 2, 1), (170, .iload 4, 2), (172, .invokevirtual 408, 3), (175, .goto 38, 3), (178, .aload_n 0, 1), (179, .aload_n 0, 1), (180, .getfield 70, 3), (183, .getfield 251, 3), (186, .iload 4, 2), (188, .laload, 1), (189, .lload_n 2, 1), (190, .aload_n 0, 1), (191, .getfield 70, 3), (194, .getfield 242, 3), (197, .iload 4, 2), (199, .iaload, 1), (200, .aload_n 0, 1), (201, .getfield 70, 3), (204, .getfield 245, 3), (207, .iload 4, 2), (209, .iaload, 1), (210, .invokevirtual 401, 3), (213, .iinc 4 1, 3), (216, .goto (-100), 3), (219, .iconst 0, 1), (220, .istore 4, 2), (222, .iload 4, 2), (224, .aload_n 0, 1), (225, .getfield 70, 3), (228, .getfield 412, 3), (231, .if_icmp .ge 144, 3), (234, .aload_n 0, 1), (235, .getfield 70, 3), (238, .getfield 415, 3), (241, .iload 4, 2), (243, .iaload, 1), (244, .iload_n 1, 1), (245, .if_icmp .eq 6, 3), (248, .goto 121, 3), (251, .aload_n 0, 1), (252, .getfield 70, 3), (255, .getfield 418, 3), (258, .iload 4, 2), (260, .iaload, 1), (261, .istore 5, 2), (263, .aload_n 0, 1), (264, .getfield 70, 3), (267, .getfield 340, 3), (270, .iload 5, 2), (272, .iaload, 1), (273, .istore 6, 2), (275, .aload_n 0, 1), (276, .getfield 70, 3), (279, .getfield 321, 3), (282, .aload_n 0, 1), (283, .getfield 70, 3), (286, .getfield 334, 3), (289, .iload 5, 2), (291, .iaload, 1), (292, .iconst 2, 1), (293, .invokevirtual 209, 3), (296, .istore 7, 2), (298, .aload_n 0, 1), (299, .getfield 70, 3), (302, .getfield 421, 3), (305, .iload 4, 2), (307, .iaload, 1), (308, .istore 8, 2), (310, .iload 8, 2), (312, .aload_n 0, 1), (313, .getfield 70, 3), (316, .getfield 424, 3), (319, .iload 4, 2), (321, .iaload, 1), (322, .if_icmp .ge 47, 3), (325, .aload_n 0, 1), (326, .aload_n 0, 1), (327, .getfield 70, 3), (330, .getfield 427, 3), (333, .iload 4, 2), (335, .laload, 1), (336, .iload 8, 2), (338, .aload_n 0, 1), (339, .getfield 70, 3), (342, .getfield 421, 3), (345, .iload 4, 2), (347, .iaload, 1), (348, .isub, 1), (349, .i2l, 1), (350, .iload 7, 2), (352, .i2l, 1), (353, .lmul, 1), (354, .ladd, 1), (355, .lload_n 2, 1), (356, .iload 6, 2), (358, .iload 8, 2), (360, .invokevirtual 401, 3), (363, .iinc 8 1, 3), (366, .goto (-56), 3), (369, .iinc 4 1, 3), (372, .goto (-150), 3), (375, .return_, 1)]
theorem t_X18_putColumn : ∀ q ∈ k_X18_putColumn, decode cX18_putColumn q.1 = .ok q.2 := dl_all (by decide +kernel)
noncomputable def m_X18_putColumn_j107 (x4_46 : Int) (h_107 : Hp) : Option ((Int × Hp) ⊕ ((Hp))) :=
  lt_ (w32 (x4_46 + 1)) fun x4_107 =>
  some (.inl (x4_107, h_107))
noncomputable def m_X18_putColumn_l46 (a0 a1 x4_46 : Int) (h_46 : Hp) : Option ((Int × Hp) ⊕ ((Hp))) :=
  gd (h_46 (h_46 a0 15) (-2) = 416) (if (h_46 (h_46 a0 15) 54) ≤ x4_46 then (some (.inr h_46))
  else (gd (h_46 (h_46 (h_46 a0 15) 62) (-2) % 16 = 1 ∧ (0 : Int) ≤ x4_46 ∧ x4_46 < h_46 (h_46 (h_46 a0 15) 62) (-1)) (if (h_46 (h_46 (h_46 a0 15) 62) x4_46) = a1 then (gd (h_46 (h_46 (h_46 a0 15) 64) (-2) % 16 = 4 ∧ (0 : Int) ≤ x4_46 ∧ x4_46 < h_46 (h_46 (h_46 a0 15) 64) (-1)) ((m_X18_putNumber 24 a0 (h_46 (h_46 (h_46 a0 15) 64) x4_46) h_46).bind fun h86 =>
  (m_X18_put a0 32 h86).bind fun h92 =>
  (m_X18_put a0 61 h92).bind fun h98 =>
  (m_X18_put a0 10 h98).bind fun h104 =>
  m_X18_putColumn_j107 x4_46 h104))
  else (m_X18_putColumn_j107 x4_46 h_46))))
noncomputable def m_X18_putColumn_j213 (x4_116 : Int) (h_213 : Hp) : Option ((Int × Hp) ⊕ ((Hp))) :=
  lt_ (w32 (x4_116 + 1)) fun x4_213 =>
  some (.inl (x4_213, h_213))
noncomputable def m_X18_putColumn_l116 (a0 a1 x2_42 x4_116 : Int) (h_116 : Hp) : Option ((Int × Hp) ⊕ ((Hp))) :=
  gd (h_116 (h_116 a0 15) (-2) = 416) (if (h_116 (h_116 a0 15) 42) ≤ x4_116 then (some (.inr h_116))
  else (gd (h_116 (h_116 (h_116 a0 15) 49) (-2) % 16 = 1 ∧ (0 : Int) ≤ x4_116 ∧ x4_116 < h_116 (h_116 (h_116 a0 15) 49) (-1)) (if (h_116 (h_116 (h_116 a0 15) 49) x4_116) = a1 then (gd (h_116 (h_116 (h_116 a0 15) 45) (-2) % 16 = 1 ∧ (0 : Int) ≤ x4_116 ∧ x4_116 < h_116 (h_116 (h_116 a0 15) 45) (-1)) (if (h_116 (h_116 (h_116 a0 15) 45) x4_116) < 0 then (gd (h_116 (h_116 (h_116 a0 15) 52) (-2) % 16 = 4 ∧ (0 : Int) ≤ x4_116 ∧ x4_116 < h_116 (h_116 (h_116 a0 15) 52) (-1)) (gd (h_116 (h_116 (h_116 a0 15) 43) (-2) % 16 = 1 ∧ (0 : Int) ≤ x4_116 ∧ x4_116 < h_116 (h_116 (h_116 a0 15) 43) (-1)) (gd (h_116 (h_116 (h_116 a0 15) 44) (-2) % 16 = 1 ∧ (0 : Int) ≤ x4_116 ∧ x4_116 < h_116 (h_116 (h_116 a0 15) 44) (-1)) ((m_X18_putLine a0 (h_116 (h_116 (h_116 a0 15) 52) x4_116) x2_42 (h_116 (h_116 (h_116 a0 15) 43) x4_116) (h_116 (h_116 (h_116 a0 15) 44) x4_116) h_116).bind fun h210 =>
  m_X18_putColumn_j213 x4_116 h210))))
  else (gd (h_116 (h_116 (h_116 a0 15) 52) (-2) % 16 = 4 ∧ (0 : Int) ≤ x4_116 ∧ x4_116 < h_116 (h_116 (h_116 a0 15) 52) (-1)) ((m_X18_putRow a0 (h_116 (h_116 (h_116 a0 15) 52) x4_116) x2_42 x4_116 h_116).bind fun h172 =>
  m_X18_putColumn_j213 x4_116 h172))))
  else (m_X18_putColumn_j213 x4_116 h_116))))
noncomputable def m_X18_putColumn_j369 (x4_222 : Int) (h_369 : Hp) : Option ((Int × Hp) ⊕ ((Hp))) :=
  lt_ (w32 (x4_222 + 1)) fun x4_369 =>
  some (.inl (x4_369, h_369))
noncomputable def m_X18_putColumn_l310 (a0 x2_42 x4_222 x6_273 v293 x8_310 : Int) (h_310 : Hp) : Option ((Int × Hp) ⊕ ((Hp))) :=
  gd (h_310 (h_310 a0 15) (-2) = 416) (gd (h_310 (h_310 (h_310 a0 15) 91) (-2) % 16 = 1 ∧ (0 : Int) ≤ x4_222 ∧ x4_222 < h_310 (h_310 (h_310 a0 15) 91) (-1)) (if (h_310 (h_310 (h_310 a0 15) 91) x4_222) ≤ x8_310 then (some (.inr h_310))
  else (gd (h_310 (h_310 (h_310 a0 15) 93) (-2) % 16 = 4 ∧ (0 : Int) ≤ x4_222 ∧ x4_222 < h_310 (h_310 (h_310 a0 15) 93) (-1)) (gd (h_310 (h_310 (h_310 a0 15) 90) (-2) % 16 = 1 ∧ (0 : Int) ≤ x4_222 ∧ x4_222 < h_310 (h_310 (h_310 a0 15) 90) (-1)) ((m_X18_putLine a0 (w64 ((h_310 (h_310 (h_310 a0 15) 93) x4_222) + (w64 ((w32 (x8_310 - (h_310 (h_310 (h_310 a0 15) 90) x4_222))) * v293)))) x2_42 x6_273 x8_310 h_310).bind fun h360 =>
  lt_ (w32 (x8_310 + 1)) fun x8_363 =>
  some (.inl (x8_363, h360)))))))
noncomputable def m_X18_putColumn_l222 (a0 a1 x2_42 x4_222 : Int) (h_222 : Hp) : Option ((Int × Hp) ⊕ ((Hp))) :=
  gd (h_222 (h_222 a0 15) (-2) = 416) (if (h_222 (h_222 a0 15) 88) ≤ x4_222 then (some (.inr h_222))
  else (gd (h_222 (h_222 (h_222 a0 15) 92) (-2) % 16 = 1 ∧ (0 : Int) ≤ x4_222 ∧ x4_222 < h_222 (h_222 (h_222 a0 15) 92) (-1)) (if (h_222 (h_222 (h_222 a0 15) 92) x4_222) = a1 then (gd (h_222 (h_222 (h_222 a0 15) 89) (-2) % 16 = 1 ∧ (0 : Int) ≤ x4_222 ∧ x4_222 < h_222 (h_222 (h_222 a0 15) 89) (-1)) (lt_ (h_222 (h_222 (h_222 a0 15) 89) x4_222) fun x5_261 =>
  gd (h_222 (h_222 (h_222 a0 15) 57) (-2) % 16 = 1 ∧ (0 : Int) ≤ x5_261 ∧ x5_261 < h_222 (h_222 (h_222 a0 15) 57) (-1)) (lt_ (h_222 (h_222 (h_222 a0 15) 57) x5_261) fun x6_273 =>
  gd (h_222 (h_222 (h_222 a0 15) 55) (-2) % 16 = 1 ∧ (0 : Int) ≤ x5_261 ∧ x5_261 < h_222 (h_222 (h_222 a0 15) 55) (-1)) (gd (h_222 (h_222 (h_222 a0 15) 0) (-2) = 400) ((m_X24_of (h_222 (h_222 a0 15) 0) (h_222 (h_222 (h_222 a0 15) 55) x5_261) 2 h_222).bind fun v293 =>
  gd (h_222 (h_222 (h_222 a0 15) 90) (-2) % 16 = 1 ∧ (0 : Int) ≤ x4_222 ∧ x4_222 < h_222 (h_222 (h_222 a0 15) 90) (-1)) (lt_ (h_222 (h_222 (h_222 a0 15) 90) x4_222) fun x8_308 =>
  (lp (fun (q : Int × Hp) => m_X18_putColumn_l310 a0 x2_42 x4_222 x6_273 v293 q.1 q.2) (x8_308, h_222)).bind (fun (y369 : Hp) => m_X18_putColumn_j369 x4_222 y369)))))))
  else (m_X18_putColumn_j369 x4_222 h_222))))
noncomputable def m_X18_putColumn (a0 a1 : Int) (h : Hp) : Option (Hp) :=
  gd (h (h a0 15) (-2) = 416) (gd (h (h (h a0 15) 0) (-2) = 400) (gd (h (h (h (h a0 15) 0) 2) (-2) % 16 = 1 ∧ (0 : Int) ≤ 2 ∧ 2 < h (h (h (h a0 15) 0) 2) (-1)) (gd ((h (h (h (h a0 15) 0) 2) 2) ≠ 0) (gd (h (h (h (h a0 15) 0) 2) (-2) % 16 = 1 ∧ (0 : Int) ≤ 0 ∧ 0 < h (h (h (h a0 15) 0) 2) (-1)) (gd (h (h (h (h a0 15) 0) 2) (-2) % 16 = 1 ∧ (0 : Int) ≤ 3 ∧ 3 < h (h (h (h a0 15) 0) 2) (-1)) (lt_ (w64 ((Int.tmod a1 (h (h (h (h a0 15) 0) 2) 2)) * (w32 ((h (h (h (h a0 15) 0) 2) 0) + (h (h (h (h a0 15) 0) 2) 3))))) fun x2_42 =>
  lt_ 0 fun x4_44 =>
  (lp (fun (q : Int × Hp) => m_X18_putColumn_l46 a0 a1 q.1 q.2) (x4_44, h)).bind (fun (y113 : Hp) => lt_ 0 fun x4_114 =>
  (lp (fun (q : Int × Hp) => m_X18_putColumn_l116 a0 a1 x2_42 q.1 q.2) (x4_114, y113)).bind (fun (y219 : Hp) => lt_ 0 fun x4_220 =>
  (lp (fun (q : Int × Hp) => m_X18_putColumn_l222 a0 a1 x2_42 q.1 q.2) (x4_220, y219)).bind (fun (x : Hp) => some x)))))))))
theorem s_X18_putColumn {l : Launch} [NoTr l] {D : SD} {a0 a1 : Int} {h : Hp} (hk : h a0 (-2) = 304) (r1 : r32 a1) {r : Hp} (hm : m_X18_putColumn a0 a1 h = some r) : Sim l D yX18_putColumn (Cond.code yX18_putColumn cX18_putColumn 9 (Option.none : Option Jvm.ClassFile.FieldType)) 28 1078 [rv D a0, iv a1] h 0 ((0, 0), r) := by
  refine Sim.of (fin := fun (v : Hp) => ((0, 0), v)) (lsE := [(0, rv D a0), (1, iv a1)]) hm rfl cwS_code (la_r (la_i la_n)) (ll_r (ll_i ll_n)) ?_
  intro p e s m below meth c X hcw hmm hcc hnm hname
  unfold m_X18_putColumn
  refine g_iload_n (pc := 0) X (j := 1) (i := 1) (q := 1) (x := a1) rfl rfl (dl_at t_X18_putColumn 0 rfl) ?_
  refine g_aload_n (pc := 1) X (j := 0) (i := 0) (q := 0) (x := a0) rfl rfl (dl_at t_X18_putColumn 1 rfl) ?_
  refine r_getr (pc := 2) X fX18_15 hk q4251 (dl_at t_X18_putColumn 2 rfl) ?_
  refine g_gd fun k5 => ?_
  refine r_getr (pc := 5) X fX25_0 k5 q3762 (dl_at t_X18_putColumn 3 rfl) ?_
  refine g_gd fun k8 => ?_
  refine r_getr (pc := 8) X fX24_2 k8 q3648 (dl_at t_X18_putColumn 4 rfl) ?_
  refine g_iconst (pc := 11) X (n := 2) (dl_at t_X18_putColumn 5 rfl) ?_
  refine g_gd fun k12 => ?_
  refine g_iald (pc := 12) X (r32_c rfl) k12 (dl_at t_X18_putColumn 6 rfl) fun g12 => ?_
  refine g_gd fun z13 => ?_
  refine g_irem (pc := 13) X r1 g12 z13 (dl_at t_X18_putColumn 7 rfl) ?_
  refine g_i2l (pc := 14) X (r32_tmod r1) (dl_at t_X18_putColumn 8 rfl) ?_
  refine g_aload_n (pc := 15) X (j := 0) (i := 0) (q := 0) (x := a0) rfl rfl (dl_at t_X18_putColumn 9 rfl) ?_
  refine r_getr (pc := 16) X fX18_15 hk q4251 (dl_at t_X18_putColumn 10 rfl) ?_
  refine r_getr (pc := 19) X fX25_0 k5 q3762 (dl_at t_X18_putColumn 11 rfl) ?_
  refine r_getr (pc := 22) X fX24_2 k8 q3648 (dl_at t_X18_putColumn 12 rfl) ?_
  refine g_iconst (pc := 25) X (n := 0) (dl_at t_X18_putColumn 13 rfl) ?_
  refine g_gd fun k26 => ?_
  refine g_iald (pc := 26) X (r32_c rfl) k26 (dl_at t_X18_putColumn 14 rfl) fun g26 => ?_
  refine g_aload_n (pc := 27) X (j := 0) (i := 0) (q := 0) (x := a0) rfl rfl (dl_at t_X18_putColumn 15 rfl) ?_
  refine r_getr (pc := 28) X fX18_15 hk q4251 (dl_at t_X18_putColumn 16 rfl) ?_
  refine r_getr (pc := 31) X fX25_0 k5 q3762 (dl_at t_X18_putColumn 17 rfl) ?_
  refine r_getr (pc := 34) X fX24_2 k8 q3648 (dl_at t_X18_putColumn 18 rfl) ?_
  refine g_iconst (pc := 37) X (n := 3) (dl_at t_X18_putColumn 19 rfl) ?_
  refine g_gd fun k38 => ?_
  refine g_iald (pc := 38) X (r32_c rfl) k38 (dl_at t_X18_putColumn 20 rfl) fun g38 => ?_
  refine g_iadd (pc := 39) X g26 g38 (dl_at t_X18_putColumn 21 rfl) ?_
  refine g_i2l (pc := 40) X (r32_w _) (dl_at t_X18_putColumn 22 rfl) ?_
  refine g_lmul (pc := 41) X (r64_of (r32_tmod r1)) (r64_of (r32_w _)) (dl_at t_X18_putColumn 23 rfl) ?_
  refine g_ltl (r64_w _) fun x2_42 r2_42 => ?_
  refine g_lstore_nN (pc := 42) X (j := 2) (i := 2) (x := x2_42) (b := 1) (w := iv a1) (rest := [(0, rv D a0)]) rfl (Nat.le_of_ble_eq_true rfl) [1, 0] rfl (by decide) (by decide) rfl rfl (dl_at t_X18_putColumn 24 rfl) ?_
  refine g_iconst (pc := 43) X (n := 0) (dl_at t_X18_putColumn 25 rfl) ?_
  refine g_ltz (Or.inl rfl) fun x4_44 r4_44 => ?_
  refine g_istore (pc := 44) X (i := 4) (x := x4_44) (rest := [(2, jv x2_42), (1, iv a1), (0, rv D a0)]) (Nat.le_of_ble_eq_true rfl) [0, 1, 2] rfl rfl (dl_at t_X18_putColumn 26 rfl) ?_
  refine g_ls (ls2 := [(0, rv D a0), (1, iv a1), (2, jv x2_42), (4, iv x4_44)]) [3, 2, 1, 0] rfl ?_
  refine g_loop1 (fun (q : Int × Hp) => [(0, rv D a0), (1, iv a1), (2, jv x2_42), (4, iv q.1)]) (fun (q : Int × Hp) => q.2) (fun (q : Int × Hp) => r32 q.1 ∧ Ext h q.2) 113 (fun (y113 : Hp) => [(0, rv D a0), (1, iv a1), (2, jv x2_42)]) (fun (y113 : Hp) => y113) (fun (y113 : Hp) => Ext h y113) (x4_44, h) ⟨(r32_z r4_44), (Ext.refl _)⟩ ?_ ?_
  · rintro ⟨x4_46, h_46⟩ ⟨r4_46, E_46⟩
    try dsimp only
    unfold m_X18_putColumn_l46
    refine g_iload (pc := 46) X (i := 4) (q := 3) (x := x4_46) rfl (dl_at t_X18_putColumn 27 rfl) ?_
    refine g_aload_n (pc := 48) X (j := 0) (i := 0) (q := 0) (x := a0) rfl rfl (dl_at t_X18_putColumn 28 rfl) ?_
    have k49 := kx E_46 (by decide) hk
    refine r_getr (pc := 49) X fX18_15 k49 q4251 (dl_at t_X18_putColumn 29 rfl) ?_
    refine g_gd fun k52 => ?_
    refine r_geti (pc := 52) X fX25_54 k52 q3841 (dl_at t_X18_putColumn 30 rfl) fun g52 => ?_
    refine g_icmpge (pc := 55) X r4_46 g52 (off := 58) (tgt := 113) rfl (dl_at t_X18_putColumn 31 rfl) (fun _ => ?_) (fun _ => ?_)
    · refine g_ls (ls2 := [(0, rv D a0), (1, iv a1), (2, jv x2_42)]) [0, 1, 2] rfl ?_
      exact g_at fun Q hQ => hQ E_46
    refine g_aload_n (pc := 58) X (j := 0) (i := 0) (q := 0) (x := a0) rfl rfl (dl_at t_X18_putColumn 32 rfl) ?_
    refine r_getr (pc := 59) X fX18_15 k49 q4251 (dl_at t_X18_putColumn 33 rfl) ?_
    refine r_getr (pc := 62) X fX25_62 k52 q3857 (dl_at t_X18_putColumn 34 rfl) ?_
    refine g_iload (pc := 65) X (i := 4) (q := 3) (x := x4_46) rfl (dl_at t_X18_putColumn 35 rfl) ?_
    refine g_gd fun k67 => ?_
    refine g_iald (pc := 67) X r4_46 k67 (dl_at t_X18_putColumn 36 rfl) fun g67 => ?_
    refine g_iload_n (pc := 68) X (j := 1) (i := 1) (q := 1) (x := a1) rfl rfl (dl_at t_X18_putColumn 37 rfl) ?_
    refine g_join (γ := Hp) (fun q => Ext h_46 q) 107 (fun q => [(0, rv D a0), (1, iv a1), (2, jv x2_42), (4, iv x4_46)]) (fun q => []) (fun q => q) (fun q => m_X18_putColumn_j107 x4_46 q) ?_ ?_
    · rintro h_107 E_107
      try dsimp only
      unfold m_X18_putColumn_j107
      refine r_iinc (pc := 107) X (i := 4) (q := 3) (n := 1) (x := x4_46) (rest := [(0, rv D a0), (1, iv a1), (2, jv x2_42)]) rfl r4_46 (r32_c rfl) (Nat.le_of_ble_eq_true rfl) [0, 1, 2] rfl rfl (dl_at t_X18_putColumn 56 rfl) fun x4_107 r4_107 => ?_
      refine g_goto (pc := 110) X (off := (-64)) (tgt := 46) rfl (dl_at t_X18_putColumn 57 rfl) ?_
      refine g_ls (ls2 := [(0, rv D a0), (1, iv a1), (2, jv x2_42), (4, iv x4_107)]) [1, 2, 3, 0] rfl ?_
      exact g_at fun Q hQ => hQ ⟨r4_107, (E_46.trans E_107)⟩
    intro J107
    refine g_icmpeq (pc := 69) X g67 r1 (off := 6) (tgt := 75) rfl (dl_at t_X18_putColumn 38 rfl) (fun _ => ?_) (fun _ => ?_)
    · refine g_aload_n (pc := 75) X (j := 0) (i := 0) (q := 0) (x := a0) rfl rfl (dl_at t_X18_putColumn 40 rfl) ?_
      refine g_aload_n (pc := 76) X (j := 0) (i := 0) (q := 0) (x := a0) rfl rfl (dl_at t_X18_putColumn 41 rfl) ?_
      refine r_getr (pc := 77) X fX18_15 k49 q4251 (dl_at t_X18_putColumn 42 rfl) ?_
      refine r_getr (pc := 80) X fX25_64 k52 q3861 (dl_at t_X18_putColumn 43 rfl) ?_
      refine g_iload (pc := 83) X (i := 4) (q := 3) (x := x4_46) rfl (dl_at t_X18_putColumn 44 rfl) ?_
      refine g_gd fun k85 => ?_
      refine g_lald (pc := 85) X r4_46 k85 (dl_at t_X18_putColumn 45 rfl) fun g85 => ?_
      refine r_callV (pc := 86) X (fun _ hv => s_X18_putNumber (d := 24) k49 g85 hv) cw_code q5213 q372 (in_Vk X (As := [jv (h_46 (h_46 (h_46 a0 15) 64) x4_46)]) kX18 k49 (Or.inl q5210) q5212 qs349 cw_code q5213 ⟨by decide, by decide⟩ rfl (dl_at t_X18_putColumn 46 rfl)) (dl_at t_X18_putColumn 46 rfl) (cat24 (st := []) (Nat.le_of_ble_eq_true rfl)) (Nat.le_of_ble_eq_true rfl) (Nat.le_of_ble_eq_true rfl) fun h86 E86 => ?_
      refine g_aload_n (pc := 89) X (j := 0) (i := 0) (q := 0) (x := a0) rfl rfl (dl_at t_X18_putColumn 47 rfl) ?_
      refine g_bipush (pc := 90) X (n := 32) rfl (dl_at t_X18_putColumn 48 rfl) ?_
      have k92 := kx E86 (by decide) k49
      refine r_callV (pc := 92) X (fun _ hv => s_X18_put k92 (r32_c rfl) hv) cw_code q5217 q372 (in_Vk X (As := [iv 32]) kX18 k92 (Or.inl q5214) q5216 qs350 cw_code q5217 ⟨by decide, by decide⟩ rfl (dl_at t_X18_putColumn 49 rfl)) (dl_at t_X18_putColumn 49 rfl) (cat24 (st := []) (Nat.le_of_ble_eq_true rfl)) (Nat.le_of_ble_eq_true rfl) (Nat.le_of_ble_eq_true rfl) fun h92 E92 => ?_
      refine g_aload_n (pc := 95) X (j := 0) (i := 0) (q := 0) (x := a0) rfl rfl (dl_at t_X18_putColumn 50 rfl) ?_
      refine g_bipush (pc := 96) X (n := 61) rfl (dl_at t_X18_putColumn 51 rfl) ?_
      have k98 := kx E92 (by decide) k92
      refine r_callV (pc := 98) X (fun _ hv => s_X18_put k98 (r32_c rfl) hv) cw_code q5217 q372 (in_Vk X (As := [iv 61]) kX18 k98 (Or.inl q5214) q5216 qs350 cw_code q5217 ⟨by decide, by decide⟩ rfl (dl_at t_X18_putColumn 52 rfl)) (dl_at t_X18_putColumn 52 rfl) (cat24 (st := []) (Nat.le_of_ble_eq_true rfl)) (Nat.le_of_ble_eq_true rfl) (Nat.le_of_ble_eq_true rfl) fun h98 E98 => ?_
      refine g_aload_n (pc := 101) X (j := 0) (i := 0) (q := 0) (x := a0) rfl rfl (dl_at t_X18_putColumn 53 rfl) ?_
      refine g_bipush (pc := 102) X (n := 10) rfl (dl_at t_X18_putColumn 54 rfl) ?_
      have k104 := kx E98 (by decide) k98
      refine r_callV (pc := 104) X (fun _ hv => s_X18_put k104 (r32_c rfl) hv) cw_code q5217 q372 (in_Vk X (As := [iv 10]) kX18 k104 (Or.inl q5214) q5216 qs350 cw_code q5217 ⟨by decide, by decide⟩ rfl (dl_at t_X18_putColumn 55 rfl)) (dl_at t_X18_putColumn 55 rfl) (cat24 (st := []) (Nat.le_of_ble_eq_true rfl)) (Nat.le_of_ble_eq_true rfl) (Nat.le_of_ble_eq_true rfl) fun h104 E104 => ?_
      exact J107 h104 (E86.trans (E92.trans (E98.trans E104)))
    refine g_goto (pc := 72) X (off := 35) (tgt := 107) rfl (dl_at t_X18_putColumn 39 rfl) ?_
    exact J107 h_46 (Ext.refl _)
  · rintro h_113 E_113
    try dsimp only [sE]
    refine g_iconst (pc := 113) X (n := 0) (dl_at t_X18_putColumn 58 rfl) ?_
    refine g_ltz (Or.inl rfl) fun x4_114 r4_114 => ?_
    refine g_istore (pc := 114) X (i := 4) (x := x4_114) (rest := [(0, rv D a0), (1, iv a1), (2, jv x2_42)]) (Nat.le_of_ble_eq_true rfl) [0, 1, 2] rfl rfl (dl_at t_X18_putColumn 59 rfl) ?_
    refine g_ls (ls2 := [(0, rv D a0), (1, iv a1), (2, jv x2_42), (4, iv x4_114)]) [1, 2, 3, 0] rfl ?_
    refine g_loop1 (fun (q : Int × Hp) => [(0, rv D a0), (1, iv a1), (2, jv x2_42), (4, iv q.1)]) (fun (q : Int × Hp) => q.2) (fun (q : Int × Hp) => r32 q.1 ∧ Ext h_113 q.2) 219 (fun (y219 : Hp) => [(0, rv D a0), (1, iv a1), (2, jv x2_42)]) (fun (y219 : Hp) => y219) (fun (y219 : Hp) => Ext h_113 y219) (x4_114, h_113) ⟨(r32_z r4_114), (Ext.refl _)⟩ ?_ ?_
    · rintro ⟨x4_116, h_116⟩ ⟨r4_116, E_116⟩
      try dsimp only
      unfold m_X18_putColumn_l116
      refine g_iload (pc := 116) X (i := 4) (q := 3) (x := x4_116) rfl (dl_at t_X18_putColumn 60 rfl) ?_
      refine g_aload_n (pc := 118) X (j := 0) (i := 0) (q := 0) (x := a0) rfl rfl (dl_at t_X18_putColumn 61 rfl) ?_
      have k119 := kx (E_113.trans E_116) (by decide) hk
      refine r_getr (pc := 119) X fX18_15 k119 q4251 (dl_at t_X18_putColumn 62 rfl) ?_
      refine g_gd fun k122 => ?_
      refine r_geti (pc := 122) X fX25_42 k122 q3820 (dl_at t_X18_putColumn 63 rfl) fun g122 => ?_
      refine g_icmpge (pc := 125) X r4_116 g122 (off := 94) (tgt := 219) rfl (dl_at t_X18_putColumn 64 rfl) (fun _ => ?_) (fun _ => ?_)
      · refine g_ls (ls2 := [(0, rv D a0), (1, iv a1), (2, jv x2_42)]) [0, 1, 2] rfl ?_
        exact g_at fun Q hQ => hQ E_116
      refine g_aload_n (pc := 128) X (j := 0) (i := 0) (q := 0) (x := a0) rfl rfl (dl_at t_X18_putColumn 65 rfl) ?_
      refine r_getr (pc := 129) X fX18_15 k119 q4251 (dl_at t_X18_putColumn 66 rfl) ?_
      refine r_getr (pc := 132) X fX25_49 k122 q3833 (dl_at t_X18_putColumn 67 rfl) ?_
      refine g_iload (pc := 135) X (i := 4) (q := 3) (x := x4_116) rfl (dl_at t_X18_putColumn 68 rfl) ?_
      refine g_gd fun k137 => ?_
      refine g_iald (pc := 137) X r4_116 k137 (dl_at t_X18_putColumn 69 rfl) fun g137 => ?_
      refine g_iload_n (pc := 138) X (j := 1) (i := 1) (q := 1) (x := a1) rfl rfl (dl_at t_X18_putColumn 70 rfl) ?_
      refine g_join (γ := Hp) (fun q => Ext h_116 q) 213 (fun q => [(0, rv D a0), (1, iv a1), (2, jv x2_42), (4, iv x4_116)]) (fun q => []) (fun q => q) (fun q => m_X18_putColumn_j213 x4_116 q) ?_ ?_
      · rintro h_213 E_213
        try dsimp only
        unfold m_X18_putColumn_j213
        refine r_iinc (pc := 213) X (i := 4) (q := 3) (n := 1) (x := x4_116) (rest := [(0, rv D a0), (1, iv a1), (2, jv x2_42)]) rfl r4_116 (r32_c rfl) (Nat.le_of_ble_eq_true rfl) [0, 1, 2] rfl rfl (dl_at t_X18_putColumn 107 rfl) fun x4_213 r4_213 => ?_
        refine g_goto (pc := 216) X (off := (-100)) (tgt := 116) rfl (dl_at t_X18_putColumn 108 rfl) ?_
        refine g_ls (ls2 := [(0, rv D a0), (1, iv a1), (2, jv x2_42), (4, iv x4_213)]) [1, 2, 3, 0] rfl ?_
        exact g_at fun Q hQ => hQ ⟨r4_213, (E_116.trans E_213)⟩
      intro J213
      refine g_icmpeq (pc := 139) X g137 r1 (off := 6) (tgt := 145) rfl (dl_at t_X18_putColumn 71 rfl) (fun _ => ?_) (fun _ => ?_)
      · refine g_aload_n (pc := 145) X (j := 0) (i := 0) (q := 0) (x := a0) rfl rfl (dl_at t_X18_putColumn 73 rfl) ?_
        refine r_getr (pc := 146) X fX18_15 k119 q4251 (dl_at t_X18_putColumn 74 rfl) ?_
        refine r_getr (pc := 149) X fX25_45 k122 q3827 (dl_at t_X18_putColumn 75 rfl) ?_
        refine g_iload (pc := 152) X (i := 4) (q := 3) (x := x4_116) rfl (dl_at t_X18_putColumn 76 rfl) ?_
        refine g_gd fun k154 => ?_
        refine g_iald (pc := 154) X r4_116 k154 (dl_at t_X18_putColumn 77 rfl) fun g154 => ?_
        refine g_iflt (pc := 155) X g154 (off := 23) (tgt := 178) rfl (dl_at t_X18_putColumn 78 rfl) (fun _ => ?_) (fun _ => ?_)
        · refine g_aload_n (pc := 178) X (j := 0) (i := 0) (q := 0) (x := a0) rfl rfl (dl_at t_X18_putColumn 89 rfl) ?_
          refine g_aload_n (pc := 179) X (j := 0) (i := 0) (q := 0) (x := a0) rfl rfl (dl_at t_X18_putColumn 90 rfl) ?_
          refine r_getr (pc := 180) X fX18_15 k119 q4251 (dl_at t_X18_putColumn 91 rfl) ?_
          refine r_getr (pc := 183) X fX25_52 k122 q3837 (dl_at t_X18_putColumn 92 rfl) ?_
          refine g_iload (pc := 186) X (i := 4) (q := 3) (x := x4_116) rfl (dl_at t_X18_putColumn 93 rfl) ?_
          refine g_gd fun k188 => ?_
          refine g_lald (pc := 188) X r4_116 k188 (dl_at t_X18_putColumn 94 rfl) fun g188 => ?_
          refine g_lload_n (pc := 189) X (j := 2) (i := 2) (q := 2) (x := x2_42) rfl rfl (dl_at t_X18_putColumn 95 rfl) ?_
          refine g_aload_n (pc := 190) X (j := 0) (i := 0) (q := 0) (x := a0) rfl rfl (dl_at t_X18_putColumn 96 rfl) ?_
          refine r_getr (pc := 191) X fX18_15 k119 q4251 (dl_at t_X18_putColumn 97 rfl) ?_
          refine r_getr (pc := 194) X fX25_43 k122 q3823 (dl_at t_X18_putColumn 98 rfl) ?_
          refine g_iload (pc := 197) X (i := 4) (q := 3) (x := x4_116) rfl (dl_at t_X18_putColumn 99 rfl) ?_
          refine g_gd fun k199 => ?_
          refine g_iald (pc := 199) X r4_116 k199 (dl_at t_X18_putColumn 100 rfl) fun g199 => ?_
          refine g_aload_n (pc := 200) X (j := 0) (i := 0) (q := 0) (x := a0) rfl rfl (dl_at t_X18_putColumn 101 rfl) ?_
          refine r_getr (pc := 201) X fX18_15 k119 q4251 (dl_at t_X18_putColumn 102 rfl) ?_
          refine r_getr (pc := 204) X fX25_44 k122 q3825 (dl_at t_X18_putColumn 103 rfl) ?_
          refine g_iload (pc := 207) X (i := 4) (q := 3) (x := x4_116) rfl (dl_at t_X18_putColumn 104 rfl) ?_
          refine g_gd fun k209 => ?_
          refine g_iald (pc := 209) X r4_116 k209 (dl_at t_X18_putColumn 105 rfl) fun g209 => ?_
          refine r_callV (pc := 210) X (fun _ hv => s_X18_putLine k119 g188 r2_42 g199 g209 hv) cw_code q5237 q372 (in_Vk X (As := [jv (h_116 (h_116 (h_116 a0 15) 52) x4_116), jv x2_42, iv (h_116 (h_116 (h_116 a0 15) 43) x4_116), iv (h_116 (h_116 (h_116 a0 15) 44) x4_116)]) kX18 k119 (Or.inl q5234) q5236 qs353 cw_code q5237 ⟨by decide, by decide⟩ rfl (dl_at t_X18_putColumn 106 rfl)) (dl_at t_X18_putColumn 106 rfl) (cat24 (st := []) (Nat.le_of_ble_eq_true rfl)) (Nat.le_of_ble_eq_true rfl) (Nat.le_of_ble_eq_true rfl) fun h210 E210 => ?_
          exact J213 h210 E210
        refine g_aload_n (pc := 158) X (j := 0) (i := 0) (q := 0) (x := a0) rfl rfl (dl_at t_X18_putColumn 79 rfl) ?_
        refine g_aload_n (pc := 159) X (j := 0) (i := 0) (q := 0) (x := a0) rfl rfl (dl_at t_X18_putColumn 80 rfl) ?_
        refine r_getr (pc := 160) X fX18_15 k119 q4251 (dl_at t_X18_putColumn 81 rfl) ?_
        refine r_getr (pc := 163) X fX25_52 k122 q3837 (dl_at t_X18_putColumn 82 rfl) ?_
        refine g_iload (pc := 166) X (i := 4) (q := 3) (x := x4_116) rfl (dl_at t_X18_putColumn 83 rfl) ?_
        refine g_gd fun k168 => ?_
        refine g_lald (pc := 168) X r4_116 k168 (dl_at t_X18_putColumn 84 rfl) fun g168 => ?_
        refine g_lload_n (pc := 169) X (j := 2) (i := 2) (q := 2) (x := x2_42) rfl rfl (dl_at t_X18_putColumn 85 rfl) ?_
        refine g_iload (pc := 170) X (i := 4) (q := 3) (x := x4_116) rfl (dl_at t_X18_putColumn 86 rfl) ?_
        refine r_callV (pc := 172) X (fun _ hv => s_X18_putRow k119 g168 r2_42 r4_116 hv) cw_code q5233 q372 (in_Vk X (As := [jv (h_116 (h_116 (h_116 a0 15) 52) x4_116), jv x2_42, iv x4_116]) kX18 k119 (Or.inl q5230) q5232 qs352 cw_code q5233 ⟨by decide, by decide⟩ rfl (dl_at t_X18_putColumn 87 rfl)) (dl_at t_X18_putColumn 87 rfl) (cat24 (st := []) (Nat.le_of_ble_eq_true rfl)) (Nat.le_of_ble_eq_true rfl) (Nat.le_of_ble_eq_true rfl) fun h172 E172 => ?_
        refine g_goto (pc := 175) X (off := 38) (tgt := 213) rfl (dl_at t_X18_putColumn 88 rfl) ?_
        exact J213 h172 E172
      refine g_goto (pc := 142) X (off := 71) (tgt := 213) rfl (dl_at t_X18_putColumn 72 rfl) ?_
      exact J213 h_116 (Ext.refl _)
    · rintro h_219 E_219
      try dsimp only [sE]
      refine g_iconst (pc := 219) X (n := 0) (dl_at t_X18_putColumn 109 rfl) ?_
      refine g_ltz (Or.inl rfl) fun x4_220 r4_220 => ?_
      refine g_istore (pc := 220) X (i := 4) (x := x4_220) (rest := [(0, rv D a0), (1, iv a1), (2, jv x2_42)]) (Nat.le_of_ble_eq_true rfl) [0, 1, 2] rfl rfl (dl_at t_X18_putColumn 110 rfl) ?_
      refine g_ls (ls2 := [(0, rv D a0), (1, iv a1), (2, jv x2_42), (4, iv x4_220)]) [1, 2, 3, 0] rfl ?_
      refine g_loop0F (fun (q : Int × Hp) => [(0, rv D a0), (1, iv a1), (2, jv x2_42), (4, iv q.1)]) (fun (q : Int × Hp) => q.2) (fun (q : Int × Hp) => r32 q.1 ∧ Ext h_219 q.2) (x4_220, h_219) ⟨(r32_z r4_220), (Ext.refl _)⟩ ?_ (fun _ => rfl)
      · rintro ⟨x4_222, h_222⟩ ⟨r4_222, E_222⟩
        try dsimp only
        unfold m_X18_putColumn_l222
        refine g_iload (pc := 222) X (i := 4) (q := 3) (x := x4_222) rfl (dl_at t_X18_putColumn 111 rfl) ?_
        refine g_aload_n (pc := 224) X (j := 0) (i := 0) (q := 0) (x := a0) rfl rfl (dl_at t_X18_putColumn 112 rfl) ?_
        have k225 := kx (E_113.trans (E_219.trans E_222)) (by decide) hk
        refine r_getr (pc := 225) X fX18_15 k225 q4251 (dl_at t_X18_putColumn 113 rfl) ?_
        refine g_gd fun k228 => ?_
        refine r_geti (pc := 228) X fX25_88 k228 q3890 (dl_at t_X18_putColumn 114 rfl) fun g228 => ?_
        refine g_icmpge (pc := 231) X r4_222 g228 (off := 144) (tgt := 375) rfl (dl_at t_X18_putColumn 115 rfl) (fun _ => ?_) (fun _ => ?_)
        · exact g_at fun Q hQ => (g_vret (pc := 375) X (v := 0) rfl rfl (dl_at t_X18_putColumn 186 rfl)) _ Q rfl hQ
        refine g_aload_n (pc := 234) X (j := 0) (i := 0) (q := 0) (x := a0) rfl rfl (dl_at t_X18_putColumn 116 rfl) ?_
        refine r_getr (pc := 235) X fX18_15 k225 q4251 (dl_at t_X18_putColumn 117 rfl) ?_
        refine r_getr (pc := 238) X fX25_92 k228 q3899 (dl_at t_X18_putColumn 118 rfl) ?_
        refine g_iload (pc := 241) X (i := 4) (q := 3) (x := x4_222) rfl (dl_at t_X18_putColumn 119 rfl) ?_
        refine g_gd fun k243 => ?_
        refine g_iald (pc := 243) X r4_222 k243 (dl_at t_X18_putColumn 120 rfl) fun g243 => ?_
        refine g_iload_n (pc := 244) X (j := 1) (i := 1) (q := 1) (x := a1) rfl rfl (dl_at t_X18_putColumn 121 rfl) ?_
        refine g_join (γ := Hp) (fun q => Ext h_222 q) 369 (fun q => [(0, rv D a0), (1, iv a1), (2, jv x2_42), (4, iv x4_222)]) (fun q => []) (fun q => q) (fun q => m_X18_putColumn_j369 x4_222 q) ?_ ?_
        · rintro h_369 E_369
          try dsimp only
          unfold m_X18_putColumn_j369
          refine r_iinc (pc := 369) X (i := 4) (q := 3) (n := 1) (x := x4_222) (rest := [(0, rv D a0), (1, iv a1), (2, jv x2_42)]) rfl r4_222 (r32_c rfl) (Nat.le_of_ble_eq_true rfl) [0, 1, 2] rfl rfl (dl_at t_X18_putColumn 184 rfl) fun x4_369 r4_369 => ?_
          refine g_goto (pc := 372) X (off := (-150)) (tgt := 222) rfl (dl_at t_X18_putColumn 185 rfl) ?_
          refine g_ls (ls2 := [(0, rv D a0), (1, iv a1), (2, jv x2_42), (4, iv x4_369)]) [1, 2, 3, 0] rfl ?_
          exact g_at fun Q hQ => hQ ⟨r4_369, (E_222.trans E_369)⟩
        intro J369
        refine g_icmpeq (pc := 245) X g243 r1 (off := 6) (tgt := 251) rfl (dl_at t_X18_putColumn 122 rfl) (fun _ => ?_) (fun _ => ?_)
        · refine g_aload_n (pc := 251) X (j := 0) (i := 0) (q := 0) (x := a0) rfl rfl (dl_at t_X18_putColumn 124 rfl) ?_
          refine r_getr (pc := 252) X fX18_15 k225 q4251 (dl_at t_X18_putColumn 125 rfl) ?_
          refine r_getr (pc := 255) X fX25_89 k228 q3893 (dl_at t_X18_putColumn 126 rfl) ?_
          refine g_iload (pc := 258) X (i := 4) (q := 3) (x := x4_222) rfl (dl_at t_X18_putColumn 127 rfl) ?_
          refine g_gd fun k260 => ?_
          refine g_iald (pc := 260) X r4_222 k260 (dl_at t_X18_putColumn 128 rfl) fun g260 => ?_
          refine g_lti g260 fun x5_261 r5_261 => ?_
          refine g_istoreN (pc := 261) X (i := 5) (x := x5_261) (b := 4) (w := iv x4_222) (rest := [(0, rv D a0), (1, iv a1), (2, jv x2_42)]) (Nat.le_of_ble_eq_true rfl) [3, 0, 1, 2] rfl (by decide) rfl rfl (dl_at t_X18_putColumn 129 rfl) ?_
          refine g_aload_n (pc := 263) X (j := 0) (i := 0) (q := 2) (x := a0) rfl rfl (dl_at t_X18_putColumn 130 rfl) ?_
          refine r_getr (pc := 264) X fX18_15 k225 q4251 (dl_at t_X18_putColumn 131 rfl) ?_
          refine r_getr (pc := 267) X fX25_57 k228 q3847 (dl_at t_X18_putColumn 132 rfl) ?_
          refine g_iload (pc := 270) X (i := 5) (q := 0) (x := x5_261) rfl (dl_at t_X18_putColumn 133 rfl) ?_
          refine g_gd fun k272 => ?_
          refine g_iald (pc := 272) X r5_261 k272 (dl_at t_X18_putColumn 134 rfl) fun g272 => ?_
          refine g_lti g272 fun x6_273 r6_273 => ?_
          refine g_istoreN (pc := 273) X (i := 6) (x := x6_273) (b := 5) (w := iv x5_261) (rest := [(4, iv x4_222), (0, rv D a0), (1, iv a1), (2, jv x2_42)]) (Nat.le_of_ble_eq_true rfl) [0, 1, 2, 3, 4] rfl (by decide) rfl rfl (dl_at t_X18_putColumn 135 rfl) ?_
          refine g_aload_n (pc := 275) X (j := 0) (i := 0) (q := 3) (x := a0) rfl rfl (dl_at t_X18_putColumn 136 rfl) ?_
          refine r_getr (pc := 276) X fX18_15 k225 q4251 (dl_at t_X18_putColumn 137 rfl) ?_
          refine r_getr (pc := 279) X fX25_0 k228 q3762 (dl_at t_X18_putColumn 138 rfl) ?_
          refine g_aload_n (pc := 282) X (j := 0) (i := 0) (q := 3) (x := a0) rfl rfl (dl_at t_X18_putColumn 139 rfl) ?_
          refine r_getr (pc := 283) X fX18_15 k225 q4251 (dl_at t_X18_putColumn 140 rfl) ?_
          refine r_getr (pc := 286) X fX25_55 k228 q3843 (dl_at t_X18_putColumn 141 rfl) ?_
          refine g_iload (pc := 289) X (i := 5) (q := 1) (x := x5_261) rfl (dl_at t_X18_putColumn 142 rfl) ?_
          refine g_gd fun k291 => ?_
          refine g_iald (pc := 291) X r5_261 k291 (dl_at t_X18_putColumn 143 rfl) fun g291 => ?_
          refine g_iconst (pc := 292) X (n := 2) (dl_at t_X18_putColumn 144 rfl) ?_
          refine g_gd fun k293 => ?_
          refine r_callRi (pc := 293) X (fun _ hv => s_X24_of k293 g291 (r32_c rfl) hv) cw_code q4704 q378 (in_Vk X (As := [iv (h_222 (h_222 (h_222 a0 15) 55) x5_261), iv 2]) kX24 k293 (Or.inl q5148) q4702 q4703 cw_code q4704 ⟨by decide, by decide⟩ rfl (dl_at t_X18_putColumn 145 rfl)) (dl_at t_X18_putColumn 145 rfl) (cat24 (st := []) (Nat.le_of_ble_eq_true rfl)) (Nat.le_of_ble_eq_true rfl) (Nat.le_of_ble_eq_true rfl) fun v293 g293 => ?_
          refine g_istoreN (pc := 296) X (i := 7) (x := v293) (b := 6) (w := iv x6_273) (rest := [(4, iv x4_222), (0, rv D a0), (1, iv a1), (2, jv x2_42)]) (Nat.le_of_ble_eq_true rfl) [0, 2, 3, 4, 5] rfl (by decide) rfl rfl (dl_at t_X18_putColumn 146 rfl) ?_
          refine g_aload_n (pc := 298) X (j := 0) (i := 0) (q := 3) (x := a0) rfl rfl (dl_at t_X18_putColumn 147 rfl) ?_
          refine r_getr (pc := 299) X fX18_15 k225 q4251 (dl_at t_X18_putColumn 148 rfl) ?_
          refine r_getr (pc := 302) X fX25_90 k228 q3895 (dl_at t_X18_putColumn 149 rfl) ?_
          refine g_iload (pc := 305) X (i := 4) (q := 2) (x := x4_222) rfl (dl_at t_X18_putColumn 150 rfl) ?_
          refine g_gd fun k307 => ?_
          refine g_iald (pc := 307) X r4_222 k307 (dl_at t_X18_putColumn 151 rfl) fun g307 => ?_
          refine g_lti g307 fun x8_308 r8_308 => ?_
          refine g_istoreN (pc := 308) X (i := 8) (x := x8_308) (b := 7) (w := iv v293) (rest := [(6, iv x6_273), (4, iv x4_222), (0, rv D a0), (1, iv a1), (2, jv x2_42)]) (Nat.le_of_ble_eq_true rfl) [0, 1, 2, 3, 4, 5] rfl (by decide) rfl rfl (dl_at t_X18_putColumn 152 rfl) ?_
          refine g_ls (ls2 := [(0, rv D a0), (1, iv a1), (2, jv x2_42), (4, iv x4_222), (6, iv x6_273), (7, iv v293), (8, iv x8_308)]) [4, 5, 6, 3, 2, 1, 0] rfl ?_
          refine g_loop1 (fun (q : Int × Hp) => [(0, rv D a0), (1, iv a1), (2, jv x2_42), (4, iv x4_222), (6, iv x6_273), (7, iv v293), (8, iv q.1)]) (fun (q : Int × Hp) => q.2) (fun (q : Int × Hp) => r32 q.1 ∧ Ext h_222 q.2) 369 (fun (y369 : Hp) => [(0, rv D a0), (1, iv a1), (2, jv x2_42), (4, iv x4_222)]) (fun (y369 : Hp) => y369) (fun (y369 : Hp) => Ext h_222 y369) (x8_308, h_222) ⟨r8_308, (Ext.refl _)⟩ ?_ ?_
          · rintro ⟨x8_310, h_310⟩ ⟨r8_310, E_310⟩
            try dsimp only
            unfold m_X18_putColumn_l310
            refine g_iload (pc := 310) X (i := 8) (q := 6) (x := x8_310) rfl (dl_at t_X18_putColumn 153 rfl) ?_
            refine g_aload_n (pc := 312) X (j := 0) (i := 0) (q := 0) (x := a0) rfl rfl (dl_at t_X18_putColumn 154 rfl) ?_
            have k313 := kx E_310 (by decide) k225
            refine r_getr (pc := 313) X fX18_15 k313 q4251 (dl_at t_X18_putColumn 155 rfl) ?_
            refine g_gd fun k316 => ?_
            refine r_getr (pc := 316) X fX25_91 k316 q3897 (dl_at t_X18_putColumn 156 rfl) ?_
            refine g_iload (pc := 319) X (i := 4) (q := 3) (x := x4_222) rfl (dl_at t_X18_putColumn 157 rfl) ?_
            refine g_gd fun k321 => ?_
            refine g_iald (pc := 321) X r4_222 k321 (dl_at t_X18_putColumn 158 rfl) fun g321 => ?_
            refine g_icmpge (pc := 322) X r8_310 g321 (off := 47) (tgt := 369) rfl (dl_at t_X18_putColumn 159 rfl) (fun _ => ?_) (fun _ => ?_)
            · refine g_ls (ls2 := [(0, rv D a0), (1, iv a1), (2, jv x2_42), (4, iv x4_222)]) [0, 1, 2, 3] rfl ?_
              exact g_at fun Q hQ => hQ E_310
            refine g_aload_n (pc := 325) X (j := 0) (i := 0) (q := 0) (x := a0) rfl rfl (dl_at t_X18_putColumn 160 rfl) ?_
            refine g_aload_n (pc := 326) X (j := 0) (i := 0) (q := 0) (x := a0) rfl rfl (dl_at t_X18_putColumn 161 rfl) ?_
            refine r_getr (pc := 327) X fX18_15 k313 q4251 (dl_at t_X18_putColumn 162 rfl) ?_
            refine r_getr (pc := 330) X fX25_93 k316 q3901 (dl_at t_X18_putColumn 163 rfl) ?_
            refine g_iload (pc := 333) X (i := 4) (q := 3) (x := x4_222) rfl (dl_at t_X18_putColumn 164 rfl) ?_
            refine g_gd fun k335 => ?_
            refine g_lald (pc := 335) X r4_222 k335 (dl_at t_X18_putColumn 165 rfl) fun g335 => ?_
            refine g_iload (pc := 336) X (i := 8) (q := 6) (x := x8_310) rfl (dl_at t_X18_putColumn 166 rfl) ?_
            refine g_aload_n (pc := 338) X (j := 0) (i := 0) (q := 0) (x := a0) rfl rfl (dl_at t_X18_putColumn 167 rfl) ?_
            refine r_getr (pc := 339) X fX18_15 k313 q4251 (dl_at t_X18_putColumn 168 rfl) ?_
            refine r_getr (pc := 342) X fX25_90 k316 q3895 (dl_at t_X18_putColumn 169 rfl) ?_
            refine g_iload (pc := 345) X (i := 4) (q := 3) (x := x4_222) rfl (dl_at t_X18_putColumn 170 rfl) ?_
            refine g_gd fun k347 => ?_
            refine g_iald (pc := 347) X r4_222 k347 (dl_at t_X18_putColumn 171 rfl) fun g347 => ?_
            refine g_isub (pc := 348) X r8_310 g347 (dl_at t_X18_putColumn 172 rfl) ?_
            refine g_i2l (pc := 349) X (r32_w _) (dl_at t_X18_putColumn 173 rfl) ?_
            refine g_iload (pc := 350) X (i := 7) (q := 5) (x := v293) rfl (dl_at t_X18_putColumn 174 rfl) ?_
            refine g_i2l (pc := 352) X g293 (dl_at t_X18_putColumn 175 rfl) ?_
            refine g_lmul (pc := 353) X (r64_of (r32_w _)) (r64_of g293) (dl_at t_X18_putColumn 176 rfl) ?_
            refine g_ladd (pc := 354) X g335 (r64_w _) (dl_at t_X18_putColumn 177 rfl) ?_
            refine g_lload_n (pc := 355) X (j := 2) (i := 2) (q := 2) (x := x2_42) rfl rfl (dl_at t_X18_putColumn 178 rfl) ?_
            refine g_iload (pc := 356) X (i := 6) (q := 4) (x := x6_273) rfl (dl_at t_X18_putColumn 179 rfl) ?_
            refine g_iload (pc := 358) X (i := 8) (q := 6) (x := x8_310) rfl (dl_at t_X18_putColumn 180 rfl) ?_
            refine r_callV (pc := 360) X (fun _ hv => s_X18_putLine k313 (r64_w _) r2_42 r6_273 r8_310 hv) cw_code q5237 q372 (in_Vk X (As := [jv (w64 ((h_310 (h_310 (h_310 a0 15) 93) x4_222) + (w64 ((w32 (x8_310 - (h_310 (h_310 (h_310 a0 15) 90) x4_222))) * v293)))), jv x2_42, iv x6_273, iv x8_310]) kX18 k313 (Or.inl q5234) q5236 qs353 cw_code q5237 ⟨by decide, by decide⟩ rfl (dl_at t_X18_putColumn 181 rfl)) (dl_at t_X18_putColumn 181 rfl) (cat24 (st := []) (Nat.le_of_ble_eq_true rfl)) (Nat.le_of_ble_eq_true rfl) (Nat.le_of_ble_eq_true rfl) fun h360 E360 => ?_
            refine r_iincN (pc := 363) X (i := 8) (q := 6) (n := 1) (x := x8_310) (b := 7) (w := iv v293) (rest := [(0, rv D a0), (1, iv a1), (2, jv x2_42), (4, iv x4_222), (6, iv x6_273)]) rfl r8_310 (r32_c rfl) (Nat.le_of_ble_eq_true rfl) [5, 0, 1, 2, 3, 4] rfl (by decide) rfl rfl (dl_at t_X18_putColumn 182 rfl) fun x8_363 r8_363 => ?_
            refine g_goto (pc := 366) X (off := (-56)) (tgt := 310) rfl (dl_at t_X18_putColumn 183 rfl) ?_
            refine g_ls (ls2 := [(0, rv D a0), (1, iv a1), (2, jv x2_42), (4, iv x4_222), (6, iv x6_273), (7, iv v293), (8, iv x8_363)]) [2, 3, 4, 5, 6, 1, 0] rfl ?_
            exact g_at fun Q hQ => hQ ⟨r8_363, (E_310.trans E360)⟩
          · rintro h_369_1 E_369_1
            try dsimp only [sE]
            exact J369 h_369_1 E_369_1
        refine g_goto (pc := 248) X (off := 121) (tgt := 369) rfl (dl_at t_X18_putColumn 123 rfl) ?_
        exact J369 h_222 (Ext.refl _)
def k_X18_print : List (Nat × Instr × Nat) := [(0, .aload_n 0, 1), (1, .getfield 174, 3), (4, .ifCond .ne 9, 3), (7, .aload_n 0, 1), (8, .iconst 1, 1), (9, .invokevirtual 107, 3), (12, .ireturn, 1), (13, .iload_n 1, 1), (14, .iconst 1, 1), (15, .if_icmp .lt 14, 3), (18, .iload_n 1, 1), (19, .aload_n 0, 1), (20, .getfield 70, 3), (23, .getfield 215, 3), (26, .if_icmp .le 9, 3), (29, .aload_n 0, 1), (30, .iconst 2, 1), (31, .invokevirtual 107, 3), (34, .ireturn, 1), (35, .aload_n 0, 1), (36, .iconst 0, 1), (37, .putfield 367, 3), (40, .aload_n 0, 1), (41, .iload_n 1, 1), (42, .i2l, 1), (43, .invokevirtual 373, 3), (46, .aload_n 0, 1), (47, .bipush 32, 2), (49, .invokevirtual 370, 3), (52, .aload_n 0, 1), (53, .getfield 70, 3), (56, .iload_n 1, 1), (57, .invokevirtual 430, 3), (60, .istore_n 2, 1), (61, .iload_n 2, 1), (62, .ifCond .ge 7, 3), (65, .iconst 0, 1), (66, .goto 14, 3), (69, .aload_n 0, 1), (70, .getfield 70, 3), (73, .getfield 321, 3), (76, .iload_n 2, 1), (77, .invokevirtual 203, 3), (80, .istore_n 3, 1), (81, .iconst 0, 1), (82, .istore 4, 2), (84, .iload 4, 2), (86, .iload_n 3, 1), (87, .if_icmp .ge 25, 3), (90, .aload_n 0, 1), (91, .aload_n 0, 1), (92, .getfield 70, 3), (95, .getfield 321, 3), (98, .iload 4, 2), (100, .invokevirtual 433, 3), (103, .invokevirtual 370, 3), (106, .iinc 4 1, 3), (109, .goto (-25), 3), (112, .aload_n 0, 1), (113, .bipush 10, 2), (115, .invokevirtual 370, 3), (118, .iconst 0, 1), (119, .istore 4, 2), (121, .iload 4, 2), (123, .aload_n 0, 1), (124, .getfield 70, 3), (127, .getfield 218, 3), (130, .if_icmp .ge 28, 3), (133, .aload_n 0, 1), (134, .getfield 70, 3), (137, .iload 4, 2), (139, .invokevirtual 436, 3), (142, .iload_n 1, 1), (143, .if_icmp .ne 9, 3), (146, .aload_n 0, 1), (147, .iload 4, 2), (149, .invokevirtual 439, 3), (152, .iinc 4 1, 3), (155, .goto (-34), 3), (158, .aload_n 0, 1), (159, .getfield 367, 3), (162, .ldc_w 381, 3), (165, .if_icmp .le 9, 3), (168, .aload_n 0, 1), (169, .iconst 2, 1), (170, .invokevirtual 107, 3), (173, .ireturn, 1), (174, .aload_n 0, 1), (175, .iconst 0, 1), (176, .putfield 87, 3), (179, .aload_n 0, 1), (180, .getfield 77, 3), (183, .astore 4, 2), (185, .aload_n 0, 1), (186, .aload_n 0, 1), (187, .getfield 80, 3), (190, .putfield 77, 3), (193, .aload_n 0, 1), (194, .aload 4, 2), (196, .putfield 80, 3), (199, .aload_n 0, 1), (200, .aload_n 0, 1), (201, .getfield 367, 3), (204, .putfield 442, 3), (207, .aload_n 0, 1), (208, .getfield 442, 3), (211, .ireturn, 1)]
theorem t_X18_print : ∀ q ∈ k_X18_print, decode cX18_print q.1 = .ok q.2 := dl_all (by decide +kernel)
noncomputable def m_X18_print_l84 (a0 s0_80 x4_84 : Int) (h_84 : Hp) : Option ((Int × Hp) ⊕ ((Hp))) :=
  if s0_80 ≤ x4_84 then (some (.inr h_84))
  else (gd (h_84 (h_84 a0 15) (-2) = 416) (gd (h_84 (h_84 (h_84 a0 15) 0) (-2) = 400) ((m_X24_titleByte (h_84 (h_84 a0 15) 0) x4_84 h_84).bind fun v100 =>
  (m_X18_put a0 v100 h_84).bind fun h103 =>
  lt_ (w32 (x4_84 + 1)) fun x4_106 =>
  some (.inl (x4_106, h103)))))
noncomputable def m_X18_print_j152 (x4_121 : Int) (h_152 : Hp) : Option ((Int × Hp) ⊕ ((Hp))) :=
  lt_ (w32 (x4_121 + 1)) fun x4_152 =>
  some (.inl (x4_152, h_152))
noncomputable def m_X18_print_l121 (a0 a1 x4_121 : Int) (h_121 : Hp) : Option ((Int × Hp) ⊕ ((Hp))) :=
  gd (h_121 (h_121 a0 15) (-2) = 416) (if (h_121 (h_121 a0 15) 94) ≤ x4_121 then (some (.inr h_121))
  else ((m_X25_pageOf (h_121 a0 15) x4_121 h_121).bind fun v139 =>
  if v139 ≠ a1 then (m_X18_print_j152 x4_121 h_121)
  else ((m_X18_putColumn a0 x4_121 h_121).bind fun h149 =>
  m_X18_print_j152 x4_121 h149)))
noncomputable def m_X18_print_j80 (a1 a0 s0_80 : Int) (h_80 : Hp) : Option (Int × Hp) :=
  lt_ 0 fun x4_82 =>
  (lp (fun (q : Int × Hp) => m_X18_print_l84 a0 s0_80 q.1 q.2) (x4_82, h_80)).bind (fun (y112 : Hp) => (m_X18_put a0 10 y112).bind fun h115 =>
  lt_ 0 fun x4_119 =>
  (lp (fun (q : Int × Hp) => m_X18_print_l121 a0 a1 q.1 q.2) (x4_119, h115)).bind (fun (y158 : Hp) => if (y158 a0 21) ≤ 65536 then (pt y158 a0 0 0 fun h176 =>
  lt_ (h176 a0 18) fun x4_183 =>
  pt h176 a0 18 (h176 a0 20) fun h190 =>
  pt h190 a0 20 x4_183 fun h196 =>
  pt h196 a0 19 (h196 a0 21) fun h204 =>
  some ((h204 a0 19), h204))
  else (bW (m_X18_refuse a0 2 y158) fun v170 h170 =>
  some (v170, h170))))
noncomputable def m_X18_print (a0 a1 : Int) (h : Hp) : Option (Int × Hp) :=
  if (h a0 17) ≠ 0 then (if a1 < 1 then (bW (m_X18_refuse a0 2 h) fun v31 h31 =>
  some (v31, h31))
  else (gd (h (h a0 15) (-2) = 416) (if a1 ≤ (h (h a0 15) 95) then (pt h a0 21 0 fun h37 =>
  (m_X18_putNumber 24 a0 a1 h37).bind fun h43 =>
  (m_X18_put a0 32 h43).bind fun h49 =>
  gd (h49 (h49 a0 15) (-2) = 416) ((m_X25_headOf (h49 a0 15) a1 h49).bind fun v57 =>
  if 0 ≤ v57 then (gd (h49 (h49 (h49 a0 15) 0) (-2) = 400) (bW (m_X24_title (h49 (h49 a0 15) 0) v57 h49) fun v77 h77 =>
  m_X18_print_j80 a1 a0 v77 h77))
  else (m_X18_print_j80 a1 a0 0 h49)))
  else (bW (m_X18_refuse a0 2 h) fun v31_1 h31_1 =>
  some (v31_1, h31_1)))))
  else (bW (m_X18_refuse a0 1 h) fun v9 h9 =>
  some (v9, h9))
theorem s_X18_print {l : Launch} [NoTr l] {D : SD} {a0 a1 : Int} {h : Hp} (hk : h a0 (-2) = 304) (r1 : r32 a1) {r : Int × Hp} (hm : m_X18_print a0 a1 h = some r) : Sim l D yX18_print (Cond.code yX18_print cX18_print 5 (Option.some Jvm.ClassFile.FieldType.int)) 29 1122 [rv D a0, iv a1] h 1 ((0, r.1), r.2) := by
  refine Sim.of (fin := fun (v : Int × Hp) => ((0, v.1), v.2)) (lsE := [(0, rv D a0), (1, iv a1)]) hm rfl cwS_code (la_r (la_i la_n)) (ll_r (ll_i ll_n)) ?_
  intro p e s m below meth c X hcw hmm hcc hnm hname
  unfold m_X18_print
  refine g_aload_n (pc := 0) X (j := 0) (i := 0) (q := 0) (x := a0) rfl rfl (dl_at t_X18_print 0 rfl) ?_
  refine r_getz (pc := 1) X fX18_17 hk q4253 (dl_at t_X18_print 1 rfl) fun g1 => ?_
  refine g_ifne (pc := 4) X (r32_z g1) (off := 9) (tgt := 13) rfl (dl_at t_X18_print 2 rfl) (fun _ => ?_) (fun _ => ?_)
  · refine g_iload_n (pc := 13) X (j := 1) (i := 1) (q := 1) (x := a1) rfl rfl (dl_at t_X18_print 7 rfl) ?_
    refine g_iconst (pc := 14) X (n := 1) (dl_at t_X18_print 8 rfl) ?_
    refine g_icmplt (pc := 15) X r1 (r32_c rfl) (off := 14) (tgt := 29) rfl (dl_at t_X18_print 9 rfl) (fun _ => ?_) (fun _ => ?_)
    · refine g_aload_n (pc := 29) X (j := 0) (i := 0) (q := 0) (x := a0) rfl rfl (dl_at t_X18_print 15 rfl) ?_
      refine g_iconst (pc := 30) X (n := 2) (dl_at t_X18_print 16 rfl) ?_
      refine r_callWi (pc := 31) X (fun _ hv => s_X18_refuse hk (r32_c rfl) hv) cw_code q4317 q372 (in_Vk X (As := [iv 2]) kX18 hk (Or.inl q4314) q4316 qs237 cw_code q4317 ⟨by decide, by decide⟩ rfl (dl_at t_X18_print 17 rfl)) (dl_at t_X18_print 17 rfl) (cat24 (st := []) (Nat.le_of_ble_eq_true rfl)) (Nat.le_of_ble_eq_true rfl) (Nat.le_of_ble_eq_true rfl) fun v31 h31 g31 E31 => ?_
      exact g_iret (pc := 34) X g31 rfl rfl (dl_at t_X18_print 18 rfl)
    refine g_iload_n (pc := 18) X (j := 1) (i := 1) (q := 1) (x := a1) rfl rfl (dl_at t_X18_print 10 rfl) ?_
    refine g_aload_n (pc := 19) X (j := 0) (i := 0) (q := 0) (x := a0) rfl rfl (dl_at t_X18_print 11 rfl) ?_
    refine r_getr (pc := 20) X fX18_15 hk q4251 (dl_at t_X18_print 12 rfl) ?_
    refine g_gd fun k23 => ?_
    refine r_geti (pc := 23) X fX25_95 k23 q3904 (dl_at t_X18_print 13 rfl) fun g23 => ?_
    refine g_icmple (pc := 26) X r1 g23 (off := 9) (tgt := 35) rfl (dl_at t_X18_print 14 rfl) (fun _ => ?_) (fun _ => ?_)
    · refine g_aload_n (pc := 35) X (j := 0) (i := 0) (q := 0) (x := a0) rfl rfl (dl_at t_X18_print 19 rfl) ?_
      refine g_iconst (pc := 36) X (n := 0) (dl_at t_X18_print 20 rfl) ?_
      refine r_puti (pc := 37) X fX18_21 hk q4257 rfl (dl_at t_X18_print 21 rfl) (r32_c rfl) (fun h37 E37 => ?_)
      refine g_aload_n (pc := 40) X (j := 0) (i := 0) (q := 0) (x := a0) rfl rfl (dl_at t_X18_print 22 rfl) ?_
      refine g_iload_n (pc := 41) X (j := 1) (i := 1) (q := 1) (x := a1) rfl rfl (dl_at t_X18_print 23 rfl) ?_
      refine g_i2l (pc := 42) X r1 (dl_at t_X18_print 24 rfl) ?_
      have k43 := kx E37 (by decide) hk
      refine r_callV (pc := 43) X (fun _ hv => s_X18_putNumber (d := 24) k43 (r64_of r1) hv) cw_code q5213 q372 (in_Vk X (As := [jv a1]) kX18 k43 (Or.inl q5210) q5212 qs349 cw_code q5213 ⟨by decide, by decide⟩ rfl (dl_at t_X18_print 25 rfl)) (dl_at t_X18_print 25 rfl) (cat24 (st := []) (Nat.le_of_ble_eq_true rfl)) (Nat.le_of_ble_eq_true rfl) (Nat.le_of_ble_eq_true rfl) fun h43 E43 => ?_
      refine g_aload_n (pc := 46) X (j := 0) (i := 0) (q := 0) (x := a0) rfl rfl (dl_at t_X18_print 26 rfl) ?_
      refine g_bipush (pc := 47) X (n := 32) rfl (dl_at t_X18_print 27 rfl) ?_
      have k49 := kx E43 (by decide) k43
      refine r_callV (pc := 49) X (fun _ hv => s_X18_put k49 (r32_c rfl) hv) cw_code q5217 q372 (in_Vk X (As := [iv 32]) kX18 k49 (Or.inl q5214) q5216 qs350 cw_code q5217 ⟨by decide, by decide⟩ rfl (dl_at t_X18_print 28 rfl)) (dl_at t_X18_print 28 rfl) (cat24 (st := []) (Nat.le_of_ble_eq_true rfl)) (Nat.le_of_ble_eq_true rfl) (Nat.le_of_ble_eq_true rfl) fun h49 E49 => ?_
      refine g_aload_n (pc := 52) X (j := 0) (i := 0) (q := 0) (x := a0) rfl rfl (dl_at t_X18_print 29 rfl) ?_
      have k53 := kx E49 (by decide) k49
      refine r_getr (pc := 53) X fX18_15 k53 q4251 (dl_at t_X18_print 30 rfl) ?_
      refine g_iload_n (pc := 56) X (j := 1) (i := 1) (q := 1) (x := a1) rfl rfl (dl_at t_X18_print 31 rfl) ?_
      refine g_gd fun k57 => ?_
      refine r_callRi (pc := 57) X (fun _ hv => s_X25_headOf k57 r1 hv) cw_code q5223 q379 (in_Vk X (As := [iv a1]) kX25 k57 (Or.inl q5220) q5221 q5222 cw_code q5223 ⟨by decide, by decide⟩ rfl (dl_at t_X18_print 32 rfl)) (dl_at t_X18_print 32 rfl) (cat24 (st := []) (Nat.le_of_ble_eq_true rfl)) (Nat.le_of_ble_eq_true rfl) (Nat.le_of_ble_eq_true rfl) fun v57 g57 => ?_
      refine g_istore_nN (pc := 60) X (j := 2) (i := 2) (x := v57) (b := 1) (w := iv a1) (rest := [(0, rv D a0)]) rfl (Nat.le_of_ble_eq_true rfl) [1, 0] rfl (by decide) rfl rfl (dl_at t_X18_print 33 rfl) ?_
      refine g_iload_n (pc := 61) X (j := 2) (i := 2) (q := 0) (x := v57) rfl rfl (dl_at t_X18_print 34 rfl) ?_
      refine g_join (γ := Int × Hp) (fun q => r32 q.1 ∧ Ext h49 q.2) 80 (fun q => [(0, rv D a0), (1, iv a1)]) (fun q => [iv q.1]) (fun q => q.2) (fun q => m_X18_print_j80 a1 a0 q.1 q.2) ?_ ?_
      · rintro ⟨s0_80, h_80⟩ ⟨rs0_80, E_80⟩
        try dsimp only
        unfold m_X18_print_j80
        refine g_istore_n (pc := 80) X (j := 3) (i := 3) (x := s0_80) (rest := [(0, rv D a0), (1, iv a1)]) rfl (Nat.le_of_ble_eq_true rfl) [0, 1] rfl rfl (dl_at t_X18_print 43 rfl) ?_
        refine g_iconst (pc := 81) X (n := 0) (dl_at t_X18_print 44 rfl) ?_
        refine g_ltz (Or.inl rfl) fun x4_82 r4_82 => ?_
        refine g_istoreN (pc := 82) X (i := 4) (x := x4_82) (b := 3) (w := iv s0_80) (rest := [(0, rv D a0), (1, iv a1)]) (Nat.le_of_ble_eq_true rfl) [0, 1, 2] rfl (by decide) rfl rfl (dl_at t_X18_print 45 rfl) ?_
        refine g_ls (ls2 := [(0, rv D a0), (1, iv a1), (3, iv s0_80), (4, iv x4_82)]) [2, 3, 1, 0] rfl ?_
        refine g_loop1 (fun (q : Int × Hp) => [(0, rv D a0), (1, iv a1), (3, iv s0_80), (4, iv q.1)]) (fun (q : Int × Hp) => q.2) (fun (q : Int × Hp) => r32 q.1 ∧ Ext h_80 q.2) 112 (fun (y112 : Hp) => [(0, rv D a0), (1, iv a1)]) (fun (y112 : Hp) => y112) (fun (y112 : Hp) => Ext h_80 y112) (x4_82, h_80) ⟨(r32_z r4_82), (Ext.refl _)⟩ ?_ ?_
        · rintro ⟨x4_84, h_84⟩ ⟨r4_84, E_84⟩
          try dsimp only
          unfold m_X18_print_l84
          refine g_iload (pc := 84) X (i := 4) (q := 3) (x := x4_84) rfl (dl_at t_X18_print 46 rfl) ?_
          refine g_iload_n (pc := 86) X (j := 3) (i := 3) (q := 2) (x := s0_80) rfl rfl (dl_at t_X18_print 47 rfl) ?_
          refine g_icmpge (pc := 87) X r4_84 rs0_80 (off := 25) (tgt := 112) rfl (dl_at t_X18_print 48 rfl) (fun _ => ?_) (fun _ => ?_)
          · refine g_ls (ls2 := [(0, rv D a0), (1, iv a1)]) [0, 1] rfl ?_
            exact g_at fun Q hQ => hQ E_84
          refine g_aload_n (pc := 90) X (j := 0) (i := 0) (q := 0) (x := a0) rfl rfl (dl_at t_X18_print 49 rfl) ?_
          refine g_aload_n (pc := 91) X (j := 0) (i := 0) (q := 0) (x := a0) rfl rfl (dl_at t_X18_print 50 rfl) ?_
          have k92 := kx (E_80.trans E_84) (by decide) k53
          refine r_getr (pc := 92) X fX18_15 k92 q4251 (dl_at t_X18_print 51 rfl) ?_
          refine g_gd fun k95 => ?_
          refine r_getr (pc := 95) X fX25_0 k95 q3762 (dl_at t_X18_print 52 rfl) ?_
          refine g_iload (pc := 98) X (i := 4) (q := 3) (x := x4_84) rfl (dl_at t_X18_print 53 rfl) ?_
          refine g_gd fun k100 => ?_
          refine r_callRi (pc := 100) X (fun _ hv => s_X24_titleByte k100 r4_84 hv) cw_code q4778 q378 (in_Vk X (As := [iv x4_84]) kX24 k100 (Or.inl q5224) q4776 q4777 cw_code q4778 ⟨by decide, by decide⟩ rfl (dl_at t_X18_print 54 rfl)) (dl_at t_X18_print 54 rfl) (cat24 (st := [rv D a0]) (Nat.le_of_ble_eq_true rfl)) (Nat.le_of_ble_eq_true rfl) (Nat.le_of_ble_eq_true rfl) fun v100 g100 => ?_
          refine r_callV (pc := 103) X (fun _ hv => s_X18_put k92 g100 hv) cw_code q5217 q372 (in_Vk X (As := [iv v100]) kX18 k92 (Or.inl q5214) q5216 qs350 cw_code q5217 ⟨by decide, by decide⟩ rfl (dl_at t_X18_print 55 rfl)) (dl_at t_X18_print 55 rfl) (cat24 (st := []) (Nat.le_of_ble_eq_true rfl)) (Nat.le_of_ble_eq_true rfl) (Nat.le_of_ble_eq_true rfl) fun h103 E103 => ?_
          refine r_iincN (pc := 106) X (i := 4) (q := 3) (n := 1) (x := x4_84) (b := 3) (w := iv s0_80) (rest := [(0, rv D a0), (1, iv a1)]) rfl r4_84 (r32_c rfl) (Nat.le_of_ble_eq_true rfl) [2, 0, 1] rfl (by decide) rfl rfl (dl_at t_X18_print 56 rfl) fun x4_106 r4_106 => ?_
          refine g_goto (pc := 109) X (off := (-25)) (tgt := 84) rfl (dl_at t_X18_print 57 rfl) ?_
          refine g_ls (ls2 := [(0, rv D a0), (1, iv a1), (3, iv s0_80), (4, iv x4_106)]) [2, 3, 1, 0] rfl ?_
          exact g_at fun Q hQ => hQ ⟨r4_106, (E_84.trans E103)⟩
        · rintro h_112 E_112
          try dsimp only [sE]
          refine g_aload_n (pc := 112) X (j := 0) (i := 0) (q := 0) (x := a0) rfl rfl (dl_at t_X18_print 58 rfl) ?_
          refine g_bipush (pc := 113) X (n := 10) rfl (dl_at t_X18_print 59 rfl) ?_
          have k115 := kx (E_80.trans E_112) (by decide) k53
          refine r_callV (pc := 115) X (fun _ hv => s_X18_put k115 (r32_c rfl) hv) cw_code q5217 q372 (in_Vk X (As := [iv 10]) kX18 k115 (Or.inl q5214) q5216 qs350 cw_code q5217 ⟨by decide, by decide⟩ rfl (dl_at t_X18_print 60 rfl)) (dl_at t_X18_print 60 rfl) (cat24 (st := []) (Nat.le_of_ble_eq_true rfl)) (Nat.le_of_ble_eq_true rfl) (Nat.le_of_ble_eq_true rfl) fun h115 E115 => ?_
          refine g_iconst (pc := 118) X (n := 0) (dl_at t_X18_print 61 rfl) ?_
          refine g_ltz (Or.inl rfl) fun x4_119 r4_119 => ?_
          refine g_istore (pc := 119) X (i := 4) (x := x4_119) (rest := [(0, rv D a0), (1, iv a1)]) (Nat.le_of_ble_eq_true rfl) [0, 1] rfl rfl (dl_at t_X18_print 62 rfl) ?_
          refine g_ls (ls2 := [(0, rv D a0), (1, iv a1), (4, iv x4_119)]) [1, 2, 0] rfl ?_
          refine g_loop1 (fun (q : Int × Hp) => [(0, rv D a0), (1, iv a1), (4, iv q.1)]) (fun (q : Int × Hp) => q.2) (fun (q : Int × Hp) => r32 q.1 ∧ Ext h115 q.2) 158 (fun (y158 : Hp) => [(0, rv D a0)]) (fun (y158 : Hp) => y158) (fun (y158 : Hp) => Ext h115 y158) (x4_119, h115) ⟨(r32_z r4_119), (Ext.refl _)⟩ ?_ ?_
          · rintro ⟨x4_121, h_121⟩ ⟨r4_121, E_121⟩
            try dsimp only
            unfold m_X18_print_l121
            refine g_iload (pc := 121) X (i := 4) (q := 2) (x := x4_121) rfl (dl_at t_X18_print 63 rfl) ?_
            refine g_aload_n (pc := 123) X (j := 0) (i := 0) (q := 0) (x := a0) rfl rfl (dl_at t_X18_print 64 rfl) ?_
            have k124 := kx (E115.trans E_121) (by decide) k115
            refine r_getr (pc := 124) X fX18_15 k124 q4251 (dl_at t_X18_print 65 rfl) ?_
            refine g_gd fun k127 => ?_
            refine r_geti (pc := 127) X fX25_94 k127 q3902 (dl_at t_X18_print 66 rfl) fun g127 => ?_
            refine g_icmpge (pc := 130) X r4_121 g127 (off := 28) (tgt := 158) rfl (dl_at t_X18_print 67 rfl) (fun _ => ?_) (fun _ => ?_)
            · refine g_ls (ls2 := [(0, rv D a0)]) [0] rfl ?_
              exact g_at fun Q hQ => hQ E_121
            refine g_aload_n (pc := 133) X (j := 0) (i := 0) (q := 0) (x := a0) rfl rfl (dl_at t_X18_print 68 rfl) ?_
            refine r_getr (pc := 134) X fX18_15 k124 q4251 (dl_at t_X18_print 69 rfl) ?_
            refine g_iload (pc := 137) X (i := 4) (q := 2) (x := x4_121) rfl (dl_at t_X18_print 70 rfl) ?_
            refine r_callRi (pc := 139) X (fun _ hv => s_X25_pageOf k127 r4_121 hv) cw_code q5129 q379 (in_Vk X (As := [iv x4_121]) kX25 k127 (Or.inl q5225) q5127 q5128 cw_code q5129 ⟨by decide, by decide⟩ rfl (dl_at t_X18_print 71 rfl)) (dl_at t_X18_print 71 rfl) (cat24 (st := []) (Nat.le_of_ble_eq_true rfl)) (Nat.le_of_ble_eq_true rfl) (Nat.le_of_ble_eq_true rfl) fun v139 g139 => ?_
            refine g_iload_n (pc := 142) X (j := 1) (i := 1) (q := 1) (x := a1) rfl rfl (dl_at t_X18_print 72 rfl) ?_
            refine g_join (γ := Hp) (fun q => Ext h_121 q) 152 (fun q => [(0, rv D a0), (1, iv a1), (4, iv x4_121)]) (fun q => []) (fun q => q) (fun q => m_X18_print_j152 x4_121 q) ?_ ?_
            · rintro h_152 E_152
              try dsimp only
              unfold m_X18_print_j152
              refine r_iinc (pc := 152) X (i := 4) (q := 2) (n := 1) (x := x4_121) (rest := [(0, rv D a0), (1, iv a1)]) rfl r4_121 (r32_c rfl) (Nat.le_of_ble_eq_true rfl) [0, 1] rfl rfl (dl_at t_X18_print 77 rfl) fun x4_152 r4_152 => ?_
              refine g_goto (pc := 155) X (off := (-34)) (tgt := 121) rfl (dl_at t_X18_print 78 rfl) ?_
              refine g_ls (ls2 := [(0, rv D a0), (1, iv a1), (4, iv x4_152)]) [1, 2, 0] rfl ?_
              exact g_at fun Q hQ => hQ ⟨r4_152, (E_121.trans E_152)⟩
            intro J152
            refine g_icmpne (pc := 143) X g139 r1 (off := 9) (tgt := 152) rfl (dl_at t_X18_print 73 rfl) (fun _ => ?_) (fun _ => ?_)
            · exact J152 h_121 (Ext.refl _)
            refine g_aload_n (pc := 146) X (j := 0) (i := 0) (q := 0) (x := a0) rfl rfl (dl_at t_X18_print 74 rfl) ?_
            refine g_iload (pc := 147) X (i := 4) (q := 2) (x := x4_121) rfl (dl_at t_X18_print 75 rfl) ?_
            refine r_callV (pc := 149) X (fun _ hv => s_X18_putColumn k124 r4_121 hv) cw_code q5229 q372 (in_Vk X (As := [iv x4_121]) kX18 k124 (Or.inl q5226) q5228 qs351 cw_code q5229 ⟨by decide, by decide⟩ rfl (dl_at t_X18_print 76 rfl)) (dl_at t_X18_print 76 rfl) (cat24 (st := []) (Nat.le_of_ble_eq_true rfl)) (Nat.le_of_ble_eq_true rfl) (Nat.le_of_ble_eq_true rfl) fun h149 E149 => ?_
            exact J152 h149 E149
          · rintro h_158 E_158
            try dsimp only [sE]
            refine g_aload_n (pc := 158) X (j := 0) (i := 0) (q := 0) (x := a0) rfl rfl (dl_at t_X18_print 79 rfl) ?_
            have k159 := kx (E115.trans E_158) (by decide) k115
            refine r_geti (pc := 159) X fX18_21 k159 q4257 (dl_at t_X18_print 80 rfl) fun g159 => ?_
            refine g_ldcw (pc := 162) X (index := 381) (n := 65536) q5238 (dl_at t_X18_print 81 rfl) ?_
            refine g_icmple (pc := 165) X g159 (r32_c rfl) (off := 9) (tgt := 174) rfl (dl_at t_X18_print 82 rfl) (fun _ => ?_) (fun _ => ?_)
            · refine g_aload_n (pc := 174) X (j := 0) (i := 0) (q := 0) (x := a0) rfl rfl (dl_at t_X18_print 87 rfl) ?_
              refine g_iconst (pc := 175) X (n := 0) (dl_at t_X18_print 88 rfl) ?_
              refine r_puti (pc := 176) X fX18_0 k159 q4236 rfl (dl_at t_X18_print 89 rfl) (r32_c rfl) (fun h176 E176 => ?_)
              refine g_aload_n (pc := 179) X (j := 0) (i := 0) (q := 0) (x := a0) rfl rfl (dl_at t_X18_print 90 rfl) ?_
              have k180 := kx E176 (by decide) k159
              refine r_getr (pc := 180) X fX18_18 k180 q4254 (dl_at t_X18_print 91 rfl) ?_
              refine g_ltr fun x4_183 => ?_
              refine g_astore (pc := 183) X (i := 4) (x := x4_183) (rest := [(0, rv D a0)]) (Nat.le_of_ble_eq_true rfl) [0] rfl rfl (dl_at t_X18_print 92 rfl) ?_
              refine g_aload_n (pc := 185) X (j := 0) (i := 0) (q := 1) (x := a0) rfl rfl (dl_at t_X18_print 93 rfl) ?_
              refine g_aload_n (pc := 186) X (j := 0) (i := 0) (q := 1) (x := a0) rfl rfl (dl_at t_X18_print 94 rfl) ?_
              refine r_getr (pc := 187) X fX18_20 k180 q4256 (dl_at t_X18_print 95 rfl) ?_
              refine r_putr (pc := 190) X fX18_18 k180 q4254 rfl (dl_at t_X18_print 96 rfl)  (fun h190 E190 => ?_)
              refine g_aload_n (pc := 193) X (j := 0) (i := 0) (q := 1) (x := a0) rfl rfl (dl_at t_X18_print 97 rfl) ?_
              refine g_aload (pc := 194) X (i := 4) (q := 0) (x := x4_183) rfl (dl_at t_X18_print 98 rfl) ?_
              have k196 := kx E190 (by decide) k180
              refine r_putr (pc := 196) X fX18_20 k196 q4256 rfl (dl_at t_X18_print 99 rfl)  (fun h196 E196 => ?_)
              refine g_aload_n (pc := 199) X (j := 0) (i := 0) (q := 1) (x := a0) rfl rfl (dl_at t_X18_print 100 rfl) ?_
              refine g_aload_n (pc := 200) X (j := 0) (i := 0) (q := 1) (x := a0) rfl rfl (dl_at t_X18_print 101 rfl) ?_
              have k201 := kx E196 (by decide) k196
              refine r_geti (pc := 201) X fX18_21 k201 q4257 (dl_at t_X18_print 102 rfl) fun g201 => ?_
              refine r_puti (pc := 204) X fX18_19 k201 q4255 rfl (dl_at t_X18_print 103 rfl) g201 (fun h204 E204 => ?_)
              refine g_aload_n (pc := 207) X (j := 0) (i := 0) (q := 1) (x := a0) rfl rfl (dl_at t_X18_print 104 rfl) ?_
              have k208 := kx E204 (by decide) k201
              refine r_geti (pc := 208) X fX18_19 k208 q4255 (dl_at t_X18_print 105 rfl) fun g208 => ?_
              exact g_iret (pc := 211) X g208 rfl rfl (dl_at t_X18_print 106 rfl)
            refine g_aload_n (pc := 168) X (j := 0) (i := 0) (q := 0) (x := a0) rfl rfl (dl_at t_X18_print 83 rfl) ?_
            refine g_iconst (pc := 169) X (n := 2) (dl_at t_X18_print 84 rfl) ?_
            refine r_callWi (pc := 170) X (fun _ hv => s_X18_refuse k159 (r32_c rfl) hv) cw_code q4317 q372 (in_Vk X (As := [iv 2]) kX18 k159 (Or.inl q4314) q4316 qs237 cw_code q4317 ⟨by decide, by decide⟩ rfl (dl_at t_X18_print 85 rfl)) (dl_at t_X18_print 85 rfl) (cat24 (st := []) (Nat.le_of_ble_eq_true rfl)) (Nat.le_of_ble_eq_true rfl) (Nat.le_of_ble_eq_true rfl) fun v170 h170 g170 E170 => ?_
            exact g_iret (pc := 173) X g170 rfl rfl (dl_at t_X18_print 86 rfl)
      intro J80
      refine g_ifge (pc := 62) X g57 (off := 7) (tgt := 69) rfl (dl_at t_X18_print 35 rfl) (fun _ => ?_) (fun _ => ?_)
      · refine g_aload_n (pc := 69) X (j := 0) (i := 0) (q := 2) (x := a0) rfl rfl (dl_at t_X18_print 38 rfl) ?_
        refine r_getr (pc := 70) X fX18_15 k53 q4251 (dl_at t_X18_print 39 rfl) ?_
        refine r_getr (pc := 73) X fX25_0 k57 q3762 (dl_at t_X18_print 40 rfl) ?_
        refine g_iload_n (pc := 76) X (j := 2) (i := 2) (q := 0) (x := v57) rfl rfl (dl_at t_X18_print 41 rfl) ?_
        refine g_gd fun k77 => ?_
        refine r_callWi (pc := 77) X (fun _ hv => s_X24_title k77 g57 hv) cw_code q4739 q378 (in_Vk X (As := [iv v57]) kX24 k77 (Or.inl q5147) q4737 q4738 cw_code q4739 ⟨by decide, by decide⟩ rfl (dl_at t_X18_print 42 rfl)) (dl_at t_X18_print 42 rfl) (cat24 (st := []) (Nat.le_of_ble_eq_true rfl)) (Nat.le_of_ble_eq_true rfl) (Nat.le_of_ble_eq_true rfl) fun v77 h77 g77 E77 => ?_
        refine g_ls (ls2 := [(0, rv D a0), (1, iv a1)]) [2, 1] rfl ?_
        exact J80 (v77, h77) ⟨g77, E77⟩
      refine g_iconst (pc := 65) X (n := 0) (dl_at t_X18_print 36 rfl) ?_
      refine g_goto (pc := 66) X (off := 14) (tgt := 80) rfl (dl_at t_X18_print 37 rfl) ?_
      refine g_ls (ls2 := [(0, rv D a0), (1, iv a1)]) [2, 1] rfl ?_
      exact J80 (0, h49) ⟨(r32_c rfl), (Ext.refl _)⟩
    refine g_aload_n (pc := 29) X (j := 0) (i := 0) (q := 0) (x := a0) rfl rfl (dl_at t_X18_print 15 rfl) ?_
    refine g_iconst (pc := 30) X (n := 2) (dl_at t_X18_print 16 rfl) ?_
    refine r_callWi (pc := 31) X (fun _ hv => s_X18_refuse hk (r32_c rfl) hv) cw_code q4317 q372 (in_Vk X (As := [iv 2]) kX18 hk (Or.inl q4314) q4316 qs237 cw_code q4317 ⟨by decide, by decide⟩ rfl (dl_at t_X18_print 17 rfl)) (dl_at t_X18_print 17 rfl) (cat24 (st := []) (Nat.le_of_ble_eq_true rfl)) (Nat.le_of_ble_eq_true rfl) (Nat.le_of_ble_eq_true rfl) fun v31_1 h31_1 g31_1 E31_1 => ?_
    exact g_iret (pc := 34) X g31_1 rfl rfl (dl_at t_X18_print 18 rfl)
  refine g_aload_n (pc := 7) X (j := 0) (i := 0) (q := 0) (x := a0) rfl rfl (dl_at t_X18_print 3 rfl) ?_
  refine g_iconst (pc := 8) X (n := 1) (dl_at t_X18_print 4 rfl) ?_
  refine r_callWi (pc := 9) X (fun _ hv => s_X18_refuse hk (r32_c rfl) hv) cw_code q4317 q372 (in_Vk X (As := [iv 1]) kX18 hk (Or.inl q4314) q4316 qs237 cw_code q4317 ⟨by decide, by decide⟩ rfl (dl_at t_X18_print 5 rfl)) (dl_at t_X18_print 5 rfl) (cat24 (st := []) (Nat.le_of_ble_eq_true rfl)) (Nat.le_of_ble_eq_true rfl) (Nat.le_of_ble_eq_true rfl) fun v9 h9 g9 E9 => ?_
  exact g_iret (pc := 12) X g9 rfl rfl (dl_at t_X18_print 6 rfl)
def k_X18_word : List (Nat × Instr × Nat) := [(0, .iload_n 1, 1), (1, .ifCond .lt 11, 3), (4, .iload_n 1, 1), (5, .aload_n 0, 1), (6, .getfield 442, 3), (9, .if_icmp .lt 10, 3), (12, .aload_n 0, 1), (13, .iconst 1, 1), (14, .invokevirtual 107, 3), (17, .i2l, 1), (18, .lreturn, 1), (19, .aload_n 0, 1), (20, .iconst 0, 1), (21, .putfield 87, 3), (24, .lconst 0, 1), (25, .lstore_n 2, 1), (26, .iload_n 1, 1), (27, .istore 4, 2), (29, .iload 4, 2), (31, .iload_n 1, 1), (32, .bipush 8, 2), (34, .iadd, 1), (35, .if_icmp .ge 40, 3), (38, .lload_n 2, 1), (39, .bipush 8, 2), (41, .lshl, 1), (42, .iload 4, 2), (44, .aload_n 0, 1), (45, .getfield 442, 3), (48, .if_icmp .ge 18, 3), (51, .aload_n 0, 1), (52, .getfield 77, 3), (55, .iload 4, 2), (57, .baload, 1), (58, .i2l, 1), (59, .ldc2_w 445, 3), (62, .land, 1), (63, .goto 4, 3), (66, .lconst 0, 1), (67, .lor, 1), (68, .lstore_n 2, 1), (69, .iinc 4 1, 3), (72, .goto (-43), 3), (75, .lload_n 2, 1), (76, .lreturn, 1)]
theorem t_X18_word : ∀ q ∈ k_X18_word, decode cX18_word q.1 = .ok q.2 := dl_all (by decide +kernel)
noncomputable def m_X18_word_j67 (x4_29 s0_67 s1_67 : Int) : Option ((Int × Int) ⊕ ((Int × Hp))) :=
  lt_ (lor_ s0_67 s1_67) fun x2_68 =>
  lt_ (w32 (x4_29 + 1)) fun x4_69 =>
  some (.inl (x2_68, x4_69))
noncomputable def m_X18_word_l29 (a0 a1 x2_29 x4_29 : Int) (h21 : Hp) : Option ((Int × Int) ⊕ ((Int × Hp))) :=
  if (w32 (a1 + 8)) ≤ x4_29 then (some (.inr (x2_29, h21)))
  else (if (h21 a0 19) ≤ x4_29 then (m_X18_word_j67 x4_29 (lshl_ x2_29 8) 0)
  else (gd (h21 (h21 a0 18) (-2) % 16 = 2 ∧ (0 : Int) ≤ x4_29 ∧ x4_29 < h21 (h21 a0 18) (-1)) (m_X18_word_j67 x4_29 (lshl_ x2_29 8) (land_ (h21 (h21 a0 18) x4_29) 255))))
noncomputable def m_X18_word (a0 a1 : Int) (h : Hp) : Option (Int × Hp) :=
  if a1 < 0 then (bW (m_X18_refuse a0 1 h) fun v14 h14 =>
  some (v14, h14))
  else (if a1 < (h a0 19) then (pt h a0 0 0 fun h21 =>
  lt_ 0 fun x2_25 =>
  (lp (fun (q : Int × Int) => m_X18_word_l29 a0 a1 q.1 q.2 h21) (x2_25, a1)).bind (fun (x : Int × Hp) => some x))
  else (bW (m_X18_refuse a0 1 h) fun v14_1 h14_1 =>
  some (v14_1, h14_1)))
theorem s_X18_word {l : Launch} [NoTr l] {D : SD} {a0 a1 : Int} {h : Hp} (hk : h a0 (-2) = 304) (r1 : r32 a1) {r : Int × Hp} (hm : m_X18_word a0 a1 h = some r) : Sim l D yX18_word (Cond.code yX18_word cX18_word 5 (Option.some Jvm.ClassFile.FieldType.long)) 1 37 [rv D a0, iv a1] h 4 ((0, r.1), r.2) := by
  refine Sim.of (fin := fun (v : Int × Hp) => ((0, v.1), v.2)) (lsE := [(0, rv D a0), (1, iv a1)]) hm rfl cwS_code (la_r (la_i la_n)) (ll_r (ll_i ll_n)) ?_
  intro p e s m below meth c X hcw hmm hcc hnm hname
  unfold m_X18_word
  refine g_iload_n (pc := 0) X (j := 1) (i := 1) (q := 1) (x := a1) rfl rfl (dl_at t_X18_word 0 rfl) ?_
  refine g_iflt (pc := 1) X r1 (off := 11) (tgt := 12) rfl (dl_at t_X18_word 1 rfl) (fun _ => ?_) (fun _ => ?_)
  · refine g_aload_n (pc := 12) X (j := 0) (i := 0) (q := 0) (x := a0) rfl rfl (dl_at t_X18_word 6 rfl) ?_
    refine g_iconst (pc := 13) X (n := 1) (dl_at t_X18_word 7 rfl) ?_
    refine r_callWi (pc := 14) X (fun _ hv => s_X18_refuse hk (r32_c rfl) hv) cw_code q4317 q372 (in_Vk X (As := [iv 1]) kX18 hk (Or.inl q4314) q4316 qs237 cw_code q4317 ⟨by decide, by decide⟩ rfl (dl_at t_X18_word 8 rfl)) (dl_at t_X18_word 8 rfl) (cat24 (st := []) (Nat.le_of_ble_eq_true rfl)) (Nat.le_of_ble_eq_true rfl) (Nat.le_of_ble_eq_true rfl) fun v14 h14 g14 E14 => ?_
    refine g_i2l (pc := 17) X g14 (dl_at t_X18_word 9 rfl) ?_
    exact g_lret (pc := 18) X (r64_of g14) rfl rfl (dl_at t_X18_word 10 rfl)
  refine g_iload_n (pc := 4) X (j := 1) (i := 1) (q := 1) (x := a1) rfl rfl (dl_at t_X18_word 2 rfl) ?_
  refine g_aload_n (pc := 5) X (j := 0) (i := 0) (q := 0) (x := a0) rfl rfl (dl_at t_X18_word 3 rfl) ?_
  refine r_geti (pc := 6) X fX18_19 hk q4255 (dl_at t_X18_word 4 rfl) fun g6 => ?_
  refine g_icmplt (pc := 9) X r1 g6 (off := 10) (tgt := 19) rfl (dl_at t_X18_word 5 rfl) (fun _ => ?_) (fun _ => ?_)
  · refine g_aload_n (pc := 19) X (j := 0) (i := 0) (q := 0) (x := a0) rfl rfl (dl_at t_X18_word 11 rfl) ?_
    refine g_iconst (pc := 20) X (n := 0) (dl_at t_X18_word 12 rfl) ?_
    refine r_puti (pc := 21) X fX18_0 hk q4236 rfl (dl_at t_X18_word 13 rfl) (r32_c rfl) (fun h21 E21 => ?_)
    refine g_lconst0 (pc := 24) X (dl_at t_X18_word 14 rfl) ?_
    refine g_ltl (r64_c rfl) fun x2_25 r2_25 => ?_
    refine g_lstore_nN (pc := 25) X (j := 2) (i := 2) (x := x2_25) (b := 1) (w := iv a1) (rest := [(0, rv D a0)]) rfl (Nat.le_of_ble_eq_true rfl) [1, 0] rfl (by decide) (by decide) rfl rfl (dl_at t_X18_word 15 rfl) ?_
    refine g_iload_n (pc := 26) X (j := 1) (i := 1) (q := 1) (x := a1) rfl rfl (dl_at t_X18_word 16 rfl) ?_
    refine g_istore (pc := 27) X (i := 4) (x := a1) (rest := [(2, jv x2_25), (1, iv a1), (0, rv D a0)]) (Nat.le_of_ble_eq_true rfl) [0, 1, 2] rfl rfl (dl_at t_X18_word 17 rfl) ?_
    refine g_ls (ls2 := [(0, rv D a0), (1, iv a1), (2, jv x2_25), (4, iv a1)]) [3, 2, 1, 0] rfl ?_
    refine g_loop0F (fun (q : Int × Int) => [(0, rv D a0), (1, iv a1), (2, jv q.1), (4, iv q.2)]) (fun (q : Int × Int) => h21) (fun (q : Int × Int) => r64 q.1 ∧ r32 q.2) (x2_25, a1) ⟨r2_25, r1⟩ ?_ (fun _ => rfl)
    · rintro ⟨x2_29, x4_29⟩ ⟨r2_29, r4_29⟩
      try dsimp only
      unfold m_X18_word_l29
      refine g_iload (pc := 29) X (i := 4) (q := 3) (x := x4_29) rfl (dl_at t_X18_word 18 rfl) ?_
      refine g_iload_n (pc := 31) X (j := 1) (i := 1) (q := 1) (x := a1) rfl rfl (dl_at t_X18_word 19 rfl) ?_
      refine g_bipush (pc := 32) X (n := 8) rfl (dl_at t_X18_word 20 rfl) ?_
      refine g_iadd (pc := 34) X r1 (r32_c rfl) (dl_at t_X18_word 21 rfl) ?_
      refine g_icmpge (pc := 35) X r4_29 (r32_w _) (off := 40) (tgt := 75) rfl (dl_at t_X18_word 22 rfl) (fun _ => ?_) (fun _ => ?_)
      · refine g_lload_n (pc := 75) X (j := 2) (i := 2) (q := 2) (x := x2_29) rfl rfl (dl_at t_X18_word 43 rfl) ?_
        exact g_at fun Q hQ => (g_lret (pc := 76) X r2_29 rfl rfl (dl_at t_X18_word 44 rfl)) _ Q rfl hQ
      refine g_lload_n (pc := 38) X (j := 2) (i := 2) (q := 2) (x := x2_29) rfl rfl (dl_at t_X18_word 23 rfl) ?_
      refine g_bipush (pc := 39) X (n := 8) rfl (dl_at t_X18_word 24 rfl) ?_
      refine g_lshl (pc := 41) X (dl_at t_X18_word 25 rfl) ?_
      refine g_iload (pc := 42) X (i := 4) (q := 3) (x := x4_29) rfl (dl_at t_X18_word 26 rfl) ?_
      refine g_aload_n (pc := 44) X (j := 0) (i := 0) (q := 0) (x := a0) rfl rfl (dl_at t_X18_word 27 rfl) ?_
      have k45 := kx E21 (by decide) hk
      refine r_geti (pc := 45) X fX18_19 k45 q4255 (dl_at t_X18_word 28 rfl) fun g45 => ?_
      refine g_join (γ := Int × Int) (fun q => r64 q.1 ∧ r64 q.2) 67 (fun q => [(0, rv D a0), (1, iv a1), (4, iv x4_29)]) (fun q => [jv q.2, jv q.1]) (fun q => h21) (fun q => m_X18_word_j67 x4_29 q.1 q.2) ?_ ?_
      · rintro ⟨s0_67, s1_67⟩ ⟨rs0_67, rs1_67⟩
        try dsimp only
        unfold m_X18_word_j67
        refine g_lor (pc := 67) X (dl_at t_X18_word 39 rfl) ?_
        refine g_ltl (r64_lor _ _) fun x2_68 r2_68 => ?_
        refine g_lstore_nN (pc := 68) X (j := 2) (i := 2) (x := x2_68) (b := 1) (w := iv a1) (rest := [(0, rv D a0), (4, iv x4_29)]) rfl (Nat.le_of_ble_eq_true rfl) [1, 0, 2] rfl (by decide) (by decide) rfl rfl (dl_at t_X18_word 40 rfl) ?_
        refine r_iinc (pc := 69) X (i := 4) (q := 3) (n := 1) (x := x4_29) (rest := [(2, jv x2_68), (1, iv a1), (0, rv D a0)]) rfl r4_29 (r32_c rfl) (Nat.le_of_ble_eq_true rfl) [0, 1, 2] rfl rfl (dl_at t_X18_word 41 rfl) fun x4_69 r4_69 => ?_
        refine g_goto (pc := 72) X (off := (-43)) (tgt := 29) rfl (dl_at t_X18_word 42 rfl) ?_
        refine g_ls (ls2 := [(0, rv D a0), (1, iv a1), (2, jv x2_68), (4, iv x4_69)]) [3, 2, 1, 0] rfl ?_
        exact g_at fun Q hQ => hQ ⟨r2_68, r4_69⟩
      intro J67
      refine g_icmpge (pc := 48) X r4_29 g45 (off := 18) (tgt := 66) rfl (dl_at t_X18_word 29 rfl) (fun _ => ?_) (fun _ => ?_)
      · refine g_lconst0 (pc := 66) X (dl_at t_X18_word 38 rfl) ?_
        refine g_ls (ls2 := [(0, rv D a0), (1, iv a1), (4, iv x4_29)]) [0, 1, 3] rfl ?_
        exact J67 ((lshl_ x2_29 8), 0) ⟨(r64_lshl _ _), (r64_c rfl)⟩
      refine g_aload_n (pc := 51) X (j := 0) (i := 0) (q := 0) (x := a0) rfl rfl (dl_at t_X18_word 30 rfl) ?_
      refine r_getr (pc := 52) X fX18_18 k45 q4254 (dl_at t_X18_word 31 rfl) ?_
      refine g_iload (pc := 55) X (i := 4) (q := 3) (x := x4_29) rfl (dl_at t_X18_word 32 rfl) ?_
      refine g_gd fun k57 => ?_
      refine g_bald (pc := 57) X r4_29 k57 (dl_at t_X18_word 33 rfl) fun g57 => ?_
      refine g_i2l (pc := 58) X (r32_b g57) (dl_at t_X18_word 34 rfl) ?_
      refine g_ldc2 (pc := 59) X (index := 445) (n := 255) q5249 (dl_at t_X18_word 35 rfl) ?_
      refine g_land (pc := 62) X (dl_at t_X18_word 36 rfl) ?_
      refine g_goto (pc := 63) X (off := 4) (tgt := 67) rfl (dl_at t_X18_word 37 rfl) ?_
      refine g_ls (ls2 := [(0, rv D a0), (1, iv a1), (4, iv x4_29)]) [0, 1, 3] rfl ?_
      exact J67 ((lshl_ x2_29 8), (land_ (h21 (h21 a0 18) x4_29) 255)) ⟨(r64_lshl _ _), (r64_land _ _)⟩
  refine g_aload_n (pc := 12) X (j := 0) (i := 0) (q := 0) (x := a0) rfl rfl (dl_at t_X18_word 6 rfl) ?_
  refine g_iconst (pc := 13) X (n := 1) (dl_at t_X18_word 7 rfl) ?_
  refine r_callWi (pc := 14) X (fun _ hv => s_X18_refuse hk (r32_c rfl) hv) cw_code q4317 q372 (in_Vk X (As := [iv 1]) kX18 hk (Or.inl q4314) q4316 qs237 cw_code q4317 ⟨by decide, by decide⟩ rfl (dl_at t_X18_word 8 rfl)) (dl_at t_X18_word 8 rfl) (cat24 (st := []) (Nat.le_of_ble_eq_true rfl)) (Nat.le_of_ble_eq_true rfl) (Nat.le_of_ble_eq_true rfl) fun v14_1 h14_1 g14_1 E14_1 => ?_
  refine g_i2l (pc := 17) X g14_1 (dl_at t_X18_word 9 rfl) ?_
  exact g_lret (pc := 18) X (r64_of g14_1) rfl rfl (dl_at t_X18_word 10 rfl)
