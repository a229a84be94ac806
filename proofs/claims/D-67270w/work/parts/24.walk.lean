set_option maxRecDepth 100000
def k_X25_text : List (Nat × Instr × Nat) := [(0, .aload_n 0, 1), (1, .getfield 14, 3), (4, .iload_n 2, 1), (5, .invokevirtual 538, 3), (8, .ifCond .ne 4, 3), (11, .return_, 1), (12, .aload_n 0, 1), (13, .getfield 14, 3), (16, .iload_n 2, 1), (17, .iconst 1, 1), (18, .invokevirtual 477, 3), (21, .istore 4, 2), (23, .aload_n 0, 1), (24, .getfield 342, 3), (27, .getfield 541, 3), (30, .iload_n 1, 1), (31, .iaload, 1), (32, .iconst 3, 1), (33, .if_icmp .ne 22, 3), (36, .aload_n 0, 1), (37, .aload_n 0, 1), (38, .getfield 342, 3), (41, .getfield 544, 3), (44, .iload_n 1, 1), (45, .iaload, 1), (46, .iload 4, 2), (48, .iload_n 3, 1), (49, .invokevirtual 531, 3), (52, .goto 51, 3), (55, .aload_n 0, 1), (56, .getfield 342, 3), (59, .getfield 544, 3), (62, .iload_n 1, 1), (63, .iaload, 1), (64, .istore 5, 2), (66, .iload 5, 2), (68, .aload_n 0, 1), (69, .getfield 342, 3), (72, .getfield 547, 3), (75, .iload_n 1, 1), (76, .iaload, 1), (77, .if_icmp .ge 26, 3), (80, .aload_n 0, 1), (81, .aload_n 0, 1), (82, .getfield 342, 3), (85, .getfield 399, 3), (88, .iload 5, 2), (90, .baload, 1), (91, .iload 4, 2), (93, .iload_n 3, 1), (94, .invokevirtual 531, 3), (97, .iinc 5 1, 3), (100, .goto (-34), 3), (103, .return_, 1)]
theorem t_X25_text : ∀ q ∈ k_X25_text, decode cX25_text q.1 = .ok q.2 := dl_all (by decide +kernel)
noncomputable def m_X25_text_l66 (a0 a1 a3 v18 x5_66 : Int) (h_66 : Hp) : Option ((Int × Hp) ⊕ (((Int × Int) × Hp))) :=
  gd (h_66 (h_66 a0 1) (-2) = 384) (gd (h_66 (h_66 (h_66 a0 1) 8) (-2) % 16 = 1 ∧ (0 : Int) ≤ a1 ∧ a1 < h_66 (h_66 (h_66 a0 1) 8) (-1)) (if (h_66 (h_66 (h_66 a0 1) 8) a1) ≤ x5_66 then (some (.inr ((0, 0), h_66)))
  else (gd (h_66 (h_66 (h_66 a0 1) 0) (-2) % 16 = 2 ∧ (0 : Int) ≤ x5_66 ∧ x5_66 < h_66 (h_66 (h_66 a0 1) 0) (-1)) (bT (m_X25_emit a0 (h_66 (h_66 (h_66 a0 1) 0) x5_66) v18 a3 h_66) (fun _ h94 =>
  lt_ (w32 (x5_66 + 1)) fun x5_97 =>
  some (.inl (x5_97, h94))) (fun a_ h_ => some (.inr ((1, a_), h_)))))))
noncomputable def m_X25_text (a0 a1 a2 a3 : Int) (h : Hp) : Option ((Int × Int) × Hp) :=
  gd (h (h a0 0) (-2) = 400) ((m_X24_speaks (h a0 0) a2 h).bind fun v5 =>
  if v5 ≠ 0 then ((m_X24_of (h a0 0) a2 1 h).bind fun v18 =>
  gd (h (h a0 1) (-2) = 384) (gd (h (h (h a0 1) 6) (-2) % 16 = 1 ∧ (0 : Int) ≤ a1 ∧ a1 < h (h (h a0 1) 6) (-1)) (if (h (h (h a0 1) 6) a1) ≠ 3 then (gd (h (h (h a0 1) 7) (-2) % 16 = 1 ∧ (0 : Int) ≤ a1 ∧ a1 < h (h (h a0 1) 7) (-1)) (lt_ (h (h (h a0 1) 7) a1) fun x5_64 =>
  (lp (fun (q : Int × Hp) => m_X25_text_l66 a0 a1 a3 v18 q.1 q.2) (x5_64, h)).bind (fun (x : (Int × Int) × Hp) => some x)))
  else (gd (h (h (h a0 1) 7) (-2) % 16 = 1 ∧ (0 : Int) ≤ a1 ∧ a1 < h (h (h a0 1) 7) (-1)) (bT (m_X25_emit a0 (h (h (h a0 1) 7) a1) v18 a3 h) (fun _ h49 =>
  some ((0, 0), h49)) (fun a_ h_ => some ((1, a_), h_)))))))
  else (some ((0, 0), h)))
theorem s_X25_text {l : Launch} [NoTr l] {D : SD} {a0 a1 a2 a3 : Int} {h : Hp} (hk : h a0 (-2) = 416) (r1 : r32 a1) (r2 : r32 a2) (r3 : (a3 = 0 ∨ a3 = 1)) {r : (Int × Int) × Hp} (hm : m_X25_text a0 a1 a2 a3 h = some r) : Sim l D yX25_text (Cond.code yX25_text cX25_text 6 (Option.none : Option Jvm.ClassFile.FieldType)) 11 414 [rv D a0, iv a1, iv a2, iv a3] h 0 r := by
  refine Sim.of (fin := fun (v : (Int × Int) × Hp) => v) (lsE := [(0, rv D a0), (1, iv a1), (2, iv a2), (3, iv a3)]) hm rfl cwS_code (la_r (la_i (la_i (la_i la_n)))) (ll_r (ll_i (ll_i (ll_i ll_n)))) ?_
  intro p e s m below meth c X hcw hmm hcc hnm hname
  have hno := noh hcw hnm hmm hcc
  unfold m_X25_text
  refine g_aload_n (pc := 0) X (j := 0) (i := 0) (q := 0) (x := a0) rfl rfl (dl_at t_X25_text 0 rfl) ?_
  refine r_getr (pc := 1) X fX25_0 hk q3761 (dl_at t_X25_text 1 rfl) ?_
  refine g_iload_n (pc := 4) X (j := 2) (i := 2) (q := 2) (x := a2) rfl rfl (dl_at t_X25_text 2 rfl) ?_
  refine g_gd fun k5 => ?_
  refine r_callRz (pc := 5) X (fun _ hv => s_X24_speaks k5 r2 hv) cw_code q4774 q378 (in_Vk X (As := [iv a2]) kX24 k5 (Or.inl q4937) q4772 q4773 cw_code q4774 ⟨by decide, by decide⟩ rfl (dl_at t_X25_text 3 rfl)) (dl_at t_X25_text 3 rfl) (cat24 (st := []) (Nat.le_of_ble_eq_true rfl)) (Nat.le_of_ble_eq_true rfl) (Nat.le_of_ble_eq_true rfl) fun v5 g5 => ?_
  refine g_ifne (pc := 8) X (r32_z g5) (off := 4) (tgt := 12) rfl (dl_at t_X25_text 4 rfl) (fun _ => ?_) (fun _ => ?_)
  · refine g_aload_n (pc := 12) X (j := 0) (i := 0) (q := 0) (x := a0) rfl rfl (dl_at t_X25_text 6 rfl) ?_
    refine r_getr (pc := 13) X fX25_0 hk q3761 (dl_at t_X25_text 7 rfl) ?_
    refine g_iload_n (pc := 16) X (j := 2) (i := 2) (q := 2) (x := a2) rfl rfl (dl_at t_X25_text 8 rfl) ?_
    refine g_iconst (pc := 17) X (n := 1) (dl_at t_X25_text 9 rfl) ?_
    refine r_callRi (pc := 18) X (fun _ hv => s_X24_of k5 r2 (r32_c rfl) hv) cw_code q4704 q378 (in_Vk X (As := [iv a2, iv 1]) kX24 k5 (Or.inl q4844) q4702 q4703 cw_code q4704 ⟨by decide, by decide⟩ rfl (dl_at t_X25_text 10 rfl)) (dl_at t_X25_text 10 rfl) (cat24 (st := []) (Nat.le_of_ble_eq_true rfl)) (Nat.le_of_ble_eq_true rfl) (Nat.le_of_ble_eq_true rfl) fun v18 g18 => ?_
    refine g_istoreN (pc := 21) X (i := 4) (x := v18) (b := 3) (w := iv a3) (rest := [(0, rv D a0), (1, iv a1)]) (Nat.le_of_ble_eq_true rfl) [3, 0, 1] rfl (by decide) rfl rfl (dl_at t_X25_text 11 rfl) ?_
    refine g_aload_n (pc := 23) X (j := 0) (i := 0) (q := 2) (x := a0) rfl rfl (dl_at t_X25_text 12 rfl) ?_
    refine r_getr (pc := 24) X fX25_1 hk q3763 (dl_at t_X25_text 13 rfl) ?_
    refine g_gd fun k27 => ?_
    refine r_getr (pc := 27) X fX23_6 k27 q3535 (dl_at t_X25_text 14 rfl) ?_
    refine g_iload_n (pc := 30) X (j := 1) (i := 1) (q := 3) (x := a1) rfl rfl (dl_at t_X25_text 15 rfl) ?_
    refine g_gd fun k31 => ?_
    refine g_iald (pc := 31) X r1 k31 (dl_at t_X25_text 16 rfl) fun g31 => ?_
    refine g_iconst (pc := 32) X (n := 3) (dl_at t_X25_text 17 rfl) ?_
    refine g_icmpne (pc := 33) X g31 (r32_c rfl) (off := 22) (tgt := 55) rfl (dl_at t_X25_text 18 rfl) (fun _ => ?_) (fun _ => ?_)
    · refine g_aload_n (pc := 55) X (j := 0) (i := 0) (q := 2) (x := a0) rfl rfl (dl_at t_X25_text 29 rfl) ?_
      refine r_getr (pc := 56) X fX25_1 hk q3763 (dl_at t_X25_text 30 rfl) ?_
      refine r_getr (pc := 59) X fX23_7 k27 q3538 (dl_at t_X25_text 31 rfl) ?_
      refine g_iload_n (pc := 62) X (j := 1) (i := 1) (q := 3) (x := a1) rfl rfl (dl_at t_X25_text 32 rfl) ?_
      refine g_gd fun k63 => ?_
      refine g_iald (pc := 63) X r1 k63 (dl_at t_X25_text 33 rfl) fun g63 => ?_
      refine g_lti g63 fun x5_64 r5_64 => ?_
      refine g_istoreN (pc := 64) X (i := 5) (x := x5_64) (b := 4) (w := iv v18) (rest := [(3, iv a3), (0, rv D a0), (1, iv a1)]) (Nat.le_of_ble_eq_true rfl) [0, 1, 2, 3] rfl (by decide) rfl rfl (dl_at t_X25_text 34 rfl) ?_
      refine g_ls (ls2 := [(0, rv D a0), (1, iv a1), (3, iv a3), (4, iv v18), (5, iv x5_64)]) [3, 4, 2, 1, 0] rfl ?_
      refine g_loop0F (fun (q : Int × Hp) => [(0, rv D a0), (1, iv a1), (3, iv a3), (4, iv v18), (5, iv q.1)]) (fun (q : Int × Hp) => q.2) (fun (q : Int × Hp) => r32 q.1 ∧ Ext h q.2) (x5_64, h) ⟨r5_64, (Ext.refl _)⟩ ?_ (fun _ => rfl)
      · rintro ⟨x5_66, h_66⟩ ⟨r5_66, E_66⟩
        try dsimp only
        unfold m_X25_text_l66
        refine g_iload (pc := 66) X (i := 5) (q := 4) (x := x5_66) rfl (dl_at t_X25_text 35 rfl) ?_
        refine g_aload_n (pc := 68) X (j := 0) (i := 0) (q := 0) (x := a0) rfl rfl (dl_at t_X25_text 36 rfl) ?_
        have k69 := kx E_66 (by decide) hk
        refine r_getr (pc := 69) X fX25_1 k69 q3763 (dl_at t_X25_text 37 rfl) ?_
        refine g_gd fun k72 => ?_
        refine r_getr (pc := 72) X fX23_8 k72 q3540 (dl_at t_X25_text 38 rfl) ?_
        refine g_iload_n (pc := 75) X (j := 1) (i := 1) (q := 1) (x := a1) rfl rfl (dl_at t_X25_text 39 rfl) ?_
        refine g_gd fun k76 => ?_
        refine g_iald (pc := 76) X r1 k76 (dl_at t_X25_text 40 rfl) fun g76 => ?_
        refine g_icmpge (pc := 77) X r5_66 g76 (off := 26) (tgt := 103) rfl (dl_at t_X25_text 41 rfl) (fun _ => ?_) (fun _ => ?_)
        · exact g_at fun Q hQ => (g_vret (pc := 103) X (v := 0) rfl rfl (dl_at t_X25_text 53 rfl)) _ Q rfl hQ
        refine g_aload_n (pc := 80) X (j := 0) (i := 0) (q := 0) (x := a0) rfl rfl (dl_at t_X25_text 42 rfl) ?_
        refine g_aload_n (pc := 81) X (j := 0) (i := 0) (q := 0) (x := a0) rfl rfl (dl_at t_X25_text 43 rfl) ?_
        refine r_getr (pc := 82) X fX25_1 k69 q3763 (dl_at t_X25_text 44 rfl) ?_
        refine r_getr (pc := 85) X fX23_0 k72 q3517 (dl_at t_X25_text 45 rfl) ?_
        refine g_iload (pc := 88) X (i := 5) (q := 4) (x := x5_66) rfl (dl_at t_X25_text 46 rfl) ?_
        refine g_gd fun k90 => ?_
        refine g_bald (pc := 90) X r5_66 k90 (dl_at t_X25_text 47 rfl) fun g90 => ?_
        refine g_iload (pc := 91) X (i := 4) (q := 3) (x := v18) rfl (dl_at t_X25_text 48 rfl) ?_
        refine g_iload_n (pc := 93) X (j := 3) (i := 3) (q := 2) (x := a3) rfl rfl (dl_at t_X25_text 49 rfl) ?_
        refine r_callTv (pc := 94) X (fun _ hv => s_X25_emit k69 (r32_b g90) g18 r3 hv) cw_code q4868 q379 (in_Vk X (As := [iv (h_66 (h_66 (h_66 a0 1) 0) x5_66), iv v18, iv a3]) kX25 k69 (Or.inl q4865) q4867 qs302 cw_code q4868 ⟨by decide, by decide⟩ rfl (dl_at t_X25_text 50 rfl)) (dl_at t_X25_text 50 rfl) (cat24 (st := []) (Nat.le_of_ble_eq_true rfl)) (Nat.le_of_ble_eq_true rfl) (Nat.le_of_ble_eq_true rfl) (fun v94 h94 E94 => ?_) (fun _ _ ha _ => gt_at fun Q hQ => gt_out (Q := Q) X rfl ha (hno _) _ Q rfl hQ)
        refine r_iincN (pc := 97) X (i := 5) (q := 4) (n := 1) (x := x5_66) (b := 4) (w := iv v18) (rest := [(0, rv D a0), (1, iv a1), (3, iv a3)]) rfl r5_66 (r32_c rfl) (Nat.le_of_ble_eq_true rfl) [3, 0, 1, 2] rfl (by decide) rfl rfl (dl_at t_X25_text 51 rfl) fun x5_97 r5_97 => ?_
        refine g_goto (pc := 100) X (off := (-34)) (tgt := 66) rfl (dl_at t_X25_text 52 rfl) ?_
        refine g_ls (ls2 := [(0, rv D a0), (1, iv a1), (3, iv a3), (4, iv v18), (5, iv x5_97)]) [2, 3, 4, 1, 0] rfl ?_
        exact g_at fun Q hQ => hQ ⟨r5_97, (E_66.trans E94)⟩
    refine g_aload_n (pc := 36) X (j := 0) (i := 0) (q := 2) (x := a0) rfl rfl (dl_at t_X25_text 19 rfl) ?_
    refine g_aload_n (pc := 37) X (j := 0) (i := 0) (q := 2) (x := a0) rfl rfl (dl_at t_X25_text 20 rfl) ?_
    refine r_getr (pc := 38) X fX25_1 hk q3763 (dl_at t_X25_text 21 rfl) ?_
    refine r_getr (pc := 41) X fX23_7 k27 q3538 (dl_at t_X25_text 22 rfl) ?_
    refine g_iload_n (pc := 44) X (j := 1) (i := 1) (q := 3) (x := a1) rfl rfl (dl_at t_X25_text 23 rfl) ?_
    refine g_gd fun k45 => ?_
    refine g_iald (pc := 45) X r1 k45 (dl_at t_X25_text 24 rfl) fun g45 => ?_
    refine g_iload (pc := 46) X (i := 4) (q := 0) (x := v18) rfl (dl_at t_X25_text 25 rfl) ?_
    refine g_iload_n (pc := 48) X (j := 3) (i := 3) (q := 1) (x := a3) rfl rfl (dl_at t_X25_text 26 rfl) ?_
    refine r_callTv (pc := 49) X (fun _ hv => s_X25_emit hk g45 g18 r3 hv) cw_code q4868 q379 (in_Vk X (As := [iv (h (h (h a0 1) 7) a1), iv v18, iv a3]) kX25 hk (Or.inl q4865) q4867 qs302 cw_code q4868 ⟨by decide, by decide⟩ rfl (dl_at t_X25_text 27 rfl)) (dl_at t_X25_text 27 rfl) (cat24 (st := []) (Nat.le_of_ble_eq_true rfl)) (Nat.le_of_ble_eq_true rfl) (Nat.le_of_ble_eq_true rfl) (fun v49 h49 E49 => ?_) (fun _ _ ha _ => gt_at fun Q hQ => gt_out (Q := Q) X rfl ha (hno _) _ Q rfl hQ)
    refine g_goto (pc := 52) X (off := 51) (tgt := 103) rfl (dl_at t_X25_text 28 rfl) ?_
    exact g_vret (pc := 103) X (v := 0) rfl rfl (dl_at t_X25_text 53 rfl)
  exact g_vret (pc := 11) X (v := 0) rfl rfl (dl_at t_X25_text 5 rfl)
def k_X25_note : List (Nat × Instr × Nat) := [(0, .aload_n 0, 1), (1, .getfield 154, 3), (4, .iload_n 1, 1), (5, .iaload, 1), (6, .istore_n 2, 1), (7, .aload_n 0, 1), (8, .getfield 14, 3), (11, .iload_n 2, 1), (12, .iconst 1, 1), (13, .invokevirtual 477, 3), (16, .istore_n 3, 1), (17, .aload_n 0, 1), (18, .invokevirtual 480, 3), (21, .aload_n 0, 1), (22, .iload_n 1, 1), (23, .iconst 1, 1), (24, .iadd, 1), (25, .iload_n 3, 1), (26, .iconst 0, 1), (27, .invokevirtual 573, 3), (30, .aload_n 0, 1), (31, .bipush 32, 2), (33, .iload_n 3, 1), (34, .iconst 0, 1), (35, .invokevirtual 531, 3), (38, .aload_n 0, 1), (39, .getfield 342, 3), (42, .iload_n 2, 1), (43, .ldc_w 655, 3), (46, .invokevirtual 431, 3), (49, .ifCond .lt 94, 3), (52, .aload_n 0, 1), (53, .iload_n 2, 1), (54, .ldc_w 655, 3), (57, .invokevirtual 561, 3), (60, .istore 4, 2), (62, .iload 4, 2), (64, .ifCond .ge 12, 3), (67, .aload_n 0, 1), (68, .iload_n 3, 1), (69, .iconst 0, 1), (70, .invokevirtual 564, 3), (73, .goto 62, 3), (76, .aload_n 0, 1), (77, .getfield 241, 3), (80, .iload_n 2, 1), (81, .iconst 3, 1), (82, .iastore, 1), (83, .aload_n 0, 1), (84, .getfield 244, 3), (87, .iload_n 2, 1), (88, .iload 4, 2), (90, .iastore, 1), (91, .aload_n 0, 1), (92, .aload_n 0, 1), (93, .getfield 226, 3), (96, .iload 4, 2), (98, .iaload, 1), (99, .iload_n 3, 1), (100, .iconst 0, 1), (101, .invokevirtual 573, 3), (104, .aload_n 0, 1), (105, .getfield 328, 3), (108, .iload 4, 2), (110, .baload, 1), (111, .ifCond .eq 24, 3), (114, .aload_n 0, 1), (115, .bipush 45, 2), (117, .iload_n 3, 1), (118, .iconst 0, 1), (119, .invokevirtual 531, 3), (122, .aload_n 0, 1), (123, .aload_n 0, 1), (124, .getfield 229, 3), (127, .iload 4, 2), (129, .iaload, 1), (130, .iload_n 3, 1), (131, .iconst 0, 1), (132, .invokevirtual 573, 3), (135, .aload_n 0, 1), (136, .bipush 32, 2), (138, .iload_n 3, 1), (139, .iconst 0, 1), (140, .invokevirtual 531, 3), (143, .aload_n 0, 1), (144, .iload_n 2, 1), (145, .iconst 0, 1), (146, .invokevirtual 633, 3), (149, .iload_n 2, 1), (150, .istore 4, 2), (152, .aload_n 0, 1), (153, .getfield 342, 3), (156, .getfield 656, 3), (159, .iload_n 2, 1), (160, .iaload, 1), (161, .iconst 1, 1), (162, .iadd, 1), (163, .istore 5, 2), (165, .iload 5, 2), (167, .aload_n 0, 1), (168, .getfield 342, 3), (171, .getfield 604, 3), (174, .iload_n 2, 1), (175, .iaload, 1), (176, .if_icmp .ge 207, 3), (179, .aload_n 0, 1), (180, .getfield 342, 3), (183, .getfield 541, 3), (186, .iload 5, 2), (188, .iaload, 1), (189, .iconst 1, 1), (190, .if_icmp .ne 149, 3), (193, .aload_n 0, 1), (194, .getfield 342, 3), (197, .getfield 544, 3), (200, .iload 5, 2), (202, .iaload, 1), (203, .istore 6, 2), (205, .aload_n 0, 1), (206, .getfield 14, 3), (209, .getfield 601, 3), (212, .iload 6, 2), (214, .baload, 1), (215, .ifCond .ne 18, 3), (218, .aload_n 0, 1), (219, .getfield 342, 3), (222, .getfield 604, 3), (225, .iload 6, 2), (227, .iaload, 1), (228, .istore 5, 2), (230, .goto 106, 3), (233, .aload_n 0, 1), (234, .getfield 14, 3), (237, .iload 6, 2), (239, .invokevirtual 426, 3), (242, .bipush 10, 2), (244, .if_icmp .ne 25, 3), (247, .aload_n 0, 1), (248, .iload 6, 2), (250, .iconst 0, 1), (251, .invokevirtual 643, 3), (254, .aload_n 0, 1), (255, .getfield 342, 3), (258, .getfield 604, 3), (261, .iload 6, 2), (263, .iaload, 1), (264, .istore 5, 2), (266, .goto 70, 3), (269, .aload_n 0, 1), (270, .getfield 14, 3), (273, .iload 6, 2), (275, .invokevirtual 426, 3), (278, .iconst 4, 1), (279, .if_icmp .eq 31, 3), (282, .aload_n 0, 1), (283, .getfield 14, 3), (286, .iload 6, 2), (288, .invokevirtual 426, 3), (291, .bipush 8, 2), (293, .if_icmp .eq 17, 3), (296, .aload_n 0, 1), (297, .getfield 14, 3), (300, .iload 6, 2), (302, .invokevirtual 426, 3), (305, .bipush 9, 2), (307, .if_icmp .ne 18, 3), (310, .aload_n 0, 1), (311, .getfield 342, 3), (314, .getfield 604, 3), (317, .iload 6, 2), (319, .iaload, 1), (320, .istore 5, 2), (322, .goto 14, 3), (325, .iload 6, 2), (327, .istore 4, 2), (329, .aload_n 0, 1), (330, .iload 6, 2), (332, .iconst 0, 1), (333, .invokevirtual 633, 3), (336, .goto 41, 3), (339, .aload_n 0, 1), (340, .getfield 342, 3), (343, .getfield 541, 3), (346, .iload 5, 2), (348, .iaload, 1), (349, .iconst 2, 1), (350, .if_icmp .ne 18, 3), (353, .aload_n 0, 1), (354, .getfield 342, 3), (357, .getfield 486, 3), (360, .iload 4, 2), (362, .iaload, 1), (363, .istore 4, 2), (365, .goto 12, 3), (368, .aload_n 0, 1), (369, .iload 5, 2), (371, .iload 4, 2), (373, .iconst 0, 1), (374, .invokevirtual 613, 3), (377, .iinc 5 1, 3), (380, .goto (-215), 3), (383, .aload_n 0, 1), (384, .getfield 160, 3), (387, .iload_n 1, 1), (388, .aload_n 0, 1), (389, .iload_n 2, 1), (390, .iconst 2, 1), (391, .iconst 0, 1), (392, .ldc2_w 490, 3), (395, .aload_n 0, 1), (396, .getfield 14, 3), (399, .getfield 489, 3), (402, .iconst 0, 1), (403, .iaload, 1), (404, .i2l, 1), (405, .invokestatic 658, 3), (408, .invokevirtual 505, 3), (411, .iastore, 1), (412, .return_, 1)]
theorem t_X25_note : ∀ q ∈ k_X25_note, decode cX25_note q.1 = .ok q.2 := dl_all (by decide +kernel)
noncomputable def m_X25_note_j377 (x4_377 x5_377 : Int) (h_377 : Hp) : Option ((Int × Int × Hp) ⊕ ((Hp) ⊕ (((Int × Int) × Hp)))) :=
  lt_ (w32 (x5_377 + 1)) fun x5_377_1 =>
  some (.inl (x4_377, x5_377_1, h_377))
noncomputable def m_X25_note_j310 (x6_203 a0 x4_165 : Int) (h_165 : Hp) : Option ((Int × Int × Hp) ⊕ ((Hp) ⊕ (((Int × Int) × Hp)))) :=
  gd (h_165 (h_165 (h_165 a0 1) 16) (-2) % 16 = 1 ∧ (0 : Int) ≤ x6_203 ∧ x6_203 < h_165 (h_165 (h_165 a0 1) 16) (-1)) (lt_ (h_165 (h_165 (h_165 a0 1) 16) x6_203) fun x5_320 =>
  m_X25_note_j377 x4_165 x5_320 h_165)
noncomputable def m_X25_note_l165 (a0 x2_6 x4_165 x5_165 : Int) (h_165 : Hp) : Option ((Int × Int × Hp) ⊕ ((Hp) ⊕ (((Int × Int) × Hp)))) :=
  gd (h_165 (h_165 a0 1) (-2) = 384) (gd (h_165 (h_165 (h_165 a0 1) 16) (-2) % 16 = 1 ∧ (0 : Int) ≤ x2_6 ∧ x2_6 < h_165 (h_165 (h_165 a0 1) 16) (-1)) (if (h_165 (h_165 (h_165 a0 1) 16) x2_6) ≤ x5_165 then (some (.inr (.inl h_165)))
  else (gd (h_165 (h_165 (h_165 a0 1) 6) (-2) % 16 = 1 ∧ (0 : Int) ≤ x5_165 ∧ x5_165 < h_165 (h_165 (h_165 a0 1) 6) (-1)) (if (h_165 (h_165 (h_165 a0 1) 6) x5_165) ≠ 1 then (if (h_165 (h_165 (h_165 a0 1) 6) x5_165) ≠ 2 then (bT (m_X25_text a0 x5_165 x4_165 0 h_165) (fun _ h374 =>
  m_X25_note_j377 x4_165 x5_165 h374) (fun a_ h_ => some (.inr (.inr ((1, a_), h_)))))
  else (gd (h_165 (h_165 (h_165 a0 1) 11) (-2) % 16 = 1 ∧ (0 : Int) ≤ x4_165 ∧ x4_165 < h_165 (h_165 (h_165 a0 1) 11) (-1)) (lt_ (h_165 (h_165 (h_165 a0 1) 11) x4_165) fun x4_363 =>
  m_X25_note_j377 x4_363 x5_165 h_165)))
  else (gd (h_165 (h_165 (h_165 a0 1) 7) (-2) % 16 = 1 ∧ (0 : Int) ≤ x5_165 ∧ x5_165 < h_165 (h_165 (h_165 a0 1) 7) (-1)) (lt_ (h_165 (h_165 (h_165 a0 1) 7) x5_165) fun x6_203 =>
  gd (h_165 (h_165 a0 0) (-2) = 400) (gd (h_165 (h_165 (h_165 a0 0) 9) (-2) % 16 = 3 ∧ (0 : Int) ≤ x6_203 ∧ x6_203 < h_165 (h_165 (h_165 a0 0) 9) (-1)) (if (h_165 (h_165 (h_165 a0 0) 9) x6_203) ≠ 0 then ((m_X24_show (h_165 a0 0) x6_203 h_165).bind fun v239 =>
  if v239 ≠ 10 then ((m_X24_show (h_165 a0 0) x6_203 h_165).bind fun v275 =>
  if v275 = 4 then (m_X25_note_j310 x6_203 a0 x4_165 h_165)
  else ((m_X24_show (h_165 a0 0) x6_203 h_165).bind fun v288 =>
  if v288 = 8 then (m_X25_note_j310 x6_203 a0 x4_165 h_165)
  else ((m_X24_show (h_165 a0 0) x6_203 h_165).bind fun v302 =>
  if v302 ≠ 9 then (bT (m_X25_label a0 x6_203 0 h_165) (fun _ h333 =>
  m_X25_note_j377 x6_203 x5_165 h333) (fun a_ h_ => some (.inr (.inr ((1, a_), h_)))))
  else (m_X25_note_j310 x6_203 a0 x4_165 h_165))))
  else (bT (m_X25_reference a0 x6_203 0 h_165) (fun _ h251 =>
  gd (h251 (h251 a0 1) (-2) = 384) (gd (h251 (h251 (h251 a0 1) 16) (-2) % 16 = 1 ∧ (0 : Int) ≤ x6_203 ∧ x6_203 < h251 (h251 (h251 a0 1) 16) (-1)) (lt_ (h251 (h251 (h251 a0 1) 16) x6_203) fun x5_264 =>
  m_X25_note_j377 x4_165 x5_264 h251))) (fun a_ h_ => some (.inr (.inr ((1, a_), h_))))))
  else (gd (h_165 (h_165 (h_165 a0 1) 16) (-2) % 16 = 1 ∧ (0 : Int) ≤ x6_203 ∧ x6_203 < h_165 (h_165 (h_165 a0 1) 16) (-1)) (lt_ (h_165 (h_165 (h_165 a0 1) 16) x6_203) fun x5_228 =>
  m_X25_note_j377 x4_165 x5_228 h_165))))))))))
noncomputable def m_X25_note_j143 (x2_6 a1 a0 : Int) (h_143 : Hp) : Option ((Int × Int) × Hp) :=
  bT (m_X25_label a0 x2_6 0 h_143) (fun _ h146 =>
  gd (h146 (h146 a0 1) (-2) = 384) (gd (h146 (h146 (h146 a0 1) 15) (-2) % 16 = 1 ∧ (0 : Int) ≤ x2_6 ∧ x2_6 < h146 (h146 (h146 a0 1) 15) (-1)) (lt_ (w32 ((h146 (h146 (h146 a0 1) 15) x2_6) + 1)) fun x5_163 =>
  (lp (fun (q : Int × Int × Hp) => m_X25_note_l165 a0 x2_6 q.1 q.2.1 q.2.2) (x2_6, x5_163, h146)).bind (sE (fun (y383 : Hp) => gd (y383 (y383 a0 0) (-2) = 400) (gd (y383 (y383 (y383 a0 0) 2) (-2) % 16 = 1 ∧ (0 : Int) ≤ 0 ∧ 0 < y383 (y383 (y383 a0 0) 2) (-1)) (bT (m_X25_ended a0 x2_6 2 0 (max_ 1000 (y383 (y383 (y383 a0 0) 2) 0)) y383) (fun v408 h408 =>
  gd (h408 (y383 a0 57) (-2) % 16 = 1 ∧ (0 : Int) ≤ a1 ∧ a1 < h408 (y383 a0 57) (-1)) (pt h408 (y383 a0 57) a1 v408 fun h411 =>
  some ((0, 0), h411))) (fun a_ h_ => some ((1, a_), h_))))) (fun (x : (Int × Int) × Hp) => some x))))) (fun a_ h_ => some ((1, a_), h_))
noncomputable def m_X25_note_j135 (v13 x2_6 a1 a0 : Int) (h_135 : Hp) : Option ((Int × Int) × Hp) :=
  bT (m_X25_emit a0 32 v13 0 h_135) (fun _ h140 =>
  m_X25_note_j143 x2_6 a1 a0 h140) (fun a_ h_ => some ((1, a_), h_))
noncomputable def m_X25_note (a0 a1 : Int) (h : Hp) : Option ((Int × Int) × Hp) :=
  gd (h (h a0 55) (-2) % 16 = 1 ∧ (0 : Int) ≤ a1 ∧ a1 < h (h a0 55) (-1)) (lt_ (h (h a0 55) a1) fun x2_6 =>
  gd (h (h a0 0) (-2) = 400) ((m_X24_of (h a0 0) x2_6 1 h).bind fun v13 =>
  (m_X25_begin a0 h).bind fun h18 =>
  bT (m_X25_digits a0 (w32 (a1 + 1)) v13 0 h18) (fun _ h27 =>
  bT (m_X25_emit a0 32 v13 0 h27) (fun _ h35 =>
  gd (h35 (h35 a0 1) (-2) = 384) ((m_X23_fieldOf_2 (h35 a0 1) x2_6 (-85) h35).bind fun v46 =>
  if v46 < 0 then (m_X25_note_j143 x2_6 a1 a0 h35)
  else ((m_X25_target a0 x2_6 (-85) h35).bind fun v57 =>
  if 0 ≤ v57 then (gd (h35 (h35 a0 86) (-2) % 16 = 1 ∧ (0 : Int) ≤ x2_6 ∧ x2_6 < h35 (h35 a0 86) (-1)) (pt h35 (h35 a0 86) x2_6 3 fun h82 =>
  gd (h82 (h82 a0 87) (-2) % 16 = 1 ∧ (0 : Int) ≤ x2_6 ∧ x2_6 < h82 (h82 a0 87) (-1)) (pt h82 (h82 a0 87) x2_6 v57 fun h90 =>
  gd (h90 (h90 a0 81) (-2) % 16 = 1 ∧ (0 : Int) ≤ v57 ∧ v57 < h90 (h90 a0 81) (-1)) (bT (m_X25_digits a0 (h90 (h90 a0 81) v57) v13 0 h90) (fun _ h101 =>
  gd (h101 (h101 a0 139) (-2) % 16 = 3 ∧ (0 : Int) ≤ v57 ∧ v57 < h101 (h101 a0 139) (-1)) (if (h101 (h101 a0 139) v57) = 0 then (m_X25_note_j135 v13 x2_6 a1 a0 h101)
  else (bT (m_X25_emit a0 45 v13 0 h101) (fun _ h119 =>
  gd (h119 (h119 a0 82) (-2) % 16 = 1 ∧ (0 : Int) ≤ v57 ∧ v57 < h119 (h119 a0 82) (-1)) (bT (m_X25_digits a0 (h119 (h119 a0 82) v57) v13 0 h119) (fun _ h132 =>
  m_X25_note_j135 v13 x2_6 a1 a0 h132) (fun a_ h_ => some ((1, a_), h_)))) (fun a_ h_ => some ((1, a_), h_))))) (fun a_ h_ => some ((1, a_), h_))))))
  else (bT (m_X25_unknown a0 v13 0 h35) (fun _ h70 =>
  m_X25_note_j135 v13 x2_6 a1 a0 h70) (fun a_ h_ => some ((1, a_), h_)))))) (fun a_ h_ => some ((1, a_), h_))) (fun a_ h_ => some ((1, a_), h_))))
theorem s_X25_note {l : Launch} [NoTr l] {D : SD} {a0 a1 : Int} {h : Hp} (hk : h a0 (-2) = 416) (r1 : r32 a1) {r : (Int × Int) × Hp} (hm : m_X25_note a0 a1 h = some r) : Sim l D yX25_note (Cond.code yX25_note cX25_note 7 (Option.none : Option Jvm.ClassFile.FieldType)) 13 498 [rv D a0, iv a1] h 0 r := by
  refine Sim.of (fin := fun (v : (Int × Int) × Hp) => v) (lsE := [(0, rv D a0), (1, iv a1)]) hm rfl cwS_code (la_r (la_i la_n)) (ll_r (ll_i ll_n)) ?_
  intro p e s m below meth c X hcw hmm hcc hnm hname
  have hno := noh hcw hnm hmm hcc
  unfold m_X25_note
  refine g_aload_n (pc := 0) X (j := 0) (i := 0) (q := 0) (x := a0) rfl rfl (dl_at t_X25_note 0 rfl) ?_
  refine r_getr (pc := 1) X fX25_55 hk q3842 (dl_at t_X25_note 1 rfl) ?_
  refine g_iload_n (pc := 4) X (j := 1) (i := 1) (q := 1) (x := a1) rfl rfl (dl_at t_X25_note 2 rfl) ?_
  refine g_gd fun k5 => ?_
  refine g_iald (pc := 5) X r1 k5 (dl_at t_X25_note 3 rfl) fun g5 => ?_
  refine g_lti g5 fun x2_6 r2_6 => ?_
  refine g_istore_nN (pc := 6) X (j := 2) (i := 2) (x := x2_6) (b := 1) (w := iv a1) (rest := [(0, rv D a0)]) rfl (Nat.le_of_ble_eq_true rfl) [1, 0] rfl (by decide) rfl rfl (dl_at t_X25_note 4 rfl) ?_
  refine g_aload_n (pc := 7) X (j := 0) (i := 0) (q := 2) (x := a0) rfl rfl (dl_at t_X25_note 5 rfl) ?_
  refine r_getr (pc := 8) X fX25_0 hk q3761 (dl_at t_X25_note 6 rfl) ?_
  refine g_iload_n (pc := 11) X (j := 2) (i := 2) (q := 0) (x := x2_6) rfl rfl (dl_at t_X25_note 7 rfl) ?_
  refine g_iconst (pc := 12) X (n := 1) (dl_at t_X25_note 8 rfl) ?_
  refine g_gd fun k13 => ?_
  refine r_callRi (pc := 13) X (fun _ hv => s_X24_of k13 r2_6 (r32_c rfl) hv) cw_code q4704 q378 (in_Vk X (As := [iv x2_6, iv 1]) kX24 k13 (Or.inl q4844) q4702 q4703 cw_code q4704 ⟨by decide, by decide⟩ rfl (dl_at t_X25_note 9 rfl)) (dl_at t_X25_note 9 rfl) (cat24 (st := []) (Nat.le_of_ble_eq_true rfl)) (Nat.le_of_ble_eq_true rfl) (Nat.le_of_ble_eq_true rfl) fun v13 g13 => ?_
  refine g_istore_nN (pc := 16) X (j := 3) (i := 3) (x := v13) (b := 2) (w := iv x2_6) (rest := [(1, iv a1), (0, rv D a0)]) rfl (Nat.le_of_ble_eq_true rfl) [0, 1, 2] rfl (by decide) rfl rfl (dl_at t_X25_note 10 rfl) ?_
  refine g_aload_n (pc := 17) X (j := 0) (i := 0) (q := 3) (x := a0) rfl rfl (dl_at t_X25_note 11 rfl) ?_
  refine r_callV (pc := 18) X (fun _ hv => s_X25_begin hk hv) cw_code q4827 q379 (in_Vk X (As := []) kX25 hk (Or.inl q4824) q4826 qs293 cw_code q4827 ⟨by decide, by decide⟩ rfl (dl_at t_X25_note 12 rfl)) (dl_at t_X25_note 12 rfl) (cat24 (st := []) (Nat.le_of_ble_eq_true rfl)) (Nat.le_of_ble_eq_true rfl) (Nat.le_of_ble_eq_true rfl) fun h18 E18 => ?_
  refine g_aload_n (pc := 21) X (j := 0) (i := 0) (q := 3) (x := a0) rfl rfl (dl_at t_X25_note 13 rfl) ?_
  refine g_iload_n (pc := 22) X (j := 1) (i := 1) (q := 2) (x := a1) rfl rfl (dl_at t_X25_note 14 rfl) ?_
  refine g_iconst (pc := 23) X (n := 1) (dl_at t_X25_note 15 rfl) ?_
  refine g_iadd (pc := 24) X r1 (r32_c rfl) (dl_at t_X25_note 16 rfl) ?_
  refine g_iload_n (pc := 25) X (j := 3) (i := 3) (q := 0) (x := v13) rfl rfl (dl_at t_X25_note 17 rfl) ?_
  refine g_iconst (pc := 26) X (n := 0) (dl_at t_X25_note 18 rfl) ?_
  have k27 := kx E18 (by decide) hk
  refine r_callTv (pc := 27) X (fun _ hv => s_X25_digits k27 (r32_w _) g13 (Or.inl rfl) hv) cw_code q4877 q379 (in_Vk X (As := [iv (w32 (a1 + 1)), iv v13, iv 0]) kX25 k27 (Or.inl q4874) q4876 qs304 cw_code q4877 ⟨by decide, by decide⟩ rfl (dl_at t_X25_note 19 rfl)) (dl_at t_X25_note 19 rfl) (cat24 (st := []) (Nat.le_of_ble_eq_true rfl)) (Nat.le_of_ble_eq_true rfl) (Nat.le_of_ble_eq_true rfl) (fun v27 h27 E27 => ?_) (fun _ _ ha _ => gt_at fun Q hQ => gt_out (Q := Q) X rfl ha (hno _) _ Q rfl hQ)
  refine g_aload_n (pc := 30) X (j := 0) (i := 0) (q := 3) (x := a0) rfl rfl (dl_at t_X25_note 20 rfl) ?_
  refine g_bipush (pc := 31) X (n := 32) rfl (dl_at t_X25_note 21 rfl) ?_
  refine g_iload_n (pc := 33) X (j := 3) (i := 3) (q := 0) (x := v13) rfl rfl (dl_at t_X25_note 22 rfl) ?_
  refine g_iconst (pc := 34) X (n := 0) (dl_at t_X25_note 23 rfl) ?_
  have k35 := kx E27 (by decide) k27
  refine r_callTv (pc := 35) X (fun _ hv => s_X25_emit k35 (r32_c rfl) g13 (Or.inl rfl) hv) cw_code q4868 q379 (in_Vk X (As := [iv 32, iv v13, iv 0]) kX25 k35 (Or.inl q4865) q4867 qs302 cw_code q4868 ⟨by decide, by decide⟩ rfl (dl_at t_X25_note 24 rfl)) (dl_at t_X25_note 24 rfl) (cat24 (st := []) (Nat.le_of_ble_eq_true rfl)) (Nat.le_of_ble_eq_true rfl) (Nat.le_of_ble_eq_true rfl) (fun v35 h35 E35 => ?_) (fun _ _ ha _ => gt_at fun Q hQ => gt_out (Q := Q) X rfl ha (hno _) _ Q rfl hQ)
  refine g_aload_n (pc := 38) X (j := 0) (i := 0) (q := 3) (x := a0) rfl rfl (dl_at t_X25_note 25 rfl) ?_
  have k39 := kx E35 (by decide) k35
  refine r_getr (pc := 39) X fX25_1 k39 q3763 (dl_at t_X25_note 26 rfl) ?_
  refine g_iload_n (pc := 42) X (j := 2) (i := 2) (q := 1) (x := x2_6) rfl rfl (dl_at t_X25_note 27 rfl) ?_
  refine g_ldcSw (pc := 43) X (index := 655) (id := (-85)) 83 rfl rfl (dl_at t_X25_note 28 rfl) ?_
  refine g_gd fun k46 => ?_
  refine r_callRi (pc := 46) X (fun _ hv => s_X23_fieldOf_2 k46 r2_6 hv) cw_code q4735 q377 (in_Vk X (As := [iv x2_6, rv D (-85)]) kX23 k46 (Or.inl q4732) q4733 q4734 cw_code q4735 ⟨by decide, by decide⟩ rfl (dl_at t_X25_note 29 rfl)) (dl_at t_X25_note 29 rfl) (cat24 (st := []) (Nat.le_of_ble_eq_true rfl)) (Nat.le_of_ble_eq_true rfl) (Nat.le_of_ble_eq_true rfl) fun v46 g46 => ?_
  refine g_join (γ := Hp) (fun q => Ext h35 q) 143 (fun q => [(0, rv D a0), (1, iv a1), (2, iv x2_6)]) (fun q => []) (fun q => q) (fun q => m_X25_note_j143 x2_6 a1 a0 q) ?_ ?_
  · rintro h_143 E_143
    try dsimp only
    unfold m_X25_note_j143
    refine g_aload_n (pc := 143) X (j := 0) (i := 0) (q := 0) (x := a0) rfl rfl (dl_at t_X25_note 84 rfl) ?_
    refine g_iload_n (pc := 144) X (j := 2) (i := 2) (q := 2) (x := x2_6) rfl rfl (dl_at t_X25_note 85 rfl) ?_
    refine g_iconst (pc := 145) X (n := 0) (dl_at t_X25_note 86 rfl) ?_
    have k146 := kx E_143 (by decide) k39
    refine r_callTv (pc := 146) X (fun _ hv => s_X25_label k146 r2_6 (Or.inl rfl) hv) cw_code q4894 q379 (in_Vk X (As := [iv x2_6, iv 0]) kX25 k146 (Or.inl q4891) q4893 qs307 cw_code q4894 ⟨by decide, by decide⟩ rfl (dl_at t_X25_note 87 rfl)) (dl_at t_X25_note 87 rfl) (cat24 (st := []) (Nat.le_of_ble_eq_true rfl)) (Nat.le_of_ble_eq_true rfl) (Nat.le_of_ble_eq_true rfl) (fun v146 h146 E146 => ?_) (fun _ _ ha _ => gt_at fun Q hQ => gt_out (Q := Q) X rfl ha (hno _) _ Q rfl hQ)
    refine g_iload_n (pc := 149) X (j := 2) (i := 2) (q := 2) (x := x2_6) rfl rfl (dl_at t_X25_note 88 rfl) ?_
    refine g_istore (pc := 150) X (i := 4) (x := x2_6) (rest := [(0, rv D a0), (1, iv a1), (2, iv x2_6)]) (Nat.le_of_ble_eq_true rfl) [0, 1, 2] rfl rfl (dl_at t_X25_note 89 rfl) ?_
    refine g_aload_n (pc := 152) X (j := 0) (i := 0) (q := 1) (x := a0) rfl rfl (dl_at t_X25_note 90 rfl) ?_
    have k153 := kx E146 (by decide) k146
    refine r_getr (pc := 153) X fX25_1 k153 q3763 (dl_at t_X25_note 91 rfl) ?_
    refine g_gd fun k156 => ?_
    refine r_getr (pc := 156) X fX23_15 k156 q3558 (dl_at t_X25_note 92 rfl) ?_
    refine g_iload_n (pc := 159) X (j := 2) (i := 2) (q := 3) (x := x2_6) rfl rfl (dl_at t_X25_note 93 rfl) ?_
    refine g_gd fun k160 => ?_
    refine g_iald (pc := 160) X r2_6 k160 (dl_at t_X25_note 94 rfl) fun g160 => ?_
    refine g_iconst (pc := 161) X (n := 1) (dl_at t_X25_note 95 rfl) ?_
    refine g_iadd (pc := 162) X g160 (r32_c rfl) (dl_at t_X25_note 96 rfl) ?_
    refine g_lti (r32_w _) fun x5_163 r5_163 => ?_
    refine g_istoreN (pc := 163) X (i := 5) (x := x5_163) (b := 4) (w := iv x2_6) (rest := [(0, rv D a0), (1, iv a1), (2, iv x2_6)]) (Nat.le_of_ble_eq_true rfl) [0, 1, 2, 3] rfl (by decide) rfl rfl (dl_at t_X25_note 97 rfl) ?_
    refine g_ls (ls2 := [(0, rv D a0), (1, iv a1), (2, iv x2_6), (4, iv x2_6), (5, iv x5_163)]) [2, 3, 4, 1, 0] rfl ?_
    refine g_loop1F (fun (q : Int × Int × Hp) => [(0, rv D a0), (1, iv a1), (2, iv x2_6), (4, iv q.1), (5, iv q.2.1)]) (fun (q : Int × Int × Hp) => q.2.2) (fun (q : Int × Int × Hp) => r32 q.1 ∧ r32 q.2.1 ∧ Ext h146 q.2.2) 383 (fun (y383 : Hp) => [(0, rv D a0), (1, iv a1), (2, iv x2_6)]) (fun (y383 : Hp) => y383) (fun (y383 : Hp) => Ext h146 y383) (x2_6, x5_163, h146) ⟨r2_6, r5_163, (Ext.refl _)⟩ ?_ ?_ (fun _ => rfl)
    · rintro ⟨x4_165, x5_165, h_165⟩ ⟨r4_165, r5_165, E_165⟩
      try dsimp only
      unfold m_X25_note_l165
      refine g_iload (pc := 165) X (i := 5) (q := 4) (x := x5_165) rfl (dl_at t_X25_note 98 rfl) ?_
      refine g_aload_n (pc := 167) X (j := 0) (i := 0) (q := 0) (x := a0) rfl rfl (dl_at t_X25_note 99 rfl) ?_
      have k168 := kx E_165 (by decide) k153
      refine r_getr (pc := 168) X fX25_1 k168 q3763 (dl_at t_X25_note 100 rfl) ?_
      refine g_gd fun k171 => ?_
      refine r_getr (pc := 171) X fX23_16 k171 q3561 (dl_at t_X25_note 101 rfl) ?_
      refine g_iload_n (pc := 174) X (j := 2) (i := 2) (q := 2) (x := x2_6) rfl rfl (dl_at t_X25_note 102 rfl) ?_
      refine g_gd fun k175 => ?_
      refine g_iald (pc := 175) X r2_6 k175 (dl_at t_X25_note 103 rfl) fun g175 => ?_
      refine g_icmpge (pc := 176) X r5_165 g175 (off := 207) (tgt := 383) rfl (dl_at t_X25_note 104 rfl) (fun _ => ?_) (fun _ => ?_)
      · refine g_ls (ls2 := [(0, rv D a0), (1, iv a1), (2, iv x2_6)]) [0, 1, 2] rfl ?_
        exact g_at fun Q hQ => hQ E_165
      refine g_aload_n (pc := 179) X (j := 0) (i := 0) (q := 0) (x := a0) rfl rfl (dl_at t_X25_note 105 rfl) ?_
      refine r_getr (pc := 180) X fX25_1 k168 q3763 (dl_at t_X25_note 106 rfl) ?_
      refine r_getr (pc := 183) X fX23_6 k171 q3535 (dl_at t_X25_note 107 rfl) ?_
      refine g_iload (pc := 186) X (i := 5) (q := 4) (x := x5_165) rfl (dl_at t_X25_note 108 rfl) ?_
      refine g_gd fun k188 => ?_
      refine g_iald (pc := 188) X r5_165 k188 (dl_at t_X25_note 109 rfl) fun g188 => ?_
      refine g_iconst (pc := 189) X (n := 1) (dl_at t_X25_note 110 rfl) ?_
      refine g_join (γ := Int × Int × Hp) (fun q => r32 q.1 ∧ r32 q.2.1 ∧ Ext h_165 q.2.2) 377 (fun q => [(0, rv D a0), (1, iv a1), (2, iv x2_6), (4, iv q.1), (5, iv q.2.1)]) (fun q => []) (fun q => q.2.2) (fun q => m_X25_note_j377 q.1 q.2.1 q.2.2) ?_ ?_
      · rintro ⟨x4_377, x5_377, h_377⟩ ⟨r4_377, r5_377, E_377⟩
        try dsimp only
        unfold m_X25_note_j377
        refine r_iincN (pc := 377) X (i := 5) (q := 4) (n := 1) (x := x5_377) (b := 4) (w := iv x4_377) (rest := [(0, rv D a0), (1, iv a1), (2, iv x2_6)]) rfl r5_377 (r32_c rfl) (Nat.le_of_ble_eq_true rfl) [3, 0, 1, 2] rfl (by decide) rfl rfl (dl_at t_X25_note 199 rfl) fun x5_377_1 r5_377_1 => ?_
        refine g_goto (pc := 380) X (off := (-215)) (tgt := 165) rfl (dl_at t_X25_note 200 rfl) ?_
        refine g_ls (ls2 := [(0, rv D a0), (1, iv a1), (2, iv x2_6), (4, iv x4_377), (5, iv x5_377_1)]) [2, 3, 4, 1, 0] rfl ?_
        exact g_at fun Q hQ => hQ ⟨r4_377, r5_377_1, (E_165.trans E_377)⟩
      intro J377
      refine g_icmpne (pc := 190) X g188 (r32_c rfl) (off := 149) (tgt := 339) rfl (dl_at t_X25_note 111 rfl) (fun _ => ?_) (fun _ => ?_)
      · refine g_aload_n (pc := 339) X (j := 0) (i := 0) (q := 0) (x := a0) rfl rfl (dl_at t_X25_note 180 rfl) ?_
        refine r_getr (pc := 340) X fX25_1 k168 q3763 (dl_at t_X25_note 181 rfl) ?_
        refine r_getr (pc := 343) X fX23_6 k171 q3535 (dl_at t_X25_note 182 rfl) ?_
        refine g_iload (pc := 346) X (i := 5) (q := 4) (x := x5_165) rfl (dl_at t_X25_note 183 rfl) ?_
        refine g_iald (pc := 348) X r5_165 k188 (dl_at t_X25_note 184 rfl) fun g348 => ?_
        refine g_iconst (pc := 349) X (n := 2) (dl_at t_X25_note 185 rfl) ?_
        refine g_icmpne (pc := 350) X g348 (r32_c rfl) (off := 18) (tgt := 368) rfl (dl_at t_X25_note 186 rfl) (fun _ => ?_) (fun _ => ?_)
        · refine g_aload_n (pc := 368) X (j := 0) (i := 0) (q := 0) (x := a0) rfl rfl (dl_at t_X25_note 194 rfl) ?_
          refine g_iload (pc := 369) X (i := 5) (q := 4) (x := x5_165) rfl (dl_at t_X25_note 195 rfl) ?_
          refine g_iload (pc := 371) X (i := 4) (q := 3) (x := x4_165) rfl (dl_at t_X25_note 196 rfl) ?_
          refine g_iconst (pc := 373) X (n := 0) (dl_at t_X25_note 197 rfl) ?_
          refine r_callTv (pc := 374) X (fun _ hv => s_X25_text k168 r5_165 r4_165 (Or.inl rfl) hv) cw_code q4936 q379 (in_Vk X (As := [iv x5_165, iv x4_165, iv 0]) kX25 k168 (Or.inl q4933) q4935 qs313 cw_code q4936 ⟨by decide, by decide⟩ rfl (dl_at t_X25_note 198 rfl)) (dl_at t_X25_note 198 rfl) (cat24 (st := []) (Nat.le_of_ble_eq_true rfl)) (Nat.le_of_ble_eq_true rfl) (Nat.le_of_ble_eq_true rfl) (fun v374 h374 E374 => ?_) (fun _ _ ha _ => gt_at fun Q hQ => gt_out (Q := Q) X rfl ha (hno _) _ Q rfl hQ)
          exact J377 (x4_165, x5_165, h374) ⟨r4_165, r5_165, E374⟩
        refine g_aload_n (pc := 353) X (j := 0) (i := 0) (q := 0) (x := a0) rfl rfl (dl_at t_X25_note 187 rfl) ?_
        refine r_getr (pc := 354) X fX25_1 k168 q3763 (dl_at t_X25_note 188 rfl) ?_
        refine r_getr (pc := 357) X fX23_11 k171 q3548 (dl_at t_X25_note 189 rfl) ?_
        refine g_iload (pc := 360) X (i := 4) (q := 3) (x := x4_165) rfl (dl_at t_X25_note 190 rfl) ?_
        refine g_gd fun k362 => ?_
        refine g_iald (pc := 362) X r4_165 k362 (dl_at t_X25_note 191 rfl) fun g362 => ?_
        refine g_lti g362 fun x4_363 r4_363 => ?_
        refine g_istore (pc := 363) X (i := 4) (x := x4_363) (rest := [(0, rv D a0), (1, iv a1), (2, iv x2_6), (5, iv x5_165)]) (Nat.le_of_ble_eq_true rfl) [0, 1, 2, 4] rfl rfl (dl_at t_X25_note 192 rfl) ?_
        refine g_goto (pc := 365) X (off := 12) (tgt := 377) rfl (dl_at t_X25_note 193 rfl) ?_
        refine g_ls (ls2 := [(0, rv D a0), (1, iv a1), (2, iv x2_6), (4, iv x4_363), (5, iv x5_165)]) [1, 2, 3, 0, 4] rfl ?_
        exact J377 (x4_363, x5_165, h_165) ⟨r4_363, r5_165, (Ext.refl _)⟩
      refine g_aload_n (pc := 193) X (j := 0) (i := 0) (q := 0) (x := a0) rfl rfl (dl_at t_X25_note 112 rfl) ?_
      refine r_getr (pc := 194) X fX25_1 k168 q3763 (dl_at t_X25_note 113 rfl) ?_
      refine r_getr (pc := 197) X fX23_7 k171 q3538 (dl_at t_X25_note 114 rfl) ?_
      refine g_iload (pc := 200) X (i := 5) (q := 4) (x := x5_165) rfl (dl_at t_X25_note 115 rfl) ?_
      refine g_gd fun k202 => ?_
      refine g_iald (pc := 202) X r5_165 k202 (dl_at t_X25_note 116 rfl) fun g202 => ?_
      refine g_lti g202 fun x6_203 r6_203 => ?_
      refine g_istoreN (pc := 203) X (i := 6) (x := x6_203) (b := 5) (w := iv x5_165) (rest := [(0, rv D a0), (1, iv a1), (2, iv x2_6), (4, iv x4_165)]) (Nat.le_of_ble_eq_true rfl) [4, 0, 1, 2, 3] rfl (by decide) rfl rfl (dl_at t_X25_note 117 rfl) ?_
      refine g_aload_n (pc := 205) X (j := 0) (i := 0) (q := 2) (x := a0) rfl rfl (dl_at t_X25_note 118 rfl) ?_
      refine r_getr (pc := 206) X fX25_0 k168 q3761 (dl_at t_X25_note 119 rfl) ?_
      refine g_gd fun k209 => ?_
      refine r_getr (pc := 209) X fX24_9 k209 q3664 (dl_at t_X25_note 120 rfl) ?_
      refine g_iload (pc := 212) X (i := 6) (q := 0) (x := x6_203) rfl (dl_at t_X25_note 121 rfl) ?_
      refine g_gd fun k214 => ?_
      refine g_zald (pc := 214) X r6_203 k214 (dl_at t_X25_note 122 rfl) fun g214 => ?_
      refine g_ifne (pc := 215) X (r32_z g214) (off := 18) (tgt := 233) rfl (dl_at t_X25_note 123 rfl) (fun _ => ?_) (fun _ => ?_)
      · refine g_aload_n (pc := 233) X (j := 0) (i := 0) (q := 2) (x := a0) rfl rfl (dl_at t_X25_note 131 rfl) ?_
        refine r_getr (pc := 234) X fX25_0 k168 q3761 (dl_at t_X25_note 132 rfl) ?_
        refine g_iload (pc := 237) X (i := 6) (q := 0) (x := x6_203) rfl (dl_at t_X25_note 133 rfl) ?_
        refine r_callRi (pc := 239) X (fun _ hv => s_X24_show k209 r6_203 hv) cw_code q4717 q378 (in_Vk X (As := [iv x6_203]) kX24 k209 (Or.inl q4730) q4715 q4716 cw_code q4717 ⟨by decide, by decide⟩ rfl (dl_at t_X25_note 134 rfl)) (dl_at t_X25_note 134 rfl) (cat24 (st := []) (Nat.le_of_ble_eq_true rfl)) (Nat.le_of_ble_eq_true rfl) (Nat.le_of_ble_eq_true rfl) fun v239 g239 => ?_
        refine g_bipush (pc := 242) X (n := 10) rfl (dl_at t_X25_note 135 rfl) ?_
        refine g_icmpne (pc := 244) X g239 (r32_c rfl) (off := 25) (tgt := 269) rfl (dl_at t_X25_note 136 rfl) (fun _ => ?_) (fun _ => ?_)
        · refine g_aload_n (pc := 269) X (j := 0) (i := 0) (q := 2) (x := a0) rfl rfl (dl_at t_X25_note 148 rfl) ?_
          refine r_getr (pc := 270) X fX25_0 k168 q3761 (dl_at t_X25_note 149 rfl) ?_
          refine g_iload (pc := 273) X (i := 6) (q := 0) (x := x6_203) rfl (dl_at t_X25_note 150 rfl) ?_
          refine r_callRi (pc := 275) X (fun _ hv => s_X24_show k209 r6_203 hv) cw_code q4717 q378 (in_Vk X (As := [iv x6_203]) kX24 k209 (Or.inl q4730) q4715 q4716 cw_code q4717 ⟨by decide, by decide⟩ rfl (dl_at t_X25_note 151 rfl)) (dl_at t_X25_note 151 rfl) (cat24 (st := []) (Nat.le_of_ble_eq_true rfl)) (Nat.le_of_ble_eq_true rfl) (Nat.le_of_ble_eq_true rfl) fun v275 g275 => ?_
          refine g_iconst (pc := 278) X (n := 4) (dl_at t_X25_note 152 rfl) ?_
          refine g_join (γ := Unit) (fun q => True) 310 (fun q => [(0, rv D a0), (1, iv a1), (2, iv x2_6), (4, iv x4_165), (6, iv x6_203)]) (fun q => []) (fun q => h_165) (fun q => m_X25_note_j310 x6_203 a0 x4_165 h_165) ?_ ?_
          · rintro _ _
            try dsimp only
            unfold m_X25_note_j310
            refine g_aload_n (pc := 310) X (j := 0) (i := 0) (q := 0) (x := a0) rfl rfl (dl_at t_X25_note 166 rfl) ?_
            refine r_getr (pc := 311) X fX25_1 k168 q3763 (dl_at t_X25_note 167 rfl) ?_
            refine r_getr (pc := 314) X fX23_16 k171 q3561 (dl_at t_X25_note 168 rfl) ?_
            refine g_iload (pc := 317) X (i := 6) (q := 4) (x := x6_203) rfl (dl_at t_X25_note 169 rfl) ?_
            refine g_gd fun k319 => ?_
            refine g_iald (pc := 319) X r6_203 k319 (dl_at t_X25_note 170 rfl) fun g319 => ?_
            refine g_lti g319 fun x5_320 r5_320 => ?_
            refine g_istoreN (pc := 320) X (i := 5) (x := x5_320) (b := 4) (w := iv x4_165) (rest := [(0, rv D a0), (1, iv a1), (2, iv x2_6)]) (Nat.le_of_ble_eq_true rfl) [3, 0, 1, 2] rfl (by decide) rfl rfl (dl_at t_X25_note 171 rfl) ?_
            refine g_goto (pc := 322) X (off := 14) (tgt := 336) rfl (dl_at t_X25_note 172 rfl) ?_
            refine g_goto (pc := 336) X (off := 41) (tgt := 377) rfl (dl_at t_X25_note 179 rfl) ?_
            refine g_ls (ls2 := [(0, rv D a0), (1, iv a1), (2, iv x2_6), (4, iv x4_165), (5, iv x5_320)]) [2, 3, 4, 1, 0] rfl ?_
            exact J377 (x4_165, x5_320, h_165) ⟨r4_165, r5_320, (Ext.refl _)⟩
          intro J310
          refine g_icmpeq (pc := 279) X g275 (r32_c rfl) (off := 31) (tgt := 310) rfl (dl_at t_X25_note 153 rfl) (fun _ => ?_) (fun _ => ?_)
          · refine g_ls (ls2 := [(0, rv D a0), (1, iv a1), (2, iv x2_6), (4, iv x4_165), (6, iv x6_203)]) [2, 3, 4, 5, 0] rfl ?_
            exact J310 () trivial
          refine g_aload_n (pc := 282) X (j := 0) (i := 0) (q := 2) (x := a0) rfl rfl (dl_at t_X25_note 154 rfl) ?_
          refine r_getr (pc := 283) X fX25_0 k168 q3761 (dl_at t_X25_note 155 rfl) ?_
          refine g_iload (pc := 286) X (i := 6) (q := 0) (x := x6_203) rfl (dl_at t_X25_note 156 rfl) ?_
          refine r_callRi (pc := 288) X (fun _ hv => s_X24_show k209 r6_203 hv) cw_code q4717 q378 (in_Vk X (As := [iv x6_203]) kX24 k209 (Or.inl q4730) q4715 q4716 cw_code q4717 ⟨by decide, by decide⟩ rfl (dl_at t_X25_note 157 rfl)) (dl_at t_X25_note 157 rfl) (cat24 (st := []) (Nat.le_of_ble_eq_true rfl)) (Nat.le_of_ble_eq_true rfl) (Nat.le_of_ble_eq_true rfl) fun v288 g288 => ?_
          refine g_bipush (pc := 291) X (n := 8) rfl (dl_at t_X25_note 158 rfl) ?_
          refine g_icmpeq (pc := 293) X g288 (r32_c rfl) (off := 17) (tgt := 310) rfl (dl_at t_X25_note 159 rfl) (fun _ => ?_) (fun _ => ?_)
          · refine g_ls (ls2 := [(0, rv D a0), (1, iv a1), (2, iv x2_6), (4, iv x4_165), (6, iv x6_203)]) [2, 3, 4, 5, 0] rfl ?_
            exact J310 () trivial
          refine g_aload_n (pc := 296) X (j := 0) (i := 0) (q := 2) (x := a0) rfl rfl (dl_at t_X25_note 160 rfl) ?_
          refine r_getr (pc := 297) X fX25_0 k168 q3761 (dl_at t_X25_note 161 rfl) ?_
          refine g_iload (pc := 300) X (i := 6) (q := 0) (x := x6_203) rfl (dl_at t_X25_note 162 rfl) ?_
          refine r_callRi (pc := 302) X (fun _ hv => s_X24_show k209 r6_203 hv) cw_code q4717 q378 (in_Vk X (As := [iv x6_203]) kX24 k209 (Or.inl q4730) q4715 q4716 cw_code q4717 ⟨by decide, by decide⟩ rfl (dl_at t_X25_note 163 rfl)) (dl_at t_X25_note 163 rfl) (cat24 (st := []) (Nat.le_of_ble_eq_true rfl)) (Nat.le_of_ble_eq_true rfl) (Nat.le_of_ble_eq_true rfl) fun v302 g302 => ?_
          refine g_bipush (pc := 305) X (n := 9) rfl (dl_at t_X25_note 164 rfl) ?_
          refine g_icmpne (pc := 307) X g302 (r32_c rfl) (off := 18) (tgt := 325) rfl (dl_at t_X25_note 165 rfl) (fun _ => ?_) (fun _ => ?_)
          · refine g_iload (pc := 325) X (i := 6) (q := 0) (x := x6_203) rfl (dl_at t_X25_note 173 rfl) ?_
            refine g_istore (pc := 327) X (i := 4) (x := x6_203) (rest := [(6, iv x6_203), (5, iv x5_165), (0, rv D a0), (1, iv a1), (2, iv x2_6)]) (Nat.le_of_ble_eq_true rfl) [0, 1, 2, 3, 4] rfl rfl (dl_at t_X25_note 174 rfl) ?_
            refine g_aload_n (pc := 329) X (j := 0) (i := 0) (q := 3) (x := a0) rfl rfl (dl_at t_X25_note 175 rfl) ?_
            refine g_iload (pc := 330) X (i := 6) (q := 1) (x := x6_203) rfl (dl_at t_X25_note 176 rfl) ?_
            refine g_iconst (pc := 332) X (n := 0) (dl_at t_X25_note 177 rfl) ?_
            refine r_callTv (pc := 333) X (fun _ hv => s_X25_label k168 r6_203 (Or.inl rfl) hv) cw_code q4894 q379 (in_Vk X (As := [iv x6_203, iv 0]) kX25 k168 (Or.inl q4891) q4893 qs307 cw_code q4894 ⟨by decide, by decide⟩ rfl (dl_at t_X25_note 178 rfl)) (dl_at t_X25_note 178 rfl) (cat24 (st := []) (Nat.le_of_ble_eq_true rfl)) (Nat.le_of_ble_eq_true rfl) (Nat.le_of_ble_eq_true rfl) (fun v333 h333 E333 => ?_) (fun _ _ ha _ => gt_at fun Q hQ => gt_out (Q := Q) X rfl ha (hno _) _ Q rfl hQ)
            refine g_goto (pc := 336) X (off := 41) (tgt := 377) rfl (dl_at t_X25_note 179 rfl) ?_
            refine g_ls (ls2 := [(0, rv D a0), (1, iv a1), (2, iv x2_6), (4, iv x6_203), (5, iv x5_165)]) [3, 4, 5, 0, 2] rfl ?_
            exact J377 (x6_203, x5_165, h333) ⟨r6_203, r5_165, E333⟩
          refine g_ls (ls2 := [(0, rv D a0), (1, iv a1), (2, iv x2_6), (4, iv x4_165), (6, iv x6_203)]) [2, 3, 4, 5, 0] rfl ?_
          exact J310 () trivial
        refine g_aload_n (pc := 247) X (j := 0) (i := 0) (q := 2) (x := a0) rfl rfl (dl_at t_X25_note 137 rfl) ?_
        refine g_iload (pc := 248) X (i := 6) (q := 0) (x := x6_203) rfl (dl_at t_X25_note 138 rfl) ?_
        refine g_iconst (pc := 250) X (n := 0) (dl_at t_X25_note 139 rfl) ?_
        refine r_callTv (pc := 251) X (fun _ hv => s_X25_reference k168 r6_203 (Or.inl rfl) hv) cw_code q4899 q379 (in_Vk X (As := [iv x6_203, iv 0]) kX25 k168 (Or.inl q4896) q4898 qs308 cw_code q4899 ⟨by decide, by decide⟩ rfl (dl_at t_X25_note 140 rfl)) (dl_at t_X25_note 140 rfl) (cat24 (st := []) (Nat.le_of_ble_eq_true rfl)) (Nat.le_of_ble_eq_true rfl) (Nat.le_of_ble_eq_true rfl) (fun v251 h251 E251 => ?_) (fun _ _ ha _ => gt_at fun Q hQ => gt_out (Q := Q) X rfl ha (hno _) _ Q rfl hQ)
        refine g_aload_n (pc := 254) X (j := 0) (i := 0) (q := 2) (x := a0) rfl rfl (dl_at t_X25_note 141 rfl) ?_
        have k255 := kx E251 (by decide) k168
        refine r_getr (pc := 255) X fX25_1 k255 q3763 (dl_at t_X25_note 142 rfl) ?_
        refine g_gd fun k258 => ?_
        refine r_getr (pc := 258) X fX23_16 k258 q3561 (dl_at t_X25_note 143 rfl) ?_
        refine g_iload (pc := 261) X (i := 6) (q := 0) (x := x6_203) rfl (dl_at t_X25_note 144 rfl) ?_
        refine g_gd fun k263 => ?_
        refine g_iald (pc := 263) X r6_203 k263 (dl_at t_X25_note 145 rfl) fun g263 => ?_
        refine g_lti g263 fun x5_264 r5_264 => ?_
        refine g_istoreN (pc := 264) X (i := 5) (x := x5_264) (b := 4) (w := iv x4_165) (rest := [(0, rv D a0), (1, iv a1), (2, iv x2_6)]) (Nat.le_of_ble_eq_true rfl) [5, 2, 3, 4] rfl (by decide) rfl rfl (dl_at t_X25_note 146 rfl) ?_
        refine g_goto (pc := 266) X (off := 70) (tgt := 336) rfl (dl_at t_X25_note 147 rfl) ?_
        refine g_goto (pc := 336) X (off := 41) (tgt := 377) rfl (dl_at t_X25_note 179 rfl) ?_
        refine g_ls (ls2 := [(0, rv D a0), (1, iv a1), (2, iv x2_6), (4, iv x4_165), (5, iv x5_264)]) [2, 3, 4, 1, 0] rfl ?_
        exact J377 (x4_165, x5_264, h251) ⟨r4_165, r5_264, E251⟩
      refine g_aload_n (pc := 218) X (j := 0) (i := 0) (q := 2) (x := a0) rfl rfl (dl_at t_X25_note 124 rfl) ?_
      refine r_getr (pc := 219) X fX25_1 k168 q3763 (dl_at t_X25_note 125 rfl) ?_
      refine r_getr (pc := 222) X fX23_16 k171 q3561 (dl_at t_X25_note 126 rfl) ?_
      refine g_iload (pc := 225) X (i := 6) (q := 0) (x := x6_203) rfl (dl_at t_X25_note 127 rfl) ?_
      refine g_gd fun k227 => ?_
      refine g_iald (pc := 227) X r6_203 k227 (dl_at t_X25_note 128 rfl) fun g227 => ?_
      refine g_lti g227 fun x5_228 r5_228 => ?_
      refine g_istoreN (pc := 228) X (i := 5) (x := x5_228) (b := 4) (w := iv x4_165) (rest := [(0, rv D a0), (1, iv a1), (2, iv x2_6)]) (Nat.le_of_ble_eq_true rfl) [5, 2, 3, 4] rfl (by decide) rfl rfl (dl_at t_X25_note 129 rfl) ?_
      refine g_goto (pc := 230) X (off := 106) (tgt := 336) rfl (dl_at t_X25_note 130 rfl) ?_
      refine g_goto (pc := 336) X (off := 41) (tgt := 377) rfl (dl_at t_X25_note 179 rfl) ?_
      refine g_ls (ls2 := [(0, rv D a0), (1, iv a1), (2, iv x2_6), (4, iv x4_165), (5, iv x5_228)]) [2, 3, 4, 1, 0] rfl ?_
      exact J377 (x4_165, x5_228, h_165) ⟨r4_165, r5_228, (Ext.refl _)⟩
    · rintro h_383 E_383
      try dsimp only [sE]
      refine g_aload_n (pc := 383) X (j := 0) (i := 0) (q := 0) (x := a0) rfl rfl (dl_at t_X25_note 201 rfl) ?_
      have k384 := kx E_383 (by decide) k153
      refine r_getr (pc := 384) X fX25_57 k384 q3846 (dl_at t_X25_note 202 rfl) ?_
      refine g_iload_n (pc := 387) X (j := 1) (i := 1) (q := 1) (x := a1) rfl rfl (dl_at t_X25_note 203 rfl) ?_
      refine g_aload_n (pc := 388) X (j := 0) (i := 0) (q := 0) (x := a0) rfl rfl (dl_at t_X25_note 204 rfl) ?_
      refine g_iload_n (pc := 389) X (j := 2) (i := 2) (q := 2) (x := x2_6) rfl rfl (dl_at t_X25_note 205 rfl) ?_
      refine g_iconst (pc := 390) X (n := 2) (dl_at t_X25_note 206 rfl) ?_
      refine g_iconst (pc := 391) X (n := 0) (dl_at t_X25_note 207 rfl) ?_
      refine g_ldc2 (pc := 392) X (index := 490) (n := 1000) q4849 (dl_at t_X25_note 208 rfl) ?_
      refine g_aload_n (pc := 395) X (j := 0) (i := 0) (q := 0) (x := a0) rfl rfl (dl_at t_X25_note 209 rfl) ?_
      refine r_getr (pc := 396) X fX25_0 k384 q3761 (dl_at t_X25_note 210 rfl) ?_
      refine g_gd fun k399 => ?_
      refine r_getr (pc := 399) X fX24_2 k399 q3647 (dl_at t_X25_note 211 rfl) ?_
      refine g_iconst (pc := 402) X (n := 0) (dl_at t_X25_note 212 rfl) ?_
      refine g_gd fun k403 => ?_
      refine g_iald (pc := 403) X (r32_c rfl) k403 (dl_at t_X25_note 213 rfl) fun g403 => ?_
      refine g_i2l (pc := 404) X g403 (dl_at t_X25_note 214 rfl) ?_
      refine g_mmaxl (pc := 405) X (r64_c rfl) (r64_of g403) q4943 q4944 q398 q4945 (cat24 (st := [iv 0, iv 2, iv x2_6, rv D a0, iv a1, rv D (h_383 a0 57)]) (Nat.le_of_ble_eq_true rfl)) (Nat.le_of_ble_eq_true rfl) (Nat.le_of_ble_eq_true rfl) (dl_at t_X25_note 215 rfl) ?_
      refine r_callTi (pc := 408) X (fun _ hv => s_X25_ended k384 r2_6 (r32_c rfl) (r32_c rfl) (r64_max (r64_c rfl) (r64_of g403)) hv) cw_code q4853 q379 (in_Vk X (As := [iv x2_6, iv 2, iv 0, jv (max_ 1000 (h_383 (h_383 (h_383 a0 0) 2) 0))]) kX25 k384 (Or.inl q4850) q4852 qs299 cw_code q4853 ⟨by decide, by decide⟩ rfl (dl_at t_X25_note 216 rfl)) (dl_at t_X25_note 216 rfl) (cat24 (st := [iv a1, rv D (h_383 a0 57)]) (Nat.le_of_ble_eq_true rfl)) (Nat.le_of_ble_eq_true rfl) (Nat.le_of_ble_eq_true rfl) (fun v408 h408 g408 E408 => ?_) (fun _ _ ha _ => gt_at fun Q hQ => gt_out (Q := Q) X rfl ha (hno _) _ Q rfl hQ)
      refine g_gd fun k411 => ?_
      refine r_iast (pc := 411) X r1 g408 k411 (dl_at t_X25_note 217 rfl) (fun h411 E411 => ?_)
      exact g_vret (pc := 412) X (v := 0) rfl rfl (dl_at t_X25_note 218 rfl)
  intro J143
  refine g_iflt (pc := 49) X g46 (off := 94) (tgt := 143) rfl (dl_at t_X25_note 30 rfl) (fun _ => ?_) (fun _ => ?_)
  · refine g_ls (ls2 := [(0, rv D a0), (1, iv a1), (2, iv x2_6)]) [3, 2, 1] rfl ?_
    exact J143 h35 (Ext.refl _)
  refine g_aload_n (pc := 52) X (j := 0) (i := 0) (q := 3) (x := a0) rfl rfl (dl_at t_X25_note 31 rfl) ?_
  refine g_iload_n (pc := 53) X (j := 2) (i := 2) (q := 1) (x := x2_6) rfl rfl (dl_at t_X25_note 32 rfl) ?_
  refine g_ldcSw (pc := 54) X (index := 655) (id := (-85)) 83 rfl rfl (dl_at t_X25_note 33 rfl) ?_
  refine r_callRi (pc := 57) X (fun _ hv => s_X25_target k39 r2_6 hv) cw_code q4905 q379 (in_Vk X (As := [iv x2_6, rv D (-85)]) kX25 k39 (Or.inl q4902) q4904 qs309 cw_code q4905 ⟨by decide, by decide⟩ rfl (dl_at t_X25_note 34 rfl)) (dl_at t_X25_note 34 rfl) (cat24 (st := []) (Nat.le_of_ble_eq_true rfl)) (Nat.le_of_ble_eq_true rfl) (Nat.le_of_ble_eq_true rfl) fun v57 g57 => ?_
  refine g_istoreN (pc := 60) X (i := 4) (x := v57) (b := 3) (w := iv v13) (rest := [(2, iv x2_6), (1, iv a1), (0, rv D a0)]) (Nat.le_of_ble_eq_true rfl) [0, 1, 2, 3] rfl (by decide) rfl rfl (dl_at t_X25_note 35 rfl) ?_
  refine g_iload (pc := 62) X (i := 4) (q := 0) (x := v57) rfl (dl_at t_X25_note 36 rfl) ?_
  refine g_join (γ := Hp) (fun q => Ext h35 q) 135 (fun q => [(0, rv D a0), (1, iv a1), (2, iv x2_6), (3, iv v13)]) (fun q => []) (fun q => q) (fun q => m_X25_note_j135 v13 x2_6 a1 a0 q) ?_ ?_
  · rintro h_135 E_135
    try dsimp only
    unfold m_X25_note_j135
    refine g_aload_n (pc := 135) X (j := 0) (i := 0) (q := 0) (x := a0) rfl rfl (dl_at t_X25_note 79 rfl) ?_
    refine g_bipush (pc := 136) X (n := 32) rfl (dl_at t_X25_note 80 rfl) ?_
    refine g_iload_n (pc := 138) X (j := 3) (i := 3) (q := 3) (x := v13) rfl rfl (dl_at t_X25_note 81 rfl) ?_
    refine g_iconst (pc := 139) X (n := 0) (dl_at t_X25_note 82 rfl) ?_
    have k140 := kx E_135 (by decide) k39
    refine r_callTv (pc := 140) X (fun _ hv => s_X25_emit k140 (r32_c rfl) g13 (Or.inl rfl) hv) cw_code q4868 q379 (in_Vk X (As := [iv 32, iv v13, iv 0]) kX25 k140 (Or.inl q4865) q4867 qs302 cw_code q4868 ⟨by decide, by decide⟩ rfl (dl_at t_X25_note 83 rfl)) (dl_at t_X25_note 83 rfl) (cat24 (st := []) (Nat.le_of_ble_eq_true rfl)) (Nat.le_of_ble_eq_true rfl) (Nat.le_of_ble_eq_true rfl) (fun v140 h140 E140 => ?_) (fun _ _ ha _ => gt_at fun Q hQ => gt_out (Q := Q) X rfl ha (hno _) _ Q rfl hQ)
    refine g_ls (ls2 := [(0, rv D a0), (1, iv a1), (2, iv x2_6)]) [0, 1, 2] rfl ?_
    exact J143 h140 (E_135.trans E140)
  intro J135
  refine g_ifge (pc := 64) X g57 (off := 12) (tgt := 76) rfl (dl_at t_X25_note 37 rfl) (fun _ => ?_) (fun _ => ?_)
  · refine g_aload_n (pc := 76) X (j := 0) (i := 0) (q := 4) (x := a0) rfl rfl (dl_at t_X25_note 43 rfl) ?_
    refine r_getr (pc := 77) X fX25_86 k39 q3888 (dl_at t_X25_note 44 rfl) ?_
    refine g_iload_n (pc := 80) X (j := 2) (i := 2) (q := 2) (x := x2_6) rfl rfl (dl_at t_X25_note 45 rfl) ?_
    refine g_iconst (pc := 81) X (n := 3) (dl_at t_X25_note 46 rfl) ?_
    refine g_gd fun k82 => ?_
    refine r_iast (pc := 82) X r2_6 (r32_c rfl) k82 (dl_at t_X25_note 47 rfl) (fun h82 E82 => ?_)
    refine g_aload_n (pc := 83) X (j := 0) (i := 0) (q := 4) (x := a0) rfl rfl (dl_at t_X25_note 48 rfl) ?_
    have k84 := kx E82 (by decide) k39
    refine r_getr (pc := 84) X fX25_87 k84 q3889 (dl_at t_X25_note 49 rfl) ?_
    refine g_iload_n (pc := 87) X (j := 2) (i := 2) (q := 2) (x := x2_6) rfl rfl (dl_at t_X25_note 50 rfl) ?_
    refine g_iload (pc := 88) X (i := 4) (q := 0) (x := v57) rfl (dl_at t_X25_note 51 rfl) ?_
    refine g_gd fun k90 => ?_
    refine r_iast (pc := 90) X r2_6 g57 k90 (dl_at t_X25_note 52 rfl) (fun h90 E90 => ?_)
    refine g_aload_n (pc := 91) X (j := 0) (i := 0) (q := 4) (x := a0) rfl rfl (dl_at t_X25_note 53 rfl) ?_
    refine g_aload_n (pc := 92) X (j := 0) (i := 0) (q := 4) (x := a0) rfl rfl (dl_at t_X25_note 54 rfl) ?_
    have k93 := kx E90 (by decide) k84
    refine r_getr (pc := 93) X fX25_81 k93 q3881 (dl_at t_X25_note 55 rfl) ?_
    refine g_iload (pc := 96) X (i := 4) (q := 0) (x := v57) rfl (dl_at t_X25_note 56 rfl) ?_
    refine g_gd fun k98 => ?_
    refine g_iald (pc := 98) X g57 k98 (dl_at t_X25_note 57 rfl) fun g98 => ?_
    refine g_iload_n (pc := 99) X (j := 3) (i := 3) (q := 1) (x := v13) rfl rfl (dl_at t_X25_note 58 rfl) ?_
    refine g_iconst (pc := 100) X (n := 0) (dl_at t_X25_note 59 rfl) ?_
    refine r_callTv (pc := 101) X (fun _ hv => s_X25_digits k93 g98 g13 (Or.inl rfl) hv) cw_code q4877 q379 (in_Vk X (As := [iv (h90 (h90 a0 81) v57), iv v13, iv 0]) kX25 k93 (Or.inl q4874) q4876 qs304 cw_code q4877 ⟨by decide, by decide⟩ rfl (dl_at t_X25_note 60 rfl)) (dl_at t_X25_note 60 rfl) (cat24 (st := []) (Nat.le_of_ble_eq_true rfl)) (Nat.le_of_ble_eq_true rfl) (Nat.le_of_ble_eq_true rfl) (fun v101 h101 E101 => ?_) (fun _ _ ha _ => gt_at fun Q hQ => gt_out (Q := Q) X rfl ha (hno _) _ Q rfl hQ)
    refine g_aload_n (pc := 104) X (j := 0) (i := 0) (q := 4) (x := a0) rfl rfl (dl_at t_X25_note 61 rfl) ?_
    have k105 := kx E101 (by decide) k93
    refine r_getr (pc := 105) X fX25_139 k105 q3951 (dl_at t_X25_note 62 rfl) ?_
    refine g_iload (pc := 108) X (i := 4) (q := 0) (x := v57) rfl (dl_at t_X25_note 63 rfl) ?_
    refine g_gd fun k110 => ?_
    refine g_zald (pc := 110) X g57 k110 (dl_at t_X25_note 64 rfl) fun g110 => ?_
    refine g_ifeq (pc := 111) X (r32_z g110) (off := 24) (tgt := 135) rfl (dl_at t_X25_note 65 rfl) (fun _ => ?_) (fun _ => ?_)
    · refine g_ls (ls2 := [(0, rv D a0), (1, iv a1), (2, iv x2_6), (3, iv v13)]) [4, 3, 2, 1] rfl ?_
      exact J135 h101 (E82.trans (E90.trans E101))
    refine g_aload_n (pc := 114) X (j := 0) (i := 0) (q := 4) (x := a0) rfl rfl (dl_at t_X25_note 66 rfl) ?_
    refine g_bipush (pc := 115) X (n := 45) rfl (dl_at t_X25_note 67 rfl) ?_
    refine g_iload_n (pc := 117) X (j := 3) (i := 3) (q := 1) (x := v13) rfl rfl (dl_at t_X25_note 68 rfl) ?_
    refine g_iconst (pc := 118) X (n := 0) (dl_at t_X25_note 69 rfl) ?_
    refine r_callTv (pc := 119) X (fun _ hv => s_X25_emit k105 (r32_c rfl) g13 (Or.inl rfl) hv) cw_code q4868 q379 (in_Vk X (As := [iv 45, iv v13, iv 0]) kX25 k105 (Or.inl q4865) q4867 qs302 cw_code q4868 ⟨by decide, by decide⟩ rfl (dl_at t_X25_note 70 rfl)) (dl_at t_X25_note 70 rfl) (cat24 (st := []) (Nat.le_of_ble_eq_true rfl)) (Nat.le_of_ble_eq_true rfl) (Nat.le_of_ble_eq_true rfl) (fun v119 h119 E119 => ?_) (fun _ _ ha _ => gt_at fun Q hQ => gt_out (Q := Q) X rfl ha (hno _) _ Q rfl hQ)
    refine g_aload_n (pc := 122) X (j := 0) (i := 0) (q := 4) (x := a0) rfl rfl (dl_at t_X25_note 71 rfl) ?_
    refine g_aload_n (pc := 123) X (j := 0) (i := 0) (q := 4) (x := a0) rfl rfl (dl_at t_X25_note 72 rfl) ?_
    have k124 := kx E119 (by decide) k105
    refine r_getr (pc := 124) X fX25_82 k124 q3882 (dl_at t_X25_note 73 rfl) ?_
    refine g_iload (pc := 127) X (i := 4) (q := 0) (x := v57) rfl (dl_at t_X25_note 74 rfl) ?_
    refine g_gd fun k129 => ?_
    refine g_iald (pc := 129) X g57 k129 (dl_at t_X25_note 75 rfl) fun g129 => ?_
    refine g_iload_n (pc := 130) X (j := 3) (i := 3) (q := 1) (x := v13) rfl rfl (dl_at t_X25_note 76 rfl) ?_
    refine g_iconst (pc := 131) X (n := 0) (dl_at t_X25_note 77 rfl) ?_
    refine r_callTv (pc := 132) X (fun _ hv => s_X25_digits k124 g129 g13 (Or.inl rfl) hv) cw_code q4877 q379 (in_Vk X (As := [iv (h119 (h119 a0 82) v57), iv v13, iv 0]) kX25 k124 (Or.inl q4874) q4876 qs304 cw_code q4877 ⟨by decide, by decide⟩ rfl (dl_at t_X25_note 78 rfl)) (dl_at t_X25_note 78 rfl) (cat24 (st := []) (Nat.le_of_ble_eq_true rfl)) (Nat.le_of_ble_eq_true rfl) (Nat.le_of_ble_eq_true rfl) (fun v132 h132 E132 => ?_) (fun _ _ ha _ => gt_at fun Q hQ => gt_out (Q := Q) X rfl ha (hno _) _ Q rfl hQ)
    refine g_ls (ls2 := [(0, rv D a0), (1, iv a1), (2, iv x2_6), (3, iv v13)]) [4, 3, 2, 1] rfl ?_
    exact J135 h132 (E82.trans (E90.trans (E101.trans (E119.trans E132))))
  refine g_aload_n (pc := 67) X (j := 0) (i := 0) (q := 4) (x := a0) rfl rfl (dl_at t_X25_note 38 rfl) ?_
  refine g_iload_n (pc := 68) X (j := 3) (i := 3) (q := 1) (x := v13) rfl rfl (dl_at t_X25_note 39 rfl) ?_
  refine g_iconst (pc := 69) X (n := 0) (dl_at t_X25_note 40 rfl) ?_
  refine r_callTv (pc := 70) X (fun _ hv => s_X25_unknown k39 g13 (Or.inl rfl) hv) cw_code q4915 q379 (in_Vk X (As := [iv v13, iv 0]) kX25 k39 (Or.inl q4912) q4914 qs310 cw_code q4915 ⟨by decide, by decide⟩ rfl (dl_at t_X25_note 41 rfl)) (dl_at t_X25_note 41 rfl) (cat24 (st := []) (Nat.le_of_ble_eq_true rfl)) (Nat.le_of_ble_eq_true rfl) (Nat.le_of_ble_eq_true rfl) (fun v70 h70 E70 => ?_) (fun _ _ ha _ => gt_at fun Q hQ => gt_out (Q := Q) X rfl ha (hno _) _ Q rfl hQ)
  refine g_goto (pc := 73) X (off := 62) (tgt := 135) rfl (dl_at t_X25_note 42 rfl) ?_
  refine g_ls (ls2 := [(0, rv D a0), (1, iv a1), (2, iv x2_6), (3, iv v13)]) [4, 3, 2, 1] rfl ?_
  exact J135 h70 E70
def k_X25_build : List (Nat × Instr × Nat) := [(0, .aload_n 0, 1), (1, .iconst 0, 1), (2, .putfield 457, 3), (5, .aload_n 0, 1), (6, .iconst 0, 1), (7, .putfield 474, 3), (10, .aload_n 0, 1), (11, .iconst 0, 1), (12, .putfield 372, 3), (15, .aload_n 0, 1), (16, .iconst 0, 1), (17, .putfield 492, 3), (20, .aload_n 0, 1), (21, .iconst 0, 1), (22, .putfield 592, 3), (25, .aload_n 0, 1), (26, .iconst 0, 1), (27, .putfield 595, 3), (30, .aload_n 0, 1), (31, .iconst 0, 1), (32, .putfield 495, 3), (35, .iconst 0, 1), (36, .istore_n 1, 1), (37, .iload_n 1, 1), (38, .aload_n 0, 1), (39, .getfield 342, 3), (42, .getfield 351, 3), (45, .if_icmp .ge 56, 3), (48, .aload_n 0, 1), (49, .getfield 241, 3), (52, .iload_n 1, 1), (53, .iconst 0, 1), (54, .iastore, 1), (55, .aload_n 0, 1), (56, .getfield 184, 3), (59, .iload_n 1, 1), (60, .iconst 0, 1), (61, .iastore, 1), (62, .aload_n 0, 1), (63, .getfield 111, 3), (66, .iload_n 1, 1), (67, .iconst 0, 1), (68, .bastore, 1), (69, .iconst 0, 1), (70, .istore_n 2, 1), (71, .iload_n 2, 1), (72, .bipush 8, 2), (74, .if_icmp .ge 21, 3), (77, .aload_n 0, 1), (78, .getfield 99, 3), (81, .bipush 8, 2), (83, .iload_n 1, 1), (84, .imul, 1), (85, .iload_n 2, 1), (86, .iadd, 1), (87, .iconst (-1), 1), (88, .iastore, 1), (89, .iinc 2 1, 3), (92, .goto (-21), 3), (95, .iinc 1 1, 3), (98, .goto (-61), 3), (101, .aload_n 0, 1), (102, .invokevirtual 480, 3), (105, .iconst (-1), 1), (106, .istore_n 1, 1), (107, .iconst 0, 1), (108, .istore_n 2, 1), (109, .iload_n 2, 1), (110, .aload_n 0, 1), (111, .getfield 342, 3), (114, .getfield 598, 3), (117, .if_icmp .ge 151, 3), (120, .aload_n 0, 1), (121, .getfield 342, 3), (124, .getfield 541, 3), (127, .iload_n 2, 1), (128, .iaload, 1), (129, .iconst 1, 1), (130, .if_icmp .ne 84, 3), (133, .aload_n 0, 1), (134, .getfield 342, 3), (137, .getfield 544, 3), (140, .iload_n 2, 1), (141, .iaload, 1), (142, .istore_n 3, 1), (143, .aload_n 0, 1), (144, .getfield 14, 3), (147, .getfield 601, 3), (150, .iload_n 3, 1), (151, .baload, 1), (152, .ifCond .ne 16, 3), (155, .aload_n 0, 1), (156, .getfield 342, 3), (159, .getfield 604, 3), (162, .iload_n 3, 1), (163, .iaload, 1), (164, .istore_n 2, 1), (165, .goto 97, 3), (168, .aload_n 0, 1), (169, .getfield 208, 3), (172, .iload_n 3, 1), (173, .aload_n 0, 1), (174, .getfield 474, 3), (177, .iastore, 1), (178, .aload_n 0, 1), (179, .iload_n 3, 1), (180, .invokevirtual 607, 3), (183, .ifCond .eq 8, 3), (186, .iload_n 3, 1), (187, .istore_n 1, 1), (188, .goto 23, 3), (191, .aload_n 0, 1), (192, .getfield 211, 3), (195, .iload_n 3, 1), (196, .aload_n 0, 1), (197, .getfield 474, 3), (200, .iastore, 1), (201, .aload_n 0, 1), (202, .getfield 342, 3), (205, .getfield 604, 3), (208, .iload_n 3, 1), (209, .iaload, 1), (210, .istore_n 2, 1), (211, .goto 51, 3), (214, .aload_n 0, 1), (215, .getfield 342, 3), (218, .getfield 541, 3), (221, .iload_n 2, 1), (222, .iaload, 1), (223, .iconst 2, 1), (224, .if_icmp .ne 31, 3), (227, .aload_n 0, 1), (228, .iload_n 1, 1), (229, .invokevirtual 610, 3), (232, .aload_n 0, 1), (233, .getfield 211, 3), (236, .iload_n 1, 1), (237, .aload_n 0, 1), (238, .getfield 474, 3), (241, .iastore, 1), (242, .aload_n 0, 1), (243, .getfield 342, 3), (246, .getfield 486, 3), (249, .iload_n 1, 1), (250, .iaload, 1), (251, .istore_n 1, 1), (252, .goto 10, 3), (255, .aload_n 0, 1), (256, .iload_n 2, 1), (257, .iload_n 1, 1), (258, .iconst 1, 1), (259, .invokevirtual 613, 3), (262, .iinc 2 1, 3), (265, .goto (-156), 3), (268, .aload_n 0, 1), (269, .iconst (-1), 1), (270, .invokevirtual 615, 3), (273, .iconst 0, 1), (274, .istore_n 2, 1), (275, .iload_n 2, 1), (276, .aload_n 0, 1), (277, .getfield 592, 3), (280, .if_icmp .ge 14, 3), (283, .aload_n 0, 1), (284, .iload_n 2, 1), (285, .invokevirtual 618, 3), (288, .iinc 2 1, 3), (291, .goto (-16), 3), (294, .return_, 1)]
theorem t_X25_build : ∀ q ∈ k_X25_build, decode cX25_build q.1 = .ok q.2 := dl_all (by decide +kernel)
noncomputable def m_X25_build_l71 (a0 x1_37 x2_71 : Int) (h_71 : Hp) : Option ((Int × Hp) ⊕ ((Hp))) :=
  if 8 ≤ x2_71 then (some (.inr h_71))
  else (gd (h_71 (h_71 a0 34) (-2) % 16 = 1 ∧ (0 : Int) ≤ (w32 ((w32 (8 * x1_37)) + x2_71)) ∧ (w32 ((w32 (8 * x1_37)) + x2_71)) < h_71 (h_71 a0 34) (-1)) (pt h_71 (h_71 a0 34) (w32 ((w32 (8 * x1_37)) + x2_71)) (-1) fun h88 =>
  lt_ (w32 (x2_71 + 1)) fun x2_89 =>
  some (.inl (x2_89, h88))))
noncomputable def m_X25_build_l37 (a0 x1_37 : Int) (h_37 : Hp) : Option ((Int × Hp) ⊕ ((Hp))) :=
  gd (h_37 (h_37 a0 1) (-2) = 384) (if (h_37 (h_37 a0 1) 3) ≤ x1_37 then (some (.inr h_37))
  else (gd (h_37 (h_37 a0 86) (-2) % 16 = 1 ∧ (0 : Int) ≤ x1_37 ∧ x1_37 < h_37 (h_37 a0 86) (-1)) (pt h_37 (h_37 a0 86) x1_37 0 fun h54 =>
  gd (h54 (h54 a0 65) (-2) % 16 = 1 ∧ (0 : Int) ≤ x1_37 ∧ x1_37 < h54 (h54 a0 65) (-1)) (pt h54 (h54 a0 65) x1_37 0 fun h61 =>
  gd (h61 (h61 a0 38) (-2) % 16 = 3 ∧ (0 : Int) ≤ x1_37 ∧ x1_37 < h61 (h61 a0 38) (-1)) (pt h61 (h61 a0 38) x1_37 0 fun h68 =>
  lt_ 0 fun x2_70 =>
  (lp (fun (q : Int × Hp) => m_X25_build_l71 a0 x1_37 q.1 q.2) (x2_70, h68)).bind (fun (y95 : Hp) => lt_ (w32 (x1_37 + 1)) fun x1_95 =>
  some (.inl (x1_95, y95))))))))
noncomputable def m_X25_build_j262 (x1_262 x2_262 : Int) (h_262 : Hp) : Option ((Int × Int × Hp) ⊕ ((Hp) ⊕ (((Int × Int) × Hp)))) :=
  lt_ (w32 (x2_262 + 1)) fun x2_262_1 =>
  some (.inl (x1_262, x2_262_1, h_262))
noncomputable def m_X25_build_l109 (a0 x1_109 x2_109 : Int) (h_109 : Hp) : Option ((Int × Int × Hp) ⊕ ((Hp) ⊕ (((Int × Int) × Hp)))) :=
  gd (h_109 (h_109 a0 1) (-2) = 384) (if (h_109 (h_109 a0 1) 2) ≤ x2_109 then (some (.inr (.inl h_109)))
  else (gd (h_109 (h_109 (h_109 a0 1) 6) (-2) % 16 = 1 ∧ (0 : Int) ≤ x2_109 ∧ x2_109 < h_109 (h_109 (h_109 a0 1) 6) (-1)) (if (h_109 (h_109 (h_109 a0 1) 6) x2_109) ≠ 1 then (if (h_109 (h_109 (h_109 a0 1) 6) x2_109) ≠ 2 then (bT (m_X25_text a0 x2_109 x1_109 1 h_109) (fun _ h259 =>
  m_X25_build_j262 x1_109 x2_109 h259) (fun a_ h_ => some (.inr (.inr ((1, a_), h_)))))
  else (bT (m_X25_closes a0 x1_109 h_109) (fun _ h229 =>
  gd (h229 (h229 a0 76) (-2) % 16 = 1 ∧ (0 : Int) ≤ x1_109 ∧ x1_109 < h229 (h229 a0 76) (-1)) (pt h229 (h229 a0 76) x1_109 (h229 a0 8) fun h241 =>
  gd (h241 (h241 a0 1) (-2) = 384) (gd (h241 (h241 (h241 a0 1) 11) (-2) % 16 = 1 ∧ (0 : Int) ≤ x1_109 ∧ x1_109 < h241 (h241 (h241 a0 1) 11) (-1)) (lt_ (h241 (h241 (h241 a0 1) 11) x1_109) fun x1_251 =>
  m_X25_build_j262 x1_251 x2_109 h241)))) (fun a_ h_ => some (.inr (.inr ((1, a_), h_))))))
  else (gd (h_109 (h_109 (h_109 a0 1) 7) (-2) % 16 = 1 ∧ (0 : Int) ≤ x2_109 ∧ x2_109 < h_109 (h_109 (h_109 a0 1) 7) (-1)) (lt_ (h_109 (h_109 (h_109 a0 1) 7) x2_109) fun x3_142 =>
  gd (h_109 (h_109 a0 0) (-2) = 400) (gd (h_109 (h_109 (h_109 a0 0) 9) (-2) % 16 = 3 ∧ (0 : Int) ≤ x3_142 ∧ x3_142 < h_109 (h_109 (h_109 a0 0) 9) (-1)) (if (h_109 (h_109 (h_109 a0 0) 9) x3_142) ≠ 0 then (gd (h_109 (h_109 a0 75) (-2) % 16 = 1 ∧ (0 : Int) ≤ x3_142 ∧ x3_142 < h_109 (h_109 a0 75) (-1)) (pt h_109 (h_109 a0 75) x3_142 (h_109 a0 8) fun h177 =>
  bT (m_X25_opens a0 x3_142 h177) (fun v180 h180 =>
  if v180 = 0 then (gd (h180 (h180 a0 76) (-2) % 16 = 1 ∧ (0 : Int) ≤ x3_142 ∧ x3_142 < h180 (h180 a0 76) (-1)) (pt h180 (h180 a0 76) x3_142 (h180 a0 8) fun h200 =>
  gd (h200 (h200 a0 1) (-2) = 384) (gd (h200 (h200 (h200 a0 1) 16) (-2) % 16 = 1 ∧ (0 : Int) ≤ x3_142 ∧ x3_142 < h200 (h200 (h200 a0 1) 16) (-1)) (lt_ (h200 (h200 (h200 a0 1) 16) x3_142) fun x2_210 =>
  m_X25_build_j262 x1_109 x2_210 h200))))
  else (m_X25_build_j262 x3_142 x2_109 h180)) (fun a_ h_ => some (.inr (.inr ((1, a_), h_))))))
  else (gd (h_109 (h_109 (h_109 a0 1) 16) (-2) % 16 = 1 ∧ (0 : Int) ≤ x3_142 ∧ x3_142 < h_109 (h_109 (h_109 a0 1) 16) (-1)) (lt_ (h_109 (h_109 (h_109 a0 1) 16) x3_142) fun x2_164 =>
  m_X25_build_j262 x1_109 x2_164 h_109)))))))))
noncomputable def m_X25_build_l275 (a0 x2_275 : Int) (h_275 : Hp) : Option ((Int × Hp) ⊕ (((Int × Int) × Hp))) :=
  if (h_275 a0 53) ≤ x2_275 then (some (.inr ((0, 0), h_275)))
  else (bT (m_X25_note a0 x2_275 h_275) (fun _ h285 =>
  lt_ (w32 (x2_275 + 1)) fun x2_288 =>
  some (.inl (x2_288, h285))) (fun a_ h_ => some (.inr ((1, a_), h_))))
noncomputable def m_X25_build (a0 : Int) (h : Hp) : Option ((Int × Int) × Hp) :=
  pt h a0 4 0 fun h2 =>
  pt h2 a0 8 0 fun h7 =>
  pt h7 a0 9 0 fun h12 =>
  pt h12 a0 30 0 fun h17 =>
  pt h17 a0 53 0 fun h22 =>
  pt h22 a0 54 0 fun h27 =>
  pt h27 a0 103 0 fun h32 =>
  lt_ 0 fun x1_36 =>
  (lp (fun (q : Int × Hp) => m_X25_build_l37 a0 q.1 q.2) (x1_36, h32)).bind (fun (y101 : Hp) => (m_X25_begin a0 y101).bind fun h102 =>
  lt_ (-1) fun x1_106 =>
  lt_ 0 fun x2_108 =>
  (lp (fun (q : Int × Int × Hp) => m_X25_build_l109 a0 q.1 q.2.1 q.2.2) (x1_106, x2_108, h102)).bind (sE (fun (y268 : Hp) => bT (m_X25_flowEnds a0 (-1) y268) (fun _ h270 =>
  lt_ 0 fun x2_274 =>
  (lp (fun (q : Int × Hp) => m_X25_build_l275 a0 q.1 q.2) (x2_274, h270)).bind (fun (x : (Int × Int) × Hp) => some x)) (fun a_ h_ => some ((1, a_), h_))) (fun (x : (Int × Int) × Hp) => some x)))
theorem s_X25_build {l : Launch} [NoTr l] {D : SD} {a0 : Int} {h : Hp} (hk : h a0 (-2) = 416) {r : (Int × Int) × Hp} (hm : m_X25_build a0 h = some r) : Sim l D yX25_build (Cond.code yX25_build cX25_build 4 (Option.none : Option Jvm.ClassFile.FieldType)) 14 540 [rv D a0] h 0 r := by
  refine Sim.of (fin := fun (v : (Int × Int) × Hp) => v) (lsE := [(0, rv D a0)]) hm rfl cwS_code (la_r la_n) (ll_r ll_n) ?_
  intro p e s m below meth c X hcw hmm hcc hnm hname
  have hno := noh hcw hnm hmm hcc
  unfold m_X25_build
  refine g_aload_n (pc := 0) X (j := 0) (i := 0) (q := 0) (x := a0) rfl rfl (dl_at t_X25_build 0 rfl) ?_
  refine g_iconst (pc := 1) X (n := 0) (dl_at t_X25_build 1 rfl) ?_
  refine r_puti (pc := 2) X fX25_4 hk q3767 rfl (dl_at t_X25_build 2 rfl) (r32_c rfl) (fun h2 E2 => ?_)
  refine g_aload_n (pc := 5) X (j := 0) (i := 0) (q := 0) (x := a0) rfl rfl (dl_at t_X25_build 3 rfl) ?_
  refine g_iconst (pc := 6) X (n := 0) (dl_at t_X25_build 4 rfl) ?_
  have k7 := kx E2 (by decide) hk
  refine r_puti (pc := 7) X fX25_8 k7 q3772 rfl (dl_at t_X25_build 5 rfl) (r32_c rfl) (fun h7 E7 => ?_)
  refine g_aload_n (pc := 10) X (j := 0) (i := 0) (q := 0) (x := a0) rfl rfl (dl_at t_X25_build 6 rfl) ?_
  refine g_iconst (pc := 11) X (n := 0) (dl_at t_X25_build 7 rfl) ?_
  have k12 := kx E7 (by decide) k7
  refine r_puti (pc := 12) X fX25_9 k12 q3773 rfl (dl_at t_X25_build 8 rfl) (r32_c rfl) (fun h12 E12 => ?_)
  refine g_aload_n (pc := 15) X (j := 0) (i := 0) (q := 0) (x := a0) rfl rfl (dl_at t_X25_build 9 rfl) ?_
  refine g_iconst (pc := 16) X (n := 0) (dl_at t_X25_build 10 rfl) ?_
  have k17 := kx E12 (by decide) k12
  refine r_puti (pc := 17) X fX25_30 k17 q3806 rfl (dl_at t_X25_build 11 rfl) (r32_c rfl) (fun h17 E17 => ?_)
  refine g_aload_n (pc := 20) X (j := 0) (i := 0) (q := 0) (x := a0) rfl rfl (dl_at t_X25_build 12 rfl) ?_
  refine g_iconst (pc := 21) X (n := 0) (dl_at t_X25_build 13 rfl) ?_
  have k22 := kx E17 (by decide) k17
  refine r_puti (pc := 22) X fX25_53 k22 q3838 rfl (dl_at t_X25_build 14 rfl) (r32_c rfl) (fun h22 E22 => ?_)
  refine g_aload_n (pc := 25) X (j := 0) (i := 0) (q := 0) (x := a0) rfl rfl (dl_at t_X25_build 15 rfl) ?_
  refine g_iconst (pc := 26) X (n := 0) (dl_at t_X25_build 16 rfl) ?_
  have k27 := kx E22 (by decide) k22
  refine r_puti (pc := 27) X fX25_54 k27 q3840 rfl (dl_at t_X25_build 17 rfl) (r32_c rfl) (fun h27 E27 => ?_)
  refine g_aload_n (pc := 30) X (j := 0) (i := 0) (q := 0) (x := a0) rfl rfl (dl_at t_X25_build 18 rfl) ?_
  refine g_iconst (pc := 31) X (n := 0) (dl_at t_X25_build 19 rfl) ?_
  have k32 := kx E27 (by decide) k27
  refine r_puti (pc := 32) X fX25_103 k32 q3915 rfl (dl_at t_X25_build 20 rfl) (r32_c rfl) (fun h32 E32 => ?_)
  refine g_iconst (pc := 35) X (n := 0) (dl_at t_X25_build 21 rfl) ?_
  refine g_ltz (Or.inl rfl) fun x1_36 r1_36 => ?_
  refine g_istore_nN (pc := 36) X (j := 1) (i := 1) (x := x1_36) (b := 0) (w := rv D a0) (rest := []) rfl (Nat.le_of_ble_eq_true rfl) [0] rfl (by decide) rv_cat rfl (dl_at t_X25_build 22 rfl) ?_
  refine g_ls (ls2 := [(0, rv D a0), (1, iv x1_36)]) [1, 0] rfl ?_
  refine g_loop1 (fun (q : Int × Hp) => [(0, rv D a0), (1, iv q.1)]) (fun (q : Int × Hp) => q.2) (fun (q : Int × Hp) => r32 q.1 ∧ Ext h32 q.2) 101 (fun (y101 : Hp) => [(0, rv D a0)]) (fun (y101 : Hp) => y101) (fun (y101 : Hp) => Ext h32 y101) (x1_36, h32) ⟨(r32_z r1_36), (Ext.refl _)⟩ ?_ ?_
  · rintro ⟨x1_37, h_37⟩ ⟨r1_37, E_37⟩
    try dsimp only
    unfold m_X25_build_l37
    refine g_iload_n (pc := 37) X (j := 1) (i := 1) (q := 1) (x := x1_37) rfl rfl (dl_at t_X25_build 23 rfl) ?_
    refine g_aload_n (pc := 38) X (j := 0) (i := 0) (q := 0) (x := a0) rfl rfl (dl_at t_X25_build 24 rfl) ?_
    have k39 := kx (E32.trans E_37) (by decide) k32
    refine r_getr (pc := 39) X fX25_1 k39 q3763 (dl_at t_X25_build 25 rfl) ?_
    refine g_gd fun k42 => ?_
    refine r_geti (pc := 42) X fX23_3 k42 q3526 (dl_at t_X25_build 26 rfl) fun g42 => ?_
    refine g_icmpge (pc := 45) X r1_37 g42 (off := 56) (tgt := 101) rfl (dl_at t_X25_build 27 rfl) (fun _ => ?_) (fun _ => ?_)
    · refine g_ls (ls2 := [(0, rv D a0)]) [0] rfl ?_
      exact g_at fun Q hQ => hQ E_37
    refine g_aload_n (pc := 48) X (j := 0) (i := 0) (q := 0) (x := a0) rfl rfl (dl_at t_X25_build 28 rfl) ?_
    refine r_getr (pc := 49) X fX25_86 k39 q3888 (dl_at t_X25_build 29 rfl) ?_
    refine g_iload_n (pc := 52) X (j := 1) (i := 1) (q := 1) (x := x1_37) rfl rfl (dl_at t_X25_build 30 rfl) ?_
    refine g_iconst (pc := 53) X (n := 0) (dl_at t_X25_build 31 rfl) ?_
    refine g_gd fun k54 => ?_
    refine r_iast (pc := 54) X r1_37 (r32_c rfl) k54 (dl_at t_X25_build 32 rfl) (fun h54 E54 => ?_)
    refine g_aload_n (pc := 55) X (j := 0) (i := 0) (q := 0) (x := a0) rfl rfl (dl_at t_X25_build 33 rfl) ?_
    have k56 := kx E54 (by decide) k39
    refine r_getr (pc := 56) X fX25_65 k56 q3862 (dl_at t_X25_build 34 rfl) ?_
    refine g_iload_n (pc := 59) X (j := 1) (i := 1) (q := 1) (x := x1_37) rfl rfl (dl_at t_X25_build 35 rfl) ?_
    refine g_iconst (pc := 60) X (n := 0) (dl_at t_X25_build 36 rfl) ?_
    refine g_gd fun k61 => ?_
    refine r_iast (pc := 61) X r1_37 (r32_c rfl) k61 (dl_at t_X25_build 37 rfl) (fun h61 E61 => ?_)
    refine g_aload_n (pc := 62) X (j := 0) (i := 0) (q := 0) (x := a0) rfl rfl (dl_at t_X25_build 38 rfl) ?_
    have k63 := kx E61 (by decide) k56
    refine r_getr (pc := 63) X fX25_38 k63 q3816 (dl_at t_X25_build 39 rfl) ?_
    refine g_iload_n (pc := 66) X (j := 1) (i := 1) (q := 1) (x := x1_37) rfl rfl (dl_at t_X25_build 40 rfl) ?_
    refine g_iconst (pc := 67) X (n := 0) (dl_at t_X25_build 41 rfl) ?_
    refine g_gd fun k68 => ?_
    refine r_zast (pc := 68) X r1_37 (Or.inl rfl) k68 (dl_at t_X25_build 42 rfl) (fun h68 E68 => ?_)
    refine g_iconst (pc := 69) X (n := 0) (dl_at t_X25_build 43 rfl) ?_
    refine g_ltz (Or.inl rfl) fun x2_70 r2_70 => ?_
    refine g_istore_nN (pc := 70) X (j := 2) (i := 2) (x := x2_70) (b := 1) (w := iv x1_37) (rest := [(0, rv D a0)]) rfl (Nat.le_of_ble_eq_true rfl) [1, 0] rfl (by decide) rfl rfl (dl_at t_X25_build 44 rfl) ?_
    refine g_ls (ls2 := [(0, rv D a0), (1, iv x1_37), (2, iv x2_70)]) [2, 1, 0] rfl ?_
    refine g_loop1 (fun (q : Int × Hp) => [(0, rv D a0), (1, iv x1_37), (2, iv q.1)]) (fun (q : Int × Hp) => q.2) (fun (q : Int × Hp) => r32 q.1 ∧ Ext h68 q.2) 95 (fun (y95 : Hp) => [(0, rv D a0), (1, iv x1_37)]) (fun (y95 : Hp) => y95) (fun (y95 : Hp) => Ext h68 y95) (x2_70, h68) ⟨(r32_z r2_70), (Ext.refl _)⟩ ?_ ?_
    · rintro ⟨x2_71, h_71⟩ ⟨r2_71, E_71⟩
      try dsimp only
      unfold m_X25_build_l71
      refine g_iload_n (pc := 71) X (j := 2) (i := 2) (q := 2) (x := x2_71) rfl rfl (dl_at t_X25_build 45 rfl) ?_
      refine g_bipush (pc := 72) X (n := 8) rfl (dl_at t_X25_build 46 rfl) ?_
      refine g_icmpge (pc := 74) X r2_71 (r32_c rfl) (off := 21) (tgt := 95) rfl (dl_at t_X25_build 47 rfl) (fun _ => ?_) (fun _ => ?_)
      · refine g_ls (ls2 := [(0, rv D a0), (1, iv x1_37)]) [0, 1] rfl ?_
        exact g_at fun Q hQ => hQ E_71
      refine g_aload_n (pc := 77) X (j := 0) (i := 0) (q := 0) (x := a0) rfl rfl (dl_at t_X25_build 48 rfl) ?_
      have k78 := kx (E68.trans E_71) (by decide) k63
      refine r_getr (pc := 78) X fX25_34 k78 q3810 (dl_at t_X25_build 49 rfl) ?_
      refine g_bipush (pc := 81) X (n := 8) rfl (dl_at t_X25_build 50 rfl) ?_
      refine g_iload_n (pc := 83) X (j := 1) (i := 1) (q := 1) (x := x1_37) rfl rfl (dl_at t_X25_build 51 rfl) ?_
      refine g_imul (pc := 84) X (r32_c rfl) r1_37 (dl_at t_X25_build 52 rfl) ?_
      refine g_iload_n (pc := 85) X (j := 2) (i := 2) (q := 2) (x := x2_71) rfl rfl (dl_at t_X25_build 53 rfl) ?_
      refine g_iadd (pc := 86) X (r32_w _) r2_71 (dl_at t_X25_build 54 rfl) ?_
      refine g_iconst (pc := 87) X (n := (-1)) (dl_at t_X25_build 55 rfl) ?_
      refine g_gd fun k88 => ?_
      refine r_iast (pc := 88) X (r32_w _) (r32_c rfl) k88 (dl_at t_X25_build 56 rfl) (fun h88 E88 => ?_)
      refine r_iincN (pc := 89) X (i := 2) (q := 2) (n := 1) (x := x2_71) (b := 1) (w := iv x1_37) (rest := [(0, rv D a0)]) rfl r2_71 (r32_c rfl) (Nat.le_of_ble_eq_true rfl) [1, 0] rfl (by decide) rfl rfl (dl_at t_X25_build 57 rfl) fun x2_89 r2_89 => ?_
      refine g_goto (pc := 92) X (off := (-21)) (tgt := 71) rfl (dl_at t_X25_build 58 rfl) ?_
      refine g_ls (ls2 := [(0, rv D a0), (1, iv x1_37), (2, iv x2_89)]) [2, 1, 0] rfl ?_
      exact g_at fun Q hQ => hQ ⟨r2_89, (E_71.trans E88)⟩
    · rintro h_95 E_95
      try dsimp only [sE]
      refine r_iincN (pc := 95) X (i := 1) (q := 1) (n := 1) (x := x1_37) (b := 0) (w := rv D a0) (rest := []) rfl r1_37 (r32_c rfl) (Nat.le_of_ble_eq_true rfl) [0] rfl (by decide) rv_cat rfl (dl_at t_X25_build 59 rfl) fun x1_95 r1_95 => ?_
      refine g_goto (pc := 98) X (off := (-61)) (tgt := 37) rfl (dl_at t_X25_build 60 rfl) ?_
      refine g_ls (ls2 := [(0, rv D a0), (1, iv x1_95)]) [1, 0] rfl ?_
      exact g_at fun Q hQ => hQ ⟨r1_95, (E_37.trans (E54.trans (E61.trans (E68.trans E_95))))⟩
  · rintro h_101 E_101
    try dsimp only [sE]
    refine g_aload_n (pc := 101) X (j := 0) (i := 0) (q := 0) (x := a0) rfl rfl (dl_at t_X25_build 61 rfl) ?_
    have k102 := kx (E32.trans E_101) (by decide) k32
    refine r_callV (pc := 102) X (fun _ hv => s_X25_begin k102 hv) cw_code q4827 q379 (in_Vk X (As := []) kX25 k102 (Or.inl q4824) q4826 qs293 cw_code q4827 ⟨by decide, by decide⟩ rfl (dl_at t_X25_build 62 rfl)) (dl_at t_X25_build 62 rfl) (cat24 (st := []) (Nat.le_of_ble_eq_true rfl)) (Nat.le_of_ble_eq_true rfl) (Nat.le_of_ble_eq_true rfl) fun h102 E102 => ?_
    refine g_iconst (pc := 105) X (n := (-1)) (dl_at t_X25_build 63 rfl) ?_
    refine g_lti (r32_c rfl) fun x1_106 r1_106 => ?_
    refine g_istore_nN (pc := 106) X (j := 1) (i := 1) (x := x1_106) (b := 0) (w := rv D a0) (rest := []) rfl (Nat.le_of_ble_eq_true rfl) [0] rfl (by decide) rv_cat rfl (dl_at t_X25_build 64 rfl) ?_
    refine g_iconst (pc := 107) X (n := 0) (dl_at t_X25_build 65 rfl) ?_
    refine g_ltz (Or.inl rfl) fun x2_108 r2_108 => ?_
    refine g_istore_nN (pc := 108) X (j := 2) (i := 2) (x := x2_108) (b := 1) (w := iv x1_106) (rest := [(0, rv D a0)]) rfl (Nat.le_of_ble_eq_true rfl) [0, 1] rfl (by decide) rfl rfl (dl_at t_X25_build 66 rfl) ?_
    refine g_ls (ls2 := [(0, rv D a0), (1, iv x1_106), (2, iv x2_108)]) [2, 1, 0] rfl ?_
    refine g_loop1F (fun (q : Int × Int × Hp) => [(0, rv D a0), (1, iv q.1), (2, iv q.2.1)]) (fun (q : Int × Int × Hp) => q.2.2) (fun (q : Int × Int × Hp) => r32 q.1 ∧ r32 q.2.1 ∧ Ext h102 q.2.2) 268 (fun (y268 : Hp) => [(0, rv D a0)]) (fun (y268 : Hp) => y268) (fun (y268 : Hp) => Ext h102 y268) (x1_106, x2_108, h102) ⟨r1_106, (r32_z r2_108), (Ext.refl _)⟩ ?_ ?_ (fun _ => rfl)
    · rintro ⟨x1_109, x2_109, h_109⟩ ⟨r1_109, r2_109, E_109⟩
      try dsimp only
      unfold m_X25_build_l109
      refine g_iload_n (pc := 109) X (j := 2) (i := 2) (q := 2) (x := x2_109) rfl rfl (dl_at t_X25_build 67 rfl) ?_
      refine g_aload_n (pc := 110) X (j := 0) (i := 0) (q := 0) (x := a0) rfl rfl (dl_at t_X25_build 68 rfl) ?_
      have k111 := kx (E102.trans E_109) (by decide) k102
      refine r_getr (pc := 111) X fX25_1 k111 q3763 (dl_at t_X25_build 69 rfl) ?_
      refine g_gd fun k114 => ?_
      refine r_geti (pc := 114) X fX23_2 k114 q3524 (dl_at t_X25_build 70 rfl) fun g114 => ?_
      refine g_icmpge (pc := 117) X r2_109 g114 (off := 151) (tgt := 268) rfl (dl_at t_X25_build 71 rfl) (fun _ => ?_) (fun _ => ?_)
      · refine g_ls (ls2 := [(0, rv D a0)]) [0] rfl ?_
        exact g_at fun Q hQ => hQ E_109
      refine g_aload_n (pc := 120) X (j := 0) (i := 0) (q := 0) (x := a0) rfl rfl (dl_at t_X25_build 72 rfl) ?_
      refine r_getr (pc := 121) X fX25_1 k111 q3763 (dl_at t_X25_build 73 rfl) ?_
      refine r_getr (pc := 124) X fX23_6 k114 q3535 (dl_at t_X25_build 74 rfl) ?_
      refine g_iload_n (pc := 127) X (j := 2) (i := 2) (q := 2) (x := x2_109) rfl rfl (dl_at t_X25_build 75 rfl) ?_
      refine g_gd fun k128 => ?_
      refine g_iald (pc := 128) X r2_109 k128 (dl_at t_X25_build 76 rfl) fun g128 => ?_
      refine g_iconst (pc := 129) X (n := 1) (dl_at t_X25_build 77 rfl) ?_
      refine g_join (γ := Int × Int × Hp) (fun q => r32 q.1 ∧ r32 q.2.1 ∧ Ext h_109 q.2.2) 262 (fun q => [(0, rv D a0), (1, iv q.1), (2, iv q.2.1)]) (fun q => []) (fun q => q.2.2) (fun q => m_X25_build_j262 q.1 q.2.1 q.2.2) ?_ ?_
      · rintro ⟨x1_262, x2_262, h_262⟩ ⟨r1_262, r2_262, E_262⟩
        try dsimp only
        unfold m_X25_build_j262
        refine r_iincN (pc := 262) X (i := 2) (q := 2) (n := 1) (x := x2_262) (b := 1) (w := iv x1_262) (rest := [(0, rv D a0)]) rfl r2_262 (r32_c rfl) (Nat.le_of_ble_eq_true rfl) [1, 0] rfl (by decide) rfl rfl (dl_at t_X25_build 152 rfl) fun x2_262_1 r2_262_1 => ?_
        refine g_goto (pc := 265) X (off := (-156)) (tgt := 109) rfl (dl_at t_X25_build 153 rfl) ?_
        refine g_ls (ls2 := [(0, rv D a0), (1, iv x1_262), (2, iv x2_262_1)]) [2, 1, 0] rfl ?_
        exact g_at fun Q hQ => hQ ⟨r1_262, r2_262_1, (E_109.trans E_262)⟩
      intro J262
      refine g_icmpne (pc := 130) X g128 (r32_c rfl) (off := 84) (tgt := 214) rfl (dl_at t_X25_build 78 rfl) (fun _ => ?_) (fun _ => ?_)
      · refine g_aload_n (pc := 214) X (j := 0) (i := 0) (q := 0) (x := a0) rfl rfl (dl_at t_X25_build 124 rfl) ?_
        refine r_getr (pc := 215) X fX25_1 k111 q3763 (dl_at t_X25_build 125 rfl) ?_
        refine r_getr (pc := 218) X fX23_6 k114 q3535 (dl_at t_X25_build 126 rfl) ?_
        refine g_iload_n (pc := 221) X (j := 2) (i := 2) (q := 2) (x := x2_109) rfl rfl (dl_at t_X25_build 127 rfl) ?_
        refine g_iald (pc := 222) X r2_109 k128 (dl_at t_X25_build 128 rfl) fun g222 => ?_
        refine g_iconst (pc := 223) X (n := 2) (dl_at t_X25_build 129 rfl) ?_
        refine g_icmpne (pc := 224) X g222 (r32_c rfl) (off := 31) (tgt := 255) rfl (dl_at t_X25_build 130 rfl) (fun _ => ?_) (fun _ => ?_)
        · refine g_aload_n (pc := 255) X (j := 0) (i := 0) (q := 0) (x := a0) rfl rfl (dl_at t_X25_build 147 rfl) ?_
          refine g_iload_n (pc := 256) X (j := 2) (i := 2) (q := 2) (x := x2_109) rfl rfl (dl_at t_X25_build 148 rfl) ?_
          refine g_iload_n (pc := 257) X (j := 1) (i := 1) (q := 1) (x := x1_109) rfl rfl (dl_at t_X25_build 149 rfl) ?_
          refine g_iconst (pc := 258) X (n := 1) (dl_at t_X25_build 150 rfl) ?_
          refine r_callTv (pc := 259) X (fun _ hv => s_X25_text k111 r2_109 r1_109 (Or.inr rfl) hv) cw_code q4936 q379 (in_Vk X (As := [iv x2_109, iv x1_109, iv 1]) kX25 k111 (Or.inl q4933) q4935 qs313 cw_code q4936 ⟨by decide, by decide⟩ rfl (dl_at t_X25_build 151 rfl)) (dl_at t_X25_build 151 rfl) (cat24 (st := []) (Nat.le_of_ble_eq_true rfl)) (Nat.le_of_ble_eq_true rfl) (Nat.le_of_ble_eq_true rfl) (fun v259 h259 E259 => ?_) (fun _ _ ha _ => gt_at fun Q hQ => gt_out (Q := Q) X rfl ha (hno _) _ Q rfl hQ)
          exact J262 (x1_109, x2_109, h259) ⟨r1_109, r2_109, E259⟩
        refine g_aload_n (pc := 227) X (j := 0) (i := 0) (q := 0) (x := a0) rfl rfl (dl_at t_X25_build 131 rfl) ?_
        refine g_iload_n (pc := 228) X (j := 1) (i := 1) (q := 1) (x := x1_109) rfl rfl (dl_at t_X25_build 132 rfl) ?_
        refine r_callTv (pc := 229) X (fun _ hv => s_X25_closes k111 r1_109 hv) cw_code q4932 q379 (in_Vk X (As := [iv x1_109]) kX25 k111 (Or.inl q4929) q4931 qs312 cw_code q4932 ⟨by decide, by decide⟩ rfl (dl_at t_X25_build 133 rfl)) (dl_at t_X25_build 133 rfl) (cat24 (st := []) (Nat.le_of_ble_eq_true rfl)) (Nat.le_of_ble_eq_true rfl) (Nat.le_of_ble_eq_true rfl) (fun v229 h229 E229 => ?_) (fun _ _ ha _ => gt_at fun Q hQ => gt_out (Q := Q) X rfl ha (hno _) _ Q rfl hQ)
        refine g_aload_n (pc := 232) X (j := 0) (i := 0) (q := 0) (x := a0) rfl rfl (dl_at t_X25_build 134 rfl) ?_
        have k233 := kx E229 (by decide) k111
        refine r_getr (pc := 233) X fX25_76 k233 q3874 (dl_at t_X25_build 135 rfl) ?_
        refine g_iload_n (pc := 236) X (j := 1) (i := 1) (q := 1) (x := x1_109) rfl rfl (dl_at t_X25_build 136 rfl) ?_
        refine g_aload_n (pc := 237) X (j := 0) (i := 0) (q := 0) (x := a0) rfl rfl (dl_at t_X25_build 137 rfl) ?_
        refine r_geti (pc := 238) X fX25_8 k233 q3772 (dl_at t_X25_build 138 rfl) fun g238 => ?_
        refine g_gd fun k241 => ?_
        refine r_iast (pc := 241) X r1_109 g238 k241 (dl_at t_X25_build 139 rfl) (fun h241 E241 => ?_)
        refine g_aload_n (pc := 242) X (j := 0) (i := 0) (q := 0) (x := a0) rfl rfl (dl_at t_X25_build 140 rfl) ?_
        have k243 := kx E241 (by decide) k233
        refine r_getr (pc := 243) X fX25_1 k243 q3763 (dl_at t_X25_build 141 rfl) ?_
        refine g_gd fun k246 => ?_
        refine r_getr (pc := 246) X fX23_11 k246 q3548 (dl_at t_X25_build 142 rfl) ?_
        refine g_iload_n (pc := 249) X (j := 1) (i := 1) (q := 1) (x := x1_109) rfl rfl (dl_at t_X25_build 143 rfl) ?_
        refine g_gd fun k250 => ?_
        refine g_iald (pc := 250) X r1_109 k250 (dl_at t_X25_build 144 rfl) fun g250 => ?_
        refine g_lti g250 fun x1_251 r1_251 => ?_
        refine g_istore_nN (pc := 251) X (j := 1) (i := 1) (x := x1_251) (b := 0) (w := rv D a0) (rest := [(2, iv x2_109)]) rfl (Nat.le_of_ble_eq_true rfl) [0, 2] rfl (by decide) rv_cat rfl (dl_at t_X25_build 145 rfl) ?_
        refine g_goto (pc := 252) X (off := 10) (tgt := 262) rfl (dl_at t_X25_build 146 rfl) ?_
        refine g_ls (ls2 := [(0, rv D a0), (1, iv x1_251), (2, iv x2_109)]) [1, 0, 2] rfl ?_
        exact J262 (x1_251, x2_109, h241) ⟨r1_251, r2_109, (E229.trans E241)⟩
      refine g_aload_n (pc := 133) X (j := 0) (i := 0) (q := 0) (x := a0) rfl rfl (dl_at t_X25_build 79 rfl) ?_
      refine r_getr (pc := 134) X fX25_1 k111 q3763 (dl_at t_X25_build 80 rfl) ?_
      refine r_getr (pc := 137) X fX23_7 k114 q3538 (dl_at t_X25_build 81 rfl) ?_
      refine g_iload_n (pc := 140) X (j := 2) (i := 2) (q := 2) (x := x2_109) rfl rfl (dl_at t_X25_build 82 rfl) ?_
      refine g_gd fun k141 => ?_
      refine g_iald (pc := 141) X r2_109 k141 (dl_at t_X25_build 83 rfl) fun g141 => ?_
      refine g_lti g141 fun x3_142 r3_142 => ?_
      refine g_istore_nN (pc := 142) X (j := 3) (i := 3) (x := x3_142) (b := 2) (w := iv x2_109) (rest := [(0, rv D a0), (1, iv x1_109)]) rfl (Nat.le_of_ble_eq_true rfl) [2, 0, 1] rfl (by decide) rfl rfl (dl_at t_X25_build 84 rfl) ?_
      refine g_aload_n (pc := 143) X (j := 0) (i := 0) (q := 2) (x := a0) rfl rfl (dl_at t_X25_build 85 rfl) ?_
      refine r_getr (pc := 144) X fX25_0 k111 q3761 (dl_at t_X25_build 86 rfl) ?_
      refine g_gd fun k147 => ?_
      refine r_getr (pc := 147) X fX24_9 k147 q3664 (dl_at t_X25_build 87 rfl) ?_
      refine g_iload_n (pc := 150) X (j := 3) (i := 3) (q := 0) (x := x3_142) rfl rfl (dl_at t_X25_build 88 rfl) ?_
      refine g_gd fun k151 => ?_
      refine g_zald (pc := 151) X r3_142 k151 (dl_at t_X25_build 89 rfl) fun g151 => ?_
      refine g_ifne (pc := 152) X (r32_z g151) (off := 16) (tgt := 168) rfl (dl_at t_X25_build 90 rfl) (fun _ => ?_) (fun _ => ?_)
      · refine g_aload_n (pc := 168) X (j := 0) (i := 0) (q := 2) (x := a0) rfl rfl (dl_at t_X25_build 98 rfl) ?_
        refine r_getr (pc := 169) X fX25_75 k111 q3873 (dl_at t_X25_build 99 rfl) ?_
        refine g_iload_n (pc := 172) X (j := 3) (i := 3) (q := 0) (x := x3_142) rfl rfl (dl_at t_X25_build 100 rfl) ?_
        refine g_aload_n (pc := 173) X (j := 0) (i := 0) (q := 2) (x := a0) rfl rfl (dl_at t_X25_build 101 rfl) ?_
        refine r_geti (pc := 174) X fX25_8 k111 q3772 (dl_at t_X25_build 102 rfl) fun g174 => ?_
        refine g_gd fun k177 => ?_
        refine r_iast (pc := 177) X r3_142 g174 k177 (dl_at t_X25_build 103 rfl) (fun h177 E177 => ?_)
        refine g_aload_n (pc := 178) X (j := 0) (i := 0) (q := 2) (x := a0) rfl rfl (dl_at t_X25_build 104 rfl) ?_
        refine g_iload_n (pc := 179) X (j := 3) (i := 3) (q := 0) (x := x3_142) rfl rfl (dl_at t_X25_build 105 rfl) ?_
        have k180 := kx E177 (by decide) k111
        refine r_callTz (pc := 180) X (fun _ hv => s_X25_opens k180 r3_142 hv) cw_code q4831 q379 (in_Vk X (As := [iv x3_142]) kX25 k180 (Or.inl q4828) q4830 qs294 cw_code q4831 ⟨by decide, by decide⟩ rfl (dl_at t_X25_build 106 rfl)) (dl_at t_X25_build 106 rfl) (cat24 (st := []) (Nat.le_of_ble_eq_true rfl)) (Nat.le_of_ble_eq_true rfl) (Nat.le_of_ble_eq_true rfl) (fun v180 h180 g180 E180 => ?_) (fun _ _ ha _ => gt_at fun Q hQ => gt_out (Q := Q) X rfl ha (hno _) _ Q rfl hQ)
        refine g_ifeq (pc := 183) X (r32_z g180) (off := 8) (tgt := 191) rfl (dl_at t_X25_build 107 rfl) (fun _ => ?_) (fun _ => ?_)
        · refine g_aload_n (pc := 191) X (j := 0) (i := 0) (q := 2) (x := a0) rfl rfl (dl_at t_X25_build 111 rfl) ?_
          have k192 := kx E180 (by decide) k180
          refine r_getr (pc := 192) X fX25_76 k192 q3874 (dl_at t_X25_build 112 rfl) ?_
          refine g_iload_n (pc := 195) X (j := 3) (i := 3) (q := 0) (x := x3_142) rfl rfl (dl_at t_X25_build 113 rfl) ?_
          refine g_aload_n (pc := 196) X (j := 0) (i := 0) (q := 2) (x := a0) rfl rfl (dl_at t_X25_build 114 rfl) ?_
          refine r_geti (pc := 197) X fX25_8 k192 q3772 (dl_at t_X25_build 115 rfl) fun g197 => ?_
          refine g_gd fun k200 => ?_
          refine r_iast (pc := 200) X r3_142 g197 k200 (dl_at t_X25_build 116 rfl) (fun h200 E200 => ?_)
          refine g_aload_n (pc := 201) X (j := 0) (i := 0) (q := 2) (x := a0) rfl rfl (dl_at t_X25_build 117 rfl) ?_
          have k202 := kx E200 (by decide) k192
          refine r_getr (pc := 202) X fX25_1 k202 q3763 (dl_at t_X25_build 118 rfl) ?_
          refine g_gd fun k205 => ?_
          refine r_getr (pc := 205) X fX23_16 k205 q3561 (dl_at t_X25_build 119 rfl) ?_
          refine g_iload_n (pc := 208) X (j := 3) (i := 3) (q := 0) (x := x3_142) rfl rfl (dl_at t_X25_build 120 rfl) ?_
          refine g_gd fun k209 => ?_
          refine g_iald (pc := 209) X r3_142 k209 (dl_at t_X25_build 121 rfl) fun g209 => ?_
          refine g_lti g209 fun x2_210 r2_210 => ?_
          refine g_istore_nN (pc := 210) X (j := 2) (i := 2) (x := x2_210) (b := 1) (w := iv x1_109) (rest := [(0, rv D a0)]) rfl (Nat.le_of_ble_eq_true rfl) [3, 2] rfl (by decide) rfl rfl (dl_at t_X25_build 122 rfl) ?_
          refine g_goto (pc := 211) X (off := 51) (tgt := 262) rfl (dl_at t_X25_build 123 rfl) ?_
          refine g_ls (ls2 := [(0, rv D a0), (1, iv x1_109), (2, iv x2_210)]) [2, 1, 0] rfl ?_
          exact J262 (x1_109, x2_210, h200) ⟨r1_109, r2_210, (E177.trans (E180.trans E200))⟩
        refine g_iload_n (pc := 186) X (j := 3) (i := 3) (q := 0) (x := x3_142) rfl rfl (dl_at t_X25_build 108 rfl) ?_
        refine g_istore_nN (pc := 187) X (j := 1) (i := 1) (x := x3_142) (b := 0) (w := rv D a0) (rest := [(2, iv x2_109)]) rfl (Nat.le_of_ble_eq_true rfl) [2, 1] rfl (by decide) rv_cat rfl (dl_at t_X25_build 109 rfl) ?_
        refine g_goto (pc := 188) X (off := 23) (tgt := 211) rfl (dl_at t_X25_build 110 rfl) ?_
        refine g_goto (pc := 211) X (off := 51) (tgt := 262) rfl (dl_at t_X25_build 123 rfl) ?_
        refine g_ls (ls2 := [(0, rv D a0), (1, iv x3_142), (2, iv x2_109)]) [1, 0, 2] rfl ?_
        exact J262 (x3_142, x2_109, h180) ⟨r3_142, r2_109, (E177.trans E180)⟩
      refine g_aload_n (pc := 155) X (j := 0) (i := 0) (q := 2) (x := a0) rfl rfl (dl_at t_X25_build 91 rfl) ?_
      refine r_getr (pc := 156) X fX25_1 k111 q3763 (dl_at t_X25_build 92 rfl) ?_
      refine r_getr (pc := 159) X fX23_16 k114 q3561 (dl_at t_X25_build 93 rfl) ?_
      refine g_iload_n (pc := 162) X (j := 3) (i := 3) (q := 0) (x := x3_142) rfl rfl (dl_at t_X25_build 94 rfl) ?_
      refine g_gd fun k163 => ?_
      refine g_iald (pc := 163) X r3_142 k163 (dl_at t_X25_build 95 rfl) fun g163 => ?_
      refine g_lti g163 fun x2_164 r2_164 => ?_
      refine g_istore_nN (pc := 164) X (j := 2) (i := 2) (x := x2_164) (b := 1) (w := iv x1_109) (rest := [(0, rv D a0)]) rfl (Nat.le_of_ble_eq_true rfl) [3, 2] rfl (by decide) rfl rfl (dl_at t_X25_build 96 rfl) ?_
      refine g_goto (pc := 165) X (off := 97) (tgt := 262) rfl (dl_at t_X25_build 97 rfl) ?_
      refine g_ls (ls2 := [(0, rv D a0), (1, iv x1_109), (2, iv x2_164)]) [2, 1, 0] rfl ?_
      exact J262 (x1_109, x2_164, h_109) ⟨r1_109, r2_164, (Ext.refl _)⟩
    · rintro h_268 E_268
      try dsimp only [sE]
      refine g_aload_n (pc := 268) X (j := 0) (i := 0) (q := 0) (x := a0) rfl rfl (dl_at t_X25_build 154 rfl) ?_
      refine g_iconst (pc := 269) X (n := (-1)) (dl_at t_X25_build 155 rfl) ?_
      have k270 := kx (E102.trans E_268) (by decide) k102
      refine r_callTv (pc := 270) X (fun _ hv => s_X25_flowEnds k270 (r32_c rfl) hv) cw_code q4839 q379 (in_Vk X (As := [iv (-1)]) kX25 k270 (Or.inl q4836) q4838 qs296 cw_code q4839 ⟨by decide, by decide⟩ rfl (dl_at t_X25_build 156 rfl)) (dl_at t_X25_build 156 rfl) (cat24 (st := []) (Nat.le_of_ble_eq_true rfl)) (Nat.le_of_ble_eq_true rfl) (Nat.le_of_ble_eq_true rfl) (fun v270 h270 E270 => ?_) (fun _ _ ha _ => gt_at fun Q hQ => gt_out (Q := Q) X rfl ha (hno _) _ Q rfl hQ)
      refine g_iconst (pc := 273) X (n := 0) (dl_at t_X25_build 157 rfl) ?_
      refine g_ltz (Or.inl rfl) fun x2_274 r2_274 => ?_
      refine g_istore_n (pc := 274) X (j := 2) (i := 2) (x := x2_274) (rest := [(0, rv D a0)]) rfl (Nat.le_of_ble_eq_true rfl) [0] rfl rfl (dl_at t_X25_build 158 rfl) ?_
      refine g_ls (ls2 := [(0, rv D a0), (2, iv x2_274)]) [1, 0] rfl ?_
      refine g_loop0F (fun (q : Int × Hp) => [(0, rv D a0), (2, iv q.1)]) (fun (q : Int × Hp) => q.2) (fun (q : Int × Hp) => r32 q.1 ∧ Ext h270 q.2) (x2_274, h270) ⟨(r32_z r2_274), (Ext.refl _)⟩ ?_ (fun _ => rfl)
      · rintro ⟨x2_275, h_275⟩ ⟨r2_275, E_275⟩
        try dsimp only
        unfold m_X25_build_l275
        refine g_iload_n (pc := 275) X (j := 2) (i := 2) (q := 1) (x := x2_275) rfl rfl (dl_at t_X25_build 159 rfl) ?_
        refine g_aload_n (pc := 276) X (j := 0) (i := 0) (q := 0) (x := a0) rfl rfl (dl_at t_X25_build 160 rfl) ?_
        have k277 := kx (E270.trans E_275) (by decide) k270
        refine r_geti (pc := 277) X fX25_53 k277 q3838 (dl_at t_X25_build 161 rfl) fun g277 => ?_
        refine g_icmpge (pc := 280) X r2_275 g277 (off := 14) (tgt := 294) rfl (dl_at t_X25_build 162 rfl) (fun _ => ?_) (fun _ => ?_)
        · exact g_at fun Q hQ => (g_vret (pc := 294) X (v := 0) rfl rfl (dl_at t_X25_build 168 rfl)) _ Q rfl hQ
        refine g_aload_n (pc := 283) X (j := 0) (i := 0) (q := 0) (x := a0) rfl rfl (dl_at t_X25_build 163 rfl) ?_
        refine g_iload_n (pc := 284) X (j := 2) (i := 2) (q := 1) (x := x2_275) rfl rfl (dl_at t_X25_build 164 rfl) ?_
        refine r_callTv (pc := 285) X (fun _ hv => s_X25_note k277 r2_275 hv) cw_code q4941 q379 (in_Vk X (As := [iv x2_275]) kX25 k277 (Or.inl q4938) q4940 qs314 cw_code q4941 ⟨by decide, by decide⟩ rfl (dl_at t_X25_build 165 rfl)) (dl_at t_X25_build 165 rfl) (cat24 (st := []) (Nat.le_of_ble_eq_true rfl)) (Nat.le_of_ble_eq_true rfl) (Nat.le_of_ble_eq_true rfl) (fun v285 h285 E285 => ?_) (fun _ _ ha _ => gt_at fun Q hQ => gt_out (Q := Q) X rfl ha (hno _) _ Q rfl hQ)
        refine r_iinc (pc := 288) X (i := 2) (q := 1) (n := 1) (x := x2_275) (rest := [(0, rv D a0)]) rfl r2_275 (r32_c rfl) (Nat.le_of_ble_eq_true rfl) [0] rfl rfl (dl_at t_X25_build 166 rfl) fun x2_288 r2_288 => ?_
        refine g_goto (pc := 291) X (off := (-16)) (tgt := 275) rfl (dl_at t_X25_build 167 rfl) ?_
        refine g_ls (ls2 := [(0, rv D a0), (2, iv x2_288)]) [1, 0] rfl ?_
        exact g_at fun Q hQ => hQ ⟨r2_288, (E_275.trans E285)⟩
def k_X18_isLetter : List (Nat × Instr × Nat) := [(0, .iload_n 0, 1), (1, .invokestatic 90, 3), (4, .ifCond .ne 15, 3), (7, .iload_n 0, 1), (8, .bipush 65, 2), (10, .if_icmp .lt 13, 3), (13, .iload_n 0, 1), (14, .bipush 90, 2), (16, .if_icmp .gt 7, 3), (19, .iconst 1, 1), (20, .goto 4, 3), (23, .iconst 0, 1), (24, .ireturn, 1)]
theorem t_X18_isLetter : ∀ q ∈ k_X18_isLetter, decode cX18_isLetter q.1 = .ok q.2 := dl_all (by decide +kernel)
noncomputable def m_X18_isLetter (a0 : Int) : Option (Int) :=
  (m_X18_isSmall a0).bind fun v1 =>
  if v1 ≠ 0 then (some 1)
  else (if a0 < 65 then (some 0)
  else (if 90 < a0 then (some 0)
  else (some 1)))
theorem s_X18_isLetter {l : Launch} [NoTr l] {D : SD} {a0 : Int} {h : Hp} (r0 : r32 a0) {r : Int} (hm : m_X18_isLetter a0 = some r) : Sim l D yX18_isLetter (Cond.code yX18_isLetter cX18_isLetter 1 (Option.some Jvm.ClassFile.FieldType.boolean)) 1 36 [iv a0] h 3 ((0, r), h) := by
  refine Sim.of (fin := fun (v : Int) => ((0, v), h)) (lsE := [(0, iv a0)]) hm rfl cwS_code (la_i la_n) (ll_i ll_n) ?_
  intro p e s m below meth c X hcw hmm hcc hnm hname
  unfold m_X18_isLetter
  refine g_iload_n (pc := 0) X (j := 0) (i := 0) (q := 0) (x := a0) rfl rfl (dl_at t_X18_isLetter 0 rfl) ?_
  refine r_callRz (pc := 1) X (fun _ hv => s_X18_isSmall r0 hv) cw_code q4352 q372 (in_Sc X (As := [iv a0]) (Or.inl q4953) q4351 q372 q4352 ⟨by decide, by decide⟩ rfl (dl_at t_X18_isLetter 1 rfl)) (dl_at t_X18_isLetter 1 rfl) (cat24 (st := []) (Nat.le_of_ble_eq_true rfl)) (Nat.le_of_ble_eq_true rfl) (Nat.le_of_ble_eq_true rfl) fun v1 g1 => ?_
  refine g_ifne (pc := 4) X (r32_z g1) (off := 15) (tgt := 19) rfl (dl_at t_X18_isLetter 2 rfl) (fun _ => ?_) (fun _ => ?_)
  · refine g_iconst (pc := 19) X (n := 1) (dl_at t_X18_isLetter 9 rfl) ?_
    refine g_goto (pc := 20) X (off := 4) (tgt := 24) rfl (dl_at t_X18_isLetter 10 rfl) ?_
    exact g_zret (pc := 24) X (Or.inr rfl) rfl rfl (dl_at t_X18_isLetter 12 rfl)
  refine g_iload_n (pc := 7) X (j := 0) (i := 0) (q := 0) (x := a0) rfl rfl (dl_at t_X18_isLetter 3 rfl) ?_
  refine g_bipush (pc := 8) X (n := 65) rfl (dl_at t_X18_isLetter 4 rfl) ?_
  refine g_icmplt (pc := 10) X r0 (r32_c rfl) (off := 13) (tgt := 23) rfl (dl_at t_X18_isLetter 5 rfl) (fun _ => ?_) (fun _ => ?_)
  · refine g_iconst (pc := 23) X (n := 0) (dl_at t_X18_isLetter 11 rfl) ?_
    exact g_zret (pc := 24) X (Or.inl rfl) rfl rfl (dl_at t_X18_isLetter 12 rfl)
  refine g_iload_n (pc := 13) X (j := 0) (i := 0) (q := 0) (x := a0) rfl rfl (dl_at t_X18_isLetter 6 rfl) ?_
  refine g_bipush (pc := 14) X (n := 90) rfl (dl_at t_X18_isLetter 7 rfl) ?_
  refine g_icmpgt (pc := 16) X r0 (r32_c rfl) (off := 7) (tgt := 23) rfl (dl_at t_X18_isLetter 8 rfl) (fun _ => ?_) (fun _ => ?_)
  · refine g_iconst (pc := 23) X (n := 0) (dl_at t_X18_isLetter 11 rfl) ?_
    exact g_zret (pc := 24) X (Or.inl rfl) rfl rfl (dl_at t_X18_isLetter 12 rfl)
  refine g_iconst (pc := 19) X (n := 1) (dl_at t_X18_isLetter 9 rfl) ?_
  refine g_goto (pc := 20) X (off := 4) (tgt := 24) rfl (dl_at t_X18_isLetter 10 rfl) ?_
  exact g_zret (pc := 24) X (Or.inr rfl) rfl rfl (dl_at t_X18_isLetter 12 rfl)
def k_X21_signOf : List (Nat × Instr × Nat) := [(0, .iload_n 3, 1), (1, .ifCond .eq 10, 3), (4, .iload_n 3, 1), (5, .iload_n 2, 1), (6, .iconst 1, 1), (7, .iadd, 1), (8, .if_icmp .ne 8, 3), (11, .bipush 46, 2), (13, .goto 13, 3), (16, .aload_n 0, 1), (17, .iload_n 1, 1), (18, .iload_n 3, 1), (19, .iadd, 1), (20, .iconst 1, 1), (21, .isub, 1), (22, .baload, 1), (23, .invokestatic 92, 3), (26, .ireturn, 1)]
theorem t_X21_signOf : ∀ q ∈ k_X21_signOf, decode cX21_signOf q.1 = .ok q.2 := dl_all (by decide +kernel)
noncomputable def m_X21_signOf (a0 a1 a2 a3 : Int) (h : Hp) : Option (Int) :=
  if a3 = 0 then (some 46)
  else (if a3 ≠ (w32 (a2 + 1)) then (gd (h a0 (-2) % 16 = 2 ∧ (0 : Int) ≤ (w32 ((w32 (a1 + a3)) - 1)) ∧ (w32 ((w32 (a1 + a3)) - 1)) < h a0 (-1)) ((m_X18_small (h a0 (w32 ((w32 (a1 + a3)) - 1)))).bind fun v23 =>
  some v23))
  else (some 46))
theorem s_X21_signOf {l : Launch} [NoTr l] {D : SD} {a0 a1 a2 a3 : Int} {h : Hp} (r1 : r32 a1) (r2 : r32 a2) (r3 : r32 a3) {r : Int} (hm : m_X21_signOf a0 a1 a2 a3 h = some r) : Sim l D yX21_signOf (Cond.code yX21_signOf cX21_signOf 4 (Option.some Jvm.ClassFile.FieldType.int)) 1 36 [rv D a0, iv a1, iv a2, iv a3] h 1 ((0, r), h) := by
  refine Sim.of (fin := fun (v : Int) => ((0, v), h)) (lsE := [(0, rv D a0), (1, iv a1), (2, iv a2), (3, iv a3)]) hm rfl cwS_code (la_r (la_i (la_i (la_i la_n)))) (ll_r (ll_i (ll_i (ll_i ll_n)))) ?_
  intro p e s m below meth c X hcw hmm hcc hnm hname
  unfold m_X21_signOf
  refine g_iload_n (pc := 0) X (j := 3) (i := 3) (q := 3) (x := a3) rfl rfl (dl_at t_X21_signOf 0 rfl) ?_
  refine g_ifeq (pc := 1) X r3 (off := 10) (tgt := 11) rfl (dl_at t_X21_signOf 1 rfl) (fun _ => ?_) (fun _ => ?_)
  · refine g_bipush (pc := 11) X (n := 46) rfl (dl_at t_X21_signOf 7 rfl) ?_
    refine g_goto (pc := 13) X (off := 13) (tgt := 26) rfl (dl_at t_X21_signOf 8 rfl) ?_
    exact g_iret (pc := 26) X (r32_c rfl) rfl rfl (dl_at t_X21_signOf 17 rfl)
  refine g_iload_n (pc := 4) X (j := 3) (i := 3) (q := 3) (x := a3) rfl rfl (dl_at t_X21_signOf 2 rfl) ?_
  refine g_iload_n (pc := 5) X (j := 2) (i := 2) (q := 2) (x := a2) rfl rfl (dl_at t_X21_signOf 3 rfl) ?_
  refine g_iconst (pc := 6) X (n := 1) (dl_at t_X21_signOf 4 rfl) ?_
  refine g_iadd (pc := 7) X r2 (r32_c rfl) (dl_at t_X21_signOf 5 rfl) ?_
  refine g_icmpne (pc := 8) X r3 (r32_w _) (off := 8) (tgt := 16) rfl (dl_at t_X21_signOf 6 rfl) (fun _ => ?_) (fun _ => ?_)
  · refine g_aload_n (pc := 16) X (j := 0) (i := 0) (q := 0) (x := a0) rfl rfl (dl_at t_X21_signOf 9 rfl) ?_
    refine g_iload_n (pc := 17) X (j := 1) (i := 1) (q := 1) (x := a1) rfl rfl (dl_at t_X21_signOf 10 rfl) ?_
    refine g_iload_n (pc := 18) X (j := 3) (i := 3) (q := 3) (x := a3) rfl rfl (dl_at t_X21_signOf 11 rfl) ?_
    refine g_iadd (pc := 19) X r1 r3 (dl_at t_X21_signOf 12 rfl) ?_
    refine g_iconst (pc := 20) X (n := 1) (dl_at t_X21_signOf 13 rfl) ?_
    refine g_isub (pc := 21) X (r32_w _) (r32_c rfl) (dl_at t_X21_signOf 14 rfl) ?_
    refine g_gd fun k22 => ?_
    refine g_bald (pc := 22) X (r32_w _) k22 (dl_at t_X21_signOf 15 rfl) fun g22 => ?_
    refine r_callRi (pc := 23) X (fun _ hv => s_X18_small (r32_b g22) hv) cw_code q4815 q372 (in_Sc X (As := [iv (h a0 (w32 ((w32 (a1 + a3)) - 1)))]) (Or.inr ⟨_, nw_in q4958 rfl⟩) q4814 q372 q4815 ⟨by decide, by decide⟩ rfl (dl_at t_X21_signOf 16 rfl)) (dl_at t_X21_signOf 16 rfl) (cat24 (st := []) (Nat.le_of_ble_eq_true rfl)) (Nat.le_of_ble_eq_true rfl) (Nat.le_of_ble_eq_true rfl) fun v23 g23 => ?_
    exact g_iret (pc := 26) X g23 rfl rfl (dl_at t_X21_signOf 17 rfl)
  refine g_bipush (pc := 11) X (n := 46) rfl (dl_at t_X21_signOf 7 rfl) ?_
  refine g_goto (pc := 13) X (off := 13) (tgt := 26) rfl (dl_at t_X21_signOf 8 rfl) ?_
  exact g_iret (pc := 26) X (r32_c rfl) rfl rfl (dl_at t_X21_signOf 17 rfl)
def k_X21_greatest : List (Nat × Instr × Nat) := [(0, .iconst 0, 1), (1, .istore 5, 2), (3, .iconst 0, 1), (4, .istore 6, 2), (6, .iload 6, 2), (8, .aload_n 0, 1), (9, .getfield 46, 3), (12, .if_icmp .ge 169, 3), (15, .iload 4, 2), (17, .iconst 1, 1), (18, .iadd, 1), (19, .aload_n 0, 1), (20, .getfield 20, 3), (23, .iload 6, 2), (25, .iaload, 1), (26, .isub, 1), (27, .istore 7, 2), (29, .iload 7, 2), (31, .iload 4, 2), (33, .iconst 1, 1), (34, .iadd, 1), (35, .if_icmp .gt 140, 3), (38, .iload 7, 2), (40, .ifCond .lt 129, 3), (43, .iload 7, 2), (45, .aload_n 0, 1), (46, .getfield 20, 3), (49, .iload 6, 2), (51, .iaload, 1), (52, .iadd, 1), (53, .iload_n 3, 1), (54, .iconst 2, 1), (55, .iadd, 1), (56, .if_icmp .le 6, 3), (59, .goto 110, 3), (62, .aload_n 0, 1), (63, .getfield 24, 3), (66, .bipush 16, 2), (68, .iload 6, 2), (70, .imul, 1), (71, .iload 4, 2), (73, .iadd, 1), (74, .iconst 1, 1), (75, .iadd, 1), (76, .iload 7, 2), (78, .isub, 1), (79, .baload, 1), (80, .istore 8, 2), (82, .iload 8, 2), (84, .iload 5, 2), (86, .if_icmp .gt 6, 3), (89, .goto 80, 3), (92, .iconst 1, 1), (93, .istore 9, 2), (95, .iconst 0, 1), (96, .istore 10, 2), (98, .iload 10, 2), (100, .aload_n 0, 1), (101, .getfield 20, 3), (104, .iload 6, 2), (106, .iaload, 1), (107, .if_icmp .ge 48, 3), (110, .iload 9, 2), (112, .ifCond .eq 43, 3), (115, .aload_n 0, 1), (116, .getfield 16, 3), (119, .bipush 14, 2), (121, .iload 6, 2), (123, .imul, 1), (124, .iload 10, 2), (126, .iadd, 1), (127, .baload, 1), (128, .aload_n 1, 1), (129, .iload_n 2, 1), (130, .iload_n 3, 1), (131, .iload 7, 2), (133, .iload 10, 2), (135, .iadd, 1), (136, .invokestatic 100, 3), (139, .if_icmp .ne 7, 3), (142, .iconst 1, 1), (143, .goto 4, 3), (146, .iconst 0, 1), (147, .istore 9, 2), (149, .iinc 10 1, 3), (152, .goto (-54), 3), (155, .iload 9, 2), (157, .ifCond .eq 8, 3), (160, .iload 8, 2), (162, .goto 5, 3), (165, .iload 5, 2), (167, .istore 5, 2), (169, .iinc 7 1, 3), (172, .goto (-143), 3), (175, .iinc 6 1, 3), (178, .goto (-172), 3), (181, .iload 5, 2), (183, .ireturn, 1)]
theorem t_X21_greatest : ∀ q ∈ k_X21_greatest, decode cX21_greatest q.1 = .ok q.2 := dl_all (by decide +kernel)
noncomputable def m_X21_greatest_j169 (x7_29 x5_169 : Int) : Option ((Int × Int) ⊕ ((Int))) :=
  lt_ (w32 (x7_29 + 1)) fun x7_169 =>
  some (.inl (x5_169, x7_169))
noncomputable def m_X21_greatest_j147 (x10_98 s0_147 : Int) : Option ((Int × Int) ⊕ ((Int))) :=
  lt_ (w32 (x10_98 + 1)) fun x10_149 =>
  some (.inl (s0_147, x10_149))
noncomputable def m_X21_greatest_l98 (a0 a1 a2 a3 x6_6 x7_29 x9_98 x10_98 : Int) (h : Hp) : Option ((Int × Int) ⊕ ((Int))) :=
  if (h (h a0 5) x6_6) ≤ x10_98 then (some (.inr x9_98))
  else (if x9_98 = 0 then (some (.inr x9_98))
  else (gd (h (h a0 4) (-2) % 16 = 2 ∧ (0 : Int) ≤ (w32 ((w32 (14 * x6_6)) + x10_98)) ∧ (w32 ((w32 (14 * x6_6)) + x10_98)) < h (h a0 4) (-1)) ((m_X21_signOf a1 a2 a3 (w32 (x7_29 + x10_98)) h).bind fun v136 =>
  if (h (h a0 4) (w32 ((w32 (14 * x6_6)) + x10_98))) ≠ v136 then (m_X21_greatest_j147 x10_98 0)
  else (m_X21_greatest_j147 x10_98 1))))
noncomputable def m_X21_greatest_j167 (x7_29 s0_167 : Int) : Option ((Int × Int) ⊕ ((Int))) :=
  m_X21_greatest_j169 x7_29 s0_167
noncomputable def m_X21_greatest_l29 (a0 a1 a2 a3 a4 x6_6 x5_29 x7_29 : Int) (h : Hp) : Option ((Int × Int) ⊕ ((Int))) :=
  if (w32 (a4 + 1)) < x7_29 then (some (.inr x5_29))
  else (if x7_29 < 0 then (m_X21_greatest_j169 x7_29 x5_29)
  else (if (w32 (x7_29 + (h (h a0 5) x6_6))) ≤ (w32 (a3 + 2)) then (gd (h (h a0 6) (-2) % 16 = 2 ∧ (0 : Int) ≤ (w32 ((w32 ((w32 ((w32 (16 * x6_6)) + a4)) + 1)) - x7_29)) ∧ (w32 ((w32 ((w32 ((w32 (16 * x6_6)) + a4)) + 1)) - x7_29)) < h (h a0 6) (-1)) (lt_ (h (h a0 6) (w32 ((w32 ((w32 ((w32 (16 * x6_6)) + a4)) + 1)) - x7_29))) fun x8_80 =>
  if x5_29 < x8_80 then (lt_ 1 fun x9_93 =>
  lt_ 0 fun x10_96 =>
  (lp (fun (q : Int × Int) => m_X21_greatest_l98 a0 a1 a2 a3 x6_6 x7_29 q.1 q.2 h) (x9_93, x10_96)).bind (fun (y155 : Int) => if y155 = 0 then (m_X21_greatest_j167 x7_29 x5_29)
  else (m_X21_greatest_j167 x7_29 x8_80)))
  else (m_X21_greatest_j169 x7_29 x5_29)))
  else (m_X21_greatest_j169 x7_29 x5_29)))
noncomputable def m_X21_greatest_l6 (a0 a1 a2 a3 a4 x5_6 x6_6 : Int) (h : Hp) : Option ((Int × Int) ⊕ ((Int))) :=
  if (h a0 2) ≤ x6_6 then (some (.inr x5_6))
  else (gd (h (h a0 5) (-2) % 16 = 1 ∧ (0 : Int) ≤ x6_6 ∧ x6_6 < h (h a0 5) (-1)) (lt_ (w32 ((w32 (a4 + 1)) - (h (h a0 5) x6_6))) fun x7_27 =>
  (lp (fun (q : Int × Int) => m_X21_greatest_l29 a0 a1 a2 a3 a4 x6_6 q.1 q.2 h) (x5_6, x7_27)).bind (fun (y175 : Int) => lt_ (w32 (x6_6 + 1)) fun x6_175 =>
  some (.inl (y175, x6_175)))))
noncomputable def m_X21_greatest (a0 a1 a2 a3 a4 : Int) (h : Hp) : Option (Int) :=
  lt_ 0 fun x5_1 =>
  lt_ 0 fun x6_4 =>
  (lp (fun (q : Int × Int) => m_X21_greatest_l6 a0 a1 a2 a3 a4 q.1 q.2 h) (x5_1, x6_4)).bind (fun (x : Int) => some x)
theorem s_X21_greatest {l : Launch} [NoTr l] {D : SD} {a0 a1 a2 a3 a4 : Int} {h : Hp} (hk : h a0 (-2) = 352) (r2 : r32 a2) (r3 : r32 a3) (r4 : r32 a4) {r : Int} (hm : m_X21_greatest a0 a1 a2 a3 a4 h = some r) : Sim l D yX21_greatest (Cond.code yX21_greatest cX21_greatest 11 (Option.some Jvm.ClassFile.FieldType.int)) 2 75 [rv D a0, rv D a1, iv a2, iv a3, iv a4] h 1 ((0, r), h) := by
  refine Sim.of (fin := fun (v : Int) => ((0, v), h)) (lsE := [(0, rv D a0), (1, rv D a1), (2, iv a2), (3, iv a3), (4, iv a4)]) hm rfl cwS_code (la_r (la_r (la_i (la_i (la_i la_n))))) (ll_r (ll_r (ll_i (ll_i (ll_i ll_n))))) ?_
  intro p e s m below meth c X hcw hmm hcc hnm hname
  unfold m_X21_greatest
  refine g_iconst (pc := 0) X (n := 0) (dl_at t_X21_greatest 0 rfl) ?_
  refine g_ltz (Or.inl rfl) fun x5_1 r5_1 => ?_
  refine g_istoreN (pc := 1) X (i := 5) (x := x5_1) (b := 4) (w := iv a4) (rest := [(0, rv D a0), (1, rv D a1), (2, iv a2), (3, iv a3)]) (Nat.le_of_ble_eq_true rfl) [4, 0, 1, 2, 3] rfl (by decide) rfl rfl (dl_at t_X21_greatest 1 rfl) ?_
  refine g_iconst (pc := 3) X (n := 0) (dl_at t_X21_greatest 2 rfl) ?_
  refine g_ltz (Or.inl rfl) fun x6_4 r6_4 => ?_
  refine g_istoreN (pc := 4) X (i := 6) (x := x6_4) (b := 5) (w := iv x5_1) (rest := [(4, iv a4), (0, rv D a0), (1, rv D a1), (2, iv a2), (3, iv a3)]) (Nat.le_of_ble_eq_true rfl) [0, 1, 2, 3, 4, 5] rfl (by decide) rfl rfl (dl_at t_X21_greatest 3 rfl) ?_
  refine g_ls (ls2 := [(0, rv D a0), (1, rv D a1), (2, iv a2), (3, iv a3), (4, iv a4), (5, iv x5_1), (6, iv x6_4)]) [3, 4, 5, 6, 2, 1, 0] rfl ?_
  refine g_loop0F (fun (q : Int × Int) => [(0, rv D a0), (1, rv D a1), (2, iv a2), (3, iv a3), (4, iv a4), (5, iv q.1), (6, iv q.2)]) (fun (q : Int × Int) => h) (fun (q : Int × Int) => r32 q.1 ∧ r32 q.2) (x5_1, x6_4) ⟨(r32_z r5_1), (r32_z r6_4)⟩ ?_ (fun _ => rfl)
  · rintro ⟨x5_6, x6_6⟩ ⟨r5_6, r6_6⟩
    try dsimp only
    unfold m_X21_greatest_l6
    refine g_iload (pc := 6) X (i := 6) (q := 6) (x := x6_6) rfl (dl_at t_X21_greatest 4 rfl) ?_
    refine g_aload_n (pc := 8) X (j := 0) (i := 0) (q := 0) (x := a0) rfl rfl (dl_at t_X21_greatest 5 rfl) ?_
    refine r_geti (pc := 9) X fX21_2 hk q3347 (dl_at t_X21_greatest 6 rfl) fun g9 => ?_
    refine g_icmpge (pc := 12) X r6_6 g9 (off := 169) (tgt := 181) rfl (dl_at t_X21_greatest 7 rfl) (fun _ => ?_) (fun _ => ?_)
    · refine g_iload (pc := 181) X (i := 5) (q := 5) (x := x5_6) rfl (dl_at t_X21_greatest 96 rfl) ?_
      exact g_at fun Q hQ => (g_iret (pc := 183) X r5_6 rfl rfl (dl_at t_X21_greatest 97 rfl)) _ Q rfl hQ
    refine g_iload (pc := 15) X (i := 4) (q := 4) (x := a4) rfl (dl_at t_X21_greatest 8 rfl) ?_
    refine g_iconst (pc := 17) X (n := 1) (dl_at t_X21_greatest 9 rfl) ?_
    refine g_iadd (pc := 18) X r4 (r32_c rfl) (dl_at t_X21_greatest 10 rfl) ?_
    refine g_aload_n (pc := 19) X (j := 0) (i := 0) (q := 0) (x := a0) rfl rfl (dl_at t_X21_greatest 11 rfl) ?_
    refine r_getr (pc := 20) X fX21_5 hk q3352 (dl_at t_X21_greatest 12 rfl) ?_
    refine g_iload (pc := 23) X (i := 6) (q := 6) (x := x6_6) rfl (dl_at t_X21_greatest 13 rfl) ?_
    refine g_gd fun k25 => ?_
    refine g_iald (pc := 25) X r6_6 k25 (dl_at t_X21_greatest 14 rfl) fun g25 => ?_
    refine g_isub (pc := 26) X (r32_w _) g25 (dl_at t_X21_greatest 15 rfl) ?_
    refine g_lti (r32_w _) fun x7_27 r7_27 => ?_
    refine g_istoreN (pc := 27) X (i := 7) (x := x7_27) (b := 6) (w := iv x6_6) (rest := [(0, rv D a0), (1, rv D a1), (2, iv a2), (3, iv a3), (4, iv a4), (5, iv x5_6)]) (Nat.le_of_ble_eq_true rfl) [6, 0, 1, 2, 3, 4, 5] rfl (by decide) rfl rfl (dl_at t_X21_greatest 16 rfl) ?_
    refine g_ls (ls2 := [(0, rv D a0), (1, rv D a1), (2, iv a2), (3, iv a3), (4, iv a4), (5, iv x5_6), (6, iv x6_6), (7, iv x7_27)]) [2, 3, 4, 5, 6, 7, 1, 0] rfl ?_
    refine g_loop1 (fun (q : Int × Int) => [(0, rv D a0), (1, rv D a1), (2, iv a2), (3, iv a3), (4, iv a4), (5, iv q.1), (6, iv x6_6), (7, iv q.2)]) (fun (q : Int × Int) => h) (fun (q : Int × Int) => r32 q.1 ∧ r32 q.2) 175 (fun (y175 : Int) => [(0, rv D a0), (1, rv D a1), (2, iv a2), (3, iv a3), (4, iv a4), (5, iv y175), (6, iv x6_6)]) (fun (y175 : Int) => h) (fun (y175 : Int) => r32 y175) (x5_6, x7_27) ⟨r5_6, r7_27⟩ ?_ ?_
    · rintro ⟨x5_29, x7_29⟩ ⟨r5_29, r7_29⟩
      try dsimp only
      unfold m_X21_greatest_l29
      refine g_iload (pc := 29) X (i := 7) (q := 7) (x := x7_29) rfl (dl_at t_X21_greatest 17 rfl) ?_
      refine g_iload (pc := 31) X (i := 4) (q := 4) (x := a4) rfl (dl_at t_X21_greatest 18 rfl) ?_
      refine g_iconst (pc := 33) X (n := 1) (dl_at t_X21_greatest 19 rfl) ?_
      refine g_iadd (pc := 34) X r4 (r32_c rfl) (dl_at t_X21_greatest 20 rfl) ?_
      refine g_icmpgt (pc := 35) X r7_29 (r32_w _) (off := 140) (tgt := 175) rfl (dl_at t_X21_greatest 21 rfl) (fun _ => ?_) (fun _ => ?_)
      · refine g_ls (ls2 := [(0, rv D a0), (1, rv D a1), (2, iv a2), (3, iv a3), (4, iv a4), (5, iv x5_29), (6, iv x6_6)]) [0, 1, 2, 3, 4, 5, 6] rfl ?_
        exact g_at fun Q hQ => hQ r5_29
      refine g_iload (pc := 38) X (i := 7) (q := 7) (x := x7_29) rfl (dl_at t_X21_greatest 22 rfl) ?_
      refine g_join (γ := Int) (fun q => r32 q) 169 (fun q => [(0, rv D a0), (1, rv D a1), (2, iv a2), (3, iv a3), (4, iv a4), (5, iv q), (6, iv x6_6), (7, iv x7_29)]) (fun q => []) (fun q => h) (fun q => m_X21_greatest_j169 x7_29 q) ?_ ?_
      · rintro x5_169 r5_169
        try dsimp only
        unfold m_X21_greatest_j169
        refine r_iincN (pc := 169) X (i := 7) (q := 7) (n := 1) (x := x7_29) (b := 6) (w := iv x6_6) (rest := [(0, rv D a0), (1, rv D a1), (2, iv a2), (3, iv a3), (4, iv a4), (5, iv x5_169)]) rfl r7_29 (r32_c rfl) (Nat.le_of_ble_eq_true rfl) [6, 0, 1, 2, 3, 4, 5] rfl (by decide) rfl rfl (dl_at t_X21_greatest 92 rfl) fun x7_169 r7_169 => ?_
        refine g_goto (pc := 172) X (off := (-143)) (tgt := 29) rfl (dl_at t_X21_greatest 93 rfl) ?_
        refine g_ls (ls2 := [(0, rv D a0), (1, rv D a1), (2, iv a2), (3, iv a3), (4, iv a4), (5, iv x5_169), (6, iv x6_6), (7, iv x7_169)]) [2, 3, 4, 5, 6, 7, 1, 0] rfl ?_
        exact g_at fun Q hQ => hQ ⟨r5_169, r7_169⟩
      intro J169
      refine g_iflt (pc := 40) X r7_29 (off := 129) (tgt := 169) rfl (dl_at t_X21_greatest 23 rfl) (fun _ => ?_) (fun _ => ?_)
      · exact J169 x5_29 r5_29
      refine g_iload (pc := 43) X (i := 7) (q := 7) (x := x7_29) rfl (dl_at t_X21_greatest 24 rfl) ?_
      refine g_aload_n (pc := 45) X (j := 0) (i := 0) (q := 0) (x := a0) rfl rfl (dl_at t_X21_greatest 25 rfl) ?_
      refine r_getr (pc := 46) X fX21_5 hk q3352 (dl_at t_X21_greatest 26 rfl) ?_
      refine g_iload (pc := 49) X (i := 6) (q := 6) (x := x6_6) rfl (dl_at t_X21_greatest 27 rfl) ?_
      refine g_iald (pc := 51) X r6_6 k25 (dl_at t_X21_greatest 28 rfl) fun g51 => ?_
      refine g_iadd (pc := 52) X r7_29 g51 (dl_at t_X21_greatest 29 rfl) ?_
      refine g_iload_n (pc := 53) X (j := 3) (i := 3) (q := 3) (x := a3) rfl rfl (dl_at t_X21_greatest 30 rfl) ?_
      refine g_iconst (pc := 54) X (n := 2) (dl_at t_X21_greatest 31 rfl) ?_
      refine g_iadd (pc := 55) X r3 (r32_c rfl) (dl_at t_X21_greatest 32 rfl) ?_
      refine g_icmple (pc := 56) X (r32_w _) (r32_w _) (off := 6) (tgt := 62) rfl (dl_at t_X21_greatest 33 rfl) (fun _ => ?_) (fun _ => ?_)
      · refine g_aload_n (pc := 62) X (j := 0) (i := 0) (q := 0) (x := a0) rfl rfl (dl_at t_X21_greatest 35 rfl) ?_
        refine r_getr (pc := 63) X fX21_6 hk q3353 (dl_at t_X21_greatest 36 rfl) ?_
        refine g_bipush (pc := 66) X (n := 16) rfl (dl_at t_X21_greatest 37 rfl) ?_
        refine g_iload (pc := 68) X (i := 6) (q := 6) (x := x6_6) rfl (dl_at t_X21_greatest 38 rfl) ?_
        refine g_imul (pc := 70) X (r32_c rfl) r6_6 (dl_at t_X21_greatest 39 rfl) ?_
        refine g_iload (pc := 71) X (i := 4) (q := 4) (x := a4) rfl (dl_at t_X21_greatest 40 rfl) ?_
        refine g_iadd (pc := 73) X (r32_w _) r4 (dl_at t_X21_greatest 41 rfl) ?_
        refine g_iconst (pc := 74) X (n := 1) (dl_at t_X21_greatest 42 rfl) ?_
        refine g_iadd (pc := 75) X (r32_w _) (r32_c rfl) (dl_at t_X21_greatest 43 rfl) ?_
        refine g_iload (pc := 76) X (i := 7) (q := 7) (x := x7_29) rfl (dl_at t_X21_greatest 44 rfl) ?_
        refine g_isub (pc := 78) X (r32_w _) r7_29 (dl_at t_X21_greatest 45 rfl) ?_
        refine g_gd fun k79 => ?_
        refine g_bald (pc := 79) X (r32_w _) k79 (dl_at t_X21_greatest 46 rfl) fun g79 => ?_
        refine g_ltb g79 fun x8_80 r8_80 => ?_
        refine g_istoreN (pc := 80) X (i := 8) (x := x8_80) (b := 7) (w := iv x7_29) (rest := [(0, rv D a0), (1, rv D a1), (2, iv a2), (3, iv a3), (4, iv a4), (5, iv x5_29), (6, iv x6_6)]) (Nat.le_of_ble_eq_true rfl) [7, 0, 1, 2, 3, 4, 5, 6] rfl (by decide) rfl rfl (dl_at t_X21_greatest 47 rfl) ?_
        refine g_iload (pc := 82) X (i := 8) (q := 0) (x := x8_80) rfl (dl_at t_X21_greatest 48 rfl) ?_
        refine g_iload (pc := 84) X (i := 5) (q := 7) (x := x5_29) rfl (dl_at t_X21_greatest 49 rfl) ?_
        refine g_icmpgt (pc := 86) X (r32_b r8_80) r5_29 (off := 6) (tgt := 92) rfl (dl_at t_X21_greatest 50 rfl) (fun _ => ?_) (fun _ => ?_)
        · refine g_iconst (pc := 92) X (n := 1) (dl_at t_X21_greatest 52 rfl) ?_
          refine g_ltz (Or.inr rfl) fun x9_93 r9_93 => ?_
          refine g_istoreN (pc := 93) X (i := 9) (x := x9_93) (b := 8) (w := iv x8_80) (rest := [(7, iv x7_29), (0, rv D a0), (1, rv D a1), (2, iv a2), (3, iv a3), (4, iv a4), (5, iv x5_29), (6, iv x6_6)]) (Nat.le_of_ble_eq_true rfl) [0, 1, 2, 3, 4, 5, 6, 7, 8] rfl (by decide) rfl rfl (dl_at t_X21_greatest 53 rfl) ?_
          refine g_iconst (pc := 95) X (n := 0) (dl_at t_X21_greatest 54 rfl) ?_
          refine g_ltz (Or.inl rfl) fun x10_96 r10_96 => ?_
          refine g_istoreN (pc := 96) X (i := 10) (x := x10_96) (b := 9) (w := iv x9_93) (rest := [(8, iv x8_80), (7, iv x7_29), (0, rv D a0), (1, rv D a1), (2, iv a2), (3, iv a3), (4, iv a4), (5, iv x5_29), (6, iv x6_6)]) (Nat.le_of_ble_eq_true rfl) [0, 1, 2, 3, 4, 5, 6, 7, 8, 9] rfl (by decide) rfl rfl (dl_at t_X21_greatest 55 rfl) ?_
          refine g_ls (ls2 := [(0, rv D a0), (1, rv D a1), (2, iv a2), (3, iv a3), (4, iv a4), (5, iv x5_29), (6, iv x6_6), (7, iv x7_29), (8, iv x8_80), (9, iv x9_93), (10, iv x10_96)]) [4, 5, 6, 7, 8, 9, 10, 3, 2, 1, 0] rfl ?_
          refine g_loop1 (fun (q : Int × Int) => [(0, rv D a0), (1, rv D a1), (2, iv a2), (3, iv a3), (4, iv a4), (5, iv x5_29), (6, iv x6_6), (7, iv x7_29), (8, iv x8_80), (9, iv q.1), (10, iv q.2)]) (fun (q : Int × Int) => h) (fun (q : Int × Int) => (q.1 = 0 ∨ q.1 = 1) ∧ r32 q.2) 155 (fun (y155 : Int) => [(0, rv D a0), (1, rv D a1), (2, iv a2), (3, iv a3), (4, iv a4), (5, iv x5_29), (6, iv x6_6), (7, iv x7_29), (8, iv x8_80), (9, iv y155)]) (fun (y155 : Int) => h) (fun (y155 : Int) => (y155 = 0 ∨ y155 = 1)) (x9_93, x10_96) ⟨r9_93, (r32_z r10_96)⟩ ?_ ?_
          · rintro ⟨x9_98, x10_98⟩ ⟨r9_98, r10_98⟩
            try dsimp only
            unfold m_X21_greatest_l98
            refine g_iload (pc := 98) X (i := 10) (q := 10) (x := x10_98) rfl (dl_at t_X21_greatest 56 rfl) ?_
            refine g_aload_n (pc := 100) X (j := 0) (i := 0) (q := 0) (x := a0) rfl rfl (dl_at t_X21_greatest 57 rfl) ?_
            refine r_getr (pc := 101) X fX21_5 hk q3352 (dl_at t_X21_greatest 58 rfl) ?_
            refine g_iload (pc := 104) X (i := 6) (q := 6) (x := x6_6) rfl (dl_at t_X21_greatest 59 rfl) ?_
            refine g_iald (pc := 106) X r6_6 k25 (dl_at t_X21_greatest 60 rfl) fun g106 => ?_
            refine g_icmpge (pc := 107) X r10_98 g106 (off := 48) (tgt := 155) rfl (dl_at t_X21_greatest 61 rfl) (fun _ => ?_) (fun _ => ?_)
            · refine g_ls (ls2 := [(0, rv D a0), (1, rv D a1), (2, iv a2), (3, iv a3), (4, iv a4), (5, iv x5_29), (6, iv x6_6), (7, iv x7_29), (8, iv x8_80), (9, iv x9_98)]) [0, 1, 2, 3, 4, 5, 6, 7, 8, 9] rfl ?_
              exact g_at fun Q hQ => hQ r9_98
            refine g_iload (pc := 110) X (i := 9) (q := 9) (x := x9_98) rfl (dl_at t_X21_greatest 62 rfl) ?_
            refine g_ifeq (pc := 112) X (r32_z r9_98) (off := 43) (tgt := 155) rfl (dl_at t_X21_greatest 63 rfl) (fun _ => ?_) (fun _ => ?_)
            · refine g_ls (ls2 := [(0, rv D a0), (1, rv D a1), (2, iv a2), (3, iv a3), (4, iv a4), (5, iv x5_29), (6, iv x6_6), (7, iv x7_29), (8, iv x8_80), (9, iv x9_98)]) [0, 1, 2, 3, 4, 5, 6, 7, 8, 9] rfl ?_
              exact g_at fun Q hQ => hQ r9_98
            refine g_aload_n (pc := 115) X (j := 0) (i := 0) (q := 0) (x := a0) rfl rfl (dl_at t_X21_greatest 64 rfl) ?_
            refine r_getr (pc := 116) X fX21_4 hk q3351 (dl_at t_X21_greatest 65 rfl) ?_
            refine g_bipush (pc := 119) X (n := 14) rfl (dl_at t_X21_greatest 66 rfl) ?_
            refine g_iload (pc := 121) X (i := 6) (q := 6) (x := x6_6) rfl (dl_at t_X21_greatest 67 rfl) ?_
            refine g_imul (pc := 123) X (r32_c rfl) r6_6 (dl_at t_X21_greatest 68 rfl) ?_
            refine g_iload (pc := 124) X (i := 10) (q := 10) (x := x10_98) rfl (dl_at t_X21_greatest 69 rfl) ?_
            refine g_iadd (pc := 126) X (r32_w _) r10_98 (dl_at t_X21_greatest 70 rfl) ?_
            refine g_gd fun k127 => ?_
            refine g_bald (pc := 127) X (r32_w _) k127 (dl_at t_X21_greatest 71 rfl) fun g127 => ?_
            refine g_aload_n (pc := 128) X (j := 1) (i := 1) (q := 1) (x := a1) rfl rfl (dl_at t_X21_greatest 72 rfl) ?_
            refine g_iload_n (pc := 129) X (j := 2) (i := 2) (q := 2) (x := a2) rfl rfl (dl_at t_X21_greatest 73 rfl) ?_
            refine g_iload_n (pc := 130) X (j := 3) (i := 3) (q := 3) (x := a3) rfl rfl (dl_at t_X21_greatest 74 rfl) ?_
            refine g_iload (pc := 131) X (i := 7) (q := 7) (x := x7_29) rfl (dl_at t_X21_greatest 75 rfl) ?_
            refine g_iload (pc := 133) X (i := 10) (q := 10) (x := x10_98) rfl (dl_at t_X21_greatest 76 rfl) ?_
            refine g_iadd (pc := 135) X r7_29 r10_98 (dl_at t_X21_greatest 77 rfl) ?_
            refine r_callRi (pc := 136) X (fun _ hv => s_X21_signOf r2 r3 (r32_w _) hv) cw_code q4965 q375 (in_Sc X (As := [rv D a1, iv a2, iv a3, iv (w32 (x7_29 + x10_98))]) (Or.inl q4963) q4964 q375 q4965 ⟨by decide, by decide⟩ rfl (dl_at t_X21_greatest 78 rfl)) (dl_at t_X21_greatest 78 rfl) (cat24 (st := [iv (h (h a0 4) (w32 ((w32 (14 * x6_6)) + x10_98)))]) (Nat.le_of_ble_eq_true rfl)) (Nat.le_of_ble_eq_true rfl) (Nat.le_of_ble_eq_true rfl) fun v136 g136 => ?_
            refine g_join (γ := Int) (fun q => (q = 0 ∨ q = 1)) 147 (fun q => [(0, rv D a0), (1, rv D a1), (2, iv a2), (3, iv a3), (4, iv a4), (5, iv x5_29), (6, iv x6_6), (7, iv x7_29), (8, iv x8_80), (10, iv x10_98)]) (fun q => [iv q]) (fun q => h) (fun q => m_X21_greatest_j147 x10_98 q) ?_ ?_
            · rintro s0_147 rs0_147
              try dsimp only
              unfold m_X21_greatest_j147
              refine g_istoreN (pc := 147) X (i := 9) (x := s0_147) (b := 8) (w := iv x8_80) (rest := [(0, rv D a0), (1, rv D a1), (2, iv a2), (3, iv a3), (4, iv a4), (5, iv x5_29), (6, iv x6_6), (7, iv x7_29), (10, iv x10_98)]) (Nat.le_of_ble_eq_true rfl) [8, 0, 1, 2, 3, 4, 5, 6, 7, 9] rfl (by decide) rfl rfl (dl_at t_X21_greatest 83 rfl) ?_
              refine r_iincN (pc := 149) X (i := 10) (q := 10) (n := 1) (x := x10_98) (b := 9) (w := iv s0_147) (rest := [(8, iv x8_80), (0, rv D a0), (1, rv D a1), (2, iv a2), (3, iv a3), (4, iv a4), (5, iv x5_29), (6, iv x6_6), (7, iv x7_29)]) rfl r10_98 (r32_c rfl) (Nat.le_of_ble_eq_true rfl) [0, 1, 2, 3, 4, 5, 6, 7, 8, 9] rfl (by decide) rfl rfl (dl_at t_X21_greatest 84 rfl) fun x10_149 r10_149 => ?_
              refine g_goto (pc := 152) X (off := (-54)) (tgt := 98) rfl (dl_at t_X21_greatest 85 rfl) ?_
              refine g_ls (ls2 := [(0, rv D a0), (1, rv D a1), (2, iv a2), (3, iv a3), (4, iv a4), (5, iv x5_29), (6, iv x6_6), (7, iv x7_29), (8, iv x8_80), (9, iv s0_147), (10, iv x10_149)]) [3, 4, 5, 6, 7, 8, 9, 10, 2, 1, 0] rfl ?_
              exact g_at fun Q hQ => hQ ⟨rs0_147, r10_149⟩
            intro J147
            refine g_icmpne (pc := 139) X (r32_b g127) g136 (off := 7) (tgt := 146) rfl (dl_at t_X21_greatest 79 rfl) (fun _ => ?_) (fun _ => ?_)
            · refine g_iconst (pc := 146) X (n := 0) (dl_at t_X21_greatest 82 rfl) ?_
              refine g_ls (ls2 := [(0, rv D a0), (1, rv D a1), (2, iv a2), (3, iv a3), (4, iv a4), (5, iv x5_29), (6, iv x6_6), (7, iv x7_29), (8, iv x8_80), (10, iv x10_98)]) [0, 1, 2, 3, 4, 5, 6, 7, 8, 10] rfl ?_
              exact J147 0 (Or.inl rfl)
            refine g_iconst (pc := 142) X (n := 1) (dl_at t_X21_greatest 80 rfl) ?_
            refine g_goto (pc := 143) X (off := 4) (tgt := 147) rfl (dl_at t_X21_greatest 81 rfl) ?_
            refine g_ls (ls2 := [(0, rv D a0), (1, rv D a1), (2, iv a2), (3, iv a3), (4, iv a4), (5, iv x5_29), (6, iv x6_6), (7, iv x7_29), (8, iv x8_80), (10, iv x10_98)]) [0, 1, 2, 3, 4, 5, 6, 7, 8, 10] rfl ?_
            exact J147 1 (Or.inr rfl)
          · rintro x9_155 r9_155
            try dsimp only [sE]
            refine g_iload (pc := 155) X (i := 9) (q := 9) (x := x9_155) rfl (dl_at t_X21_greatest 86 rfl) ?_
            refine g_join (γ := Int) (fun q => r32 q) 167 (fun q => [(0, rv D a0), (1, rv D a1), (2, iv a2), (3, iv a3), (4, iv a4), (6, iv x6_6), (7, iv x7_29)]) (fun q => [iv q]) (fun q => h) (fun q => m_X21_greatest_j167 x7_29 q) ?_ ?_
            · rintro s0_167 rs0_167
              try dsimp only
              unfold m_X21_greatest_j167
              refine g_istoreN (pc := 167) X (i := 5) (x := s0_167) (b := 4) (w := iv a4) (rest := [(0, rv D a0), (1, rv D a1), (2, iv a2), (3, iv a3), (6, iv x6_6), (7, iv x7_29)]) (Nat.le_of_ble_eq_true rfl) [4, 0, 1, 2, 3, 5, 6] rfl (by decide) rfl rfl (dl_at t_X21_greatest 91 rfl) ?_
              refine g_ls (ls2 := [(0, rv D a0), (1, rv D a1), (2, iv a2), (3, iv a3), (4, iv a4), (5, iv s0_167), (6, iv x6_6), (7, iv x7_29)]) [2, 3, 4, 5, 1, 0, 6, 7] rfl ?_
              exact J169 s0_167 rs0_167
            intro J167
            refine g_ifeq (pc := 157) X (r32_z r9_155) (off := 8) (tgt := 165) rfl (dl_at t_X21_greatest 87 rfl) (fun _ => ?_) (fun _ => ?_)
            · refine g_iload (pc := 165) X (i := 5) (q := 5) (x := x5_29) rfl (dl_at t_X21_greatest 90 rfl) ?_
              refine g_ls (ls2 := [(0, rv D a0), (1, rv D a1), (2, iv a2), (3, iv a3), (4, iv a4), (6, iv x6_6), (7, iv x7_29)]) [0, 1, 2, 3, 4, 6, 7] rfl ?_
              exact J167 x5_29 r5_29
            refine g_iload (pc := 160) X (i := 8) (q := 8) (x := x8_80) rfl (dl_at t_X21_greatest 88 rfl) ?_
            refine g_goto (pc := 162) X (off := 5) (tgt := 167) rfl (dl_at t_X21_greatest 89 rfl) ?_
            refine g_ls (ls2 := [(0, rv D a0), (1, rv D a1), (2, iv a2), (3, iv a3), (4, iv a4), (6, iv x6_6), (7, iv x7_29)]) [0, 1, 2, 3, 4, 6, 7] rfl ?_
            exact J167 x8_80 (r32_b r8_80)
        refine g_goto (pc := 89) X (off := 80) (tgt := 169) rfl (dl_at t_X21_greatest 51 rfl) ?_
        refine g_ls (ls2 := [(0, rv D a0), (1, rv D a1), (2, iv a2), (3, iv a3), (4, iv a4), (5, iv x5_29), (6, iv x6_6), (7, iv x7_29)]) [2, 3, 4, 5, 6, 7, 8, 1] rfl ?_
        exact J169 x5_29 r5_29
      refine g_goto (pc := 59) X (off := 110) (tgt := 169) rfl (dl_at t_X21_greatest 34 rfl) ?_
      exact J169 x5_29 r5_29
    · rintro x5_175 r5_175
      try dsimp only [sE]
      refine r_iincN (pc := 175) X (i := 6) (q := 6) (n := 1) (x := x6_6) (b := 5) (w := iv x5_175) (rest := [(0, rv D a0), (1, rv D a1), (2, iv a2), (3, iv a3), (4, iv a4)]) rfl r6_6 (r32_c rfl) (Nat.le_of_ble_eq_true rfl) [5, 0, 1, 2, 3, 4] rfl (by decide) rfl rfl (dl_at t_X21_greatest 94 rfl) fun x6_175 r6_175 => ?_
      refine g_goto (pc := 178) X (off := (-172)) (tgt := 6) rfl (dl_at t_X21_greatest 95 rfl) ?_
      refine g_ls (ls2 := [(0, rv D a0), (1, rv D a1), (2, iv a2), (3, iv a3), (4, iv a4), (5, iv x5_175), (6, iv x6_175)]) [2, 3, 4, 5, 6, 1, 0] rfl ?_
      exact g_at fun Q hQ => hQ ⟨r5_175, r6_175⟩
def k_X21_places : List (Nat × Instr × Nat) := [(0, .iload_n 3, 1), (1, .iload_n 2, 1), (2, .isub, 1), (3, .istore 5, 2), (5, .iconst 0, 1), (6, .istore 6, 2), (8, .iload 6, 2), (10, .iload 5, 2), (12, .if_icmp .gt 17, 3), (15, .aload 4, 2), (17, .iload_n 2, 1), (18, .iload 6, 2), (20, .iadd, 1), (21, .iconst 0, 1), (22, .bastore, 1), (23, .iinc 6 1, 3), (26, .goto (-18), 3), (29, .iconst 0, 1), (30, .istore 6, 2), (32, .iload 6, 2), (34, .aload_n 0, 1), (35, .getfield 49, 3), (38, .if_icmp .ge 151, 3), (41, .aload_n 0, 1), (42, .getfield 30, 3), (45, .iload 6, 2), (47, .iaload, 1), (48, .iload 5, 2), (50, .if_icmp .eq 6, 3), (53, .goto 130, 3), (56, .iconst 1, 1), (57, .istore 7, 2), (59, .iconst 0, 1), (60, .istore 8, 2), (62, .iload 8, 2), (64, .iload 5, 2), (66, .if_icmp .ge 46, 3), (69, .iload 7, 2), (71, .ifCond .eq 32, 3), (74, .aload_n 1, 1), (75, .iload_n 2, 1), (76, .iload 8, 2), (78, .iadd, 1), (79, .baload, 1), (80, .invokestatic 92, 3), (83, .aload_n 0, 1), (84, .getfield 27, 3), (87, .bipush 30, 2), (89, .iload 6, 2), (91, .imul, 1), (92, .iload 8, 2), (94, .iadd, 1), (95, .baload, 1), (96, .if_icmp .ne 7, 3), (99, .iconst 1, 1), (100, .goto 4, 3), (103, .iconst 0, 1), (104, .istore 7, 2), (106, .iinc 8 1, 3), (109, .goto (-47), 3), (112, .iload 7, 2), (114, .ifCond .eq 69, 3), (117, .iconst 1, 1), (118, .istore 8, 2), (120, .iload 8, 2), (122, .iload 5, 2), (124, .if_icmp .ge 58, 3), (127, .aload 4, 2), (129, .iload_n 2, 1), (130, .iload 8, 2), (132, .iadd, 1), (133, .aload_n 0, 1), (134, .getfield 33, 3), (137, .bipush 31, 2), (139, .iload 6, 2), (141, .imul, 1), (142, .iload 8, 2), (144, .iadd, 1), (145, .baload, 1), (146, .ifCond .eq 28, 3), (149, .iload 8, 2), (151, .aload_n 0, 1), (152, .getfield 7, 3), (155, .if_icmp .lt 19, 3), (158, .iload 5, 2), (160, .iload 8, 2), (162, .isub, 1), (163, .aload_n 0, 1), (164, .getfield 13, 3), (167, .if_icmp .lt 7, 3), (170, .iconst 1, 1), (171, .goto 4, 3), (174, .iconst 0, 1), (175, .bastore, 1), (176, .iinc 8 1, 3), (179, .goto (-59), 3), (182, .return_, 1), (183, .iinc 6 1, 3), (186, .goto (-154), 3), (189, .iconst 1, 1), (190, .istore 6, 2), (192, .iload 6, 2), (194, .iload 5, 2), (196, .if_icmp .ge 58, 3), (199, .iload 6, 2), (201, .aload_n 0, 1), (202, .getfield 7, 3), (205, .if_icmp .lt 43, 3), (208, .iload 5, 2), (210, .iload 6, 2), (212, .isub, 1), (213, .aload_n 0, 1), (214, .getfield 13, 3), (217, .if_icmp .lt 31, 3), (220, .aload 4, 2), (222, .iload_n 2, 1), (223, .iload 6, 2), (225, .iadd, 1), (226, .aload_n 0, 1), (227, .aload_n 1, 1), (228, .iload_n 2, 1), (229, .iload 5, 2), (231, .iload 6, 2), (233, .invokevirtual 96, 3), (236, .iconst 2, 1), (237, .irem, 1), (238, .iconst 1, 1), (239, .if_icmp .ne 7, 3), (242, .iconst 1, 1), (243, .goto 4, 3), (246, .iconst 0, 1), (247, .bastore, 1), (248, .iinc 6 1, 3), (251, .goto (-59), 3), (254, .return_, 1)]
theorem t_X21_places : ∀ q ∈ k_X21_places, decode cX21_places q.1 = .ok q.2 := dl_all (by decide +kernel)
noncomputable def m_X21_places_l8 (a2 a4 x5_3 x6_8 : Int) (h_8 : Hp) : Option ((Int × Hp) ⊕ ((Hp))) :=
  if x5_3 < x6_8 then (some (.inr h_8))
  else (gd (h_8 a4 (-2) % 16 = 3 ∧ (0 : Int) ≤ (w32 (a2 + x6_8)) ∧ (w32 (a2 + x6_8)) < h_8 a4 (-1)) (pt h_8 a4 (w32 (a2 + x6_8)) 0 fun h22 =>
  lt_ (w32 (x6_8 + 1)) fun x6_23 =>
  some (.inl (x6_23, h22))))
noncomputable def m_X21_places_j183 (x6_32 : Int) : Option ((Int) ⊕ ((Unit) ⊕ ((Int)))) :=
  lt_ (w32 (x6_32 + 1)) fun x6_183 =>
  some (.inl x6_183)
noncomputable def m_X21_places_j104 (x8_62 s0_104 : Int) : Option ((Int × Int) ⊕ ((Int))) :=
  lt_ (w32 (x8_62 + 1)) fun x8_106 =>
  some (.inl (s0_104, x8_106))
noncomputable def m_X21_places_j103 (x8_62 : Int) : Option ((Int × Int) ⊕ ((Int))) :=
  m_X21_places_j104 x8_62 0
noncomputable def m_X21_places_l62 (a0 a1 a2 x5_3 x6_32 x7_62 x8_62 : Int) (h_29 : Hp) : Option ((Int × Int) ⊕ ((Int))) :=
  if x5_3 ≤ x8_62 then (some (.inr x7_62))
  else (if x7_62 = 0 then (m_X21_places_j103 x8_62)
  else (gd (h_29 a1 (-2) % 16 = 2 ∧ (0 : Int) ≤ (w32 (a2 + x8_62)) ∧ (w32 (a2 + x8_62)) < h_29 a1 (-1)) ((m_X18_small (h_29 a1 (w32 (a2 + x8_62)))).bind fun v80 =>
  gd (h_29 (h_29 a0 7) (-2) % 16 = 2 ∧ (0 : Int) ≤ (w32 ((w32 (30 * x6_32)) + x8_62)) ∧ (w32 ((w32 (30 * x6_32)) + x8_62)) < h_29 (h_29 a0 7) (-1)) (if v80 ≠ (h_29 (h_29 a0 7) (w32 ((w32 (30 * x6_32)) + x8_62))) then (m_X21_places_j103 x8_62)
  else (m_X21_places_j104 x8_62 1)))))
noncomputable def m_X21_places_l32 (a0 a1 a2 x5_3 x6_32 : Int) (h_29 : Hp) : Option ((Int) ⊕ ((Unit) ⊕ ((Int)))) :=
  if (h_29 a0 3) ≤ x6_32 then (some (.inr (.inl ())))
  else (gd (h_29 (h_29 a0 8) (-2) % 16 = 1 ∧ (0 : Int) ≤ x6_32 ∧ x6_32 < h_29 (h_29 a0 8) (-1)) (if (h_29 (h_29 a0 8) x6_32) = x5_3 then (lt_ 1 fun x7_57 =>
  lt_ 0 fun x8_60 =>
  (lp (fun (q : Int × Int) => m_X21_places_l62 a0 a1 a2 x5_3 x6_32 q.1 q.2 h_29) (x7_57, x8_60)).bind (fun (y112 : Int) => if y112 = 0 then (m_X21_places_j183 x6_32)
  else (some (.inr (.inr x6_32)))))
  else (m_X21_places_j183 x6_32)))
noncomputable def m_X21_places_j248 (x6_192 : Int) (h_248 : Hp) : Option ((Int × Hp) ⊕ ((Hp))) :=
  lt_ (w32 (x6_192 + 1)) fun x6_248 =>
  some (.inl (x6_248, h_248))
noncomputable def m_X21_places_j247 (a4 x6_192 s1_247 s2_247 : Int) (h_192 : Hp) : Option ((Int × Hp) ⊕ ((Hp))) :=
  gd (h_192 a4 (-2) % 16 = 3 ∧ (0 : Int) ≤ s1_247 ∧ s1_247 < h_192 a4 (-1)) (pt h_192 a4 s1_247 s2_247 fun h247 =>
  m_X21_places_j248 x6_192 h247)
noncomputable def m_X21_places_l192 (a0 a1 a2 a4 x5_3 x6_192 : Int) (h_192 : Hp) : Option ((Int × Hp) ⊕ ((Hp))) :=
  if x5_3 ≤ x6_192 then (some (.inr h_192))
  else (if x6_192 < (h_192 a0 0) then (m_X21_places_j248 x6_192 h_192)
  else (if (w32 (x5_3 - x6_192)) < (h_192 a0 1) then (m_X21_places_j248 x6_192 h_192)
  else ((m_X21_greatest a0 a1 a2 x5_3 x6_192 h_192).bind fun v233 =>
  if (Int.tmod v233 2) ≠ 1 then (m_X21_places_j247 a4 x6_192 (w32 (a2 + x6_192)) 0 h_192)
  else (m_X21_places_j247 a4 x6_192 (w32 (a2 + x6_192)) 1 h_192))))
noncomputable def m_X21_places_j175 (a4 x8_120 s1_175 s2_175 : Int) (h_120 : Hp) : Option ((Int × Hp) ⊕ ((Hp))) :=
  gd (h_120 a4 (-2) % 16 = 3 ∧ (0 : Int) ≤ s1_175 ∧ s1_175 < h_120 a4 (-1)) (pt h_120 a4 s1_175 s2_175 fun h175 =>
  lt_ (w32 (x8_120 + 1)) fun x8_176 =>
  some (.inl (x8_176, h175)))
noncomputable def m_X21_places_j174 (a4 x8_120 s1_174 : Int) (h_120 : Hp) : Option ((Int × Hp) ⊕ ((Hp))) :=
  m_X21_places_j175 a4 x8_120 s1_174 0 h_120
noncomputable def m_X21_places_l120 (a0 a2 a4 x5_3 x6_117 x8_120 : Int) (h_120 : Hp) : Option ((Int × Hp) ⊕ ((Hp))) :=
  if x5_3 ≤ x8_120 then (some (.inr h_120))
  else (gd (h_120 (h_120 a0 9) (-2) % 16 = 3 ∧ (0 : Int) ≤ (w32 ((w32 (31 * x6_117)) + x8_120)) ∧ (w32 ((w32 (31 * x6_117)) + x8_120)) < h_120 (h_120 a0 9) (-1)) (if (h_120 (h_120 a0 9) (w32 ((w32 (31 * x6_117)) + x8_120))) = 0 then (m_X21_places_j174 a4 x8_120 (w32 (a2 + x8_120)) h_120)
  else (if x8_120 < (h_120 a0 0) then (m_X21_places_j174 a4 x8_120 (w32 (a2 + x8_120)) h_120)
  else (if (w32 (x5_3 - x8_120)) < (h_120 a0 1) then (m_X21_places_j174 a4 x8_120 (w32 (a2 + x8_120)) h_120)
  else (m_X21_places_j175 a4 x8_120 (w32 (a2 + x8_120)) 1 h_120)))))
noncomputable def m_X21_places (a0 a1 a2 a3 a4 : Int) (h : Hp) : Option (Hp) :=
  lt_ (w32 (a3 - a2)) fun x5_3 =>
  lt_ 0 fun x6_6 =>
  (lp (fun (q : Int × Hp) => m_X21_places_l8 a2 a4 x5_3 q.1 q.2) (x6_6, h)).bind (fun (y29 : Hp) => lt_ 0 fun x6_30 =>
  (lp (fun (q : Int) => m_X21_places_l32 a0 a1 a2 x5_3 q y29) x6_30).bind (sE (fun (_ : Unit) => lt_ 1 fun x6_190 =>
  (lp (fun (q : Int × Hp) => m_X21_places_l192 a0 a1 a2 a4 x5_3 q.1 q.2) (x6_190, y29)).bind (fun (x : Hp) => some x)) (fun (y117 : Int) => lt_ 1 fun x8_118 =>
  (lp (fun (q : Int × Hp) => m_X21_places_l120 a0 a2 a4 x5_3 y117 q.1 q.2) (x8_118, y29)).bind (fun (x : Hp) => some x))))
theorem s_X21_places {l : Launch} [NoTr l] {D : SD} {a0 a1 a2 a3 a4 : Int} {h : Hp} (hk : h a0 (-2) = 352) (r2 : r32 a2) (r3 : r32 a3) {r : Hp} (hm : m_X21_places a0 a1 a2 a3 a4 h = some r) : Sim l D yX21_places (Cond.code yX21_places cX21_places 9 (Option.none : Option Jvm.ClassFile.FieldType)) 3 121 [rv D a0, rv D a1, iv a2, iv a3, rv D a4] h 0 ((0, 0), r) := by
  refine Sim.of (fin := fun (v : Hp) => ((0, 0), v)) (lsE := [(0, rv D a0), (1, rv D a1), (2, iv a2), (3, iv a3), (4, rv D a4)]) hm rfl cwS_code (la_r (la_r (la_i (la_i (la_r la_n))))) (ll_r (ll_r (ll_i (ll_i (ll_r ll_n))))) ?_
  intro p e s m below meth c X hcw hmm hcc hnm hname
  unfold m_X21_places
  refine g_iload_n (pc := 0) X (j := 3) (i := 3) (q := 3) (x := a3) rfl rfl (dl_at t_X21_places 0 rfl) ?_
  refine g_iload_n (pc := 1) X (j := 2) (i := 2) (q := 2) (x := a2) rfl rfl (dl_at t_X21_places 1 rfl) ?_
  refine g_isub (pc := 2) X r3 r2 (dl_at t_X21_places 2 rfl) ?_
  refine g_lti (r32_w _) fun x5_3 r5_3 => ?_
  refine g_istoreN (pc := 3) X (i := 5) (x := x5_3) (b := 4) (w := rv D a4) (rest := [(0, rv D a0), (1, rv D a1), (2, iv a2)]) (Nat.le_of_ble_eq_true rfl) [4, 0, 1, 2] rfl (by decide) rv_cat rfl (dl_at t_X21_places 3 rfl) ?_
  refine g_iconst (pc := 5) X (n := 0) (dl_at t_X21_places 4 rfl) ?_
  refine g_ltz (Or.inl rfl) fun x6_6 r6_6 => ?_
  refine g_istoreN (pc := 6) X (i := 6) (x := x6_6) (b := 5) (w := iv x5_3) (rest := [(4, rv D a4), (0, rv D a0), (1, rv D a1), (2, iv a2)]) (Nat.le_of_ble_eq_true rfl) [0, 1, 2, 3, 4] rfl (by decide) rfl rfl (dl_at t_X21_places 5 rfl) ?_
  refine g_ls (ls2 := [(0, rv D a0), (1, rv D a1), (2, iv a2), (4, rv D a4), (5, iv x5_3), (6, iv x6_6)]) [3, 4, 5, 2, 1, 0] rfl ?_
  refine g_loop1 (fun (q : Int × Hp) => [(0, rv D a0), (1, rv D a1), (2, iv a2), (4, rv D a4), (5, iv x5_3), (6, iv q.1)]) (fun (q : Int × Hp) => q.2) (fun (q : Int × Hp) => r32 q.1 ∧ Ext h q.2) 29 (fun (y29 : Hp) => [(0, rv D a0), (1, rv D a1), (2, iv a2), (4, rv D a4), (5, iv x5_3)]) (fun (y29 : Hp) => y29) (fun (y29 : Hp) => Ext h y29) (x6_6, h) ⟨(r32_z r6_6), (Ext.refl _)⟩ ?_ ?_
  · rintro ⟨x6_8, h_8⟩ ⟨r6_8, E_8⟩
    try dsimp only
    unfold m_X21_places_l8
    refine g_iload (pc := 8) X (i := 6) (q := 5) (x := x6_8) rfl (dl_at t_X21_places 6 rfl) ?_
    refine g_iload (pc := 10) X (i := 5) (q := 4) (x := x5_3) rfl (dl_at t_X21_places 7 rfl) ?_
    refine g_icmpgt (pc := 12) X r6_8 r5_3 (off := 17) (tgt := 29) rfl (dl_at t_X21_places 8 rfl) (fun _ => ?_) (fun _ => ?_)
    · refine g_ls (ls2 := [(0, rv D a0), (1, rv D a1), (2, iv a2), (4, rv D a4), (5, iv x5_3)]) [0, 1, 2, 3, 4] rfl ?_
      exact g_at fun Q hQ => hQ E_8
    refine g_aload (pc := 15) X (i := 4) (q := 3) (x := a4) rfl (dl_at t_X21_places 9 rfl) ?_
    refine g_iload_n (pc := 17) X (j := 2) (i := 2) (q := 2) (x := a2) rfl rfl (dl_at t_X21_places 10 rfl) ?_
    refine g_iload (pc := 18) X (i := 6) (q := 5) (x := x6_8) rfl (dl_at t_X21_places 11 rfl) ?_
    refine g_iadd (pc := 20) X r2 r6_8 (dl_at t_X21_places 12 rfl) ?_
    refine g_iconst (pc := 21) X (n := 0) (dl_at t_X21_places 13 rfl) ?_
    refine g_gd fun k22 => ?_
    refine r_zast (pc := 22) X (r32_w _) (Or.inl rfl) k22 (dl_at t_X21_places 14 rfl) (fun h22 E22 => ?_)
    refine r_iincN (pc := 23) X (i := 6) (q := 5) (n := 1) (x := x6_8) (b := 5) (w := iv x5_3) (rest := [(0, rv D a0), (1, rv D a1), (2, iv a2), (4, rv D a4)]) rfl r6_8 (r32_c rfl) (Nat.le_of_ble_eq_true rfl) [4, 0, 1, 2, 3] rfl (by decide) rfl rfl (dl_at t_X21_places 15 rfl) fun x6_23 r6_23 => ?_
    refine g_goto (pc := 26) X (off := (-18)) (tgt := 8) rfl (dl_at t_X21_places 16 rfl) ?_
    refine g_ls (ls2 := [(0, rv D a0), (1, rv D a1), (2, iv a2), (4, rv D a4), (5, iv x5_3), (6, iv x6_23)]) [2, 3, 4, 5, 1, 0] rfl ?_
    exact g_at fun Q hQ => hQ ⟨r6_23, (E_8.trans E22)⟩
  · rintro h_29 E_29
    try dsimp only [sE]
    refine g_iconst (pc := 29) X (n := 0) (dl_at t_X21_places 17 rfl) ?_
    refine g_ltz (Or.inl rfl) fun x6_30 r6_30 => ?_
    refine g_istoreN (pc := 30) X (i := 6) (x := x6_30) (b := 5) (w := iv x5_3) (rest := [(0, rv D a0), (1, rv D a1), (2, iv a2), (4, rv D a4)]) (Nat.le_of_ble_eq_true rfl) [4, 0, 1, 2, 3] rfl (by decide) rfl rfl (dl_at t_X21_places 18 rfl) ?_
    refine g_ls (ls2 := [(0, rv D a0), (1, rv D a1), (2, iv a2), (4, rv D a4), (5, iv x5_3), (6, iv x6_30)]) [2, 3, 4, 5, 1, 0] rfl ?_
    refine g_loop2 (fun (q : Int) => [(0, rv D a0), (1, rv D a1), (2, iv a2), (4, rv D a4), (5, iv x5_3), (6, iv q)]) (fun (q : Int) => h_29) (fun (q : Int) => r32 q) 189 (fun (y189 : Unit) => [(0, rv D a0), (1, rv D a1), (2, iv a2), (4, rv D a4), (5, iv x5_3)]) (fun (y189 : Unit) => h_29) (fun (y189 : Unit) => True) 117 (fun (y117 : Int) => [(0, rv D a0), (2, iv a2), (4, rv D a4), (5, iv x5_3), (6, iv y117)]) (fun (y117 : Int) => h_29) (fun (y117 : Int) => r32 y117) x6_30 (r32_z r6_30) ?_ ?_ ?_
    · rintro x6_32 r6_32
      try dsimp only
      unfold m_X21_places_l32
      refine g_iload (pc := 32) X (i := 6) (q := 5) (x := x6_32) rfl (dl_at t_X21_places 19 rfl) ?_
      refine g_aload_n (pc := 34) X (j := 0) (i := 0) (q := 0) (x := a0) rfl rfl (dl_at t_X21_places 20 rfl) ?_
      have k35 := kx E_29 (by decide) hk
      refine r_geti (pc := 35) X fX21_3 k35 q3349 (dl_at t_X21_places 21 rfl) fun g35 => ?_
      refine g_icmpge (pc := 38) X r6_32 g35 (off := 151) (tgt := 189) rfl (dl_at t_X21_places 22 rfl) (fun _ => ?_) (fun _ => ?_)
      · refine g_ls (ls2 := [(0, rv D a0), (1, rv D a1), (2, iv a2), (4, rv D a4), (5, iv x5_3)]) [0, 1, 2, 3, 4] rfl ?_
        exact g_at fun Q hQ => hQ trivial
      refine g_aload_n (pc := 41) X (j := 0) (i := 0) (q := 0) (x := a0) rfl rfl (dl_at t_X21_places 23 rfl) ?_
      refine r_getr (pc := 42) X fX21_8 k35 q3355 (dl_at t_X21_places 24 rfl) ?_
      refine g_iload (pc := 45) X (i := 6) (q := 5) (x := x6_32) rfl (dl_at t_X21_places 25 rfl) ?_
      refine g_gd fun k47 => ?_
      refine g_iald (pc := 47) X r6_32 k47 (dl_at t_X21_places 26 rfl) fun g47 => ?_
      refine g_iload (pc := 48) X (i := 5) (q := 4) (x := x5_3) rfl (dl_at t_X21_places 27 rfl) ?_
      refine g_join (γ := Unit) (fun q => True) 183 (fun q => [(0, rv D a0), (1, rv D a1), (2, iv a2), (4, rv D a4), (5, iv x5_3), (6, iv x6_32)]) (fun q => []) (fun q => h_29) (fun q => m_X21_places_j183 x6_32) ?_ ?_
      · rintro _ _
        try dsimp only
        unfold m_X21_places_j183
        refine r_iincN (pc := 183) X (i := 6) (q := 5) (n := 1) (x := x6_32) (b := 5) (w := iv x5_3) (rest := [(0, rv D a0), (1, rv D a1), (2, iv a2), (4, rv D a4)]) rfl r6_32 (r32_c rfl) (Nat.le_of_ble_eq_true rfl) [4, 0, 1, 2, 3] rfl (by decide) rfl rfl (dl_at t_X21_places 97 rfl) fun x6_183 r6_183 => ?_
        refine g_goto (pc := 186) X (off := (-154)) (tgt := 32) rfl (dl_at t_X21_places 98 rfl) ?_
        refine g_ls (ls2 := [(0, rv D a0), (1, rv D a1), (2, iv a2), (4, rv D a4), (5, iv x5_3), (6, iv x6_183)]) [2, 3, 4, 5, 1, 0] rfl ?_
        exact g_at fun Q hQ => hQ r6_183
      intro J183
      refine g_icmpeq (pc := 50) X g47 r5_3 (off := 6) (tgt := 56) rfl (dl_at t_X21_places 28 rfl) (fun _ => ?_) (fun _ => ?_)
      · refine g_iconst (pc := 56) X (n := 1) (dl_at t_X21_places 30 rfl) ?_
        refine g_ltz (Or.inr rfl) fun x7_57 r7_57 => ?_
        refine g_istoreN (pc := 57) X (i := 7) (x := x7_57) (b := 6) (w := iv x6_32) (rest := [(0, rv D a0), (1, rv D a1), (2, iv a2), (4, rv D a4), (5, iv x5_3)]) (Nat.le_of_ble_eq_true rfl) [5, 0, 1, 2, 3, 4] rfl (by decide) rfl rfl (dl_at t_X21_places 31 rfl) ?_
        refine g_iconst (pc := 59) X (n := 0) (dl_at t_X21_places 32 rfl) ?_
        refine g_ltz (Or.inl rfl) fun x8_60 r8_60 => ?_
        refine g_istoreN (pc := 60) X (i := 8) (x := x8_60) (b := 7) (w := iv x7_57) (rest := [(6, iv x6_32), (0, rv D a0), (1, rv D a1), (2, iv a2), (4, rv D a4), (5, iv x5_3)]) (Nat.le_of_ble_eq_true rfl) [0, 1, 2, 3, 4, 5, 6] rfl (by decide) rfl rfl (dl_at t_X21_places 33 rfl) ?_
        refine g_ls (ls2 := [(0, rv D a0), (1, rv D a1), (2, iv a2), (4, rv D a4), (5, iv x5_3), (6, iv x6_32), (7, iv x7_57), (8, iv x8_60)]) [3, 4, 5, 6, 7, 2, 1, 0] rfl ?_
        refine g_loop1 (fun (q : Int × Int) => [(0, rv D a0), (1, rv D a1), (2, iv a2), (4, rv D a4), (5, iv x5_3), (6, iv x6_32), (7, iv q.1), (8, iv q.2)]) (fun (q : Int × Int) => h_29) (fun (q : Int × Int) => (q.1 = 0 ∨ q.1 = 1) ∧ r32 q.2) 112 (fun (y112 : Int) => [(0, rv D a0), (1, rv D a1), (2, iv a2), (4, rv D a4), (5, iv x5_3), (6, iv x6_32), (7, iv y112)]) (fun (y112 : Int) => h_29) (fun (y112 : Int) => (y112 = 0 ∨ y112 = 1)) (x7_57, x8_60) ⟨r7_57, (r32_z r8_60)⟩ ?_ ?_
        · rintro ⟨x7_62, x8_62⟩ ⟨r7_62, r8_62⟩
          try dsimp only
          unfold m_X21_places_l62
          refine g_iload (pc := 62) X (i := 8) (q := 7) (x := x8_62) rfl (dl_at t_X21_places 34 rfl) ?_
          refine g_iload (pc := 64) X (i := 5) (q := 4) (x := x5_3) rfl (dl_at t_X21_places 35 rfl) ?_
          refine g_icmpge (pc := 66) X r8_62 r5_3 (off := 46) (tgt := 112) rfl (dl_at t_X21_places 36 rfl) (fun _ => ?_) (fun _ => ?_)
          · refine g_ls (ls2 := [(0, rv D a0), (1, rv D a1), (2, iv a2), (4, rv D a4), (5, iv x5_3), (6, iv x6_32), (7, iv x7_62)]) [0, 1, 2, 3, 4, 5, 6] rfl ?_
            exact g_at fun Q hQ => hQ r7_62
          refine g_iload (pc := 69) X (i := 7) (q := 6) (x := x7_62) rfl (dl_at t_X21_places 37 rfl) ?_
          refine g_join (γ := Int) (fun q => (q = 0 ∨ q = 1)) 104 (fun q => [(0, rv D a0), (1, rv D a1), (2, iv a2), (4, rv D a4), (5, iv x5_3), (6, iv x6_32), (8, iv x8_62)]) (fun q => [iv q]) (fun q => h_29) (fun q => m_X21_places_j104 x8_62 q) ?_ ?_
          · rintro s0_104 rs0_104
            try dsimp only
            unfold m_X21_places_j104
            refine g_istoreN (pc := 104) X (i := 7) (x := s0_104) (b := 6) (w := iv x6_32) (rest := [(0, rv D a0), (1, rv D a1), (2, iv a2), (4, rv D a4), (5, iv x5_3), (8, iv x8_62)]) (Nat.le_of_ble_eq_true rfl) [5, 0, 1, 2, 3, 4, 6] rfl (by decide) rfl rfl (dl_at t_X21_places 57 rfl) ?_
            refine r_iincN (pc := 106) X (i := 8) (q := 7) (n := 1) (x := x8_62) (b := 7) (w := iv s0_104) (rest := [(6, iv x6_32), (0, rv D a0), (1, rv D a1), (2, iv a2), (4, rv D a4), (5, iv x5_3)]) rfl r8_62 (r32_c rfl) (Nat.le_of_ble_eq_true rfl) [0, 1, 2, 3, 4, 5, 6] rfl (by decide) rfl rfl (dl_at t_X21_places 58 rfl) fun x8_106 r8_106 => ?_
            refine g_goto (pc := 109) X (off := (-47)) (tgt := 62) rfl (dl_at t_X21_places 59 rfl) ?_
            refine g_ls (ls2 := [(0, rv D a0), (1, rv D a1), (2, iv a2), (4, rv D a4), (5, iv x5_3), (6, iv x6_32), (7, iv s0_104), (8, iv x8_106)]) [3, 4, 5, 6, 7, 2, 1, 0] rfl ?_
            exact g_at fun Q hQ => hQ ⟨rs0_104, r8_106⟩
          intro J104
          refine g_join (γ := Unit) (fun q => True) 103 (fun q => [(0, rv D a0), (1, rv D a1), (2, iv a2), (4, rv D a4), (5, iv x5_3), (6, iv x6_32), (8, iv x8_62)]) (fun q => []) (fun q => h_29) (fun q => m_X21_places_j103 x8_62) ?_ ?_
          · rintro _ _
            try dsimp only
            unfold m_X21_places_j103
            refine g_iconst (pc := 103) X (n := 0) (dl_at t_X21_places 56 rfl) ?_
            exact J104 0 (Or.inl rfl)
          intro J103
          refine g_ifeq (pc := 71) X (r32_z r7_62) (off := 32) (tgt := 103) rfl (dl_at t_X21_places 38 rfl) (fun _ => ?_) (fun _ => ?_)
          · refine g_ls (ls2 := [(0, rv D a0), (1, rv D a1), (2, iv a2), (4, rv D a4), (5, iv x5_3), (6, iv x6_32), (8, iv x8_62)]) [0, 1, 2, 3, 4, 5, 7] rfl ?_
            exact J103 () trivial
          refine g_aload_n (pc := 74) X (j := 1) (i := 1) (q := 1) (x := a1) rfl rfl (dl_at t_X21_places 39 rfl) ?_
          refine g_iload_n (pc := 75) X (j := 2) (i := 2) (q := 2) (x := a2) rfl rfl (dl_at t_X21_places 40 rfl) ?_
          refine g_iload (pc := 76) X (i := 8) (q := 7) (x := x8_62) rfl (dl_at t_X21_places 41 rfl) ?_
          refine g_iadd (pc := 78) X r2 r8_62 (dl_at t_X21_places 42 rfl) ?_
          refine g_gd fun k79 => ?_
          refine g_bald (pc := 79) X (r32_w _) k79 (dl_at t_X21_places 43 rfl) fun g79 => ?_
          refine r_callRi (pc := 80) X (fun _ hv => s_X18_small (r32_b g79) hv) cw_code q4815 q372 (in_Sc X (As := [iv (h_29 a1 (w32 (a2 + x8_62)))]) (Or.inr ⟨_, nw_in q4958 rfl⟩) q4814 q372 q4815 ⟨by decide, by decide⟩ rfl (dl_at t_X21_places 44 rfl)) (dl_at t_X21_places 44 rfl) (cat24 (st := []) (Nat.le_of_ble_eq_true rfl)) (Nat.le_of_ble_eq_true rfl) (Nat.le_of_ble_eq_true rfl) fun v80 g80 => ?_
          refine g_aload_n (pc := 83) X (j := 0) (i := 0) (q := 0) (x := a0) rfl rfl (dl_at t_X21_places 45 rfl) ?_
          refine r_getr (pc := 84) X fX21_7 k35 q3354 (dl_at t_X21_places 46 rfl) ?_
          refine g_bipush (pc := 87) X (n := 30) rfl (dl_at t_X21_places 47 rfl) ?_
          refine g_iload (pc := 89) X (i := 6) (q := 5) (x := x6_32) rfl (dl_at t_X21_places 48 rfl) ?_
          refine g_imul (pc := 91) X (r32_c rfl) r6_32 (dl_at t_X21_places 49 rfl) ?_
          refine g_iload (pc := 92) X (i := 8) (q := 7) (x := x8_62) rfl (dl_at t_X21_places 50 rfl) ?_
          refine g_iadd (pc := 94) X (r32_w _) r8_62 (dl_at t_X21_places 51 rfl) ?_
          refine g_gd fun k95 => ?_
          refine g_bald (pc := 95) X (r32_w _) k95 (dl_at t_X21_places 52 rfl) fun g95 => ?_
          refine g_icmpne (pc := 96) X g80 (r32_b g95) (off := 7) (tgt := 103) rfl (dl_at t_X21_places 53 rfl) (fun _ => ?_) (fun _ => ?_)
          · refine g_ls (ls2 := [(0, rv D a0), (1, rv D a1), (2, iv a2), (4, rv D a4), (5, iv x5_3), (6, iv x6_32), (8, iv x8_62)]) [0, 1, 2, 3, 4, 5, 7] rfl ?_
            exact J103 () trivial
          refine g_iconst (pc := 99) X (n := 1) (dl_at t_X21_places 54 rfl) ?_
          refine g_goto (pc := 100) X (off := 4) (tgt := 104) rfl (dl_at t_X21_places 55 rfl) ?_
          refine g_ls (ls2 := [(0, rv D a0), (1, rv D a1), (2, iv a2), (4, rv D a4), (5, iv x5_3), (6, iv x6_32), (8, iv x8_62)]) [0, 1, 2, 3, 4, 5, 7] rfl ?_
          exact J104 1 (Or.inr rfl)
        · rintro x7_112 r7_112
          try dsimp only [sE]
          refine g_iload (pc := 112) X (i := 7) (q := 6) (x := x7_112) rfl (dl_at t_X21_places 60 rfl) ?_
          refine g_ifeq (pc := 114) X (r32_z r7_112) (off := 69) (tgt := 183) rfl (dl_at t_X21_places 61 rfl) (fun _ => ?_) (fun _ => ?_)
          · refine g_ls (ls2 := [(0, rv D a0), (1, rv D a1), (2, iv a2), (4, rv D a4), (5, iv x5_3), (6, iv x6_32)]) [0, 1, 2, 3, 4, 5] rfl ?_
            exact J183 () trivial
          refine g_ls (ls2 := [(0, rv D a0), (2, iv a2), (4, rv D a4), (5, iv x5_3), (6, iv x6_32)]) [0, 2, 3, 4, 5] rfl ?_
          exact g_at fun Q hQ => hQ r6_32
      refine g_goto (pc := 53) X (off := 130) (tgt := 183) rfl (dl_at t_X21_places 29 rfl) ?_
      exact J183 () trivial
    · rintro _ _
      try dsimp only [sE]
      refine g_iconst (pc := 189) X (n := 1) (dl_at t_X21_places 99 rfl) ?_
      refine g_ltz (Or.inr rfl) fun x6_190 r6_190 => ?_
      refine g_istoreN (pc := 190) X (i := 6) (x := x6_190) (b := 5) (w := iv x5_3) (rest := [(0, rv D a0), (1, rv D a1), (2, iv a2), (4, rv D a4)]) (Nat.le_of_ble_eq_true rfl) [4, 0, 1, 2, 3] rfl (by decide) rfl rfl (dl_at t_X21_places 100 rfl) ?_
      refine g_ls (ls2 := [(0, rv D a0), (1, rv D a1), (2, iv a2), (4, rv D a4), (5, iv x5_3), (6, iv x6_190)]) [2, 3, 4, 5, 1, 0] rfl ?_
      refine g_loop0F (fun (q : Int × Hp) => [(0, rv D a0), (1, rv D a1), (2, iv a2), (4, rv D a4), (5, iv x5_3), (6, iv q.1)]) (fun (q : Int × Hp) => q.2) (fun (q : Int × Hp) => r32 q.1 ∧ Ext h_29 q.2) (x6_190, h_29) ⟨(r32_z r6_190), (Ext.refl _)⟩ ?_ (fun _ => rfl)
      · rintro ⟨x6_192, h_192⟩ ⟨r6_192, E_192⟩
        try dsimp only
        unfold m_X21_places_l192
        refine g_iload (pc := 192) X (i := 6) (q := 5) (x := x6_192) rfl (dl_at t_X21_places 101 rfl) ?_
        refine g_iload (pc := 194) X (i := 5) (q := 4) (x := x5_3) rfl (dl_at t_X21_places 102 rfl) ?_
        refine g_icmpge (pc := 196) X r6_192 r5_3 (off := 58) (tgt := 254) rfl (dl_at t_X21_places 103 rfl) (fun _ => ?_) (fun _ => ?_)
        · exact g_at fun Q hQ => (g_vret (pc := 254) X (v := 0) rfl rfl (dl_at t_X21_places 134 rfl)) _ Q rfl hQ
        refine g_iload (pc := 199) X (i := 6) (q := 5) (x := x6_192) rfl (dl_at t_X21_places 104 rfl) ?_
        refine g_aload_n (pc := 201) X (j := 0) (i := 0) (q := 0) (x := a0) rfl rfl (dl_at t_X21_places 105 rfl) ?_
        have k202 := kx (E_29.trans E_192) (by decide) hk
        refine r_geti (pc := 202) X fX21_0 k202 q3345 (dl_at t_X21_places 106 rfl) fun g202 => ?_
        refine g_join (γ := Hp) (fun q => Ext h_192 q) 248 (fun q => [(0, rv D a0), (1, rv D a1), (2, iv a2), (4, rv D a4), (5, iv x5_3), (6, iv x6_192)]) (fun q => []) (fun q => q) (fun q => m_X21_places_j248 x6_192 q) ?_ ?_
        · rintro h_248 E_248
          try dsimp only
          unfold m_X21_places_j248
          refine r_iincN (pc := 248) X (i := 6) (q := 5) (n := 1) (x := x6_192) (b := 5) (w := iv x5_3) (rest := [(0, rv D a0), (1, rv D a1), (2, iv a2), (4, rv D a4)]) rfl r6_192 (r32_c rfl) (Nat.le_of_ble_eq_true rfl) [4, 0, 1, 2, 3] rfl (by decide) rfl rfl (dl_at t_X21_places 132 rfl) fun x6_248 r6_248 => ?_
          refine g_goto (pc := 251) X (off := (-59)) (tgt := 192) rfl (dl_at t_X21_places 133 rfl) ?_
          refine g_ls (ls2 := [(0, rv D a0), (1, rv D a1), (2, iv a2), (4, rv D a4), (5, iv x5_3), (6, iv x6_248)]) [2, 3, 4, 5, 1, 0] rfl ?_
          exact g_at fun Q hQ => hQ ⟨r6_248, (E_192.trans E_248)⟩
        intro J248
        refine g_icmplt (pc := 205) X r6_192 g202 (off := 43) (tgt := 248) rfl (dl_at t_X21_places 107 rfl) (fun _ => ?_) (fun _ => ?_)
        · exact J248 h_192 (Ext.refl _)
        refine g_iload (pc := 208) X (i := 5) (q := 4) (x := x5_3) rfl (dl_at t_X21_places 108 rfl) ?_
        refine g_iload (pc := 210) X (i := 6) (q := 5) (x := x6_192) rfl (dl_at t_X21_places 109 rfl) ?_
        refine g_isub (pc := 212) X r5_3 r6_192 (dl_at t_X21_places 110 rfl) ?_
        refine g_aload_n (pc := 213) X (j := 0) (i := 0) (q := 0) (x := a0) rfl rfl (dl_at t_X21_places 111 rfl) ?_
        refine r_geti (pc := 214) X fX21_1 k202 q3346 (dl_at t_X21_places 112 rfl) fun g214 => ?_
        refine g_icmplt (pc := 217) X (r32_w _) g214 (off := 31) (tgt := 248) rfl (dl_at t_X21_places 113 rfl) (fun _ => ?_) (fun _ => ?_)
        · exact J248 h_192 (Ext.refl _)
        refine g_aload (pc := 220) X (i := 4) (q := 3) (x := a4) rfl (dl_at t_X21_places 114 rfl) ?_
        refine g_iload_n (pc := 222) X (j := 2) (i := 2) (q := 2) (x := a2) rfl rfl (dl_at t_X21_places 115 rfl) ?_
        refine g_iload (pc := 223) X (i := 6) (q := 5) (x := x6_192) rfl (dl_at t_X21_places 116 rfl) ?_
        refine g_iadd (pc := 225) X r2 r6_192 (dl_at t_X21_places 117 rfl) ?_
        refine g_aload_n (pc := 226) X (j := 0) (i := 0) (q := 0) (x := a0) rfl rfl (dl_at t_X21_places 118 rfl) ?_
        refine g_aload_n (pc := 227) X (j := 1) (i := 1) (q := 1) (x := a1) rfl rfl (dl_at t_X21_places 119 rfl) ?_
        refine g_iload_n (pc := 228) X (j := 2) (i := 2) (q := 2) (x := a2) rfl rfl (dl_at t_X21_places 120 rfl) ?_
        refine g_iload (pc := 229) X (i := 5) (q := 4) (x := x5_3) rfl (dl_at t_X21_places 121 rfl) ?_
        refine g_iload (pc := 231) X (i := 6) (q := 5) (x := x6_192) rfl (dl_at t_X21_places 122 rfl) ?_
        refine r_callRi (pc := 233) X (fun _ hv => s_X21_greatest k202 r2 r5_3 r6_192 hv) cw_code q4962 q375 (in_Vk X (As := [rv D a1, iv a2, iv x5_3, iv x6_192]) kX21 k202 (Or.inl q4959) q4961 qs316 cw_code q4962 ⟨by decide, by decide⟩ rfl (dl_at t_X21_places 123 rfl)) (dl_at t_X21_places 123 rfl) (cat24 (st := [iv (w32 (a2 + x6_192)), rv D a4]) (Nat.le_of_ble_eq_true rfl)) (Nat.le_of_ble_eq_true rfl) (Nat.le_of_ble_eq_true rfl) fun v233 g233 => ?_
        refine g_iconst (pc := 236) X (n := 2) (dl_at t_X21_places 124 rfl) ?_
        refine g_irem (pc := 237) X g233 (r32_c rfl) (by decide) (dl_at t_X21_places 125 rfl) ?_
        refine g_iconst (pc := 238) X (n := 1) (dl_at t_X21_places 126 rfl) ?_
        refine g_join (γ := Int × Int) (fun q => r32 q.1 ∧ (q.2 = 0 ∨ q.2 = 1)) 247 (fun q => [(0, rv D a0), (1, rv D a1), (2, iv a2), (4, rv D a4), (5, iv x5_3), (6, iv x6_192)]) (fun q => [iv q.2, iv q.1, rv D a4]) (fun q => h_192) (fun q => m_X21_places_j247 a4 x6_192 q.1 q.2 h_192) ?_ ?_
        · rintro ⟨s1_247, s2_247⟩ ⟨rs1_247, rs2_247⟩
          try dsimp only
          unfold m_X21_places_j247
          refine g_gd fun k247 => ?_
          refine r_zast (pc := 247) X rs1_247 rs2_247 k247 (dl_at t_X21_places 131 rfl) (fun h247 E247 => ?_)
          exact J248 h247 E247
        intro J247
        refine g_icmpne (pc := 239) X (r32_tmod g233) (r32_c rfl) (off := 7) (tgt := 246) rfl (dl_at t_X21_places 127 rfl) (fun _ => ?_) (fun _ => ?_)
        · refine g_iconst (pc := 246) X (n := 0) (dl_at t_X21_places 130 rfl) ?_
          exact J247 ((w32 (a2 + x6_192)), 0) ⟨(r32_w _), (Or.inl rfl)⟩
        refine g_iconst (pc := 242) X (n := 1) (dl_at t_X21_places 128 rfl) ?_
        refine g_goto (pc := 243) X (off := 4) (tgt := 247) rfl (dl_at t_X21_places 129 rfl) ?_
        exact J247 ((w32 (a2 + x6_192)), 1) ⟨(r32_w _), (Or.inr rfl)⟩
    · rintro x6_117 r6_117
      try dsimp only [sE]
      refine g_iconst (pc := 117) X (n := 1) (dl_at t_X21_places 62 rfl) ?_
      refine g_ltz (Or.inr rfl) fun x8_118 r8_118 => ?_
      refine g_istore (pc := 118) X (i := 8) (x := x8_118) (rest := [(0, rv D a0), (2, iv a2), (4, rv D a4), (5, iv x5_3), (6, iv x6_117)]) (Nat.le_of_ble_eq_true rfl) [0, 1, 2, 3, 4] rfl rfl (dl_at t_X21_places 63 rfl) ?_
      refine g_ls (ls2 := [(0, rv D a0), (2, iv a2), (4, rv D a4), (5, iv x5_3), (6, iv x6_117), (8, iv x8_118)]) [1, 2, 3, 4, 5, 0] rfl ?_
      refine g_loop0F (fun (q : Int × Hp) => [(0, rv D a0), (2, iv a2), (4, rv D a4), (5, iv x5_3), (6, iv x6_117), (8, iv q.1)]) (fun (q : Int × Hp) => q.2) (fun (q : Int × Hp) => r32 q.1 ∧ Ext h_29 q.2) (x8_118, h_29) ⟨(r32_z r8_118), (Ext.refl _)⟩ ?_ (fun _ => rfl)
      · rintro ⟨x8_120, h_120⟩ ⟨r8_120, E_120⟩
        try dsimp only
        unfold m_X21_places_l120
        refine g_iload (pc := 120) X (i := 8) (q := 5) (x := x8_120) rfl (dl_at t_X21_places 64 rfl) ?_
        refine g_iload (pc := 122) X (i := 5) (q := 3) (x := x5_3) rfl (dl_at t_X21_places 65 rfl) ?_
        refine g_icmpge (pc := 124) X r8_120 r5_3 (off := 58) (tgt := 182) rfl (dl_at t_X21_places 66 rfl) (fun _ => ?_) (fun _ => ?_)
        · exact g_at fun Q hQ => (g_vret (pc := 182) X (v := 0) rfl rfl (dl_at t_X21_places 96 rfl)) _ Q rfl hQ
        refine g_aload (pc := 127) X (i := 4) (q := 2) (x := a4) rfl (dl_at t_X21_places 67 rfl) ?_
        refine g_iload_n (pc := 129) X (j := 2) (i := 2) (q := 1) (x := a2) rfl rfl (dl_at t_X21_places 68 rfl) ?_
        refine g_iload (pc := 130) X (i := 8) (q := 5) (x := x8_120) rfl (dl_at t_X21_places 69 rfl) ?_
        refine g_iadd (pc := 132) X r2 r8_120 (dl_at t_X21_places 70 rfl) ?_
        refine g_aload_n (pc := 133) X (j := 0) (i := 0) (q := 0) (x := a0) rfl rfl (dl_at t_X21_places 71 rfl) ?_
        have k134 := kx (E_29.trans E_120) (by decide) hk
        refine r_getr (pc := 134) X fX21_9 k134 q3356 (dl_at t_X21_places 72 rfl) ?_
        refine g_bipush (pc := 137) X (n := 31) rfl (dl_at t_X21_places 73 rfl) ?_
        refine g_iload (pc := 139) X (i := 6) (q := 4) (x := x6_117) rfl (dl_at t_X21_places 74 rfl) ?_
        refine g_imul (pc := 141) X (r32_c rfl) r6_117 (dl_at t_X21_places 75 rfl) ?_
        refine g_iload (pc := 142) X (i := 8) (q := 5) (x := x8_120) rfl (dl_at t_X21_places 76 rfl) ?_
        refine g_iadd (pc := 144) X (r32_w _) r8_120 (dl_at t_X21_places 77 rfl) ?_
        refine g_gd fun k145 => ?_
        refine g_zald (pc := 145) X (r32_w _) k145 (dl_at t_X21_places 78 rfl) fun g145 => ?_
        refine g_join (γ := Int × Int) (fun q => r32 q.1 ∧ (q.2 = 0 ∨ q.2 = 1)) 175 (fun q => [(0, rv D a0), (2, iv a2), (4, rv D a4), (5, iv x5_3), (6, iv x6_117), (8, iv x8_120)]) (fun q => [iv q.2, iv q.1, rv D a4]) (fun q => h_120) (fun q => m_X21_places_j175 a4 x8_120 q.1 q.2 h_120) ?_ ?_
        · rintro ⟨s1_175, s2_175⟩ ⟨rs1_175, rs2_175⟩
          try dsimp only
          unfold m_X21_places_j175
          refine g_gd fun k175 => ?_
          refine r_zast (pc := 175) X rs1_175 rs2_175 k175 (dl_at t_X21_places 93 rfl) (fun h175 E175 => ?_)
          refine r_iinc (pc := 176) X (i := 8) (q := 5) (n := 1) (x := x8_120) (rest := [(0, rv D a0), (2, iv a2), (4, rv D a4), (5, iv x5_3), (6, iv x6_117)]) rfl r8_120 (r32_c rfl) (Nat.le_of_ble_eq_true rfl) [0, 1, 2, 3, 4] rfl rfl (dl_at t_X21_places 94 rfl) fun x8_176 r8_176 => ?_
          refine g_goto (pc := 179) X (off := (-59)) (tgt := 120) rfl (dl_at t_X21_places 95 rfl) ?_
          refine g_ls (ls2 := [(0, rv D a0), (2, iv a2), (4, rv D a4), (5, iv x5_3), (6, iv x6_117), (8, iv x8_176)]) [1, 2, 3, 4, 5, 0] rfl ?_
          exact g_at fun Q hQ => hQ ⟨r8_176, (E_120.trans E175)⟩
        intro J175
        refine g_join (γ := Int) (fun q => r32 q) 174 (fun q => [(0, rv D a0), (2, iv a2), (4, rv D a4), (5, iv x5_3), (6, iv x6_117), (8, iv x8_120)]) (fun q => [iv q, rv D a4]) (fun q => h_120) (fun q => m_X21_places_j174 a4 x8_120 q h_120) ?_ ?_
        · rintro s1_174 rs1_174
          try dsimp only
          unfold m_X21_places_j174
          refine g_iconst (pc := 174) X (n := 0) (dl_at t_X21_places 92 rfl) ?_
          exact J175 (s1_174, 0) ⟨rs1_174, (Or.inl rfl)⟩
        intro J174
        refine g_ifeq (pc := 146) X (r32_z g145) (off := 28) (tgt := 174) rfl (dl_at t_X21_places 79 rfl) (fun _ => ?_) (fun _ => ?_)
        · exact J174 (w32 (a2 + x8_120)) (r32_w _)
        refine g_iload (pc := 149) X (i := 8) (q := 5) (x := x8_120) rfl (dl_at t_X21_places 80 rfl) ?_
        refine g_aload_n (pc := 151) X (j := 0) (i := 0) (q := 0) (x := a0) rfl rfl (dl_at t_X21_places 81 rfl) ?_
        refine r_geti (pc := 152) X fX21_0 k134 q3345 (dl_at t_X21_places 82 rfl) fun g152 => ?_
        refine g_icmplt (pc := 155) X r8_120 g152 (off := 19) (tgt := 174) rfl (dl_at t_X21_places 83 rfl) (fun _ => ?_) (fun _ => ?_)
        · exact J174 (w32 (a2 + x8_120)) (r32_w _)
        refine g_iload (pc := 158) X (i := 5) (q := 3) (x := x5_3) rfl (dl_at t_X21_places 84 rfl) ?_
        refine g_iload (pc := 160) X (i := 8) (q := 5) (x := x8_120) rfl (dl_at t_X21_places 85 rfl) ?_
        refine g_isub (pc := 162) X r5_3 r8_120 (dl_at t_X21_places 86 rfl) ?_
        refine g_aload_n (pc := 163) X (j := 0) (i := 0) (q := 0) (x := a0) rfl rfl (dl_at t_X21_places 87 rfl) ?_
        refine r_geti (pc := 164) X fX21_1 k134 q3346 (dl_at t_X21_places 88 rfl) fun g164 => ?_
        refine g_icmplt (pc := 167) X (r32_w _) g164 (off := 7) (tgt := 174) rfl (dl_at t_X21_places 89 rfl) (fun _ => ?_) (fun _ => ?_)
        · exact J174 (w32 (a2 + x8_120)) (r32_w _)
        refine g_iconst (pc := 170) X (n := 1) (dl_at t_X21_places 90 rfl) ?_
        refine g_goto (pc := 171) X (off := 4) (tgt := 175) rfl (dl_at t_X21_places 91 rfl) ?_
        exact J175 ((w32 (a2 + x8_120)), 1) ⟨(r32_w _), (Or.inr rfl)⟩
def k_X19_joinOf : List (Nat × Instr × Nat) := [(0, .aload_n 0, 1), (1, .getfield 23, 3), (4, .aload_n 0, 1), (5, .getfield 43, 3), (8, .sipush 256, 3), (11, .iload_n 1, 1), (12, .imul, 1), (13, .iload_n 2, 1), (14, .iadd, 1), (15, .invokestatic 90, 3), (18, .istore_n 3, 1), (19, .iload_n 3, 1), (20, .ifCond .ge 7, 3), (23, .iconst (-1), 1), (24, .goto 9, 3), (27, .aload_n 0, 1), (28, .getfield 26, 3), (31, .iload_n 3, 1), (32, .iaload, 1), (33, .ireturn, 1)]
theorem t_X19_joinOf : ∀ q ∈ k_X19_joinOf, decode cX19_joinOf q.1 = .ok q.2 := dl_all (by decide +kernel)
noncomputable def m_X19_joinOf (a0 a1 a2 : Int) (h : Hp) : Option (Int) :=
  (m_X19_find (h a0 6) (h a0 3) (w32 ((w32 (256 * a1)) + a2)) h).bind fun v15 =>
  if 0 ≤ v15 then (gd (h (h a0 7) (-2) % 16 = 1 ∧ (0 : Int) ≤ v15 ∧ v15 < h (h a0 7) (-1)) (some (h (h a0 7) v15)))
  else (some (-1))
theorem s_X19_joinOf {l : Launch} [NoTr l] {D : SD} {a0 a1 a2 : Int} {h : Hp} (hk : h a0 (-2) = 320) (r1 : r32 a1) (r2 : r32 a2) {r : Int} (hm : m_X19_joinOf a0 a1 a2 h = some r) : Sim l D yX19_joinOf (Cond.code yX19_joinOf cX19_joinOf 4 (Option.some Jvm.ClassFile.FieldType.int)) 1 39 [rv D a0, iv a1, iv a2] h 1 ((0, r), h) := by
  refine Sim.of (fin := fun (v : Int) => ((0, v), h)) (lsE := [(0, rv D a0), (1, iv a1), (2, iv a2)]) hm rfl cwS_code (la_r (la_i (la_i la_n))) (ll_r (ll_i (ll_i ll_n))) ?_
  intro p e s m below meth c X hcw hmm hcc hnm hname
  unfold m_X19_joinOf
  refine g_aload_n (pc := 0) X (j := 0) (i := 0) (q := 0) (x := a0) rfl rfl (dl_at t_X19_joinOf 0 rfl) ?_
  refine r_getr (pc := 1) X fX19_6 hk q3317 (dl_at t_X19_joinOf 1 rfl) ?_
  refine g_aload_n (pc := 4) X (j := 0) (i := 0) (q := 0) (x := a0) rfl rfl (dl_at t_X19_joinOf 2 rfl) ?_
  refine r_geti (pc := 5) X fX19_3 hk q3314 (dl_at t_X19_joinOf 3 rfl) fun g5 => ?_
  refine g_sipush (pc := 8) X (n := 256) rfl (dl_at t_X19_joinOf 4 rfl) ?_
  refine g_iload_n (pc := 11) X (j := 1) (i := 1) (q := 1) (x := a1) rfl rfl (dl_at t_X19_joinOf 5 rfl) ?_
  refine g_imul (pc := 12) X (r32_c rfl) r1 (dl_at t_X19_joinOf 6 rfl) ?_
  refine g_iload_n (pc := 13) X (j := 2) (i := 2) (q := 2) (x := a2) rfl rfl (dl_at t_X19_joinOf 7 rfl) ?_
  refine g_iadd (pc := 14) X (r32_w _) r2 (dl_at t_X19_joinOf 8 rfl) ?_
  refine r_callRi (pc := 15) X (fun _ hv => s_X19_find g5 (r32_w _) hv) cw_code q4415 q373 (in_Sc X (As := [rv D (h a0 6), iv (h a0 3), iv (w32 ((w32 (256 * a1)) + a2))]) (Or.inl q4413) q4414 q373 q4415 ⟨by decide, by decide⟩ rfl (dl_at t_X19_joinOf 9 rfl)) (dl_at t_X19_joinOf 9 rfl) (cat24 (st := []) (Nat.le_of_ble_eq_true rfl)) (Nat.le_of_ble_eq_true rfl) (Nat.le_of_ble_eq_true rfl) fun v15 g15 => ?_
  refine g_istore_n (pc := 18) X (j := 3) (i := 3) (x := v15) (rest := [(0, rv D a0)]) rfl (Nat.le_of_ble_eq_true rfl) [0] rfl rfl (dl_at t_X19_joinOf 10 rfl) ?_
  refine g_iload_n (pc := 19) X (j := 3) (i := 3) (q := 0) (x := v15) rfl rfl (dl_at t_X19_joinOf 11 rfl) ?_
  refine g_ifge (pc := 20) X g15 (off := 7) (tgt := 27) rfl (dl_at t_X19_joinOf 12 rfl) (fun _ => ?_) (fun _ => ?_)
  · refine g_aload_n (pc := 27) X (j := 0) (i := 0) (q := 1) (x := a0) rfl rfl (dl_at t_X19_joinOf 15 rfl) ?_
    refine r_getr (pc := 28) X fX19_7 hk q3318 (dl_at t_X19_joinOf 16 rfl) ?_
    refine g_iload_n (pc := 31) X (j := 3) (i := 3) (q := 0) (x := v15) rfl rfl (dl_at t_X19_joinOf 17 rfl) ?_
    refine g_gd fun k32 => ?_
    refine g_iald (pc := 32) X g15 k32 (dl_at t_X19_joinOf 18 rfl) fun g32 => ?_
    exact g_iret (pc := 33) X g32 rfl rfl (dl_at t_X19_joinOf 19 rfl)
  refine g_iconst (pc := 23) X (n := (-1)) (dl_at t_X19_joinOf 13 rfl) ?_
  refine g_goto (pc := 24) X (off := 9) (tgt := 33) rfl (dl_at t_X19_joinOf 14 rfl) ?_
  exact g_iret (pc := 33) X (r32_c rfl) rfl rfl (dl_at t_X19_joinOf 19 rfl)
def k_X19_kernOf : List (Nat × Instr × Nat) := [(0, .aload_n 0, 1), (1, .getfield 17, 3), (4, .aload_n 0, 1), (5, .getfield 39, 3), (8, .sipush 256, 3), (11, .iload_n 1, 1), (12, .imul, 1), (13, .iload_n 2, 1), (14, .iadd, 1), (15, .invokestatic 90, 3), (18, .istore_n 3, 1), (19, .iload_n 3, 1), (20, .ifCond .ge 7, 3), (23, .iconst 0, 1), (24, .goto 9, 3), (27, .aload_n 0, 1), (28, .getfield 20, 3), (31, .iload_n 3, 1), (32, .iaload, 1), (33, .ireturn, 1)]
theorem t_X19_kernOf : ∀ q ∈ k_X19_kernOf, decode cX19_kernOf q.1 = .ok q.2 := dl_all (by decide +kernel)
noncomputable def m_X19_kernOf (a0 a1 a2 : Int) (h : Hp) : Option (Int) :=
  (m_X19_find (h a0 4) (h a0 2) (w32 ((w32 (256 * a1)) + a2)) h).bind fun v15 =>
  if 0 ≤ v15 then (gd (h (h a0 5) (-2) % 16 = 1 ∧ (0 : Int) ≤ v15 ∧ v15 < h (h a0 5) (-1)) (some (h (h a0 5) v15)))
  else (some 0)
theorem s_X19_kernOf {l : Launch} [NoTr l] {D : SD} {a0 a1 a2 : Int} {h : Hp} (hk : h a0 (-2) = 320) (r1 : r32 a1) (r2 : r32 a2) {r : Int} (hm : m_X19_kernOf a0 a1 a2 h = some r) : Sim l D yX19_kernOf (Cond.code yX19_kernOf cX19_kernOf 4 (Option.some Jvm.ClassFile.FieldType.int)) 1 39 [rv D a0, iv a1, iv a2] h 1 ((0, r), h) := by
  refine Sim.of (fin := fun (v : Int) => ((0, v), h)) (lsE := [(0, rv D a0), (1, iv a1), (2, iv a2)]) hm rfl cwS_code (la_r (la_i (la_i la_n))) (ll_r (ll_i (ll_i ll_n))) ?_
  intro p e s m below meth c X hcw hmm hcc hnm hname
  unfold m_X19_kernOf
  refine g_aload_n (pc := 0) X (j := 0) (i := 0) (q := 0) (x := a0) rfl rfl (dl_at t_X19_kernOf 0 rfl) ?_
  refine r_getr (pc := 1) X fX19_4 hk q3315 (dl_at t_X19_kernOf 1 rfl) ?_
  refine g_aload_n (pc := 4) X (j := 0) (i := 0) (q := 0) (x := a0) rfl rfl (dl_at t_X19_kernOf 2 rfl) ?_
  refine r_geti (pc := 5) X fX19_2 hk q3313 (dl_at t_X19_kernOf 3 rfl) fun g5 => ?_
  refine g_sipush (pc := 8) X (n := 256) rfl (dl_at t_X19_kernOf 4 rfl) ?_
  refine g_iload_n (pc := 11) X (j := 1) (i := 1) (q := 1) (x := a1) rfl rfl (dl_at t_X19_kernOf 5 rfl) ?_
  refine g_imul (pc := 12) X (r32_c rfl) r1 (dl_at t_X19_kernOf 6 rfl) ?_
  refine g_iload_n (pc := 13) X (j := 2) (i := 2) (q := 2) (x := a2) rfl rfl (dl_at t_X19_kernOf 7 rfl) ?_
  refine g_iadd (pc := 14) X (r32_w _) r2 (dl_at t_X19_kernOf 8 rfl) ?_
  refine r_callRi (pc := 15) X (fun _ hv => s_X19_find g5 (r32_w _) hv) cw_code q4415 q373 (in_Sc X (As := [rv D (h a0 4), iv (h a0 2), iv (w32 ((w32 (256 * a1)) + a2))]) (Or.inl q4413) q4414 q373 q4415 ⟨by decide, by decide⟩ rfl (dl_at t_X19_kernOf 9 rfl)) (dl_at t_X19_kernOf 9 rfl) (cat24 (st := []) (Nat.le_of_ble_eq_true rfl)) (Nat.le_of_ble_eq_true rfl) (Nat.le_of_ble_eq_true rfl) fun v15 g15 => ?_
  refine g_istore_n (pc := 18) X (j := 3) (i := 3) (x := v15) (rest := [(0, rv D a0)]) rfl (Nat.le_of_ble_eq_true rfl) [0] rfl rfl (dl_at t_X19_kernOf 10 rfl) ?_
  refine g_iload_n (pc := 19) X (j := 3) (i := 3) (q := 0) (x := v15) rfl rfl (dl_at t_X19_kernOf 11 rfl) ?_
  refine g_ifge (pc := 20) X g15 (off := 7) (tgt := 27) rfl (dl_at t_X19_kernOf 12 rfl) (fun _ => ?_) (fun _ => ?_)
  · refine g_aload_n (pc := 27) X (j := 0) (i := 0) (q := 1) (x := a0) rfl rfl (dl_at t_X19_kernOf 15 rfl) ?_
    refine r_getr (pc := 28) X fX19_5 hk q3316 (dl_at t_X19_kernOf 16 rfl) ?_
    refine g_iload_n (pc := 31) X (j := 3) (i := 3) (q := 0) (x := v15) rfl rfl (dl_at t_X19_kernOf 17 rfl) ?_
    refine g_gd fun k32 => ?_
    refine g_iald (pc := 32) X g15 k32 (dl_at t_X19_kernOf 18 rfl) fun g32 => ?_
    exact g_iret (pc := 33) X g32 rfl rfl (dl_at t_X19_kernOf 19 rfl)
  refine g_iconst (pc := 23) X (n := 0) (dl_at t_X19_kernOf 13 rfl) ?_
  refine g_goto (pc := 24) X (off := 9) (tgt := 33) rfl (dl_at t_X19_kernOf 14 rfl) ?_
  exact g_iret (pc := 33) X (r32_c rfl) rfl rfl (dl_at t_X19_kernOf 19 rfl)
def k_X25_wide : List (Nat × Instr × Nat) := [(0, .lconst 0, 1), (1, .lstore_n 3, 1), (2, .iconst (-1), 1), (3, .istore 5, 2), (5, .iload_n 1, 1), (6, .istore 6, 2), (8, .iload 6, 2), (10, .iload_n 2, 1), (11, .if_icmp .ge 198, 3), (14, .aload_n 0, 1), (15, .getfield 18, 3), (18, .iload 6, 2), (20, .baload, 1), (21, .istore 7, 2), (23, .aload_n 0, 1), (24, .getfield 22, 3), (27, .iload 6, 2), (29, .iaload, 1), (30, .istore 8, 2), (32, .iload 6, 2), (34, .iconst 1, 1), (35, .iadd, 1), (36, .iload_n 2, 1), (37, .if_icmp .ge 38, 3), (40, .aload_n 0, 1), (41, .getfield 22, 3), (44, .iload 6, 2), (46, .iconst 1, 1), (47, .iadd, 1), (48, .iaload, 1), (49, .iload 8, 2), (51, .if_icmp .ne 24, 3), (54, .aload_n 0, 1), (55, .getfield 343, 3), (58, .iload 7, 2), (60, .aload_n 0, 1), (61, .getfield 18, 3), (64, .iload 6, 2), (66, .iconst 1, 1), (67, .iadd, 1), (68, .baload, 1), (69, .invokevirtual 661, 3), (72, .goto 4, 3), (75, .iconst (-1), 1), (76, .istore 9, 2), (78, .iload 9, 2), (80, .ifCond .lt 7, 3), (83, .iconst 2, 1), (84, .goto 4, 3), (87, .iconst 1, 1), (88, .istore 10, 2), (90, .iload 6, 2), (92, .iload_n 1, 1), (93, .if_icmp .le 63, 3), (96, .aload_n 0, 1), (97, .getfield 22, 3), (100, .iload 6, 2), (102, .iconst 1, 1), (103, .isub, 1), (104, .iaload, 1), (105, .iload 8, 2), (107, .if_icmp .ne 49, 3), (110, .aload_n 0, 1), (111, .getfield 343, 3), (114, .iload 5, 2), (116, .iload 7, 2), (118, .invokevirtual 666, 3), (121, .istore 11, 2), (123, .iload 8, 2), (125, .i2l, 1), (126, .iload 11, 2), (128, .invokestatic 669, 3), (131, .i2l, 1), (132, .lmul, 1), (133, .ldc2_w 490, 3), (136, .ldiv, 1), (137, .lstore 12, 2), (139, .iload 11, 2), (141, .ifCond .ge 10, 3), (144, .lload_n 3, 1), (145, .lload 12, 2), (147, .lsub, 1), (148, .goto 7, 3), (151, .lload_n 3, 1), (152, .lload 12, 2), (154, .ladd, 1), (155, .lstore_n 3, 1), (156, .lload_n 3, 1), (157, .iload 8, 2), (159, .i2l, 1), (160, .iload 9, 2), (162, .ifCond .lt 8, 3), (165, .iload 9, 2), (167, .goto 13, 3), (170, .aload_n 0, 1), (171, .getfield 343, 3), (174, .getfield 672, 3), (177, .iload 7, 2), (179, .iaload, 1), (180, .i2l, 1), (181, .lmul, 1), (182, .ldc2_w 490, 3), (185, .ldiv, 1), (186, .ladd, 1), (187, .lstore_n 3, 1), (188, .iload 6, 2), (190, .iload 10, 2), (192, .iadd, 1), (193, .istore 6, 2), (195, .aload_n 0, 1), (196, .getfield 18, 3), (199, .iload 6, 2), (201, .iconst 1, 1), (202, .isub, 1), (203, .baload, 1), (204, .istore 5, 2), (206, .goto (-198), 3), (209, .lload_n 3, 1), (210, .lconst 0, 1), (211, .lcmp, 1), (212, .ifCond .ge 7, 3), (215, .lconst 0, 1), (216, .goto 4, 3), (219, .lload_n 3, 1), (220, .lreturn, 1)]
theorem t_X25_wide : ∀ q ∈ k_X25_wide, decode cX25_wide q.1 = .ok q.2 := dl_all (by decide +kernel)
noncomputable def m_X25_wide_j180 (a0 x3_156 x6_8 x8_30 s0_88 s2_180 : Int) (h : Hp) : Option ((Int × Int × Int) ⊕ ((Int))) :=
  lt_ (w64 (x3_156 + (w64 (Int.tdiv (w64 (x8_30 * s2_180)) 1000)))) fun x3_187 =>
  lt_ (w32 (x6_8 + s0_88)) fun x6_193 =>
  gd (h (h a0 5) (-2) % 16 = 2 ∧ (0 : Int) ≤ (w32 (x6_193 - 1)) ∧ (w32 (x6_193 - 1)) < h (h a0 5) (-1)) (lt_ (h (h a0 5) (w32 (x6_193 - 1))) fun x5_204 =>
  some (.inl (x3_187, x5_204, x6_193)))
noncomputable def m_X25_wide_j156 (s0_88 s0_76 a0 x6_8 x7_21 x8_30 x3_156 : Int) (h : Hp) : Option ((Int × Int × Int) ⊕ ((Int))) :=
  if s0_76 < 0 then (gd (h (h a0 2) (-2) = 320) (gd (h (h (h a0 2) 0) (-2) % 16 = 1 ∧ (0 : Int) ≤ x7_21 ∧ x7_21 < h (h (h a0 2) 0) (-1)) (m_X25_wide_j180 a0 x3_156 x6_8 x8_30 s0_88 (h (h (h a0 2) 0) x7_21) h)))
  else (m_X25_wide_j180 a0 x3_156 x6_8 x8_30 s0_88 s0_76 h)
noncomputable def m_X25_wide_j155 (s0_88 s0_76 a0 x6_8 x7_21 x8_30 s0_155 : Int) (h : Hp) : Option ((Int × Int × Int) ⊕ ((Int))) :=
  m_X25_wide_j156 s0_88 s0_76 a0 x6_8 x7_21 x8_30 s0_155 h
noncomputable def m_X25_wide_j88 (s0_76 x8_30 a0 a1 x3_8 x5_8 x6_8 x7_21 s0_88 : Int) (h : Hp) : Option ((Int × Int × Int) ⊕ ((Int))) :=
  if x6_8 ≤ a1 then (m_X25_wide_j156 s0_88 s0_76 a0 x6_8 x7_21 x8_30 x3_8 h)
  else (gd (h (h a0 6) (-2) % 16 = 1 ∧ (0 : Int) ≤ (w32 (x6_8 - 1)) ∧ (w32 (x6_8 - 1)) < h (h a0 6) (-1)) (if (h (h a0 6) (w32 (x6_8 - 1))) ≠ x8_30 then (m_X25_wide_j156 s0_88 s0_76 a0 x6_8 x7_21 x8_30 x3_8 h)
  else (gd (h (h a0 2) (-2) = 320) ((m_X19_kernOf (h a0 2) x5_8 x7_21 h).bind fun v118 =>
  lt_ (w64 (Int.tdiv (w64 (x8_30 * (abs_ v118))) 1000)) fun x12_137 =>
  if 0 ≤ v118 then (m_X25_wide_j155 s0_88 s0_76 a0 x6_8 x7_21 x8_30 (w64 (x3_8 + x12_137)) h)
  else (m_X25_wide_j155 s0_88 s0_76 a0 x6_8 x7_21 x8_30 (w64 (x3_8 - x12_137)) h)))))
noncomputable def m_X25_wide_j76 (x8_30 x7_21 x6_8 a0 a1 x3_8 x5_8 s0_76 : Int) (h : Hp) : Option ((Int × Int × Int) ⊕ ((Int))) :=
  if s0_76 < 0 then (m_X25_wide_j88 s0_76 x8_30 a0 a1 x3_8 x5_8 x6_8 x7_21 1 h)
  else (m_X25_wide_j88 s0_76 x8_30 a0 a1 x3_8 x5_8 x6_8 x7_21 2 h)
noncomputable def m_X25_wide_j75 (x8_30 x7_21 x6_8 a0 a1 x3_8 x5_8 : Int) (h : Hp) : Option ((Int × Int × Int) ⊕ ((Int))) :=
  m_X25_wide_j76 x8_30 x7_21 x6_8 a0 a1 x3_8 x5_8 (-1) h
noncomputable def m_X25_wide_l8 (a0 a1 a2 x3_8 x5_8 x6_8 : Int) (h : Hp) : Option ((Int × Int × Int) ⊕ ((Int))) :=
  if a2 ≤ x6_8 then (some (.inr x3_8))
  else (gd (h (h a0 5) (-2) % 16 = 2 ∧ (0 : Int) ≤ x6_8 ∧ x6_8 < h (h a0 5) (-1)) (lt_ (h (h a0 5) x6_8) fun x7_21 =>
  gd (h (h a0 6) (-2) % 16 = 1 ∧ (0 : Int) ≤ x6_8 ∧ x6_8 < h (h a0 6) (-1)) (lt_ (h (h a0 6) x6_8) fun x8_30 =>
  if a2 ≤ (w32 (x6_8 + 1)) then (m_X25_wide_j75 x8_30 x7_21 x6_8 a0 a1 x3_8 x5_8 h)
  else (gd (h (h a0 6) (-2) % 16 = 1 ∧ (0 : Int) ≤ (w32 (x6_8 + 1)) ∧ (w32 (x6_8 + 1)) < h (h a0 6) (-1)) (if (h (h a0 6) (w32 (x6_8 + 1))) ≠ x8_30 then (m_X25_wide_j75 x8_30 x7_21 x6_8 a0 a1 x3_8 x5_8 h)
  else (gd (h (h a0 5) (-2) % 16 = 2 ∧ (0 : Int) ≤ (w32 (x6_8 + 1)) ∧ (w32 (x6_8 + 1)) < h (h a0 5) (-1)) (gd (h (h a0 2) (-2) = 320) ((m_X19_joinOf (h a0 2) x7_21 (h (h a0 5) (w32 (x6_8 + 1))) h).bind fun v69 =>
  m_X25_wide_j76 x8_30 x7_21 x6_8 a0 a1 x3_8 x5_8 v69 h))))))))
noncomputable def m_X25_wide (a0 a1 a2 : Int) (h : Hp) : Option (Int) :=
  lt_ 0 fun x3_1 =>
  lt_ (-1) fun x5_3 =>
  (lp (fun (q : Int × Int × Int) => m_X25_wide_l8 a0 a1 a2 q.1 q.2.1 q.2.2 h) (x3_1, x5_3, a1)).bind (fun (y209 : Int) => if 0 ≤ (lcmp_ y209 0) then (some y209)
  else (some 0))
theorem s_X25_wide {l : Launch} [NoTr l] {D : SD} {a0 a1 a2 : Int} {h : Hp} (hk : h a0 (-2) = 416) (r1 : r32 a1) (r2 : r32 a2) {r : Int} (hm : m_X25_wide a0 a1 a2 h = some r) : Sim l D yX25_wide (Cond.code yX25_wide cX25_wide 14 (Option.some Jvm.ClassFile.FieldType.long)) 2 78 [rv D a0, iv a1, iv a2] h 4 ((0, r), h) := by
  refine Sim.of (fin := fun (v : Int) => ((0, v), h)) (lsE := [(0, rv D a0), (1, iv a1), (2, iv a2)]) hm rfl cwS_code (la_r (la_i (la_i la_n))) (ll_r (ll_i (ll_i ll_n))) ?_
  intro p e s m below meth c X hcw hmm hcc hnm hname
  unfold m_X25_wide
  refine g_lconst0 (pc := 0) X (dl_at t_X25_wide 0 rfl) ?_
  refine g_ltl (r64_c rfl) fun x3_1 r3_1 => ?_
  refine g_lstore_nN (pc := 1) X (j := 3) (i := 3) (x := x3_1) (b := 2) (w := iv a2) (rest := [(0, rv D a0), (1, iv a1)]) rfl (Nat.le_of_ble_eq_true rfl) [2, 0, 1] rfl (by decide) (by decide) rfl rfl (dl_at t_X25_wide 1 rfl) ?_
  refine g_iconst (pc := 2) X (n := (-1)) (dl_at t_X25_wide 2 rfl) ?_
  refine g_lti (r32_c rfl) fun x5_3 r5_3 => ?_
  refine g_istore (pc := 3) X (i := 5) (x := x5_3) (rest := [(3, jv x3_1), (2, iv a2), (0, rv D a0), (1, iv a1)]) (Nat.le_of_ble_eq_true rfl) [0, 1, 2, 3] rfl rfl (dl_at t_X25_wide 3 rfl) ?_
  refine g_iload_n (pc := 5) X (j := 1) (i := 1) (q := 4) (x := a1) rfl rfl (dl_at t_X25_wide 4 rfl) ?_
  refine g_istoreN (pc := 6) X (i := 6) (x := a1) (b := 5) (w := iv x5_3) (rest := [(3, jv x3_1), (2, iv a2), (0, rv D a0), (1, iv a1)]) (Nat.le_of_ble_eq_true rfl) [0, 1, 2, 3, 4] rfl (by decide) rfl rfl (dl_at t_X25_wide 5 rfl) ?_
  refine g_ls (ls2 := [(0, rv D a0), (1, iv a1), (2, iv a2), (3, jv x3_1), (5, iv x5_3), (6, iv a1)]) [4, 5, 3, 2, 1, 0] rfl ?_
  refine g_loop1 (fun (q : Int × Int × Int) => [(0, rv D a0), (1, iv a1), (2, iv a2), (3, jv q.1), (5, iv q.2.1), (6, iv q.2.2)]) (fun (q : Int × Int × Int) => h) (fun (q : Int × Int × Int) => r64 q.1 ∧ r32 q.2.1 ∧ r32 q.2.2) 209 (fun (y209 : Int) => [(3, jv y209)]) (fun (y209 : Int) => h) (fun (y209 : Int) => r64 y209) (x3_1, x5_3, a1) ⟨r3_1, r5_3, r1⟩ ?_ ?_
  · rintro ⟨x3_8, x5_8, x6_8⟩ ⟨r3_8, r5_8, r6_8⟩
    try dsimp only
    unfold m_X25_wide_l8
    refine g_iload (pc := 8) X (i := 6) (q := 5) (x := x6_8) rfl (dl_at t_X25_wide 6 rfl) ?_
    refine g_iload_n (pc := 10) X (j := 2) (i := 2) (q := 2) (x := a2) rfl rfl (dl_at t_X25_wide 7 rfl) ?_
    refine g_icmpge (pc := 11) X r6_8 r2 (off := 198) (tgt := 209) rfl (dl_at t_X25_wide 8 rfl) (fun _ => ?_) (fun _ => ?_)
    · refine g_ls (ls2 := [(3, jv x3_8)]) [3] rfl ?_
      exact g_at fun Q hQ => hQ r3_8
    refine g_aload_n (pc := 14) X (j := 0) (i := 0) (q := 0) (x := a0) rfl rfl (dl_at t_X25_wide 9 rfl) ?_
    refine r_getr (pc := 15) X fX25_5 hk q3768 (dl_at t_X25_wide 10 rfl) ?_
    refine g_iload (pc := 18) X (i := 6) (q := 5) (x := x6_8) rfl (dl_at t_X25_wide 11 rfl) ?_
    refine g_gd fun k20 => ?_
    refine g_bald (pc := 20) X r6_8 k20 (dl_at t_X25_wide 12 rfl) fun g20 => ?_
    refine g_ltb g20 fun x7_21 r7_21 => ?_
    refine g_istoreN (pc := 21) X (i := 7) (x := x7_21) (b := 6) (w := iv x6_8) (rest := [(0, rv D a0), (1, iv a1), (2, iv a2), (3, jv x3_8), (5, iv x5_8)]) (Nat.le_of_ble_eq_true rfl) [5, 0, 1, 2, 3, 4] rfl (by decide) rfl rfl (dl_at t_X25_wide 13 rfl) ?_
    refine g_aload_n (pc := 23) X (j := 0) (i := 0) (q := 2) (x := a0) rfl rfl (dl_at t_X25_wide 14 rfl) ?_
    refine r_getr (pc := 24) X fX25_6 hk q3770 (dl_at t_X25_wide 15 rfl) ?_
    refine g_iload (pc := 27) X (i := 6) (q := 1) (x := x6_8) rfl (dl_at t_X25_wide 16 rfl) ?_
    refine g_gd fun k29 => ?_
    refine g_iald (pc := 29) X r6_8 k29 (dl_at t_X25_wide 17 rfl) fun g29 => ?_
    refine g_lti g29 fun x8_30 r8_30 => ?_
    refine g_istoreN (pc := 30) X (i := 8) (x := x8_30) (b := 7) (w := iv x7_21) (rest := [(6, iv x6_8), (0, rv D a0), (1, iv a1), (2, iv a2), (3, jv x3_8), (5, iv x5_8)]) (Nat.le_of_ble_eq_true rfl) [0, 1, 2, 3, 4, 5, 6] rfl (by decide) rfl rfl (dl_at t_X25_wide 18 rfl) ?_
    refine g_iload (pc := 32) X (i := 6) (q := 2) (x := x6_8) rfl (dl_at t_X25_wide 19 rfl) ?_
    refine g_iconst (pc := 34) X (n := 1) (dl_at t_X25_wide 20 rfl) ?_
    refine g_iadd (pc := 35) X r6_8 (r32_c rfl) (dl_at t_X25_wide 21 rfl) ?_
    refine g_iload_n (pc := 36) X (j := 2) (i := 2) (q := 5) (x := a2) rfl rfl (dl_at t_X25_wide 22 rfl) ?_
    refine g_join (γ := Int) (fun q => r32 q) 76 (fun q => [(0, rv D a0), (1, iv a1), (2, iv a2), (3, jv x3_8), (5, iv x5_8), (6, iv x6_8), (7, iv x7_21), (8, iv x8_30)]) (fun q => [iv q]) (fun q => h) (fun q => m_X25_wide_j76 x8_30 x7_21 x6_8 a0 a1 x3_8 x5_8 q h) ?_ ?_
    · rintro s0_76 rs0_76
      try dsimp only
      unfold m_X25_wide_j76
      refine g_istoreN (pc := 76) X (i := 9) (x := s0_76) (b := 8) (w := iv x8_30) (rest := [(0, rv D a0), (1, iv a1), (2, iv a2), (3, jv x3_8), (5, iv x5_8), (6, iv x6_8), (7, iv x7_21)]) (Nat.le_of_ble_eq_true rfl) [7, 0, 1, 2, 3, 4, 5, 6] rfl (by decide) rfl rfl (dl_at t_X25_wide 44 rfl) ?_
      refine g_iload (pc := 78) X (i := 9) (q := 0) (x := s0_76) rfl (dl_at t_X25_wide 45 rfl) ?_
      refine g_join (γ := Int) (fun q => r32 q) 88 (fun q => [(0, rv D a0), (1, iv a1), (2, iv a2), (3, jv x3_8), (5, iv x5_8), (6, iv x6_8), (7, iv x7_21), (8, iv x8_30), (9, iv s0_76)]) (fun q => [iv q]) (fun q => h) (fun q => m_X25_wide_j88 s0_76 x8_30 a0 a1 x3_8 x5_8 x6_8 x7_21 q h) ?_ ?_
      · rintro s0_88 rs0_88
        try dsimp only
        unfold m_X25_wide_j88
        refine g_istoreN (pc := 88) X (i := 10) (x := s0_88) (b := 9) (w := iv s0_76) (rest := [(0, rv D a0), (1, iv a1), (2, iv a2), (3, jv x3_8), (5, iv x5_8), (6, iv x6_8), (7, iv x7_21), (8, iv x8_30)]) (Nat.le_of_ble_eq_true rfl) [8, 0, 1, 2, 3, 4, 5, 6, 7] rfl (by decide) rfl rfl (dl_at t_X25_wide 50 rfl) ?_
        refine g_iload (pc := 90) X (i := 6) (q := 7) (x := x6_8) rfl (dl_at t_X25_wide 51 rfl) ?_
        refine g_iload_n (pc := 92) X (j := 1) (i := 1) (q := 3) (x := a1) rfl rfl (dl_at t_X25_wide 52 rfl) ?_
        refine g_join (γ := Int) (fun q => r64 q) 156 (fun q => [(0, rv D a0), (1, iv a1), (2, iv a2), (3, jv q), (6, iv x6_8), (7, iv x7_21), (8, iv x8_30), (9, iv s0_76), (10, iv s0_88)]) (fun q => []) (fun q => h) (fun q => m_X25_wide_j156 s0_88 s0_76 a0 x6_8 x7_21 x8_30 q h) ?_ ?_
        · rintro x3_156 r3_156
          try dsimp only
          unfold m_X25_wide_j156
          refine g_lload_n (pc := 156) X (j := 3) (i := 3) (q := 3) (x := x3_156) rfl rfl (dl_at t_X25_wide 87 rfl) ?_
          refine g_iload (pc := 157) X (i := 8) (q := 6) (x := x8_30) rfl (dl_at t_X25_wide 88 rfl) ?_
          refine g_i2l (pc := 159) X r8_30 (dl_at t_X25_wide 89 rfl) ?_
          refine g_iload (pc := 160) X (i := 9) (q := 7) (x := s0_76) rfl (dl_at t_X25_wide 90 rfl) ?_
          refine g_join (γ := Int) (fun q => r32 q) 180 (fun q => [(0, rv D a0), (1, iv a1), (2, iv a2), (6, iv x6_8), (10, iv s0_88)]) (fun q => [iv q, jv x8_30, jv x3_156]) (fun q => h) (fun q => m_X25_wide_j180 a0 x3_156 x6_8 x8_30 s0_88 q h) ?_ ?_
          · rintro s2_180 rs2_180
            try dsimp only
            unfold m_X25_wide_j180
            refine g_i2l (pc := 180) X rs2_180 (dl_at t_X25_wide 99 rfl) ?_
            refine g_lmul (pc := 181) X (r64_of r8_30) (r64_of rs2_180) (dl_at t_X25_wide 100 rfl) ?_
            refine g_ldc2 (pc := 182) X (index := 490) (n := 1000) q4849 (dl_at t_X25_wide 101 rfl) ?_
            refine g_ldiv (pc := 185) X (r64_w _) (r64_c rfl) (by decide) (dl_at t_X25_wide 102 rfl) ?_
            refine g_ladd (pc := 186) X r3_156 (r64_w _) (dl_at t_X25_wide 103 rfl) ?_
            refine g_ltl (r64_w _) fun x3_187 r3_187 => ?_
            refine g_lstore_nN (pc := 187) X (j := 3) (i := 3) (x := x3_187) (b := 2) (w := iv a2) (rest := [(0, rv D a0), (1, iv a1), (6, iv x6_8), (10, iv s0_88)]) rfl (Nat.le_of_ble_eq_true rfl) [2, 0, 1, 3, 4] rfl (by decide) (by decide) rfl rfl (dl_at t_X25_wide 104 rfl) ?_
            refine g_iload (pc := 188) X (i := 6) (q := 4) (x := x6_8) rfl (dl_at t_X25_wide 105 rfl) ?_
            refine g_iload (pc := 190) X (i := 10) (q := 5) (x := s0_88) rfl (dl_at t_X25_wide 106 rfl) ?_
            refine g_iadd (pc := 192) X r6_8 rs0_88 (dl_at t_X25_wide 107 rfl) ?_
            refine g_lti (r32_w _) fun x6_193 r6_193 => ?_
            refine g_istore (pc := 193) X (i := 6) (x := x6_193) (rest := [(3, jv x3_187), (2, iv a2), (0, rv D a0), (1, iv a1)]) (Nat.le_of_ble_eq_true rfl) [0, 1, 2, 3] rfl rfl (dl_at t_X25_wide 108 rfl) ?_
            refine g_aload_n (pc := 195) X (j := 0) (i := 0) (q := 3) (x := a0) rfl rfl (dl_at t_X25_wide 109 rfl) ?_
            refine r_getr (pc := 196) X fX25_5 hk q3768 (dl_at t_X25_wide 110 rfl) ?_
            refine g_iload (pc := 199) X (i := 6) (q := 0) (x := x6_193) rfl (dl_at t_X25_wide 111 rfl) ?_
            refine g_iconst (pc := 201) X (n := 1) (dl_at t_X25_wide 112 rfl) ?_
            refine g_isub (pc := 202) X r6_193 (r32_c rfl) (dl_at t_X25_wide 113 rfl) ?_
            refine g_gd fun k203 => ?_
            refine g_bald (pc := 203) X (r32_w _) k203 (dl_at t_X25_wide 114 rfl) fun g203 => ?_
            refine g_ltb g203 fun x5_204 r5_204 => ?_
            refine g_istore (pc := 204) X (i := 5) (x := x5_204) (rest := [(6, iv x6_193), (3, jv x3_187), (2, iv a2), (0, rv D a0), (1, iv a1)]) (Nat.le_of_ble_eq_true rfl) [0, 1, 2, 3, 4] rfl rfl (dl_at t_X25_wide 115 rfl) ?_
            refine g_goto (pc := 206) X (off := (-198)) (tgt := 8) rfl (dl_at t_X25_wide 116 rfl) ?_
            refine g_ls (ls2 := [(0, rv D a0), (1, iv a1), (2, iv a2), (3, jv x3_187), (5, iv x5_204), (6, iv x6_193)]) [4, 5, 3, 2, 0, 1] rfl ?_
            exact g_at fun Q hQ => hQ ⟨r3_187, (r32_b r5_204), r6_193⟩
          intro J180
          refine g_iflt (pc := 162) X rs0_76 (off := 8) (tgt := 170) rfl (dl_at t_X25_wide 91 rfl) (fun _ => ?_) (fun _ => ?_)
          · refine g_aload_n (pc := 170) X (j := 0) (i := 0) (q := 0) (x := a0) rfl rfl (dl_at t_X25_wide 94 rfl) ?_
            refine r_getr (pc := 171) X fX25_2 hk q3765 (dl_at t_X25_wide 95 rfl) ?_
            refine g_gd fun k174 => ?_
            refine r_getr (pc := 174) X fX19_0 k174 q3311 (dl_at t_X25_wide 96 rfl) ?_
            refine g_iload (pc := 177) X (i := 7) (q := 5) (x := x7_21) rfl (dl_at t_X25_wide 97 rfl) ?_
            refine g_gd fun k179 => ?_
            refine g_iald (pc := 179) X (r32_b r7_21) k179 (dl_at t_X25_wide 98 rfl) fun g179 => ?_
            refine g_ls (ls2 := [(0, rv D a0), (1, iv a1), (2, iv a2), (6, iv x6_8), (10, iv s0_88)]) [0, 1, 2, 4, 8] rfl ?_
            exact J180 (h (h (h a0 2) 0) x7_21) g179
          refine g_iload (pc := 165) X (i := 9) (q := 7) (x := s0_76) rfl (dl_at t_X25_wide 92 rfl) ?_
          refine g_goto (pc := 167) X (off := 13) (tgt := 180) rfl (dl_at t_X25_wide 93 rfl) ?_
          refine g_ls (ls2 := [(0, rv D a0), (1, iv a1), (2, iv a2), (6, iv x6_8), (10, iv s0_88)]) [0, 1, 2, 4, 8] rfl ?_
          exact J180 s0_76 rs0_76
        intro J156
        refine g_icmple (pc := 93) X r6_8 r1 (off := 63) (tgt := 156) rfl (dl_at t_X25_wide 53 rfl) (fun _ => ?_) (fun _ => ?_)
        · refine g_ls (ls2 := [(0, rv D a0), (1, iv a1), (2, iv a2), (3, jv x3_8), (6, iv x6_8), (7, iv x7_21), (8, iv x8_30), (9, iv s0_76), (10, iv s0_88)]) [2, 3, 4, 5, 7, 8, 9, 1, 0] rfl ?_
          exact J156 x3_8 r3_8
        refine g_aload_n (pc := 96) X (j := 0) (i := 0) (q := 2) (x := a0) rfl rfl (dl_at t_X25_wide 54 rfl) ?_
        refine r_getr (pc := 97) X fX25_6 hk q3770 (dl_at t_X25_wide 55 rfl) ?_
        refine g_iload (pc := 100) X (i := 6) (q := 7) (x := x6_8) rfl (dl_at t_X25_wide 56 rfl) ?_
        refine g_iconst (pc := 102) X (n := 1) (dl_at t_X25_wide 57 rfl) ?_
        refine g_isub (pc := 103) X r6_8 (r32_c rfl) (dl_at t_X25_wide 58 rfl) ?_
        refine g_gd fun k104 => ?_
        refine g_iald (pc := 104) X (r32_w _) k104 (dl_at t_X25_wide 59 rfl) fun g104 => ?_
        refine g_iload (pc := 105) X (i := 8) (q := 9) (x := x8_30) rfl (dl_at t_X25_wide 60 rfl) ?_
        refine g_icmpne (pc := 107) X g104 r8_30 (off := 49) (tgt := 156) rfl (dl_at t_X25_wide 61 rfl) (fun _ => ?_) (fun _ => ?_)
        · refine g_ls (ls2 := [(0, rv D a0), (1, iv a1), (2, iv a2), (3, jv x3_8), (6, iv x6_8), (7, iv x7_21), (8, iv x8_30), (9, iv s0_76), (10, iv s0_88)]) [2, 3, 4, 5, 7, 8, 9, 1, 0] rfl ?_
          exact J156 x3_8 r3_8
        refine g_aload_n (pc := 110) X (j := 0) (i := 0) (q := 2) (x := a0) rfl rfl (dl_at t_X25_wide 62 rfl) ?_
        refine r_getr (pc := 111) X fX25_2 hk q3765 (dl_at t_X25_wide 63 rfl) ?_
        refine g_iload (pc := 114) X (i := 5) (q := 6) (x := x5_8) rfl (dl_at t_X25_wide 64 rfl) ?_
        refine g_iload (pc := 116) X (i := 7) (q := 8) (x := x7_21) rfl (dl_at t_X25_wide 65 rfl) ?_
        refine g_gd fun k118 => ?_
        refine r_callRi (pc := 118) X (fun _ hv => s_X19_kernOf k118 r5_8 (r32_b r7_21) hv) cw_code q4981 q373 (in_Vk X (As := [iv x5_8, iv x7_21]) kX19 k118 (Or.inl q4978) q4979 q4980 cw_code q4981 ⟨by decide, by decide⟩ rfl (dl_at t_X25_wide 66 rfl)) (dl_at t_X25_wide 66 rfl) (cat24 (st := []) (Nat.le_of_ble_eq_true rfl)) (Nat.le_of_ble_eq_true rfl) (Nat.le_of_ble_eq_true rfl) fun v118 g118 => ?_
        refine g_istoreN (pc := 121) X (i := 11) (x := v118) (b := 10) (w := iv s0_88) (rest := [(9, iv s0_76), (0, rv D a0), (1, iv a1), (2, iv a2), (3, jv x3_8), (6, iv x6_8), (7, iv x7_21), (8, iv x8_30)]) (Nat.le_of_ble_eq_true rfl) [0, 1, 2, 3, 4, 5, 7, 8, 9] rfl (by decide) rfl rfl (dl_at t_X25_wide 67 rfl) ?_
        refine g_iload (pc := 123) X (i := 8) (q := 9) (x := x8_30) rfl (dl_at t_X25_wide 68 rfl) ?_
        refine g_i2l (pc := 125) X r8_30 (dl_at t_X25_wide 69 rfl) ?_
        refine g_iload (pc := 126) X (i := 11) (q := 0) (x := v118) rfl (dl_at t_X25_wide 70 rfl) ?_
        refine g_mabs (pc := 128) X g118 q4982 q4983 q398 q4984 (cat24 (st := [jv x8_30]) (Nat.le_of_ble_eq_true rfl)) (Nat.le_of_ble_eq_true rfl) (Nat.le_of_ble_eq_true rfl) (dl_at t_X25_wide 71 rfl) ?_
        refine g_i2l (pc := 131) X (r32_abs g118) (dl_at t_X25_wide 72 rfl) ?_
        refine g_lmul (pc := 132) X (r64_of r8_30) (r64_of (r32_abs g118)) (dl_at t_X25_wide 73 rfl) ?_
        refine g_ldc2 (pc := 133) X (index := 490) (n := 1000) q4849 (dl_at t_X25_wide 74 rfl) ?_
        refine g_ldiv (pc := 136) X (r64_w _) (r64_c rfl) (by decide) (dl_at t_X25_wide 75 rfl) ?_
        refine g_ltl (r64_w _) fun x12_137 r12_137 => ?_
        refine g_lstoreN (pc := 137) X (i := 12) (x := x12_137) (b := 11) (w := iv v118) (rest := [(10, iv s0_88), (9, iv s0_76), (0, rv D a0), (1, iv a1), (2, iv a2), (3, jv x3_8), (6, iv x6_8), (7, iv x7_21), (8, iv x8_30)]) (Nat.le_of_ble_eq_true rfl) [0, 1, 2, 3, 4, 5, 6, 7, 8, 9] rfl (by decide) (by decide) rfl rfl (dl_at t_X25_wide 76 rfl) ?_
        refine g_iload (pc := 139) X (i := 11) (q := 1) (x := v118) rfl (dl_at t_X25_wide 77 rfl) ?_
        refine g_join (γ := Int) (fun q => r64 q) 155 (fun q => [(0, rv D a0), (1, iv a1), (2, iv a2), (6, iv x6_8), (7, iv x7_21), (8, iv x8_30), (9, iv s0_76), (10, iv s0_88)]) (fun q => [jv q]) (fun q => h) (fun q => m_X25_wide_j155 s0_88 s0_76 a0 x6_8 x7_21 x8_30 q h) ?_ ?_
        · rintro s0_155 rs0_155
          try dsimp only
          unfold m_X25_wide_j155
          refine g_lstore_nN (pc := 155) X (j := 3) (i := 3) (x := s0_155) (b := 2) (w := iv a2) (rest := [(0, rv D a0), (1, iv a1), (6, iv x6_8), (7, iv x7_21), (8, iv x8_30), (9, iv s0_76), (10, iv s0_88)]) rfl (Nat.le_of_ble_eq_true rfl) [2, 0, 1, 3, 4, 5, 6, 7] rfl (by decide) (by decide) rfl rfl (dl_at t_X25_wide 86 rfl) ?_
          refine g_ls (ls2 := [(0, rv D a0), (1, iv a1), (2, iv a2), (3, jv s0_155), (6, iv x6_8), (7, iv x7_21), (8, iv x8_30), (9, iv s0_76), (10, iv s0_88)]) [2, 3, 1, 0, 4, 5, 6, 7, 8] rfl ?_
          exact J156 s0_155 rs0_155
        intro J155
        refine g_ifge (pc := 141) X g118 (off := 10) (tgt := 151) rfl (dl_at t_X25_wide 78 rfl) (fun _ => ?_) (fun _ => ?_)
        · refine g_lload_n (pc := 151) X (j := 3) (i := 3) (q := 7) (x := x3_8) rfl rfl (dl_at t_X25_wide 83 rfl) ?_
          refine g_lload (pc := 152) X (i := 12) (q := 0) (x := x12_137) rfl (dl_at t_X25_wide 84 rfl) ?_
          refine g_ladd (pc := 154) X r3_8 r12_137 (dl_at t_X25_wide 85 rfl) ?_
          refine g_ls (ls2 := [(0, rv D a0), (1, iv a1), (2, iv a2), (6, iv x6_8), (7, iv x7_21), (8, iv x8_30), (9, iv s0_76), (10, iv s0_88)]) [4, 5, 6, 8, 9, 10, 3, 2] rfl ?_
          exact J155 (w64 (x3_8 + x12_137)) (r64_w _)
        refine g_lload_n (pc := 144) X (j := 3) (i := 3) (q := 7) (x := x3_8) rfl rfl (dl_at t_X25_wide 79 rfl) ?_
        refine g_lload (pc := 145) X (i := 12) (q := 0) (x := x12_137) rfl (dl_at t_X25_wide 80 rfl) ?_
        refine g_lsub (pc := 147) X r3_8 r12_137 (dl_at t_X25_wide 81 rfl) ?_
        refine g_goto (pc := 148) X (off := 7) (tgt := 155) rfl (dl_at t_X25_wide 82 rfl) ?_
        refine g_ls (ls2 := [(0, rv D a0), (1, iv a1), (2, iv a2), (6, iv x6_8), (7, iv x7_21), (8, iv x8_30), (9, iv s0_76), (10, iv s0_88)]) [4, 5, 6, 8, 9, 10, 3, 2] rfl ?_
        exact J155 (w64 (x3_8 - x12_137)) (r64_w _)
      intro J88
      refine g_iflt (pc := 80) X rs0_76 (off := 7) (tgt := 87) rfl (dl_at t_X25_wide 46 rfl) (fun _ => ?_) (fun _ => ?_)
      · refine g_iconst (pc := 87) X (n := 1) (dl_at t_X25_wide 49 rfl) ?_
        refine g_ls (ls2 := [(0, rv D a0), (1, iv a1), (2, iv a2), (3, jv x3_8), (5, iv x5_8), (6, iv x6_8), (7, iv x7_21), (8, iv x8_30), (9, iv s0_76)]) [2, 3, 4, 5, 6, 7, 8, 1, 0] rfl ?_
        exact J88 1 (r32_c rfl)
      refine g_iconst (pc := 83) X (n := 2) (dl_at t_X25_wide 47 rfl) ?_
      refine g_goto (pc := 84) X (off := 4) (tgt := 88) rfl (dl_at t_X25_wide 48 rfl) ?_
      refine g_ls (ls2 := [(0, rv D a0), (1, iv a1), (2, iv a2), (3, jv x3_8), (5, iv x5_8), (6, iv x6_8), (7, iv x7_21), (8, iv x8_30), (9, iv s0_76)]) [2, 3, 4, 5, 6, 7, 8, 1, 0] rfl ?_
      exact J88 2 (r32_c rfl)
    intro J76
    refine g_join (γ := Unit) (fun q => True) 75 (fun q => [(0, rv D a0), (1, iv a1), (2, iv a2), (3, jv x3_8), (5, iv x5_8), (6, iv x6_8), (7, iv x7_21), (8, iv x8_30)]) (fun q => []) (fun q => h) (fun q => m_X25_wide_j75 x8_30 x7_21 x6_8 a0 a1 x3_8 x5_8 h) ?_ ?_
    · rintro _ _
      try dsimp only
      unfold m_X25_wide_j75
      refine g_iconst (pc := 75) X (n := (-1)) (dl_at t_X25_wide 43 rfl) ?_
      exact J76 (-1) (r32_c rfl)
    intro J75
    refine g_icmpge (pc := 37) X (r32_w _) r2 (off := 38) (tgt := 75) rfl (dl_at t_X25_wide 23 rfl) (fun _ => ?_) (fun _ => ?_)
    · refine g_ls (ls2 := [(0, rv D a0), (1, iv a1), (2, iv a2), (3, jv x3_8), (5, iv x5_8), (6, iv x6_8), (7, iv x7_21), (8, iv x8_30)]) [3, 4, 5, 6, 7, 2, 1, 0] rfl ?_
      exact J75 () trivial
    refine g_aload_n (pc := 40) X (j := 0) (i := 0) (q := 3) (x := a0) rfl rfl (dl_at t_X25_wide 24 rfl) ?_
    refine r_getr (pc := 41) X fX25_6 hk q3770 (dl_at t_X25_wide 25 rfl) ?_
    refine g_iload (pc := 44) X (i := 6) (q := 2) (x := x6_8) rfl (dl_at t_X25_wide 26 rfl) ?_
    refine g_iconst (pc := 46) X (n := 1) (dl_at t_X25_wide 27 rfl) ?_
    refine g_iadd (pc := 47) X r6_8 (r32_c rfl) (dl_at t_X25_wide 28 rfl) ?_
    refine g_gd fun k48 => ?_
    refine g_iald (pc := 48) X (r32_w _) k48 (dl_at t_X25_wide 29 rfl) fun g48 => ?_
    refine g_iload (pc := 49) X (i := 8) (q := 0) (x := x8_30) rfl (dl_at t_X25_wide 30 rfl) ?_
    refine g_icmpne (pc := 51) X g48 r8_30 (off := 24) (tgt := 75) rfl (dl_at t_X25_wide 31 rfl) (fun _ => ?_) (fun _ => ?_)
    · refine g_ls (ls2 := [(0, rv D a0), (1, iv a1), (2, iv a2), (3, jv x3_8), (5, iv x5_8), (6, iv x6_8), (7, iv x7_21), (8, iv x8_30)]) [3, 4, 5, 6, 7, 2, 1, 0] rfl ?_
      exact J75 () trivial
    refine g_aload_n (pc := 54) X (j := 0) (i := 0) (q := 3) (x := a0) rfl rfl (dl_at t_X25_wide 32 rfl) ?_
    refine r_getr (pc := 55) X fX25_2 hk q3765 (dl_at t_X25_wide 33 rfl) ?_
    refine g_iload (pc := 58) X (i := 7) (q := 1) (x := x7_21) rfl (dl_at t_X25_wide 34 rfl) ?_
    refine g_aload_n (pc := 60) X (j := 0) (i := 0) (q := 3) (x := a0) rfl rfl (dl_at t_X25_wide 35 rfl) ?_
    refine r_getr (pc := 61) X fX25_5 hk q3768 (dl_at t_X25_wide 36 rfl) ?_
    refine g_iload (pc := 64) X (i := 6) (q := 2) (x := x6_8) rfl (dl_at t_X25_wide 37 rfl) ?_
    refine g_iconst (pc := 66) X (n := 1) (dl_at t_X25_wide 38 rfl) ?_
    refine g_iadd (pc := 67) X r6_8 (r32_c rfl) (dl_at t_X25_wide 39 rfl) ?_
    refine g_gd fun k68 => ?_
    refine g_bald (pc := 68) X (r32_w _) k68 (dl_at t_X25_wide 40 rfl) fun g68 => ?_
    refine g_gd fun k69 => ?_
    refine r_callRi (pc := 69) X (fun _ hv => s_X19_joinOf k69 (r32_b r7_21) (r32_b g68) hv) cw_code q4977 q373 (in_Vk X (As := [iv x7_21, iv (h (h a0 5) (w32 (x6_8 + 1)))]) kX19 k69 (Or.inl q4974) q4975 q4976 cw_code q4977 ⟨by decide, by decide⟩ rfl (dl_at t_X25_wide 41 rfl)) (dl_at t_X25_wide 41 rfl) (cat24 (st := []) (Nat.le_of_ble_eq_true rfl)) (Nat.le_of_ble_eq_true rfl) (Nat.le_of_ble_eq_true rfl) fun v69 g69 => ?_
    refine g_goto (pc := 72) X (off := 4) (tgt := 76) rfl (dl_at t_X25_wide 42 rfl) ?_
    refine g_ls (ls2 := [(0, rv D a0), (1, iv a1), (2, iv a2), (3, jv x3_8), (5, iv x5_8), (6, iv x6_8), (7, iv x7_21), (8, iv x8_30)]) [3, 4, 5, 6, 7, 2, 1, 0] rfl ?_
    exact J76 v69 g69
  · rintro x3_209 r3_209
    try dsimp only [sE]
    refine g_lload_n (pc := 209) X (j := 3) (i := 3) (q := 0) (x := x3_209) rfl rfl (dl_at t_X25_wide 117 rfl) ?_
    refine g_lconst0 (pc := 210) X (dl_at t_X25_wide 118 rfl) ?_
    refine g_lcmp (pc := 211) X r3_209 (r64_c rfl) (dl_at t_X25_wide 119 rfl) ?_
    refine g_ifge (pc := 212) X (r32_lcmp _ _) (off := 7) (tgt := 219) rfl (dl_at t_X25_wide 120 rfl) (fun _ => ?_) (fun _ => ?_)
    · refine g_lload_n (pc := 219) X (j := 3) (i := 3) (q := 0) (x := x3_209) rfl rfl (dl_at t_X25_wide 123 rfl) ?_
      exact g_lret (pc := 220) X r3_209 rfl rfl (dl_at t_X25_wide 124 rfl)
    refine g_lconst0 (pc := 215) X (dl_at t_X25_wide 121 rfl) ?_
    refine g_goto (pc := 216) X (off := 4) (tgt := 220) rfl (dl_at t_X25_wide 122 rfl) ?_
    exact g_lret (pc := 220) X (r64_c rfl) rfl rfl (dl_at t_X25_wide 124 rfl)
def k_X25_breaksAt : List (Nat × Instr × Nat) := [(0, .aload_n 0, 1), (1, .getfield 44, 3), (4, .iload_n 1, 1), (5, .iaload, 1), (6, .sipush 600, 3), (9, .if_icmp .ne 11, 3), (12, .new 451, 3), (15, .dup, 1), (16, .invokespecial 453, 3), (19, .athrow, 1), (20, .aload_n 0, 1), (21, .getfield 47, 3), (24, .iload_n 1, 1), (25, .iaload, 1), (26, .aload_n 0, 1), (27, .getfield 44, 3), (30, .iload_n 1, 1), (31, .iaload, 1), (32, .iadd, 1), (33, .istore 6, 2), (35, .aload_n 0, 1), (36, .getfield 69, 3), (39, .iload 6, 2), (41, .iload_n 2, 1), (42, .iastore, 1), (43, .aload_n 0, 1), (44, .getfield 72, 3), (47, .iload 6, 2), (49, .iload_n 3, 1), (50, .iastore, 1), (51, .aload_n 0, 1), (52, .getfield 75, 3), (55, .iload 6, 2), (57, .aload_n 0, 1), (58, .iload 4, 2), (60, .iload 5, 2), (62, .invokevirtual 674, 3), (65, .lastore, 1), (66, .aload_n 0, 1), (67, .getfield 78, 3), (70, .iload 6, 2), (72, .iload_n 2, 1), (73, .ifCond .ne 29, 3), (76, .aload_n 0, 1), (77, .getfield 22, 3), (80, .iload_n 3, 1), (81, .iaload, 1), (82, .i2l, 1), (83, .aload_n 0, 1), (84, .getfield 343, 3), (87, .getfield 672, 3), (90, .bipush 32, 2), (92, .iaload, 1), (93, .i2l, 1), (94, .lmul, 1), (95, .ldc2_w 490, 3), (98, .ldiv, 1), (99, .goto 4, 3), (102, .lconst 0, 1), (103, .lastore, 1), (104, .aload_n 0, 1), (105, .getfield 81, 3), (108, .iload 6, 2), (110, .iload_n 2, 1), (111, .iconst 1, 1), (112, .if_icmp .ne 31, 3), (115, .aload_n 0, 1), (116, .getfield 22, 3), (119, .iload_n 3, 1), (120, .iconst 1, 1), (121, .isub, 1), (122, .iaload, 1), (123, .i2l, 1), (124, .aload_n 0, 1), (125, .getfield 343, 3), (128, .getfield 672, 3), (131, .bipush 45, 2), (133, .iaload, 1), (134, .i2l, 1), (135, .lmul, 1), (136, .ldc2_w 490, 3), (139, .ldiv, 1), (140, .goto 4, 3), (143, .lconst 0, 1), (144, .lastore, 1), (145, .aload_n 0, 1), (146, .getfield 44, 3), (149, .iload_n 1, 1), (150, .dup2, 1), (151, .iaload, 1), (152, .iconst 1, 1), (153, .iadd, 1), (154, .iastore, 1), (155, .return_, 1)]
theorem t_X25_breaksAt : ∀ q ∈ k_X25_breaksAt, decode cX25_breaksAt q.1 = .ok q.2 := dl_all (by decide +kernel)
noncomputable def m_X25_breaksAt_j144 (a0 a1 x6_33 s0_144 s2_144 : Int) (h103 : Hp) : Option ((Int × Int) × Hp) :=
  gd (h103 s0_144 (-2) % 16 = 4 ∧ (0 : Int) ≤ x6_33 ∧ x6_33 < h103 s0_144 (-1)) (pt h103 s0_144 x6_33 s2_144 fun h144 =>
  gd (h144 (h144 a0 15) (-2) % 16 = 1 ∧ (0 : Int) ≤ a1 ∧ a1 < h144 (h144 a0 15) (-1)) (pt h144 (h144 a0 15) a1 (w32 ((h144 (h144 a0 15) a1) + 1)) fun h154 =>
  some ((0, 0), h154)))
noncomputable def m_X25_breaksAt_j103 (x6_33 a0 a1 a2 a3 s0_103 s2_103 : Int) (h65 : Hp) : Option ((Int × Int) × Hp) :=
  gd (h65 s0_103 (-2) % 16 = 4 ∧ (0 : Int) ≤ x6_33 ∧ x6_33 < h65 s0_103 (-1)) (pt h65 s0_103 x6_33 s2_103 fun h103 =>
  if a2 ≠ 1 then (m_X25_breaksAt_j144 a0 a1 x6_33 (h103 a0 27) 0 h103)
  else (gd (h103 (h103 a0 6) (-2) % 16 = 1 ∧ (0 : Int) ≤ (w32 (a3 - 1)) ∧ (w32 (a3 - 1)) < h103 (h103 a0 6) (-1)) (gd (h103 (h103 a0 2) (-2) = 320) (gd (h103 (h103 (h103 a0 2) 0) (-2) % 16 = 1 ∧ (0 : Int) ≤ 45 ∧ 45 < h103 (h103 (h103 a0 2) 0) (-1)) (m_X25_breaksAt_j144 a0 a1 x6_33 (h103 a0 27) (w64 (Int.tdiv (w64 ((h103 (h103 a0 6) (w32 (a3 - 1))) * (h103 (h103 (h103 a0 2) 0) 45))) 1000)) h103)))))
noncomputable def m_X25_breaksAt (a0 a1 a2 a3 a4 a5 : Int) (h : Hp) : Option ((Int × Int) × Hp) :=
  gd (h (h a0 15) (-2) % 16 = 1 ∧ (0 : Int) ≤ a1 ∧ a1 < h (h a0 15) (-1)) (if (h (h a0 15) a1) ≠ 600 then (gd (h (h a0 16) (-2) % 16 = 1 ∧ (0 : Int) ≤ a1 ∧ a1 < h (h a0 16) (-1)) (lt_ (w32 ((h (h a0 16) a1) + (h (h a0 15) a1))) fun x6_33 =>
  gd (h (h a0 23) (-2) % 16 = 1 ∧ (0 : Int) ≤ x6_33 ∧ x6_33 < h (h a0 23) (-1)) (pt h (h a0 23) x6_33 a2 fun h42 =>
  gd (h42 (h42 a0 24) (-2) % 16 = 1 ∧ (0 : Int) ≤ x6_33 ∧ x6_33 < h42 (h42 a0 24) (-1)) (pt h42 (h42 a0 24) x6_33 a3 fun h50 =>
  (m_X25_wide a0 a4 a5 h50).bind fun v62 =>
  gd (h50 (h50 a0 25) (-2) % 16 = 4 ∧ (0 : Int) ≤ x6_33 ∧ x6_33 < h50 (h50 a0 25) (-1)) (pt h50 (h50 a0 25) x6_33 v62 fun h65 =>
  if a2 ≠ 0 then (m_X25_breaksAt_j103 x6_33 a0 a1 a2 a3 (h65 a0 26) 0 h65)
  else (gd (h65 (h65 a0 6) (-2) % 16 = 1 ∧ (0 : Int) ≤ a3 ∧ a3 < h65 (h65 a0 6) (-1)) (gd (h65 (h65 a0 2) (-2) = 320) (gd (h65 (h65 (h65 a0 2) 0) (-2) % 16 = 1 ∧ (0 : Int) ≤ 32 ∧ 32 < h65 (h65 (h65 a0 2) 0) (-1)) (m_X25_breaksAt_j103 x6_33 a0 a1 a2 a3 (h65 a0 26) (w64 (Int.tdiv (w64 ((h65 (h65 a0 6) a3) * (h65 (h65 (h65 a0 2) 0) 32))) 1000)) h65)))))))))
  else (al h 464 6 fun a12 h12 =>
  (x_init0 a12 h12).bind fun h16 =>
  some ((1, a12), h16)))
theorem s_X25_breaksAt {l : Launch} [NoTr l] {D : SD} {a0 a1 a2 a3 a4 a5 : Int} {h : Hp} (hk : h a0 (-2) = 416) (r1 : r32 a1) (r2 : r32 a2) (r3 : r32 a3) (r4 : r32 a4) (r5 : r32 a5) {r : (Int × Int) × Hp} (hm : m_X25_breaksAt a0 a1 a2 a3 a4 a5 h = some r) : Sim l D yX25_breaksAt (Cond.code yX25_breaksAt cX25_breaksAt 7 (Option.none : Option Jvm.ClassFile.FieldType)) 9 336 [rv D a0, iv a1, iv a2, iv a3, iv a4, iv a5] h 0 r := by
  refine Sim.of (fin := fun (v : (Int × Int) × Hp) => v) (lsE := [(0, rv D a0), (1, iv a1), (2, iv a2), (3, iv a3), (4, iv a4), (5, iv a5)]) hm rfl cwS_code (la_r (la_i (la_i (la_i (la_i (la_i la_n)))))) (ll_r (ll_i (ll_i (ll_i (ll_i (ll_i ll_n)))))) ?_
  intro p e s m below meth c X hcw hmm hcc hnm hname
  have hno := noh hcw hnm hmm hcc
  unfold m_X25_breaksAt
  refine g_aload_n (pc := 0) X (j := 0) (i := 0) (q := 0) (x := a0) rfl rfl (dl_at t_X25_breaksAt 0 rfl) ?_
  refine r_getr (pc := 1) X fX25_15 hk q3783 (dl_at t_X25_breaksAt 1 rfl) ?_
  refine g_iload_n (pc := 4) X (j := 1) (i := 1) (q := 1) (x := a1) rfl rfl (dl_at t_X25_breaksAt 2 rfl) ?_
  refine g_gd fun k5 => ?_
  refine g_iald (pc := 5) X r1 k5 (dl_at t_X25_breaksAt 3 rfl) fun g5 => ?_
  refine g_sipush (pc := 6) X (n := 600) rfl (dl_at t_X25_breaksAt 4 rfl) ?_
  refine g_icmpne (pc := 9) X g5 (r32_c rfl) (off := 11) (tgt := 20) rfl (dl_at t_X25_breaksAt 5 rfl) (fun _ => ?_) (fun _ => ?_)
  · refine g_aload_n (pc := 20) X (j := 0) (i := 0) (q := 0) (x := a0) rfl rfl (dl_at t_X25_breaksAt 10 rfl) ?_
    refine r_getr (pc := 21) X fX25_16 hk q3785 (dl_at t_X25_breaksAt 11 rfl) ?_
    refine g_iload_n (pc := 24) X (j := 1) (i := 1) (q := 1) (x := a1) rfl rfl (dl_at t_X25_breaksAt 12 rfl) ?_
    refine g_gd fun k25 => ?_
    refine g_iald (pc := 25) X r1 k25 (dl_at t_X25_breaksAt 13 rfl) fun g25 => ?_
    refine g_aload_n (pc := 26) X (j := 0) (i := 0) (q := 0) (x := a0) rfl rfl (dl_at t_X25_breaksAt 14 rfl) ?_
    refine r_getr (pc := 27) X fX25_15 hk q3783 (dl_at t_X25_breaksAt 15 rfl) ?_
    refine g_iload_n (pc := 30) X (j := 1) (i := 1) (q := 1) (x := a1) rfl rfl (dl_at t_X25_breaksAt 16 rfl) ?_
    refine g_iald (pc := 31) X r1 k5 (dl_at t_X25_breaksAt 17 rfl) fun g31 => ?_
    refine g_iadd (pc := 32) X g25 g31 (dl_at t_X25_breaksAt 18 rfl) ?_
    refine g_lti (r32_w _) fun x6_33 r6_33 => ?_
    refine g_istoreN (pc := 33) X (i := 6) (x := x6_33) (b := 5) (w := iv a5) (rest := [(0, rv D a0), (1, iv a1), (2, iv a2), (3, iv a3), (4, iv a4)]) (Nat.le_of_ble_eq_true rfl) [5, 0, 1, 2, 3, 4] rfl (by decide) rfl rfl (dl_at t_X25_breaksAt 19 rfl) ?_
    refine g_aload_n (pc := 35) X (j := 0) (i := 0) (q := 2) (x := a0) rfl rfl (dl_at t_X25_breaksAt 20 rfl) ?_
    refine r_getr (pc := 36) X fX25_23 hk q3797 (dl_at t_X25_breaksAt 21 rfl) ?_
    refine g_iload (pc := 39) X (i := 6) (q := 0) (x := x6_33) rfl (dl_at t_X25_breaksAt 22 rfl) ?_
    refine g_iload_n (pc := 41) X (j := 2) (i := 2) (q := 4) (x := a2) rfl rfl (dl_at t_X25_breaksAt 23 rfl) ?_
    refine g_gd fun k42 => ?_
    refine r_iast (pc := 42) X r6_33 r2 k42 (dl_at t_X25_breaksAt 24 rfl) (fun h42 E42 => ?_)
    refine g_aload_n (pc := 43) X (j := 0) (i := 0) (q := 2) (x := a0) rfl rfl (dl_at t_X25_breaksAt 25 rfl) ?_
    have k44 := kx E42 (by decide) hk
    refine r_getr (pc := 44) X fX25_24 k44 q3798 (dl_at t_X25_breaksAt 26 rfl) ?_
    refine g_iload (pc := 47) X (i := 6) (q := 0) (x := x6_33) rfl (dl_at t_X25_breaksAt 27 rfl) ?_
    refine g_iload_n (pc := 49) X (j := 3) (i := 3) (q := 5) (x := a3) rfl rfl (dl_at t_X25_breaksAt 28 rfl) ?_
    refine g_gd fun k50 => ?_
    refine r_iast (pc := 50) X r6_33 r3 k50 (dl_at t_X25_breaksAt 29 rfl) (fun h50 E50 => ?_)
    refine g_aload_n (pc := 51) X (j := 0) (i := 0) (q := 2) (x := a0) rfl rfl (dl_at t_X25_breaksAt 30 rfl) ?_
    have k52 := kx E50 (by decide) k44
    refine r_getr (pc := 52) X fX25_25 k52 q3799 (dl_at t_X25_breaksAt 31 rfl) ?_
    refine g_iload (pc := 55) X (i := 6) (q := 0) (x := x6_33) rfl (dl_at t_X25_breaksAt 32 rfl) ?_
    refine g_aload_n (pc := 57) X (j := 0) (i := 0) (q := 2) (x := a0) rfl rfl (dl_at t_X25_breaksAt 33 rfl) ?_
    refine g_iload (pc := 58) X (i := 4) (q := 6) (x := a4) rfl (dl_at t_X25_breaksAt 34 rfl) ?_
    refine g_iload (pc := 60) X (i := 5) (q := 1) (x := a5) rfl (dl_at t_X25_breaksAt 35 rfl) ?_
    refine r_callRl (pc := 62) X (fun _ hv => s_X25_wide k52 r4 r5 hv) cw_code q4973 q379 (in_Vk X (As := [iv a4, iv a5]) kX25 k52 (Or.inl q4970) q4972 qs318 cw_code q4973 ⟨by decide, by decide⟩ rfl (dl_at t_X25_breaksAt 36 rfl)) (dl_at t_X25_breaksAt 36 rfl) (cat24 (st := [iv x6_33, rv D (h50 a0 25)]) (Nat.le_of_ble_eq_true rfl)) (Nat.le_of_ble_eq_true rfl) (Nat.le_of_ble_eq_true rfl) fun v62 g62 => ?_
    refine g_gd fun k65 => ?_
    refine r_last (pc := 65) X r6_33 g62 k65 (dl_at t_X25_breaksAt 37 rfl) (fun h65 E65 => ?_)
    refine g_aload_n (pc := 66) X (j := 0) (i := 0) (q := 2) (x := a0) rfl rfl (dl_at t_X25_breaksAt 38 rfl) ?_
    have k67 := kx E65 (by decide) k52
    refine r_getr (pc := 67) X fX25_26 k67 q3800 (dl_at t_X25_breaksAt 39 rfl) ?_
    refine g_iload (pc := 70) X (i := 6) (q := 0) (x := x6_33) rfl (dl_at t_X25_breaksAt 40 rfl) ?_
    refine g_iload_n (pc := 72) X (j := 2) (i := 2) (q := 4) (x := a2) rfl rfl (dl_at t_X25_breaksAt 41 rfl) ?_
    refine g_join (γ := Int × Int) (fun q => r64 q.2) 103 (fun q => [(0, rv D a0), (1, iv a1), (2, iv a2), (3, iv a3), (6, iv x6_33)]) (fun q => [jv q.2, iv x6_33, rv D q.1]) (fun q => h65) (fun q => m_X25_breaksAt_j103 x6_33 a0 a1 a2 a3 q.1 q.2 h65) ?_ ?_
    · rintro ⟨s0_103, s2_103⟩ rs2_103
      try dsimp only
      unfold m_X25_breaksAt_j103
      refine g_gd fun k103 => ?_
      refine r_last (pc := 103) X r6_33 rs2_103 k103 (dl_at t_X25_breaksAt 59 rfl) (fun h103 E103 => ?_)
      refine g_aload_n (pc := 104) X (j := 0) (i := 0) (q := 0) (x := a0) rfl rfl (dl_at t_X25_breaksAt 60 rfl) ?_
      have k105 := kx E103 (by decide) k67
      refine r_getr (pc := 105) X fX25_27 k105 q3801 (dl_at t_X25_breaksAt 61 rfl) ?_
      refine g_iload (pc := 108) X (i := 6) (q := 4) (x := x6_33) rfl (dl_at t_X25_breaksAt 62 rfl) ?_
      refine g_iload_n (pc := 110) X (j := 2) (i := 2) (q := 2) (x := a2) rfl rfl (dl_at t_X25_breaksAt 63 rfl) ?_
      refine g_iconst (pc := 111) X (n := 1) (dl_at t_X25_breaksAt 64 rfl) ?_
      refine g_join (γ := Int × Int) (fun q => r64 q.2) 144 (fun q => [(0, rv D a0), (1, iv a1)]) (fun q => [jv q.2, iv x6_33, rv D q.1]) (fun q => h103) (fun q => m_X25_breaksAt_j144 a0 a1 x6_33 q.1 q.2 h103) ?_ ?_
      · rintro ⟨s0_144, s2_144⟩ rs2_144
        try dsimp only
        unfold m_X25_breaksAt_j144
        refine g_gd fun k144 => ?_
        refine r_last (pc := 144) X r6_33 rs2_144 k144 (dl_at t_X25_breaksAt 84 rfl) (fun h144 E144 => ?_)
        refine g_aload_n (pc := 145) X (j := 0) (i := 0) (q := 0) (x := a0) rfl rfl (dl_at t_X25_breaksAt 85 rfl) ?_
        have k146 := kx E144 (by decide) k105
        refine r_getr (pc := 146) X fX25_15 k146 q3783 (dl_at t_X25_breaksAt 86 rfl) ?_
        refine g_iload_n (pc := 149) X (j := 1) (i := 1) (q := 1) (x := a1) rfl rfl (dl_at t_X25_breaksAt 87 rfl) ?_
        refine g_dup2 (pc := 150) X rfl rv_cat (dl_at t_X25_breaksAt 88 rfl) ?_
        refine g_gd fun k151 => ?_
        refine g_iald (pc := 151) X r1 k151 (dl_at t_X25_breaksAt 89 rfl) fun g151 => ?_
        refine g_iconst (pc := 152) X (n := 1) (dl_at t_X25_breaksAt 90 rfl) ?_
        refine g_iadd (pc := 153) X g151 (r32_c rfl) (dl_at t_X25_breaksAt 91 rfl) ?_
        refine r_iast (pc := 154) X r1 (r32_w _) k151 (dl_at t_X25_breaksAt 92 rfl) (fun h154 E154 => ?_)
        exact g_vret (pc := 155) X (v := 0) rfl rfl (dl_at t_X25_breaksAt 93 rfl)
      intro J144
      refine g_icmpne (pc := 112) X r2 (r32_c rfl) (off := 31) (tgt := 143) rfl (dl_at t_X25_breaksAt 65 rfl) (fun _ => ?_) (fun _ => ?_)
      · refine g_lconst0 (pc := 143) X (dl_at t_X25_breaksAt 83 rfl) ?_
        refine g_ls (ls2 := [(0, rv D a0), (1, iv a1)]) [0, 1] rfl ?_
        exact J144 ((h103 a0 27), 0) (r64_c rfl)
      refine g_aload_n (pc := 115) X (j := 0) (i := 0) (q := 0) (x := a0) rfl rfl (dl_at t_X25_breaksAt 66 rfl) ?_
      refine r_getr (pc := 116) X fX25_6 k105 q3770 (dl_at t_X25_breaksAt 67 rfl) ?_
      refine g_iload_n (pc := 119) X (j := 3) (i := 3) (q := 3) (x := a3) rfl rfl (dl_at t_X25_breaksAt 68 rfl) ?_
      refine g_iconst (pc := 120) X (n := 1) (dl_at t_X25_breaksAt 69 rfl) ?_
      refine g_isub (pc := 121) X r3 (r32_c rfl) (dl_at t_X25_breaksAt 70 rfl) ?_
      refine g_gd fun k122 => ?_
      refine g_iald (pc := 122) X (r32_w _) k122 (dl_at t_X25_breaksAt 71 rfl) fun g122 => ?_
      refine g_i2l (pc := 123) X g122 (dl_at t_X25_breaksAt 72 rfl) ?_
      refine g_aload_n (pc := 124) X (j := 0) (i := 0) (q := 0) (x := a0) rfl rfl (dl_at t_X25_breaksAt 73 rfl) ?_
      refine r_getr (pc := 125) X fX25_2 k105 q3765 (dl_at t_X25_breaksAt 74 rfl) ?_
      refine g_gd fun k128 => ?_
      refine r_getr (pc := 128) X fX19_0 k128 q3311 (dl_at t_X25_breaksAt 75 rfl) ?_
      refine g_bipush (pc := 131) X (n := 45) rfl (dl_at t_X25_breaksAt 76 rfl) ?_
      refine g_gd fun k133 => ?_
      refine g_iald (pc := 133) X (r32_c rfl) k133 (dl_at t_X25_breaksAt 77 rfl) fun g133 => ?_
      refine g_i2l (pc := 134) X g133 (dl_at t_X25_breaksAt 78 rfl) ?_
      refine g_lmul (pc := 135) X (r64_of g122) (r64_of g133) (dl_at t_X25_breaksAt 79 rfl) ?_
      refine g_ldc2 (pc := 136) X (index := 490) (n := 1000) q4849 (dl_at t_X25_breaksAt 80 rfl) ?_
      refine g_ldiv (pc := 139) X (r64_w _) (r64_c rfl) (by decide) (dl_at t_X25_breaksAt 81 rfl) ?_
      refine g_goto (pc := 140) X (off := 4) (tgt := 144) rfl (dl_at t_X25_breaksAt 82 rfl) ?_
      refine g_ls (ls2 := [(0, rv D a0), (1, iv a1)]) [0, 1] rfl ?_
      exact J144 ((h103 a0 27), (w64 (Int.tdiv (w64 ((h103 (h103 a0 6) (w32 (a3 - 1))) * (h103 (h103 (h103 a0 2) 0) 45))) 1000))) (r64_w _)
    intro J103
    refine g_ifne (pc := 73) X r2 (off := 29) (tgt := 102) rfl (dl_at t_X25_breaksAt 42 rfl) (fun _ => ?_) (fun _ => ?_)
    · refine g_lconst0 (pc := 102) X (dl_at t_X25_breaksAt 58 rfl) ?_
      refine g_ls (ls2 := [(0, rv D a0), (1, iv a1), (2, iv a2), (3, iv a3), (6, iv x6_33)]) [2, 3, 4, 5, 0] rfl ?_
      exact J103 ((h65 a0 26), 0) (r64_c rfl)
    refine g_aload_n (pc := 76) X (j := 0) (i := 0) (q := 2) (x := a0) rfl rfl (dl_at t_X25_breaksAt 43 rfl) ?_
    refine r_getr (pc := 77) X fX25_6 k67 q3770 (dl_at t_X25_breaksAt 44 rfl) ?_
    refine g_iload_n (pc := 80) X (j := 3) (i := 3) (q := 5) (x := a3) rfl rfl (dl_at t_X25_breaksAt 45 rfl) ?_
    refine g_gd fun k81 => ?_
    refine g_iald (pc := 81) X r3 k81 (dl_at t_X25_breaksAt 46 rfl) fun g81 => ?_
    refine g_i2l (pc := 82) X g81 (dl_at t_X25_breaksAt 47 rfl) ?_
    refine g_aload_n (pc := 83) X (j := 0) (i := 0) (q := 2) (x := a0) rfl rfl (dl_at t_X25_breaksAt 48 rfl) ?_
    refine r_getr (pc := 84) X fX25_2 k67 q3765 (dl_at t_X25_breaksAt 49 rfl) ?_
    refine g_gd fun k87 => ?_
    refine r_getr (pc := 87) X fX19_0 k87 q3311 (dl_at t_X25_breaksAt 50 rfl) ?_
    refine g_bipush (pc := 90) X (n := 32) rfl (dl_at t_X25_breaksAt 51 rfl) ?_
    refine g_gd fun k92 => ?_
    refine g_iald (pc := 92) X (r32_c rfl) k92 (dl_at t_X25_breaksAt 52 rfl) fun g92 => ?_
    refine g_i2l (pc := 93) X g92 (dl_at t_X25_breaksAt 53 rfl) ?_
    refine g_lmul (pc := 94) X (r64_of g81) (r64_of g92) (dl_at t_X25_breaksAt 54 rfl) ?_
    refine g_ldc2 (pc := 95) X (index := 490) (n := 1000) q4849 (dl_at t_X25_breaksAt 55 rfl) ?_
    refine g_ldiv (pc := 98) X (r64_w _) (r64_c rfl) (by decide) (dl_at t_X25_breaksAt 56 rfl) ?_
    refine g_goto (pc := 99) X (off := 4) (tgt := 103) rfl (dl_at t_X25_breaksAt 57 rfl) ?_
    refine g_ls (ls2 := [(0, rv D a0), (1, iv a1), (2, iv a2), (3, iv a3), (6, iv x6_33)]) [2, 3, 4, 5, 0] rfl ?_
    exact J103 ((h65 a0 26), (w64 (Int.tdiv (w64 ((h65 (h65 a0 6) a3) * (h65 (h65 (h65 a0 2) 0) 32))) 1000))) (r64_w _)
  refine r_new (pc := 12) X kX29 q4791 (dl_at t_X25_breaksAt 6 rfl) fun a12 h12 p12 k12 E12 => ?_
  refine g_dup (pc := 15) X rv_cat (dl_at t_X25_breaksAt 7 rfl) ?_
  refine r_callV (pc := 16) X (fun _ hv => sx_ScholarsPressModel_Beyond_init__V k12 hv) cw_code q4802 q397 (in_I X (As := []) (Int.ne_of_gt p12) rfl (Or.inr ⟨_, nw_in q4800 rfl⟩) q4801 q4802 ⟨by decide, by decide⟩ rfl (dl_at t_X25_breaksAt 8 rfl)) (dl_at t_X25_breaksAt 8 rfl) (cat24 (st := [rv D a12]) (Nat.le_of_ble_eq_true rfl)) (Nat.le_of_ble_eq_true rfl) (Nat.le_of_ble_eq_true rfl) fun h16 E16 => ?_
  refine g_athrow (pc := 19) X (Int.ne_of_gt p12) (dl_at t_X25_breaksAt 9 rfl) ?_
  exact gt_at fun Q hQ => gt_out (Q := Q) X rfl p12 (hno _) _ Q rfl hQ
def k_X25_part : List (Nat × Instr × Nat) := [(0, .aload_n 0, 1), (1, .getfield 47, 3), (4, .iload_n 1, 1), (5, .iload_n 1, 1), (6, .ifCond .ne 7, 3), (9, .iconst 0, 1), (10, .goto 20, 3), (13, .aload_n 0, 1), (14, .getfield 47, 3), (17, .iload_n 1, 1), (18, .iconst 1, 1), (19, .isub, 1), (20, .iaload, 1), (21, .aload_n 0, 1), (22, .getfield 44, 3), (25, .iload_n 1, 1), (26, .iconst 1, 1), (27, .isub, 1), (28, .iaload, 1), (29, .iadd, 1), (30, .iastore, 1), (31, .aload_n 0, 1), (32, .getfield 44, 3), (35, .iload_n 1, 1), (36, .iconst 0, 1), (37, .iastore, 1), (38, .aload_n 0, 1), (39, .getfield 14, 3), (42, .aload_n 0, 1), (43, .getfield 35, 3), (46, .iload_n 1, 1), (47, .iaload, 1), (48, .bipush 9, 2), (50, .invokevirtual 477, 3), (53, .iconst 1, 1), (54, .if_icmp .ne 7, 3), (57, .iconst 1, 1), (58, .goto 4, 3), (61, .iconst 0, 1), (62, .istore_n 2, 1), (63, .aload_n 0, 1), (64, .getfield 29, 3), (67, .iload_n 1, 1), (68, .iaload, 1), (69, .istore_n 3, 1), (70, .iload_n 3, 1), (71, .aload_n 0, 1), (72, .getfield 32, 3), (75, .iload_n 1, 1), (76, .iaload, 1), (77, .if_icmp .gt 16, 3), (80, .aload_n 0, 1), (81, .getfield 265, 3), (84, .iload_n 3, 1), (85, .iconst 0, 1), (86, .bastore, 1), (87, .iinc 3 1, 3), (90, .goto (-20), 3), (93, .aload_n 0, 1), (94, .getfield 29, 3), (97, .iload_n 1, 1), (98, .iaload, 1), (99, .istore_n 3, 1), (100, .iload_n 2, 1), (101, .ifCond .eq 90, 3), (104, .iload_n 3, 1), (105, .aload_n 0, 1), (106, .getfield 32, 3), (109, .iload_n 1, 1), (110, .iaload, 1), (111, .if_icmp .ge 80, 3), (114, .aload_n 0, 1), (115, .getfield 18, 3), (118, .iload_n 3, 1), (119, .baload, 1), (120, .invokestatic 677, 3), (123, .ifCond .ne 6, 3), (126, .goto 59, 3), (129, .iload_n 3, 1), (130, .istore 4, 2), (132, .iload 4, 2), (134, .aload_n 0, 1), (135, .getfield 32, 3), (138, .iload_n 1, 1), (139, .iaload, 1), (140, .if_icmp .ge 22, 3), (143, .aload_n 0, 1), (144, .getfield 18, 3), (147, .iload 4, 2), (149, .baload, 1), (150, .invokestatic 677, 3), (153, .ifCond .eq 9, 3), (156, .iinc 4 1, 3), (159, .goto (-27), 3), (162, .aload_n 0, 1), (163, .getfield 347, 3), (166, .aload_n 0, 1), (167, .getfield 18, 3), (170, .iload_n 3, 1), (171, .iload 4, 2), (173, .aload_n 0, 1), (174, .getfield 265, 3), (177, .invokevirtual 680, 3), (180, .iload 4, 2), (182, .iconst 1, 1), (183, .isub, 1), (184, .istore_n 3, 1), (185, .iinc 3 1, 3), (188, .goto (-88), 3), (191, .aload_n 0, 1), (192, .getfield 29, 3), (195, .iload_n 1, 1), (196, .iaload, 1), (197, .istore_n 3, 1), (198, .aload_n 0, 1), (199, .getfield 29, 3), (202, .iload_n 1, 1), (203, .iaload, 1), (204, .istore 4, 2), (206, .iload 4, 2), (208, .aload_n 0, 1), (209, .getfield 32, 3), (212, .iload_n 1, 1), (213, .iaload, 1), (214, .if_icmp .ge 151, 3), (217, .iload 4, 2), (219, .iconst 1, 1), (220, .iadd, 1), (221, .aload_n 0, 1), (222, .getfield 32, 3), (225, .iload_n 1, 1), (226, .iaload, 1), (227, .if_icmp .eq 17, 3), (230, .aload_n 0, 1), (231, .getfield 18, 3), (234, .iload 4, 2), (236, .iconst 1, 1), (237, .iadd, 1), (238, .baload, 1), (239, .bipush 32, 2), (241, .if_icmp .ne 7, 3), (244, .iconst 1, 1), (245, .goto 4, 3), (248, .iconst 0, 1), (249, .istore 5, 2), (251, .aload_n 0, 1), (252, .getfield 18, 3), (255, .iload 4, 2), (257, .baload, 1), (258, .bipush 32, 2), (260, .if_icmp .ne 22, 3), (263, .aload_n 0, 1), (264, .iload_n 1, 1), (265, .iconst 0, 1), (266, .iload 4, 2), (268, .iload_n 3, 1), (269, .iload 4, 2), (271, .invokevirtual 686, 3), (274, .iload 4, 2), (276, .iconst 1, 1), (277, .iadd, 1), (278, .istore_n 3, 1), (279, .goto 80, 3), (282, .iload 5, 2), (284, .ifCond .ne 38, 3), (287, .aload_n 0, 1), (288, .getfield 18, 3), (291, .iload 4, 2), (293, .baload, 1), (294, .bipush 45, 2), (296, .if_icmp .ne 26, 3), (299, .aload_n 0, 1), (300, .iload_n 1, 1), (301, .iconst 2, 1), (302, .iload 4, 2), (304, .iconst 1, 1), (305, .iadd, 1), (306, .iload_n 3, 1), (307, .iload 4, 2), (309, .iconst 1, 1), (310, .iadd, 1), (311, .invokevirtual 686, 3), (314, .iload 4, 2), (316, .iconst 1, 1), (317, .iadd, 1), (318, .istore_n 3, 1), (319, .goto 40, 3), (322, .iload 5, 2), (324, .ifCond .ne 35, 3), (327, .aload_n 0, 1), (328, .getfield 265, 3), (331, .iload 4, 2), (333, .iconst 1, 1), (334, .iadd, 1), (335, .baload, 1), (336, .ifCond .eq 23, 3), (339, .aload_n 0, 1), (340, .iload_n 1, 1), (341, .iconst 1, 1), (342, .iload 4, 2), (344, .iconst 1, 1), (345, .iadd, 1), (346, .iload_n 3, 1), (347, .iload 4, 2), (349, .iconst 1, 1), (350, .iadd, 1), (351, .invokevirtual 686, 3), (354, .iload 4, 2), (356, .iconst 1, 1), (357, .iadd, 1), (358, .istore_n 3, 1), (359, .iinc 4 1, 3), (362, .goto (-156), 3), (365, .aload_n 0, 1), (366, .iload_n 1, 1), (367, .iconst 3, 1), (368, .aload_n 0, 1), (369, .getfield 32, 3), (372, .iload_n 1, 1), (373, .iaload, 1), (374, .iload_n 3, 1), (375, .aload_n 0, 1), (376, .getfield 32, 3), (379, .iload_n 1, 1), (380, .iaload, 1), (381, .invokevirtual 686, 3), (384, .return_, 1)]
theorem t_X25_part : ∀ q ∈ k_X25_part, decode cX25_part q.1 = .ok q.2 := dl_all (by decide +kernel)
noncomputable def m_X25_part_l70 (a0 a1 x3_70 : Int) (h_70 : Hp) : Option ((Int × Hp) ⊕ ((Hp))) :=
  gd (h_70 (h_70 a0 11) (-2) % 16 = 1 ∧ (0 : Int) ≤ a1 ∧ a1 < h_70 (h_70 a0 11) (-1)) (if (h_70 (h_70 a0 11) a1) < x3_70 then (some (.inr h_70))
  else (gd (h_70 (h_70 a0 102) (-2) % 16 = 3 ∧ (0 : Int) ≤ x3_70 ∧ x3_70 < h_70 (h_70 a0 102) (-1)) (pt h_70 (h_70 a0 102) x3_70 0 fun h86 =>
  lt_ (w32 (x3_70 + 1)) fun x3_87 =>
  some (.inl (x3_87, h86)))))
noncomputable def m_X25_part_j185 (x3_185 : Int) (h_185 : Hp) : Option ((Int × Hp) ⊕ ((Hp))) :=
  lt_ (w32 (x3_185 + 1)) fun x3_185_1 =>
  some (.inl (x3_185_1, h_185))
noncomputable def m_X25_part_l132 (a0 a1 x4_132 : Int) (h_100 : Hp) : Option ((Int) ⊕ ((Int))) :=
  if (h_100 (h_100 a0 11) a1) ≤ x4_132 then (some (.inr x4_132))
  else (gd (h_100 (h_100 a0 5) (-2) % 16 = 2 ∧ (0 : Int) ≤ x4_132 ∧ x4_132 < h_100 (h_100 a0 5) (-1)) ((m_X18_isLetter (h_100 (h_100 a0 5) x4_132)).bind fun v150 =>
  if v150 = 0 then (some (.inr x4_132))
  else (lt_ (w32 (x4_132 + 1)) fun x4_156 =>
  some (.inl x4_156))))
noncomputable def m_X25_part_l100 (a0 a1 s0_62 x3_100 : Int) (h_100 : Hp) : Option ((Int × Hp) ⊕ ((Hp))) :=
  if s0_62 = 0 then (some (.inr h_100))
  else (gd (h_100 (h_100 a0 11) (-2) % 16 = 1 ∧ (0 : Int) ≤ a1 ∧ a1 < h_100 (h_100 a0 11) (-1)) (if (h_100 (h_100 a0 11) a1) ≤ x3_100 then (some (.inr h_100))
  else (gd (h_100 (h_100 a0 5) (-2) % 16 = 2 ∧ (0 : Int) ≤ x3_100 ∧ x3_100 < h_100 (h_100 a0 5) (-1)) ((m_X18_isLetter (h_100 (h_100 a0 5) x3_100)).bind fun v120 =>
  if v120 ≠ 0 then ((lp (fun (q : Int) => m_X25_part_l132 a0 a1 q h_100) x3_100).bind (fun (y162 : Int) => gd (h_100 (h_100 a0 3) (-2) = 352) ((m_X21_places (h_100 a0 3) (h_100 a0 5) x3_100 y162 (h_100 a0 102) h_100).bind fun h177 =>
  lt_ (w32 (y162 - 1)) fun x3_184 =>
  m_X25_part_j185 x3_184 h177)))
  else (m_X25_part_j185 x3_100 h_100)))))
noncomputable def m_X25_part_j359 (x4_206 x3_359 : Int) (h_359 : Hp) : Option ((Int × Int × Hp) ⊕ ((Int × Hp) ⊕ (((Int × Int) × Hp)))) :=
  lt_ (w32 (x4_206 + 1)) fun x4_359 =>
  some (.inl (x3_359, x4_359, h_359))
noncomputable def m_X25_part_j322 (s0_249 x4_206 a0 a1 x3_206 : Int) (h_206 : Hp) : Option ((Int × Int × Hp) ⊕ ((Int × Hp) ⊕ (((Int × Int) × Hp)))) :=
  if s0_249 ≠ 0 then (m_X25_part_j359 x4_206 x3_206 h_206)
  else (gd (h_206 (h_206 a0 102) (-2) % 16 = 3 ∧ (0 : Int) ≤ (w32 (x4_206 + 1)) ∧ (w32 (x4_206 + 1)) < h_206 (h_206 a0 102) (-1)) (if (h_206 (h_206 a0 102) (w32 (x4_206 + 1))) = 0 then (m_X25_part_j359 x4_206 x3_206 h_206)
  else (bT (m_X25_breaksAt a0 a1 1 (w32 (x4_206 + 1)) x3_206 (w32 (x4_206 + 1)) h_206) (fun _ h351 =>
  lt_ (w32 (x4_206 + 1)) fun x3_358 =>
  m_X25_part_j359 x4_206 x3_358 h351) (fun a_ h_ => some (.inr (.inr ((1, a_), h_)))))))
noncomputable def m_X25_part_j249 (a0 a1 x3_206 x4_206 s0_249 : Int) (h_206 : Hp) : Option ((Int × Int × Hp) ⊕ ((Int × Hp) ⊕ (((Int × Int) × Hp)))) :=
  gd (h_206 (h_206 a0 5) (-2) % 16 = 2 ∧ (0 : Int) ≤ x4_206 ∧ x4_206 < h_206 (h_206 a0 5) (-1)) (if (h_206 (h_206 a0 5) x4_206) ≠ 32 then (if s0_249 ≠ 0 then (m_X25_part_j322 s0_249 x4_206 a0 a1 x3_206 h_206)
  else (if (h_206 (h_206 a0 5) x4_206) ≠ 45 then (m_X25_part_j322 s0_249 x4_206 a0 a1 x3_206 h_206)
  else (bT (m_X25_breaksAt a0 a1 2 (w32 (x4_206 + 1)) x3_206 (w32 (x4_206 + 1)) h_206) (fun _ h311 =>
  lt_ (w32 (x4_206 + 1)) fun x3_318 =>
  m_X25_part_j359 x4_206 x3_318 h311) (fun a_ h_ => some (.inr (.inr ((1, a_), h_)))))))
  else (bT (m_X25_breaksAt a0 a1 0 x4_206 x3_206 x4_206 h_206) (fun _ h271 =>
  lt_ (w32 (x4_206 + 1)) fun x3_278 =>
  m_X25_part_j359 x4_206 x3_278 h271) (fun a_ h_ => some (.inr (.inr ((1, a_), h_))))))
noncomputable def m_X25_part_j244 (a0 a1 x3_206 x4_206 : Int) (h_206 : Hp) : Option ((Int × Int × Hp) ⊕ ((Int × Hp) ⊕ (((Int × Int) × Hp)))) :=
  m_X25_part_j249 a0 a1 x3_206 x4_206 1 h_206
noncomputable def m_X25_part_l206 (a0 a1 x3_206 x4_206 : Int) (h_206 : Hp) : Option ((Int × Int × Hp) ⊕ ((Int × Hp) ⊕ (((Int × Int) × Hp)))) :=
  gd (h_206 (h_206 a0 11) (-2) % 16 = 1 ∧ (0 : Int) ≤ a1 ∧ a1 < h_206 (h_206 a0 11) (-1)) (if (h_206 (h_206 a0 11) a1) ≤ x4_206 then (some (.inr (.inl (x3_206, h_206))))
  else (if (w32 (x4_206 + 1)) = (h_206 (h_206 a0 11) a1) then (m_X25_part_j244 a0 a1 x3_206 x4_206 h_206)
  else (gd (h_206 (h_206 a0 5) (-2) % 16 = 2 ∧ (0 : Int) ≤ (w32 (x4_206 + 1)) ∧ (w32 (x4_206 + 1)) < h_206 (h_206 a0 5) (-1)) (if (h_206 (h_206 a0 5) (w32 (x4_206 + 1))) ≠ 32 then (m_X25_part_j249 a0 a1 x3_206 x4_206 0 h_206)
  else (m_X25_part_j244 a0 a1 x3_206 x4_206 h_206)))))
noncomputable def m_X25_part_j62 (a0 a1 s0_62 : Int) (h37 : Hp) : Option ((Int × Int) × Hp) :=
  gd (h37 (h37 a0 10) (-2) % 16 = 1 ∧ (0 : Int) ≤ a1 ∧ a1 < h37 (h37 a0 10) (-1)) (lt_ (h37 (h37 a0 10) a1) fun x3_69 =>
  (lp (fun (q : Int × Hp) => m_X25_part_l70 a0 a1 q.1 q.2) (x3_69, h37)).bind (fun (y93 : Hp) => gd (y93 (y93 a0 10) (-2) % 16 = 1 ∧ (0 : Int) ≤ a1 ∧ a1 < y93 (y93 a0 10) (-1)) (lt_ (y93 (y93 a0 10) a1) fun x3_99 =>
  (lp (fun (q : Int × Hp) => m_X25_part_l100 a0 a1 s0_62 q.1 q.2) (x3_99, y93)).bind (fun (y191 : Hp) => gd (y191 (y191 a0 10) (-2) % 16 = 1 ∧ (0 : Int) ≤ a1 ∧ a1 < y191 (y191 a0 10) (-1)) (lt_ (y191 (y191 a0 10) a1) fun x3_197 =>
  lt_ (y191 (y191 a0 10) a1) fun x4_204 =>
  (lp (fun (q : Int × Int × Hp) => m_X25_part_l206 a0 a1 q.1 q.2.1 q.2.2) (x3_197, x4_204, y191)).bind (sE (fun (y365 : Int × Hp) => gd (y365.2 (y365.2 a0 11) (-2) % 16 = 1 ∧ (0 : Int) ≤ a1 ∧ a1 < y365.2 (y365.2 a0 11) (-1)) (bT (m_X25_breaksAt a0 a1 3 (y365.2 (y365.2 a0 11) a1) y365.1 (y365.2 (y365.2 a0 11) a1) y365.2) (fun _ h381 =>
  some ((0, 0), h381)) (fun a_ h_ => some ((1, a_), h_)))) (fun (x : (Int × Int) × Hp) => some x)))))))
noncomputable def m_X25_part_j30 (a0 a1 s0_30 s2_30 : Int) (h : Hp) : Option ((Int × Int) × Hp) :=
  gd (h s0_30 (-2) % 16 = 1 ∧ (0 : Int) ≤ a1 ∧ a1 < h s0_30 (-1)) (pt h s0_30 a1 s2_30 fun h30 =>
  gd (h30 (h30 a0 15) (-2) % 16 = 1 ∧ (0 : Int) ≤ a1 ∧ a1 < h30 (h30 a0 15) (-1)) (pt h30 (h30 a0 15) a1 0 fun h37 =>
  gd (h37 (h37 a0 12) (-2) % 16 = 1 ∧ (0 : Int) ≤ a1 ∧ a1 < h37 (h37 a0 12) (-1)) (gd (h37 (h37 a0 0) (-2) = 400) ((m_X24_of (h37 a0 0) (h37 (h37 a0 12) a1) 9 h37).bind fun v50 =>
  if v50 ≠ 1 then (m_X25_part_j62 a0 a1 0 h37)
  else (m_X25_part_j62 a0 a1 1 h37)))))
noncomputable def m_X25_part (a0 a1 : Int) (h : Hp) : Option ((Int × Int) × Hp) :=
  if a1 ≠ 0 then (gd (h (h a0 16) (-2) % 16 = 1 ∧ (0 : Int) ≤ (w32 (a1 - 1)) ∧ (w32 (a1 - 1)) < h (h a0 16) (-1)) (gd (h (h a0 15) (-2) % 16 = 1 ∧ (0 : Int) ≤ (w32 (a1 - 1)) ∧ (w32 (a1 - 1)) < h (h a0 15) (-1)) (m_X25_part_j30 a0 a1 (h a0 16) (w32 ((h (h a0 16) (w32 (a1 - 1))) + (h (h a0 15) (w32 (a1 - 1))))) h)))
  else (m_X25_part_j30 a0 a1 (h a0 16) 0 h)
theorem s_X25_part {l : Launch} [NoTr l] {D : SD} {a0 a1 : Int} {h : Hp} (hk : h a0 (-2) = 416) (r1 : r32 a1) {r : (Int × Int) × Hp} (hm : m_X25_part a0 a1 h = some r) : Sim l D yX25_part (Cond.code yX25_part cX25_part 6 (Option.none : Option Jvm.ClassFile.FieldType)) 10 378 [rv D a0, iv a1] h 0 r := by
  refine Sim.of (fin := fun (v : (Int × Int) × Hp) => v) (lsE := [(0, rv D a0), (1, iv a1)]) hm rfl cwS_code (la_r (la_i la_n)) (ll_r (ll_i ll_n)) ?_
  intro p e s m below meth c X hcw hmm hcc hnm hname
  have hno := noh hcw hnm hmm hcc
  unfold m_X25_part
  refine g_aload_n (pc := 0) X (j := 0) (i := 0) (q := 0) (x := a0) rfl rfl (dl_at t_X25_part 0 rfl) ?_
  refine r_getr (pc := 1) X fX25_16 hk q3785 (dl_at t_X25_part 1 rfl) ?_
  refine g_iload_n (pc := 4) X (j := 1) (i := 1) (q := 1) (x := a1) rfl rfl (dl_at t_X25_part 2 rfl) ?_
  refine g_iload_n (pc := 5) X (j := 1) (i := 1) (q := 1) (x := a1) rfl rfl (dl_at t_X25_part 3 rfl) ?_
  refine g_join (γ := Int × Int) (fun q => r32 q.2) 30 (fun q => [(0, rv D a0), (1, iv a1)]) (fun q => [iv q.2, iv a1, rv D q.1]) (fun q => h) (fun q => m_X25_part_j30 a0 a1 q.1 q.2 h) ?_ ?_
  · rintro ⟨s0_30, s2_30⟩ rs2_30
    try dsimp only
    unfold m_X25_part_j30
    refine g_gd fun k30 => ?_
    refine r_iast (pc := 30) X r1 rs2_30 k30 (dl_at t_X25_part 20 rfl) (fun h30 E30 => ?_)
    refine g_aload_n (pc := 31) X (j := 0) (i := 0) (q := 0) (x := a0) rfl rfl (dl_at t_X25_part 21 rfl) ?_
    have k32 := kx E30 (by decide) hk
    refine r_getr (pc := 32) X fX25_15 k32 q3783 (dl_at t_X25_part 22 rfl) ?_
    refine g_iload_n (pc := 35) X (j := 1) (i := 1) (q := 1) (x := a1) rfl rfl (dl_at t_X25_part 23 rfl) ?_
    refine g_iconst (pc := 36) X (n := 0) (dl_at t_X25_part 24 rfl) ?_
    refine g_gd fun k37 => ?_
    refine r_iast (pc := 37) X r1 (r32_c rfl) k37 (dl_at t_X25_part 25 rfl) (fun h37 E37 => ?_)
    refine g_aload_n (pc := 38) X (j := 0) (i := 0) (q := 0) (x := a0) rfl rfl (dl_at t_X25_part 26 rfl) ?_
    have k39 := kx E37 (by decide) k32
    refine r_getr (pc := 39) X fX25_0 k39 q3761 (dl_at t_X25_part 27 rfl) ?_
    refine g_aload_n (pc := 42) X (j := 0) (i := 0) (q := 0) (x := a0) rfl rfl (dl_at t_X25_part 28 rfl) ?_
    refine r_getr (pc := 43) X fX25_12 k39 q3779 (dl_at t_X25_part 29 rfl) ?_
    refine g_iload_n (pc := 46) X (j := 1) (i := 1) (q := 1) (x := a1) rfl rfl (dl_at t_X25_part 30 rfl) ?_
    refine g_gd fun k47 => ?_
    refine g_iald (pc := 47) X r1 k47 (dl_at t_X25_part 31 rfl) fun g47 => ?_
    refine g_bipush (pc := 48) X (n := 9) rfl (dl_at t_X25_part 32 rfl) ?_
    refine g_gd fun k50 => ?_
    refine r_callRi (pc := 50) X (fun _ hv => s_X24_of k50 g47 (r32_c rfl) hv) cw_code q4704 q378 (in_Vk X (As := [iv (h37 (h37 a0 12) a1), iv 9]) kX24 k50 (Or.inl q4844) q4702 q4703 cw_code q4704 ⟨by decide, by decide⟩ rfl (dl_at t_X25_part 33 rfl)) (dl_at t_X25_part 33 rfl) (cat24 (st := []) (Nat.le_of_ble_eq_true rfl)) (Nat.le_of_ble_eq_true rfl) (Nat.le_of_ble_eq_true rfl) fun v50 g50 => ?_
    refine g_iconst (pc := 53) X (n := 1) (dl_at t_X25_part 34 rfl) ?_
    refine g_join (γ := Int) (fun q => (q = 0 ∨ q = 1)) 62 (fun q => [(0, rv D a0), (1, iv a1)]) (fun q => [iv q]) (fun q => h37) (fun q => m_X25_part_j62 a0 a1 q h37) ?_ ?_
    · rintro s0_62 rs0_62
      try dsimp only
      unfold m_X25_part_j62
      refine g_istore_nN (pc := 62) X (j := 2) (i := 2) (x := s0_62) (b := 1) (w := iv a1) (rest := [(0, rv D a0)]) rfl (Nat.le_of_ble_eq_true rfl) [1, 0] rfl (by decide) rfl rfl (dl_at t_X25_part 39 rfl) ?_
      refine g_aload_n (pc := 63) X (j := 0) (i := 0) (q := 2) (x := a0) rfl rfl (dl_at t_X25_part 40 rfl) ?_
      refine r_getr (pc := 64) X fX25_10 k39 q3775 (dl_at t_X25_part 41 rfl) ?_
      refine g_iload_n (pc := 67) X (j := 1) (i := 1) (q := 1) (x := a1) rfl rfl (dl_at t_X25_part 42 rfl) ?_
      refine g_gd fun k68 => ?_
      refine g_iald (pc := 68) X r1 k68 (dl_at t_X25_part 43 rfl) fun g68 => ?_
      refine g_lti g68 fun x3_69 r3_69 => ?_
      refine g_istore_nN (pc := 69) X (j := 3) (i := 3) (x := x3_69) (b := 2) (w := iv s0_62) (rest := [(1, iv a1), (0, rv D a0)]) rfl (Nat.le_of_ble_eq_true rfl) [0, 1, 2] rfl (by decide) rfl rfl (dl_at t_X25_part 44 rfl) ?_
      refine g_ls (ls2 := [(0, rv D a0), (1, iv a1), (2, iv s0_62), (3, iv x3_69)]) [3, 2, 1, 0] rfl ?_
      refine g_loop1 (fun (q : Int × Hp) => [(0, rv D a0), (1, iv a1), (2, iv s0_62), (3, iv q.1)]) (fun (q : Int × Hp) => q.2) (fun (q : Int × Hp) => r32 q.1 ∧ Ext h37 q.2) 93 (fun (y93 : Hp) => [(0, rv D a0), (1, iv a1), (2, iv s0_62)]) (fun (y93 : Hp) => y93) (fun (y93 : Hp) => Ext h37 y93) (x3_69, h37) ⟨r3_69, (Ext.refl _)⟩ ?_ ?_
      · rintro ⟨x3_70, h_70⟩ ⟨r3_70, E_70⟩
        try dsimp only
        unfold m_X25_part_l70
        refine g_iload_n (pc := 70) X (j := 3) (i := 3) (q := 3) (x := x3_70) rfl rfl (dl_at t_X25_part 45 rfl) ?_
        refine g_aload_n (pc := 71) X (j := 0) (i := 0) (q := 0) (x := a0) rfl rfl (dl_at t_X25_part 46 rfl) ?_
        have k72 := kx E_70 (by decide) k39
        refine r_getr (pc := 72) X fX25_11 k72 q3777 (dl_at t_X25_part 47 rfl) ?_
        refine g_iload_n (pc := 75) X (j := 1) (i := 1) (q := 1) (x := a1) rfl rfl (dl_at t_X25_part 48 rfl) ?_
        refine g_gd fun k76 => ?_
        refine g_iald (pc := 76) X r1 k76 (dl_at t_X25_part 49 rfl) fun g76 => ?_
        refine g_icmpgt (pc := 77) X r3_70 g76 (off := 16) (tgt := 93) rfl (dl_at t_X25_part 50 rfl) (fun _ => ?_) (fun _ => ?_)
        · refine g_ls (ls2 := [(0, rv D a0), (1, iv a1), (2, iv s0_62)]) [0, 1, 2] rfl ?_
          exact g_at fun Q hQ => hQ E_70
        refine g_aload_n (pc := 80) X (j := 0) (i := 0) (q := 0) (x := a0) rfl rfl (dl_at t_X25_part 51 rfl) ?_
        refine r_getr (pc := 81) X fX25_102 k72 q3914 (dl_at t_X25_part 52 rfl) ?_
        refine g_iload_n (pc := 84) X (j := 3) (i := 3) (q := 3) (x := x3_70) rfl rfl (dl_at t_X25_part 53 rfl) ?_
        refine g_iconst (pc := 85) X (n := 0) (dl_at t_X25_part 54 rfl) ?_
        refine g_gd fun k86 => ?_
        refine r_zast (pc := 86) X r3_70 (Or.inl rfl) k86 (dl_at t_X25_part 55 rfl) (fun h86 E86 => ?_)
        refine r_iincN (pc := 87) X (i := 3) (q := 3) (n := 1) (x := x3_70) (b := 2) (w := iv s0_62) (rest := [(0, rv D a0), (1, iv a1)]) rfl r3_70 (r32_c rfl) (Nat.le_of_ble_eq_true rfl) [2, 0, 1] rfl (by decide) rfl rfl (dl_at t_X25_part 56 rfl) fun x3_87 r3_87 => ?_
        refine g_goto (pc := 90) X (off := (-20)) (tgt := 70) rfl (dl_at t_X25_part 57 rfl) ?_
        refine g_ls (ls2 := [(0, rv D a0), (1, iv a1), (2, iv s0_62), (3, iv x3_87)]) [2, 3, 1, 0] rfl ?_
        exact g_at fun Q hQ => hQ ⟨r3_87, (E_70.trans E86)⟩
      · rintro h_93 E_93
        try dsimp only [sE]
        refine g_aload_n (pc := 93) X (j := 0) (i := 0) (q := 0) (x := a0) rfl rfl (dl_at t_X25_part 58 rfl) ?_
        have k94 := kx E_93 (by decide) k39
        refine r_getr (pc := 94) X fX25_10 k94 q3775 (dl_at t_X25_part 59 rfl) ?_
        refine g_iload_n (pc := 97) X (j := 1) (i := 1) (q := 1) (x := a1) rfl rfl (dl_at t_X25_part 60 rfl) ?_
        refine g_gd fun k98 => ?_
        refine g_iald (pc := 98) X r1 k98 (dl_at t_X25_part 61 rfl) fun g98 => ?_
        refine g_lti g98 fun x3_99 r3_99 => ?_
        refine g_istore_nN (pc := 99) X (j := 3) (i := 3) (x := x3_99) (b := 2) (w := iv s0_62) (rest := [(0, rv D a0), (1, iv a1)]) rfl (Nat.le_of_ble_eq_true rfl) [2, 0, 1] rfl (by decide) rfl rfl (dl_at t_X25_part 62 rfl) ?_
        refine g_ls (ls2 := [(0, rv D a0), (1, iv a1), (2, iv s0_62), (3, iv x3_99)]) [2, 3, 1, 0] rfl ?_
        refine g_loop1 (fun (q : Int × Hp) => [(0, rv D a0), (1, iv a1), (2, iv s0_62), (3, iv q.1)]) (fun (q : Int × Hp) => q.2) (fun (q : Int × Hp) => r32 q.1 ∧ Ext h_93 q.2) 191 (fun (y191 : Hp) => [(0, rv D a0), (1, iv a1)]) (fun (y191 : Hp) => y191) (fun (y191 : Hp) => Ext h_93 y191) (x3_99, h_93) ⟨r3_99, (Ext.refl _)⟩ ?_ ?_
        · rintro ⟨x3_100, h_100⟩ ⟨r3_100, E_100⟩
          try dsimp only
          unfold m_X25_part_l100
          refine g_iload_n (pc := 100) X (j := 2) (i := 2) (q := 2) (x := s0_62) rfl rfl (dl_at t_X25_part 63 rfl) ?_
          refine g_ifeq (pc := 101) X (r32_z rs0_62) (off := 90) (tgt := 191) rfl (dl_at t_X25_part 64 rfl) (fun _ => ?_) (fun _ => ?_)
          · refine g_ls (ls2 := [(0, rv D a0), (1, iv a1)]) [0, 1] rfl ?_
            exact g_at fun Q hQ => hQ E_100
          refine g_iload_n (pc := 104) X (j := 3) (i := 3) (q := 3) (x := x3_100) rfl rfl (dl_at t_X25_part 65 rfl) ?_
          refine g_aload_n (pc := 105) X (j := 0) (i := 0) (q := 0) (x := a0) rfl rfl (dl_at t_X25_part 66 rfl) ?_
          have k106 := kx E_100 (by decide) k94
          refine r_getr (pc := 106) X fX25_11 k106 q3777 (dl_at t_X25_part 67 rfl) ?_
          refine g_iload_n (pc := 109) X (j := 1) (i := 1) (q := 1) (x := a1) rfl rfl (dl_at t_X25_part 68 rfl) ?_
          refine g_gd fun k110 => ?_
          refine g_iald (pc := 110) X r1 k110 (dl_at t_X25_part 69 rfl) fun g110 => ?_
          refine g_icmpge (pc := 111) X r3_100 g110 (off := 80) (tgt := 191) rfl (dl_at t_X25_part 70 rfl) (fun _ => ?_) (fun _ => ?_)
          · refine g_ls (ls2 := [(0, rv D a0), (1, iv a1)]) [0, 1] rfl ?_
            exact g_at fun Q hQ => hQ E_100
          refine g_aload_n (pc := 114) X (j := 0) (i := 0) (q := 0) (x := a0) rfl rfl (dl_at t_X25_part 71 rfl) ?_
          refine r_getr (pc := 115) X fX25_5 k106 q3768 (dl_at t_X25_part 72 rfl) ?_
          refine g_iload_n (pc := 118) X (j := 3) (i := 3) (q := 3) (x := x3_100) rfl rfl (dl_at t_X25_part 73 rfl) ?_
          refine g_gd fun k119 => ?_
          refine g_bald (pc := 119) X r3_100 k119 (dl_at t_X25_part 74 rfl) fun g119 => ?_
          refine r_callRz (pc := 120) X (fun _ hv => s_X18_isLetter (r32_b g119) hv) cw_code q4952 q372 (in_Sc X (As := [iv (h_100 (h_100 a0 5) x3_100)]) (Or.inr ⟨_, nw_in q4950 rfl⟩) q4951 q372 q4952 ⟨by decide, by decide⟩ rfl (dl_at t_X25_part 75 rfl)) (dl_at t_X25_part 75 rfl) (cat24 (st := []) (Nat.le_of_ble_eq_true rfl)) (Nat.le_of_ble_eq_true rfl) (Nat.le_of_ble_eq_true rfl) fun v120 g120 => ?_
          refine g_join (γ := Int × Hp) (fun q => r32 q.1 ∧ Ext h_100 q.2) 185 (fun q => [(0, rv D a0), (1, iv a1), (2, iv s0_62), (3, iv q.1)]) (fun q => []) (fun q => q.2) (fun q => m_X25_part_j185 q.1 q.2) ?_ ?_
          · rintro ⟨x3_185, h_185⟩ ⟨r3_185, E_185⟩
            try dsimp only
            unfold m_X25_part_j185
            refine r_iincN (pc := 185) X (i := 3) (q := 3) (n := 1) (x := x3_185) (b := 2) (w := iv s0_62) (rest := [(0, rv D a0), (1, iv a1)]) rfl r3_185 (r32_c rfl) (Nat.le_of_ble_eq_true rfl) [2, 0, 1] rfl (by decide) rfl rfl (dl_at t_X25_part 107 rfl) fun x3_185_1 r3_185_1 => ?_
            refine g_goto (pc := 188) X (off := (-88)) (tgt := 100) rfl (dl_at t_X25_part 108 rfl) ?_
            refine g_ls (ls2 := [(0, rv D a0), (1, iv a1), (2, iv s0_62), (3, iv x3_185_1)]) [2, 3, 1, 0] rfl ?_
            exact g_at fun Q hQ => hQ ⟨r3_185_1, (E_100.trans E_185)⟩
          intro J185
          refine g_ifne (pc := 123) X (r32_z g120) (off := 6) (tgt := 129) rfl (dl_at t_X25_part 76 rfl) (fun _ => ?_) (fun _ => ?_)
          · refine g_iload_n (pc := 129) X (j := 3) (i := 3) (q := 3) (x := x3_100) rfl rfl (dl_at t_X25_part 78 rfl) ?_
            refine g_istoreN (pc := 130) X (i := 4) (x := x3_100) (b := 3) (w := iv x3_100) (rest := [(0, rv D a0), (1, iv a1), (2, iv s0_62)]) (Nat.le_of_ble_eq_true rfl) [3, 0, 1, 2] rfl (by decide) rfl rfl (dl_at t_X25_part 79 rfl) ?_
            refine g_ls (ls2 := [(0, rv D a0), (1, iv a1), (2, iv s0_62), (3, iv x3_100), (4, iv x3_100)]) [2, 3, 4, 1, 0] rfl ?_
            refine g_loop1 (fun (q : Int) => [(0, rv D a0), (1, iv a1), (2, iv s0_62), (3, iv x3_100), (4, iv q)]) (fun (q : Int) => h_100) (fun (q : Int) => r32 q) 162 (fun (y162 : Int) => [(0, rv D a0), (1, iv a1), (2, iv s0_62), (3, iv x3_100), (4, iv y162)]) (fun (y162 : Int) => h_100) (fun (y162 : Int) => r32 y162) x3_100 r3_100 ?_ ?_
            · rintro x4_132 r4_132
              try dsimp only
              unfold m_X25_part_l132
              refine g_iload (pc := 132) X (i := 4) (q := 4) (x := x4_132) rfl (dl_at t_X25_part 80 rfl) ?_
              refine g_aload_n (pc := 134) X (j := 0) (i := 0) (q := 0) (x := a0) rfl rfl (dl_at t_X25_part 81 rfl) ?_
              refine r_getr (pc := 135) X fX25_11 k106 q3777 (dl_at t_X25_part 82 rfl) ?_
              refine g_iload_n (pc := 138) X (j := 1) (i := 1) (q := 1) (x := a1) rfl rfl (dl_at t_X25_part 83 rfl) ?_
              refine g_iald (pc := 139) X r1 k110 (dl_at t_X25_part 84 rfl) fun g139 => ?_
              refine g_icmpge (pc := 140) X r4_132 g139 (off := 22) (tgt := 162) rfl (dl_at t_X25_part 85 rfl) (fun _ => ?_) (fun _ => ?_)
              · exact g_at fun Q hQ => hQ r4_132
              refine g_aload_n (pc := 143) X (j := 0) (i := 0) (q := 0) (x := a0) rfl rfl (dl_at t_X25_part 86 rfl) ?_
              refine r_getr (pc := 144) X fX25_5 k106 q3768 (dl_at t_X25_part 87 rfl) ?_
              refine g_iload (pc := 147) X (i := 4) (q := 4) (x := x4_132) rfl (dl_at t_X25_part 88 rfl) ?_
              refine g_gd fun k149 => ?_
              refine g_bald (pc := 149) X r4_132 k149 (dl_at t_X25_part 89 rfl) fun g149 => ?_
              refine r_callRz (pc := 150) X (fun _ hv => s_X18_isLetter (r32_b g149) hv) cw_code q4952 q372 (in_Sc X (As := [iv (h_100 (h_100 a0 5) x4_132)]) (Or.inr ⟨_, nw_in q4950 rfl⟩) q4951 q372 q4952 ⟨by decide, by decide⟩ rfl (dl_at t_X25_part 90 rfl)) (dl_at t_X25_part 90 rfl) (cat24 (st := []) (Nat.le_of_ble_eq_true rfl)) (Nat.le_of_ble_eq_true rfl) (Nat.le_of_ble_eq_true rfl) fun v150 g150 => ?_
              refine g_ifeq (pc := 153) X (r32_z g150) (off := 9) (tgt := 162) rfl (dl_at t_X25_part 91 rfl) (fun _ => ?_) (fun _ => ?_)
              · exact g_at fun Q hQ => hQ r4_132
              refine r_iincN (pc := 156) X (i := 4) (q := 4) (n := 1) (x := x4_132) (b := 3) (w := iv x3_100) (rest := [(0, rv D a0), (1, iv a1), (2, iv s0_62)]) rfl r4_132 (r32_c rfl) (Nat.le_of_ble_eq_true rfl) [3, 0, 1, 2] rfl (by decide) rfl rfl (dl_at t_X25_part 92 rfl) fun x4_156 r4_156 => ?_
              refine g_goto (pc := 159) X (off := (-27)) (tgt := 132) rfl (dl_at t_X25_part 93 rfl) ?_
              refine g_ls (ls2 := [(0, rv D a0), (1, iv a1), (2, iv s0_62), (3, iv x3_100), (4, iv x4_156)]) [2, 3, 4, 1, 0] rfl ?_
              exact g_at fun Q hQ => hQ r4_156
            · rintro x4_162 r4_162
              try dsimp only [sE]
              refine g_aload_n (pc := 162) X (j := 0) (i := 0) (q := 0) (x := a0) rfl rfl (dl_at t_X25_part 94 rfl) ?_
              refine r_getr (pc := 163) X fX25_3 k106 q3766 (dl_at t_X25_part 95 rfl) ?_
              refine g_aload_n (pc := 166) X (j := 0) (i := 0) (q := 0) (x := a0) rfl rfl (dl_at t_X25_part 96 rfl) ?_
              refine r_getr (pc := 167) X fX25_5 k106 q3768 (dl_at t_X25_part 97 rfl) ?_
              refine g_iload_n (pc := 170) X (j := 3) (i := 3) (q := 3) (x := x3_100) rfl rfl (dl_at t_X25_part 98 rfl) ?_
              refine g_iload (pc := 171) X (i := 4) (q := 4) (x := x4_162) rfl (dl_at t_X25_part 99 rfl) ?_
              refine g_aload_n (pc := 173) X (j := 0) (i := 0) (q := 0) (x := a0) rfl rfl (dl_at t_X25_part 100 rfl) ?_
              refine r_getr (pc := 174) X fX25_102 k106 q3914 (dl_at t_X25_part 101 rfl) ?_
              refine g_gd fun k177 => ?_
              refine r_callV (pc := 177) X (fun _ hv => s_X21_places k177 r3_100 r4_162 hv) cw_code q4957 q375 (in_Vk X (As := [rv D (h_100 a0 5), iv x3_100, iv x4_162, rv D (h_100 a0 102)]) kX21 k177 (Or.inl q4954) q4955 q4956 cw_code q4957 ⟨by decide, by decide⟩ rfl (dl_at t_X25_part 102 rfl)) (dl_at t_X25_part 102 rfl) (cat24 (st := []) (Nat.le_of_ble_eq_true rfl)) (Nat.le_of_ble_eq_true rfl) (Nat.le_of_ble_eq_true rfl) fun h177 E177 => ?_
              refine g_iload (pc := 180) X (i := 4) (q := 4) (x := x4_162) rfl (dl_at t_X25_part 103 rfl) ?_
              refine g_iconst (pc := 182) X (n := 1) (dl_at t_X25_part 104 rfl) ?_
              refine g_isub (pc := 183) X r4_162 (r32_c rfl) (dl_at t_X25_part 105 rfl) ?_
              refine g_lti (r32_w _) fun x3_184 r3_184 => ?_
              refine g_istore_nN (pc := 184) X (j := 3) (i := 3) (x := x3_184) (b := 2) (w := iv s0_62) (rest := [(0, rv D a0), (1, iv a1)]) rfl (Nat.le_of_ble_eq_true rfl) [2, 0, 1] rfl (by decide) rfl rfl (dl_at t_X25_part 106 rfl) ?_
              refine g_ls (ls2 := [(0, rv D a0), (1, iv a1), (2, iv s0_62), (3, iv x3_184)]) [2, 3, 1, 0] rfl ?_
              exact J185 (x3_184, h177) ⟨r3_184, E177⟩
          refine g_goto (pc := 126) X (off := 59) (tgt := 185) rfl (dl_at t_X25_part 77 rfl) ?_
          exact J185 (x3_100, h_100) ⟨r3_100, (Ext.refl _)⟩
        · rintro h_191 E_191
          try dsimp only [sE]
          refine g_aload_n (pc := 191) X (j := 0) (i := 0) (q := 0) (x := a0) rfl rfl (dl_at t_X25_part 109 rfl) ?_
          have k192 := kx E_191 (by decide) k94
          refine r_getr (pc := 192) X fX25_10 k192 q3775 (dl_at t_X25_part 110 rfl) ?_
          refine g_iload_n (pc := 195) X (j := 1) (i := 1) (q := 1) (x := a1) rfl rfl (dl_at t_X25_part 111 rfl) ?_
          refine g_gd fun k196 => ?_
          refine g_iald (pc := 196) X r1 k196 (dl_at t_X25_part 112 rfl) fun g196 => ?_
          refine g_lti g196 fun x3_197 r3_197 => ?_
          refine g_istore_n (pc := 197) X (j := 3) (i := 3) (x := x3_197) (rest := [(0, rv D a0), (1, iv a1)]) rfl (Nat.le_of_ble_eq_true rfl) [0, 1] rfl rfl (dl_at t_X25_part 113 rfl) ?_
          refine g_aload_n (pc := 198) X (j := 0) (i := 0) (q := 1) (x := a0) rfl rfl (dl_at t_X25_part 114 rfl) ?_
          refine r_getr (pc := 199) X fX25_10 k192 q3775 (dl_at t_X25_part 115 rfl) ?_
          refine g_iload_n (pc := 202) X (j := 1) (i := 1) (q := 2) (x := a1) rfl rfl (dl_at t_X25_part 116 rfl) ?_
          refine g_iald (pc := 203) X r1 k196 (dl_at t_X25_part 117 rfl) fun g203 => ?_
          refine g_lti g203 fun x4_204 r4_204 => ?_
          refine g_istoreN (pc := 204) X (i := 4) (x := x4_204) (b := 3) (w := iv x3_197) (rest := [(0, rv D a0), (1, iv a1)]) (Nat.le_of_ble_eq_true rfl) [0, 1, 2] rfl (by decide) rfl rfl (dl_at t_X25_part 118 rfl) ?_
          refine g_ls (ls2 := [(0, rv D a0), (1, iv a1), (3, iv x3_197), (4, iv x4_204)]) [2, 3, 1, 0] rfl ?_
          refine g_loop1F (fun (q : Int × Int × Hp) => [(0, rv D a0), (1, iv a1), (3, iv q.1), (4, iv q.2.1)]) (fun (q : Int × Int × Hp) => q.2.2) (fun (q : Int × Int × Hp) => r32 q.1 ∧ r32 q.2.1 ∧ Ext h_191 q.2.2) 365 (fun (y365 : Int × Hp) => [(0, rv D a0), (1, iv a1), (3, iv y365.1)]) (fun (y365 : Int × Hp) => y365.2) (fun (y365 : Int × Hp) => r32 y365.1 ∧ Ext h_191 y365.2) (x3_197, x4_204, h_191) ⟨r3_197, r4_204, (Ext.refl _)⟩ ?_ ?_ (fun _ => rfl)
          · rintro ⟨x3_206, x4_206, h_206⟩ ⟨r3_206, r4_206, E_206⟩
            try dsimp only
            unfold m_X25_part_l206
            refine g_iload (pc := 206) X (i := 4) (q := 3) (x := x4_206) rfl (dl_at t_X25_part 119 rfl) ?_
            refine g_aload_n (pc := 208) X (j := 0) (i := 0) (q := 0) (x := a0) rfl rfl (dl_at t_X25_part 120 rfl) ?_
            have k209 := kx E_206 (by decide) k192
            refine r_getr (pc := 209) X fX25_11 k209 q3777 (dl_at t_X25_part 121 rfl) ?_
            refine g_iload_n (pc := 212) X (j := 1) (i := 1) (q := 1) (x := a1) rfl rfl (dl_at t_X25_part 122 rfl) ?_
            refine g_gd fun k213 => ?_
            refine g_iald (pc := 213) X r1 k213 (dl_at t_X25_part 123 rfl) fun g213 => ?_
            refine g_icmpge (pc := 214) X r4_206 g213 (off := 151) (tgt := 365) rfl (dl_at t_X25_part 124 rfl) (fun _ => ?_) (fun _ => ?_)
            · refine g_ls (ls2 := [(0, rv D a0), (1, iv a1), (3, iv x3_206)]) [0, 1, 2] rfl ?_
              exact g_at fun Q hQ => hQ ⟨r3_206, E_206⟩
            refine g_iload (pc := 217) X (i := 4) (q := 3) (x := x4_206) rfl (dl_at t_X25_part 125 rfl) ?_
            refine g_iconst (pc := 219) X (n := 1) (dl_at t_X25_part 126 rfl) ?_
            refine g_iadd (pc := 220) X r4_206 (r32_c rfl) (dl_at t_X25_part 127 rfl) ?_
            refine g_aload_n (pc := 221) X (j := 0) (i := 0) (q := 0) (x := a0) rfl rfl (dl_at t_X25_part 128 rfl) ?_
            refine r_getr (pc := 222) X fX25_11 k209 q3777 (dl_at t_X25_part 129 rfl) ?_
            refine g_iload_n (pc := 225) X (j := 1) (i := 1) (q := 1) (x := a1) rfl rfl (dl_at t_X25_part 130 rfl) ?_
            refine g_iald (pc := 226) X r1 k213 (dl_at t_X25_part 131 rfl) fun g226 => ?_
            refine g_join (γ := Int) (fun q => (q = 0 ∨ q = 1)) 249 (fun q => [(0, rv D a0), (1, iv a1), (3, iv x3_206), (4, iv x4_206)]) (fun q => [iv q]) (fun q => h_206) (fun q => m_X25_part_j249 a0 a1 x3_206 x4_206 q h_206) ?_ ?_
            · rintro s0_249 rs0_249
              try dsimp only
              unfold m_X25_part_j249
              refine g_istoreN (pc := 249) X (i := 5) (x := s0_249) (b := 4) (w := iv x4_206) (rest := [(0, rv D a0), (1, iv a1), (3, iv x3_206)]) (Nat.le_of_ble_eq_true rfl) [3, 0, 1, 2] rfl (by decide) rfl rfl (dl_at t_X25_part 144 rfl) ?_
              refine g_aload_n (pc := 251) X (j := 0) (i := 0) (q := 2) (x := a0) rfl rfl (dl_at t_X25_part 145 rfl) ?_
              refine r_getr (pc := 252) X fX25_5 k209 q3768 (dl_at t_X25_part 146 rfl) ?_
              refine g_iload (pc := 255) X (i := 4) (q := 1) (x := x4_206) rfl (dl_at t_X25_part 147 rfl) ?_
              refine g_gd fun k257 => ?_
              refine g_bald (pc := 257) X r4_206 k257 (dl_at t_X25_part 148 rfl) fun g257 => ?_
              refine g_bipush (pc := 258) X (n := 32) rfl (dl_at t_X25_part 149 rfl) ?_
              refine g_join (γ := Int × Hp) (fun q => r32 q.1 ∧ Ext h_206 q.2) 359 (fun q => [(0, rv D a0), (1, iv a1), (3, iv q.1), (4, iv x4_206)]) (fun q => []) (fun q => q.2) (fun q => m_X25_part_j359 x4_206 q.1 q.2) ?_ ?_
              · rintro ⟨x3_359, h_359⟩ ⟨r3_359, E_359⟩
                try dsimp only
                unfold m_X25_part_j359
                refine r_iincN (pc := 359) X (i := 4) (q := 3) (n := 1) (x := x4_206) (b := 3) (w := iv x3_359) (rest := [(0, rv D a0), (1, iv a1)]) rfl r4_206 (r32_c rfl) (Nat.le_of_ble_eq_true rfl) [2, 0, 1] rfl (by decide) rfl rfl (dl_at t_X25_part 211 rfl) fun x4_359 r4_359 => ?_
                refine g_goto (pc := 362) X (off := (-156)) (tgt := 206) rfl (dl_at t_X25_part 212 rfl) ?_
                refine g_ls (ls2 := [(0, rv D a0), (1, iv a1), (3, iv x3_359), (4, iv x4_359)]) [2, 3, 1, 0] rfl ?_
                exact g_at fun Q hQ => hQ ⟨r3_359, r4_359, (E_206.trans E_359)⟩
              intro J359
              refine g_icmpne (pc := 260) X (r32_b g257) (r32_c rfl) (off := 22) (tgt := 282) rfl (dl_at t_X25_part 150 rfl) (fun _ => ?_) (fun _ => ?_)
              · refine g_iload (pc := 282) X (i := 5) (q := 0) (x := s0_249) rfl (dl_at t_X25_part 163 rfl) ?_
                refine g_join (γ := Unit) (fun q => True) 322 (fun q => [(0, rv D a0), (1, iv a1), (3, iv x3_206), (4, iv x4_206), (5, iv s0_249)]) (fun q => []) (fun q => h_206) (fun q => m_X25_part_j322 s0_249 x4_206 a0 a1 x3_206 h_206) ?_ ?_
                · rintro _ _
                  try dsimp only
                  unfold m_X25_part_j322
                  refine g_iload (pc := 322) X (i := 5) (q := 4) (x := s0_249) rfl (dl_at t_X25_part 187 rfl) ?_
                  refine g_ifne (pc := 324) X (r32_z rs0_249) (off := 35) (tgt := 359) rfl (dl_at t_X25_part 188 rfl) (fun _ => ?_) (fun _ => ?_)
                  · refine g_ls (ls2 := [(0, rv D a0), (1, iv a1), (3, iv x3_206), (4, iv x4_206)]) [0, 1, 2, 3] rfl ?_
                    exact J359 (x3_206, h_206) ⟨r3_206, (Ext.refl _)⟩
                  refine g_aload_n (pc := 327) X (j := 0) (i := 0) (q := 0) (x := a0) rfl rfl (dl_at t_X25_part 189 rfl) ?_
                  refine r_getr (pc := 328) X fX25_102 k209 q3914 (dl_at t_X25_part 190 rfl) ?_
                  refine g_iload (pc := 331) X (i := 4) (q := 3) (x := x4_206) rfl (dl_at t_X25_part 191 rfl) ?_
                  refine g_iconst (pc := 333) X (n := 1) (dl_at t_X25_part 192 rfl) ?_
                  refine g_iadd (pc := 334) X r4_206 (r32_c rfl) (dl_at t_X25_part 193 rfl) ?_
                  refine g_gd fun k335 => ?_
                  refine g_zald (pc := 335) X (r32_w _) k335 (dl_at t_X25_part 194 rfl) fun g335 => ?_
                  refine g_ifeq (pc := 336) X (r32_z g335) (off := 23) (tgt := 359) rfl (dl_at t_X25_part 195 rfl) (fun _ => ?_) (fun _ => ?_)
                  · refine g_ls (ls2 := [(0, rv D a0), (1, iv a1), (3, iv x3_206), (4, iv x4_206)]) [0, 1, 2, 3] rfl ?_
                    exact J359 (x3_206, h_206) ⟨r3_206, (Ext.refl _)⟩
                  refine g_aload_n (pc := 339) X (j := 0) (i := 0) (q := 0) (x := a0) rfl rfl (dl_at t_X25_part 196 rfl) ?_
                  refine g_iload_n (pc := 340) X (j := 1) (i := 1) (q := 1) (x := a1) rfl rfl (dl_at t_X25_part 197 rfl) ?_
                  refine g_iconst (pc := 341) X (n := 1) (dl_at t_X25_part 198 rfl) ?_
                  refine g_iload (pc := 342) X (i := 4) (q := 3) (x := x4_206) rfl (dl_at t_X25_part 199 rfl) ?_
                  refine g_iconst (pc := 344) X (n := 1) (dl_at t_X25_part 200 rfl) ?_
                  refine g_iadd (pc := 345) X r4_206 (r32_c rfl) (dl_at t_X25_part 201 rfl) ?_
                  refine g_iload_n (pc := 346) X (j := 3) (i := 3) (q := 2) (x := x3_206) rfl rfl (dl_at t_X25_part 202 rfl) ?_
                  refine g_iload (pc := 347) X (i := 4) (q := 3) (x := x4_206) rfl (dl_at t_X25_part 203 rfl) ?_
                  refine g_iconst (pc := 349) X (n := 1) (dl_at t_X25_part 204 rfl) ?_
                  refine g_iadd (pc := 350) X r4_206 (r32_c rfl) (dl_at t_X25_part 205 rfl) ?_
                  refine r_callTv (pc := 351) X (fun _ hv => s_X25_breaksAt k209 r1 (r32_c rfl) (r32_w _) r3_206 (r32_w _) hv) cw_code q4969 q379 (in_Vk X (As := [iv a1, iv 1, iv (w32 (x4_206 + 1)), iv x3_206, iv (w32 (x4_206 + 1))]) kX25 k209 (Or.inl q4966) q4968 qs317 cw_code q4969 ⟨by decide, by decide⟩ rfl (dl_at t_X25_part 206 rfl)) (dl_at t_X25_part 206 rfl) (cat24 (st := []) (Nat.le_of_ble_eq_true rfl)) (Nat.le_of_ble_eq_true rfl) (Nat.le_of_ble_eq_true rfl) (fun v351 h351 E351 => ?_) (fun _ _ ha _ => gt_at fun Q hQ => gt_out (Q := Q) X rfl ha (hno _) _ Q rfl hQ)
                  refine g_iload (pc := 354) X (i := 4) (q := 3) (x := x4_206) rfl (dl_at t_X25_part 207 rfl) ?_
                  refine g_iconst (pc := 356) X (n := 1) (dl_at t_X25_part 208 rfl) ?_
                  refine g_iadd (pc := 357) X r4_206 (r32_c rfl) (dl_at t_X25_part 209 rfl) ?_
                  refine g_lti (r32_w _) fun x3_358 r3_358 => ?_
                  refine g_istore_n (pc := 358) X (j := 3) (i := 3) (x := x3_358) (rest := [(0, rv D a0), (1, iv a1), (4, iv x4_206)]) rfl (Nat.le_of_ble_eq_true rfl) [0, 1, 3] rfl rfl (dl_at t_X25_part 210 rfl) ?_
                  refine g_ls (ls2 := [(0, rv D a0), (1, iv a1), (3, iv x3_358), (4, iv x4_206)]) [1, 2, 0, 3] rfl ?_
                  exact J359 (x3_358, h351) ⟨r3_358, E351⟩
                intro J322
                refine g_ifne (pc := 284) X (r32_z rs0_249) (off := 38) (tgt := 322) rfl (dl_at t_X25_part 164 rfl) (fun _ => ?_) (fun _ => ?_)
                · refine g_ls (ls2 := [(0, rv D a0), (1, iv a1), (3, iv x3_206), (4, iv x4_206), (5, iv s0_249)]) [2, 3, 4, 1, 0] rfl ?_
                  exact J322 () trivial
                refine g_aload_n (pc := 287) X (j := 0) (i := 0) (q := 2) (x := a0) rfl rfl (dl_at t_X25_part 165 rfl) ?_
                refine r_getr (pc := 288) X fX25_5 k209 q3768 (dl_at t_X25_part 166 rfl) ?_
                refine g_iload (pc := 291) X (i := 4) (q := 1) (x := x4_206) rfl (dl_at t_X25_part 167 rfl) ?_
                refine g_bald (pc := 293) X r4_206 k257 (dl_at t_X25_part 168 rfl) fun g293 => ?_
                refine g_bipush (pc := 294) X (n := 45) rfl (dl_at t_X25_part 169 rfl) ?_
                refine g_icmpne (pc := 296) X (r32_b g293) (r32_c rfl) (off := 26) (tgt := 322) rfl (dl_at t_X25_part 170 rfl) (fun _ => ?_) (fun _ => ?_)
                · refine g_ls (ls2 := [(0, rv D a0), (1, iv a1), (3, iv x3_206), (4, iv x4_206), (5, iv s0_249)]) [2, 3, 4, 1, 0] rfl ?_
                  exact J322 () trivial
                refine g_aload_n (pc := 299) X (j := 0) (i := 0) (q := 2) (x := a0) rfl rfl (dl_at t_X25_part 171 rfl) ?_
                refine g_iload_n (pc := 300) X (j := 1) (i := 1) (q := 3) (x := a1) rfl rfl (dl_at t_X25_part 172 rfl) ?_
                refine g_iconst (pc := 301) X (n := 2) (dl_at t_X25_part 173 rfl) ?_
                refine g_iload (pc := 302) X (i := 4) (q := 1) (x := x4_206) rfl (dl_at t_X25_part 174 rfl) ?_
                refine g_iconst (pc := 304) X (n := 1) (dl_at t_X25_part 175 rfl) ?_
                refine g_iadd (pc := 305) X r4_206 (r32_c rfl) (dl_at t_X25_part 176 rfl) ?_
                refine g_iload_n (pc := 306) X (j := 3) (i := 3) (q := 4) (x := x3_206) rfl rfl (dl_at t_X25_part 177 rfl) ?_
                refine g_iload (pc := 307) X (i := 4) (q := 1) (x := x4_206) rfl (dl_at t_X25_part 178 rfl) ?_
                refine g_iconst (pc := 309) X (n := 1) (dl_at t_X25_part 179 rfl) ?_
                refine g_iadd (pc := 310) X r4_206 (r32_c rfl) (dl_at t_X25_part 180 rfl) ?_
                refine r_callTv (pc := 311) X (fun _ hv => s_X25_breaksAt k209 r1 (r32_c rfl) (r32_w _) r3_206 (r32_w _) hv) cw_code q4969 q379 (in_Vk X (As := [iv a1, iv 2, iv (w32 (x4_206 + 1)), iv x3_206, iv (w32 (x4_206 + 1))]) kX25 k209 (Or.inl q4966) q4968 qs317 cw_code q4969 ⟨by decide, by decide⟩ rfl (dl_at t_X25_part 181 rfl)) (dl_at t_X25_part 181 rfl) (cat24 (st := []) (Nat.le_of_ble_eq_true rfl)) (Nat.le_of_ble_eq_true rfl) (Nat.le_of_ble_eq_true rfl) (fun v311 h311 E311 => ?_) (fun _ _ ha _ => gt_at fun Q hQ => gt_out (Q := Q) X rfl ha (hno _) _ Q rfl hQ)
                refine g_iload (pc := 314) X (i := 4) (q := 1) (x := x4_206) rfl (dl_at t_X25_part 182 rfl) ?_
                refine g_iconst (pc := 316) X (n := 1) (dl_at t_X25_part 183 rfl) ?_
                refine g_iadd (pc := 317) X r4_206 (r32_c rfl) (dl_at t_X25_part 184 rfl) ?_
                refine g_lti (r32_w _) fun x3_318 r3_318 => ?_
                refine g_istore_n (pc := 318) X (j := 3) (i := 3) (x := x3_318) (rest := [(4, iv x4_206), (0, rv D a0), (1, iv a1)]) rfl (Nat.le_of_ble_eq_true rfl) [1, 2, 3] rfl rfl (dl_at t_X25_part 185 rfl) ?_
                refine g_goto (pc := 319) X (off := 40) (tgt := 359) rfl (dl_at t_X25_part 186 rfl) ?_
                refine g_ls (ls2 := [(0, rv D a0), (1, iv a1), (3, iv x3_318), (4, iv x4_206)]) [2, 3, 0, 1] rfl ?_
                exact J359 (x3_318, h311) ⟨r3_318, E311⟩
              refine g_aload_n (pc := 263) X (j := 0) (i := 0) (q := 2) (x := a0) rfl rfl (dl_at t_X25_part 151 rfl) ?_
              refine g_iload_n (pc := 264) X (j := 1) (i := 1) (q := 3) (x := a1) rfl rfl (dl_at t_X25_part 152 rfl) ?_
              refine g_iconst (pc := 265) X (n := 0) (dl_at t_X25_part 153 rfl) ?_
              refine g_iload (pc := 266) X (i := 4) (q := 1) (x := x4_206) rfl (dl_at t_X25_part 154 rfl) ?_
              refine g_iload_n (pc := 268) X (j := 3) (i := 3) (q := 4) (x := x3_206) rfl rfl (dl_at t_X25_part 155 rfl) ?_
              refine g_iload (pc := 269) X (i := 4) (q := 1) (x := x4_206) rfl (dl_at t_X25_part 156 rfl) ?_
              refine r_callTv (pc := 271) X (fun _ hv => s_X25_breaksAt k209 r1 (r32_c rfl) r4_206 r3_206 r4_206 hv) cw_code q4969 q379 (in_Vk X (As := [iv a1, iv 0, iv x4_206, iv x3_206, iv x4_206]) kX25 k209 (Or.inl q4966) q4968 qs317 cw_code q4969 ⟨by decide, by decide⟩ rfl (dl_at t_X25_part 157 rfl)) (dl_at t_X25_part 157 rfl) (cat24 (st := []) (Nat.le_of_ble_eq_true rfl)) (Nat.le_of_ble_eq_true rfl) (Nat.le_of_ble_eq_true rfl) (fun v271 h271 E271 => ?_) (fun _ _ ha _ => gt_at fun Q hQ => gt_out (Q := Q) X rfl ha (hno _) _ Q rfl hQ)
              refine g_iload (pc := 274) X (i := 4) (q := 1) (x := x4_206) rfl (dl_at t_X25_part 158 rfl) ?_
              refine g_iconst (pc := 276) X (n := 1) (dl_at t_X25_part 159 rfl) ?_
              refine g_iadd (pc := 277) X r4_206 (r32_c rfl) (dl_at t_X25_part 160 rfl) ?_
              refine g_lti (r32_w _) fun x3_278 r3_278 => ?_
              refine g_istore_n (pc := 278) X (j := 3) (i := 3) (x := x3_278) (rest := [(4, iv x4_206), (0, rv D a0), (1, iv a1)]) rfl (Nat.le_of_ble_eq_true rfl) [1, 2, 3] rfl rfl (dl_at t_X25_part 161 rfl) ?_
              refine g_goto (pc := 279) X (off := 80) (tgt := 359) rfl (dl_at t_X25_part 162 rfl) ?_
              refine g_ls (ls2 := [(0, rv D a0), (1, iv a1), (3, iv x3_278), (4, iv x4_206)]) [2, 3, 0, 1] rfl ?_
              exact J359 (x3_278, h271) ⟨r3_278, E271⟩
            intro J249
            refine g_join (γ := Unit) (fun q => True) 244 (fun q => [(0, rv D a0), (1, iv a1), (3, iv x3_206), (4, iv x4_206)]) (fun q => []) (fun q => h_206) (fun q => m_X25_part_j244 a0 a1 x3_206 x4_206 h_206) ?_ ?_
            · rintro _ _
              try dsimp only
              unfold m_X25_part_j244
              refine g_iconst (pc := 244) X (n := 1) (dl_at t_X25_part 141 rfl) ?_
              refine g_goto (pc := 245) X (off := 4) (tgt := 249) rfl (dl_at t_X25_part 142 rfl) ?_
              exact J249 1 (Or.inr rfl)
            intro J244
            refine g_icmpeq (pc := 227) X (r32_w _) g226 (off := 17) (tgt := 244) rfl (dl_at t_X25_part 132 rfl) (fun _ => ?_) (fun _ => ?_)
            · exact J244 () trivial
            refine g_aload_n (pc := 230) X (j := 0) (i := 0) (q := 0) (x := a0) rfl rfl (dl_at t_X25_part 133 rfl) ?_
            refine r_getr (pc := 231) X fX25_5 k209 q3768 (dl_at t_X25_part 134 rfl) ?_
            refine g_iload (pc := 234) X (i := 4) (q := 3) (x := x4_206) rfl (dl_at t_X25_part 135 rfl) ?_
            refine g_iconst (pc := 236) X (n := 1) (dl_at t_X25_part 136 rfl) ?_
            refine g_iadd (pc := 237) X r4_206 (r32_c rfl) (dl_at t_X25_part 137 rfl) ?_
            refine g_gd fun k238 => ?_
            refine g_bald (pc := 238) X (r32_w _) k238 (dl_at t_X25_part 138 rfl) fun g238 => ?_
            refine g_bipush (pc := 239) X (n := 32) rfl (dl_at t_X25_part 139 rfl) ?_
            refine g_icmpne (pc := 241) X (r32_b g238) (r32_c rfl) (off := 7) (tgt := 248) rfl (dl_at t_X25_part 140 rfl) (fun _ => ?_) (fun _ => ?_)
            · refine g_iconst (pc := 248) X (n := 0) (dl_at t_X25_part 143 rfl) ?_
              exact J249 0 (Or.inl rfl)
            exact J244 () trivial
          · rintro ⟨x3_365, h_365⟩ ⟨r3_365, E_365⟩
            try dsimp only [sE]
            refine g_aload_n (pc := 365) X (j := 0) (i := 0) (q := 0) (x := a0) rfl rfl (dl_at t_X25_part 213 rfl) ?_
            refine g_iload_n (pc := 366) X (j := 1) (i := 1) (q := 1) (x := a1) rfl rfl (dl_at t_X25_part 214 rfl) ?_
            refine g_iconst (pc := 367) X (n := 3) (dl_at t_X25_part 215 rfl) ?_
            refine g_aload_n (pc := 368) X (j := 0) (i := 0) (q := 0) (x := a0) rfl rfl (dl_at t_X25_part 216 rfl) ?_
            have k369 := kx E_365 (by decide) k192
            refine r_getr (pc := 369) X fX25_11 k369 q3777 (dl_at t_X25_part 217 rfl) ?_
            refine g_iload_n (pc := 372) X (j := 1) (i := 1) (q := 1) (x := a1) rfl rfl (dl_at t_X25_part 218 rfl) ?_
            refine g_gd fun k373 => ?_
            refine g_iald (pc := 373) X r1 k373 (dl_at t_X25_part 219 rfl) fun g373 => ?_
            refine g_iload_n (pc := 374) X (j := 3) (i := 3) (q := 2) (x := x3_365) rfl rfl (dl_at t_X25_part 220 rfl) ?_
            refine g_aload_n (pc := 375) X (j := 0) (i := 0) (q := 0) (x := a0) rfl rfl (dl_at t_X25_part 221 rfl) ?_
            refine r_getr (pc := 376) X fX25_11 k369 q3777 (dl_at t_X25_part 222 rfl) ?_
            refine g_iload_n (pc := 379) X (j := 1) (i := 1) (q := 1) (x := a1) rfl rfl (dl_at t_X25_part 223 rfl) ?_
            refine g_iald (pc := 380) X r1 k373 (dl_at t_X25_part 224 rfl) fun g380 => ?_
            refine r_callTv (pc := 381) X (fun _ hv => s_X25_breaksAt k369 r1 (r32_c rfl) g373 r3_365 g380 hv) cw_code q4969 q379 (in_Vk X (As := [iv a1, iv 3, iv (h_365 (h_365 a0 11) a1), iv x3_365, iv (h_365 (h_365 a0 11) a1)]) kX25 k369 (Or.inl q4966) q4968 qs317 cw_code q4969 ⟨by decide, by decide⟩ rfl (dl_at t_X25_part 225 rfl)) (dl_at t_X25_part 225 rfl) (cat24 (st := []) (Nat.le_of_ble_eq_true rfl)) (Nat.le_of_ble_eq_true rfl) (Nat.le_of_ble_eq_true rfl) (fun v381 h381 E381 => ?_) (fun _ _ ha _ => gt_at fun Q hQ => gt_out (Q := Q) X rfl ha (hno _) _ Q rfl hQ)
            exact g_vret (pc := 384) X (v := 0) rfl rfl (dl_at t_X25_part 226 rfl)
    intro J62
    refine g_icmpne (pc := 54) X g50 (r32_c rfl) (off := 7) (tgt := 61) rfl (dl_at t_X25_part 35 rfl) (fun _ => ?_) (fun _ => ?_)
    · refine g_iconst (pc := 61) X (n := 0) (dl_at t_X25_part 38 rfl) ?_
      exact J62 0 (Or.inl rfl)
    refine g_iconst (pc := 57) X (n := 1) (dl_at t_X25_part 36 rfl) ?_
    refine g_goto (pc := 58) X (off := 4) (tgt := 62) rfl (dl_at t_X25_part 37 rfl) ?_
    exact J62 1 (Or.inr rfl)
  intro J30
  refine g_ifne (pc := 6) X r1 (off := 7) (tgt := 13) rfl (dl_at t_X25_part 4 rfl) (fun _ => ?_) (fun _ => ?_)
  · refine g_aload_n (pc := 13) X (j := 0) (i := 0) (q := 0) (x := a0) rfl rfl (dl_at t_X25_part 7 rfl) ?_
    refine r_getr (pc := 14) X fX25_16 hk q3785 (dl_at t_X25_part 8 rfl) ?_
    refine g_iload_n (pc := 17) X (j := 1) (i := 1) (q := 1) (x := a1) rfl rfl (dl_at t_X25_part 9 rfl) ?_
    refine g_iconst (pc := 18) X (n := 1) (dl_at t_X25_part 10 rfl) ?_
    refine g_isub (pc := 19) X r1 (r32_c rfl) (dl_at t_X25_part 11 rfl) ?_
    refine g_gd fun k20 => ?_
    refine g_iald (pc := 20) X (r32_w _) k20 (dl_at t_X25_part 12 rfl) fun g20 => ?_
    refine g_aload_n (pc := 21) X (j := 0) (i := 0) (q := 0) (x := a0) rfl rfl (dl_at t_X25_part 13 rfl) ?_
    refine r_getr (pc := 22) X fX25_15 hk q3783 (dl_at t_X25_part 14 rfl) ?_
    refine g_iload_n (pc := 25) X (j := 1) (i := 1) (q := 1) (x := a1) rfl rfl (dl_at t_X25_part 15 rfl) ?_
    refine g_iconst (pc := 26) X (n := 1) (dl_at t_X25_part 16 rfl) ?_
    refine g_isub (pc := 27) X r1 (r32_c rfl) (dl_at t_X25_part 17 rfl) ?_
    refine g_gd fun k28 => ?_
    refine g_iald (pc := 28) X (r32_w _) k28 (dl_at t_X25_part 18 rfl) fun g28 => ?_
    refine g_iadd (pc := 29) X g20 g28 (dl_at t_X25_part 19 rfl) ?_
    exact J30 ((h a0 16), (w32 ((h (h a0 16) (w32 (a1 - 1))) + (h (h a0 15) (w32 (a1 - 1)))))) (r32_w _)
  refine g_iconst (pc := 9) X (n := 0) (dl_at t_X25_part 5 rfl) ?_
  refine g_goto (pc := 10) X (off := 20) (tgt := 30) rfl (dl_at t_X25_part 6 rfl) ?_
  exact J30 ((h a0 16), 0) (r32_c rfl)
def k_X25_breakAt : List (Nat × Instr × Nat) := [(0, .iload_n 1, 1), (1, .ifCond .ne 7, 3), (4, .iconst 0, 1), (5, .goto 20, 3), (8, .aload_n 0, 1), (9, .getfield 47, 3), (12, .iload_n 1, 1), (13, .iconst 1, 1), (14, .isub, 1), (15, .iaload, 1), (16, .aload_n 0, 1), (17, .getfield 44, 3), (20, .iload_n 1, 1), (21, .iconst 1, 1), (22, .isub, 1), (23, .iaload, 1), (24, .iadd, 1), (25, .ireturn, 1)]
theorem t_X25_breakAt : ∀ q ∈ k_X25_breakAt, decode cX25_breakAt q.1 = .ok q.2 := dl_all (by decide +kernel)
noncomputable def m_X25_breakAt (a0 a1 : Int) (h : Hp) : Option (Int) :=
  if a1 ≠ 0 then (gd (h (h a0 16) (-2) % 16 = 1 ∧ (0 : Int) ≤ (w32 (a1 - 1)) ∧ (w32 (a1 - 1)) < h (h a0 16) (-1)) (gd (h (h a0 15) (-2) % 16 = 1 ∧ (0 : Int) ≤ (w32 (a1 - 1)) ∧ (w32 (a1 - 1)) < h (h a0 15) (-1)) (some (w32 ((h (h a0 16) (w32 (a1 - 1))) + (h (h a0 15) (w32 (a1 - 1))))))))
  else (some 0)
theorem s_X25_breakAt {l : Launch} [NoTr l] {D : SD} {a0 a1 : Int} {h : Hp} (hk : h a0 (-2) = 416) (r1 : r32 a1) {r : Int} (hm : m_X25_breakAt a0 a1 h = some r) : Sim l D yX25_breakAt (Cond.code yX25_breakAt cX25_breakAt 2 (Option.some Jvm.ClassFile.FieldType.int)) 0 0 [rv D a0, iv a1] h 1 ((0, r), h) := by
  refine Sim.of (fin := fun (v : Int) => ((0, v), h)) (lsE := [(0, rv D a0), (1, iv a1)]) hm rfl cwS_code (la_r (la_i la_n)) (ll_r (ll_i ll_n)) ?_
  intro p e s m below meth c X hcw hmm hcc hnm hname
  unfold m_X25_breakAt
  refine g_iload_n (pc := 0) X (j := 1) (i := 1) (q := 1) (x := a1) rfl rfl (dl_at t_X25_breakAt 0 rfl) ?_
  refine g_ifne (pc := 1) X r1 (off := 7) (tgt := 8) rfl (dl_at t_X25_breakAt 1 rfl) (fun _ => ?_) (fun _ => ?_)
  · refine g_aload_n (pc := 8) X (j := 0) (i := 0) (q := 0) (x := a0) rfl rfl (dl_at t_X25_breakAt 4 rfl) ?_
    refine r_getr (pc := 9) X fX25_16 hk q3785 (dl_at t_X25_breakAt 5 rfl) ?_
    refine g_iload_n (pc := 12) X (j := 1) (i := 1) (q := 1) (x := a1) rfl rfl (dl_at t_X25_breakAt 6 rfl) ?_
    refine g_iconst (pc := 13) X (n := 1) (dl_at t_X25_breakAt 7 rfl) ?_
    refine g_isub (pc := 14) X r1 (r32_c rfl) (dl_at t_X25_breakAt 8 rfl) ?_
    refine g_gd fun k15 => ?_
    refine g_iald (pc := 15) X (r32_w _) k15 (dl_at t_X25_breakAt 9 rfl) fun g15 => ?_
    refine g_aload_n (pc := 16) X (j := 0) (i := 0) (q := 0) (x := a0) rfl rfl (dl_at t_X25_breakAt 10 rfl) ?_
    refine r_getr (pc := 17) X fX25_15 hk q3783 (dl_at t_X25_breakAt 11 rfl) ?_
    refine g_iload_n (pc := 20) X (j := 1) (i := 1) (q := 1) (x := a1) rfl rfl (dl_at t_X25_breakAt 12 rfl) ?_
    refine g_iconst (pc := 21) X (n := 1) (dl_at t_X25_breakAt 13 rfl) ?_
    refine g_isub (pc := 22) X r1 (r32_c rfl) (dl_at t_X25_breakAt 14 rfl) ?_
    refine g_gd fun k23 => ?_
    refine g_iald (pc := 23) X (r32_w _) k23 (dl_at t_X25_breakAt 15 rfl) fun g23 => ?_
    refine g_iadd (pc := 24) X g15 g23 (dl_at t_X25_breakAt 16 rfl) ?_
    exact g_iret (pc := 25) X (r32_w _) rfl rfl (dl_at t_X25_breakAt 17 rfl)
  refine g_iconst (pc := 4) X (n := 0) (dl_at t_X25_breakAt 2 rfl) ?_
  refine g_goto (pc := 5) X (off := 20) (tgt := 25) rfl (dl_at t_X25_breakAt 3 rfl) ?_
  exact g_iret (pc := 25) X (r32_c rfl) rfl rfl (dl_at t_X25_breakAt 17 rfl)
def k_X25_table : List (Nat × Instr × Nat) := [(0, .aload_n 0, 1), (1, .getfield 105, 3), (4, .iload_n 1, 1), (5, .aload_n 0, 1), (6, .iload_n 1, 1), (7, .invokevirtual 498, 3), (10, .iastore, 1), (11, .iconst 0, 1), (12, .istore_n 2, 1), (13, .iconst 0, 1), (14, .istore_n 3, 1), (15, .iload_n 3, 1), (16, .bipush 8, 2), (18, .if_icmp .ge 27, 3), (21, .aload_n 0, 1), (22, .getfield 118, 3), (25, .iload_n 3, 1), (26, .ldc2_w 490, 3), (29, .lastore, 1), (30, .aload_n 0, 1), (31, .getfield 121, 3), (34, .iload_n 3, 1), (35, .ldc2_w 490, 3), (38, .lastore, 1), (39, .iinc 3 1, 3), (42, .goto (-27), 3), (45, .iconst 0, 1), (46, .istore_n 3, 1), (47, .iload_n 3, 1), (48, .aload_n 0, 1), (49, .getfield 342, 3), (52, .getfield 351, 3), (55, .if_icmp .ge 214, 3), (58, .aload_n 0, 1), (59, .getfield 342, 3), (62, .getfield 486, 3), (65, .iload_n 3, 1), (66, .iaload, 1), (67, .iload_n 1, 1), (68, .if_icmp .ne 195, 3), (71, .aload_n 0, 1), (72, .getfield 14, 3), (75, .getfield 635, 3), (78, .iload_n 3, 1), (79, .baload, 1), (80, .ifCond .eq 183, 3), (83, .aload_n 0, 1), (84, .getfield 111, 3), (87, .iload_n 3, 1), (88, .baload, 1), (89, .ifCond .ne 6, 3), (92, .goto 171, 3), (95, .iload_n 2, 1), (96, .aload_n 0, 1), (97, .getfield 14, 3), (100, .getfield 692, 3), (103, .iload_n 3, 1), (104, .iaload, 1), (105, .invokestatic 624, 3), (108, .istore_n 2, 1), (109, .iconst 0, 1), (110, .istore 4, 2), (112, .iload 4, 2), (114, .aload_n 0, 1), (115, .getfield 14, 3), (118, .getfield 692, 3), (121, .iload_n 3, 1), (122, .iaload, 1), (123, .if_icmp .ge 140, 3), (126, .aload_n 0, 1), (127, .getfield 99, 3), (130, .bipush 8, 2), (132, .iload_n 3, 1), (133, .imul, 1), (134, .iload 4, 2), (136, .iadd, 1), (137, .iaload, 1), (138, .istore 5, 2), (140, .iload 5, 2), (142, .ifCond .ge 6, 3), (145, .goto 112, 3), (148, .lconst 0, 1), (149, .lstore 6, 2), (151, .aload_n 0, 1), (152, .getfield 47, 3), (155, .iload 5, 2), (157, .iaload, 1), (158, .istore 8, 2), (160, .iload 8, 2), (162, .aload_n 0, 1), (163, .getfield 47, 3), (166, .iload 5, 2), (168, .iaload, 1), (169, .aload_n 0, 1), (170, .getfield 44, 3), (173, .iload 5, 2), (175, .iaload, 1), (176, .iadd, 1), (177, .if_icmp .ge 61, 3), (180, .aload_n 0, 1), (181, .getfield 118, 3), (184, .iload 4, 2), (186, .aload_n 0, 1), (187, .getfield 118, 3), (190, .iload 4, 2), (192, .laload, 1), (193, .aload_n 0, 1), (194, .getfield 75, 3), (197, .iload 8, 2), (199, .laload, 1), (200, .aload_n 0, 1), (201, .getfield 81, 3), (204, .iload 8, 2), (206, .laload, 1), (207, .ladd, 1), (208, .invokestatic 658, 3), (211, .lastore, 1), (212, .lload 6, 2), (214, .aload_n 0, 1), (215, .getfield 75, 3), (218, .iload 8, 2), (220, .laload, 1), (221, .aload_n 0, 1), (222, .getfield 78, 3), (225, .iload 8, 2), (227, .laload, 1), (228, .ladd, 1), (229, .ladd, 1), (230, .lstore 6, 2), (232, .iinc 8 1, 3), (235, .goto (-75), 3), (238, .aload_n 0, 1), (239, .getfield 121, 3), (242, .iload 4, 2), (244, .aload_n 0, 1), (245, .getfield 121, 3), (248, .iload 4, 2), (250, .laload, 1), (251, .lload 6, 2), (253, .invokestatic 658, 3), (256, .lastore, 1), (257, .iinc 4 1, 3), (260, .goto (-148), 3), (263, .iinc 3 1, 3), (266, .goto (-219), 3), (269, .aload_n 0, 1), (270, .getfield 108, 3), (273, .iload_n 1, 1), (274, .iload_n 2, 1), (275, .iastore, 1), (276, .iload_n 2, 1), (277, .ifCond .ne 4, 3), (280, .return_, 1), (281, .aload_n 0, 1), (282, .iload_n 1, 1), (283, .iconst 0, 1), (284, .invokevirtual 501, 3), (287, .lstore_n 3, 1), (288, .lconst 0, 1), (289, .lstore 5, 2), (291, .lconst 0, 1), (292, .lstore 7, 2), (294, .iconst 0, 1), (295, .istore 9, 2), (297, .iload 9, 2), (299, .iload_n 2, 1), (300, .if_icmp .ge 33, 3), (303, .lload 5, 2), (305, .aload_n 0, 1), (306, .getfield 121, 3), (309, .iload 9, 2), (311, .laload, 1), (312, .ladd, 1), (313, .lstore 5, 2), (315, .lload 7, 2), (317, .aload_n 0, 1), (318, .getfield 118, 3), (321, .iload 9, 2), (323, .laload, 1), (324, .ladd, 1), (325, .lstore 7, 2), (327, .iinc 9 1, 3), (330, .goto (-33), 3), (333, .lconst 0, 1), (334, .lstore 9, 2), (336, .iconst 0, 1), (337, .istore 11, 2), (339, .iload 11, 2), (341, .iload_n 2, 1), (342, .if_icmp .ge 113, 3), (345, .lload 5, 2), (347, .lload_n 3, 1), (348, .lcmp, 1), (349, .ifCond .gt 21, 3), (352, .aload_n 0, 1), (353, .getfield 121, 3), (356, .iload 11, 2), (358, .laload, 1), (359, .lload_n 3, 1), (360, .lload 5, 2), (362, .lsub, 1), (363, .iload_n 2, 1), (364, .i2l, 1), (365, .ldiv, 1), (366, .ladd, 1), (367, .goto 59, 3), (370, .lload 7, 2), (372, .lload_n 3, 1), (373, .lcmp, 1), (374, .ifCond .gt 40, 3), (377, .aload_n 0, 1), (378, .getfield 118, 3), (381, .iload 11, 2), (383, .laload, 1), (384, .lload_n 3, 1), (385, .lload 7, 2), (387, .lsub, 1), (388, .aload_n 0, 1), (389, .getfield 121, 3), (392, .iload 11, 2), (394, .laload, 1), (395, .aload_n 0, 1), (396, .getfield 118, 3), (399, .iload 11, 2), (401, .laload, 1), (402, .lsub, 1), (403, .lmul, 1), (404, .lload 5, 2), (406, .lload 7, 2), (408, .lsub, 1), (409, .ldiv, 1), (410, .ladd, 1), (411, .goto 15, 3), (414, .lload_n 3, 1), (415, .aload_n 0, 1), (416, .getfield 118, 3), (419, .iload 11, 2), (421, .laload, 1), (422, .lmul, 1), (423, .lload 7, 2), (425, .ldiv, 1), (426, .lstore 12, 2), (428, .aload_n 0, 1), (429, .getfield 115, 3), (432, .bipush 8, 2), (434, .iload_n 1, 1), (435, .imul, 1), (436, .iload 11, 2), (438, .iadd, 1), (439, .lload 12, 2), (441, .lastore, 1), (442, .lload 9, 2), (444, .lload 12, 2), (446, .ladd, 1), (447, .lstore 9, 2), (449, .iinc 11 1, 3), (452, .goto (-113), 3), (455, .iconst 0, 1), (456, .istore 11, 2), (458, .iload 11, 2), (460, .iload_n 2, 1), (461, .if_icmp .ge 38, 3), (464, .lload 9, 2), (466, .lload_n 3, 1), (467, .lcmp, 1), (468, .ifCond .ge 31, 3), (471, .aload_n 0, 1), (472, .getfield 115, 3), (475, .bipush 8, 2), (477, .iload_n 1, 1), (478, .imul, 1), (479, .iload 11, 2), (481, .iadd, 1), (482, .dup2, 1), (483, .laload, 1), (484, .lconst 1, 1), (485, .ladd, 1), (486, .lastore, 1), (487, .lload 9, 2), (489, .lconst 1, 1), (490, .ladd, 1), (491, .lstore 9, 2), (493, .iinc 11 1, 3), (496, .goto (-38), 3), (499, .iconst 0, 1), (500, .istore 11, 2), (502, .iload 11, 2), (504, .aload_n 0, 1), (505, .getfield 342, 3), (508, .getfield 351, 3), (511, .if_icmp .ge 154, 3), (514, .aload_n 0, 1), (515, .getfield 342, 3), (518, .getfield 486, 3), (521, .iload 11, 2), (523, .iaload, 1), (524, .iload_n 1, 1), (525, .if_icmp .ne 134, 3), (528, .aload_n 0, 1), (529, .getfield 14, 3), (532, .getfield 635, 3), (535, .iload 11, 2), (537, .baload, 1), (538, .ifCond .eq 121, 3), (541, .aload_n 0, 1), (542, .getfield 111, 3), (545, .iload 11, 2), (547, .baload, 1), (548, .ifCond .ne 6, 3), (551, .goto 108, 3), (554, .aload_n 0, 1), (555, .getfield 105, 3), (558, .iload_n 1, 1), (559, .iaload, 1), (560, .i2l, 1), (561, .lstore 12, 2), (563, .iconst 0, 1), (564, .istore 14, 2), (566, .iload 14, 2), (568, .aload_n 0, 1), (569, .getfield 14, 3), (572, .getfield 692, 3), (575, .iload 11, 2), (577, .iaload, 1), (578, .if_icmp .ge 81, 3), (581, .aload_n 0, 1), (582, .getfield 99, 3), (585, .bipush 8, 2), (587, .iload 11, 2), (589, .imul, 1), (590, .iload 14, 2), (592, .iadd, 1), (593, .iaload, 1), (594, .istore 15, 2), (596, .iload 15, 2), (598, .ifCond .lt 38, 3), (601, .aload_n 0, 1), (602, .getfield 62, 3), (605, .iload 15, 2), (607, .ldc2_w 490, 3), (610, .aload_n 0, 1), (611, .getfield 115, 3), (614, .bipush 8, 2), (616, .iload_n 1, 1), (617, .imul, 1), (618, .iload 14, 2), (620, .iadd, 1), (621, .laload, 1), (622, .invokestatic 658, 3), (625, .lastore, 1), (626, .aload_n 0, 1), (627, .getfield 41, 3), (630, .iload 15, 2), (632, .lload 12, 2), (634, .l2i, 1), (635, .iastore, 1), (636, .lload 12, 2), (638, .aload_n 0, 1), (639, .getfield 115, 3), (642, .bipush 8, 2), (644, .iload_n 1, 1), (645, .imul, 1), (646, .iload 14, 2), (648, .iadd, 1), (649, .laload, 1), (650, .ladd, 1), (651, .lstore 12, 2), (653, .iinc 14 1, 3), (656, .goto (-90), 3), (659, .iinc 11 1, 3), (662, .goto (-160), 3), (665, .return_, 1)]
theorem t_X25_table : ∀ q ∈ k_X25_table, decode cX25_table q.1 = .ok q.2 := dl_all (by decide +kernel)
noncomputable def m_X25_table_l15 (a0 x3_15 : Int) (h_15 : Hp) : Option ((Int × Hp) ⊕ ((Hp))) :=
  if 8 ≤ x3_15 then (some (.inr h_15))
  else (gd (h_15 (h_15 a0 40) (-2) % 16 = 4 ∧ (0 : Int) ≤ x3_15 ∧ x3_15 < h_15 (h_15 a0 40) (-1)) (pt h_15 (h_15 a0 40) x3_15 1000 fun h29 =>
  gd (h29 (h29 a0 41) (-2) % 16 = 4 ∧ (0 : Int) ≤ x3_15 ∧ x3_15 < h29 (h29 a0 41) (-1)) (pt h29 (h29 a0 41) x3_15 1000 fun h38 =>
  lt_ (w32 (x3_15 + 1)) fun x3_39 =>
  some (.inl (x3_39, h38)))))
noncomputable def m_X25_table_j263 (x3_47 x2_263 : Int) (h_263 : Hp) : Option ((Int × Int × Hp) ⊕ ((Int × Hp))) :=
  lt_ (w32 (x3_47 + 1)) fun x3_263 =>
  some (.inl (x2_263, x3_263, h_263))
noncomputable def m_X25_table_j257 (x4_112 : Int) (h_257 : Hp) : Option ((Int × Hp) ⊕ ((Hp))) :=
  lt_ (w32 (x4_112 + 1)) fun x4_257 =>
  some (.inl (x4_257, h_257))
noncomputable def m_X25_table_l160 (a0 x4_112 x5_138 x6_160 x8_160 : Int) (h_160 : Hp) : Option ((Int × Int × Hp) ⊕ ((Int × Hp))) :=
  gd (h_160 (h_160 a0 16) (-2) % 16 = 1 ∧ (0 : Int) ≤ x5_138 ∧ x5_138 < h_160 (h_160 a0 16) (-1)) (gd (h_160 (h_160 a0 15) (-2) % 16 = 1 ∧ (0 : Int) ≤ x5_138 ∧ x5_138 < h_160 (h_160 a0 15) (-1)) (if (w32 ((h_160 (h_160 a0 16) x5_138) + (h_160 (h_160 a0 15) x5_138))) ≤ x8_160 then (some (.inr (x6_160, h_160)))
  else (gd (h_160 (h_160 a0 40) (-2) % 16 = 4 ∧ (0 : Int) ≤ x4_112 ∧ x4_112 < h_160 (h_160 a0 40) (-1)) (gd (h_160 (h_160 a0 25) (-2) % 16 = 4 ∧ (0 : Int) ≤ x8_160 ∧ x8_160 < h_160 (h_160 a0 25) (-1)) (gd (h_160 (h_160 a0 27) (-2) % 16 = 4 ∧ (0 : Int) ≤ x8_160 ∧ x8_160 < h_160 (h_160 a0 27) (-1)) (pt h_160 (h_160 a0 40) x4_112 (max_ (h_160 (h_160 a0 40) x4_112) (w64 ((h_160 (h_160 a0 25) x8_160) + (h_160 (h_160 a0 27) x8_160)))) fun h211 =>
  gd (h211 (h211 a0 25) (-2) % 16 = 4 ∧ (0 : Int) ≤ x8_160 ∧ x8_160 < h211 (h211 a0 25) (-1)) (gd (h211 (h211 a0 26) (-2) % 16 = 4 ∧ (0 : Int) ≤ x8_160 ∧ x8_160 < h211 (h211 a0 26) (-1)) (lt_ (w64 (x6_160 + (w64 ((h211 (h211 a0 25) x8_160) + (h211 (h211 a0 26) x8_160))))) fun x6_230 =>
  lt_ (w32 (x8_160 + 1)) fun x8_232 =>
  some (.inl (x6_230, x8_232, h211))))))))))
noncomputable def m_X25_table_l112 (a0 x3_47 x4_112 : Int) (h_112 : Hp) : Option ((Int × Hp) ⊕ ((Hp))) :=
  gd (h_112 (h_112 a0 0) (-2) = 400) (gd (h_112 (h_112 (h_112 a0 0) 7) (-2) % 16 = 1 ∧ (0 : Int) ≤ x3_47 ∧ x3_47 < h_112 (h_112 (h_112 a0 0) 7) (-1)) (if (h_112 (h_112 (h_112 a0 0) 7) x3_47) ≤ x4_112 then (some (.inr h_112))
  else (gd (h_112 (h_112 a0 34) (-2) % 16 = 1 ∧ (0 : Int) ≤ (w32 ((w32 (8 * x3_47)) + x4_112)) ∧ (w32 ((w32 (8 * x3_47)) + x4_112)) < h_112 (h_112 a0 34) (-1)) (lt_ (h_112 (h_112 a0 34) (w32 ((w32 (8 * x3_47)) + x4_112))) fun x5_138 =>
  if 0 ≤ x5_138 then (lt_ 0 fun x6_149 =>
  gd (h_112 (h_112 a0 16) (-2) % 16 = 1 ∧ (0 : Int) ≤ x5_138 ∧ x5_138 < h_112 (h_112 a0 16) (-1)) (lt_ (h_112 (h_112 a0 16) x5_138) fun x8_158 =>
  (lp (fun (q : Int × Int × Hp) => m_X25_table_l160 a0 x4_112 x5_138 q.1 q.2.1 q.2.2) (x6_149, x8_158, h_112)).bind (fun (y238 : Int × Hp) => gd (y238.2 (y238.2 a0 41) (-2) % 16 = 4 ∧ (0 : Int) ≤ x4_112 ∧ x4_112 < y238.2 (y238.2 a0 41) (-1)) (pt y238.2 (y238.2 a0 41) x4_112 (max_ (y238.2 (y238.2 a0 41) x4_112) y238.1) fun h256 =>
  m_X25_table_j257 x4_112 h256))))
  else (m_X25_table_j257 x4_112 h_112)))))
noncomputable def m_X25_table_l47 (a0 a1 x2_47 x3_47 : Int) (h_47 : Hp) : Option ((Int × Int × Hp) ⊕ ((Int × Hp))) :=
  gd (h_47 (h_47 a0 1) (-2) = 384) (if (h_47 (h_47 a0 1) 3) ≤ x3_47 then (some (.inr (x2_47, h_47)))
  else (gd (h_47 (h_47 (h_47 a0 1) 11) (-2) % 16 = 1 ∧ (0 : Int) ≤ x3_47 ∧ x3_47 < h_47 (h_47 (h_47 a0 1) 11) (-1)) (if (h_47 (h_47 (h_47 a0 1) 11) x3_47) ≠ a1 then (m_X25_table_j263 x3_47 x2_47 h_47)
  else (gd (h_47 (h_47 a0 0) (-2) = 400) (gd (h_47 (h_47 (h_47 a0 0) 14) (-2) % 16 = 3 ∧ (0 : Int) ≤ x3_47 ∧ x3_47 < h_47 (h_47 (h_47 a0 0) 14) (-1)) (if (h_47 (h_47 (h_47 a0 0) 14) x3_47) = 0 then (m_X25_table_j263 x3_47 x2_47 h_47)
  else (gd (h_47 (h_47 a0 38) (-2) % 16 = 3 ∧ (0 : Int) ≤ x3_47 ∧ x3_47 < h_47 (h_47 a0 38) (-1)) (if (h_47 (h_47 a0 38) x3_47) ≠ 0 then (gd (h_47 (h_47 (h_47 a0 0) 7) (-2) % 16 = 1 ∧ (0 : Int) ≤ x3_47 ∧ x3_47 < h_47 (h_47 (h_47 a0 0) 7) (-1)) (lt_ (max_ x2_47 (h_47 (h_47 (h_47 a0 0) 7) x3_47)) fun x2_108 =>
  lt_ 0 fun x4_110 =>
  (lp (fun (q : Int × Hp) => m_X25_table_l112 a0 x3_47 q.1 q.2) (x4_110, h_47)).bind (fun (y263 : Hp) => m_X25_table_j263 x3_47 x2_108 y263)))
  else (m_X25_table_j263 x3_47 x2_47 h_47)))))))))
noncomputable def m_X25_table_l297 (a0 x2_269 x5_297 x7_297 x9_297 : Int) (h275 : Hp) : Option ((Int × Int × Int) ⊕ ((Int × Int))) :=
  if x2_269 ≤ x9_297 then (some (.inr (x5_297, x7_297)))
  else (gd (h275 (h275 a0 41) (-2) % 16 = 4 ∧ (0 : Int) ≤ x9_297 ∧ x9_297 < h275 (h275 a0 41) (-1)) (lt_ (w64 (x5_297 + (h275 (h275 a0 41) x9_297))) fun x5_313 =>
  gd (h275 (h275 a0 40) (-2) % 16 = 4 ∧ (0 : Int) ≤ x9_297 ∧ x9_297 < h275 (h275 a0 40) (-1)) (lt_ (w64 (x7_297 + (h275 (h275 a0 40) x9_297))) fun x7_325 =>
  lt_ (w32 (x9_297 + 1)) fun x9_327 =>
  some (.inl (x5_313, x7_325, x9_327)))))
noncomputable def m_X25_table_j426 (a0 a1 x9_339 x11_339 s0_426 : Int) (h_339 : Hp) : Option ((Int × Int × Hp) ⊕ ((Int × Hp))) :=
  gd (h_339 (h_339 a0 39) (-2) % 16 = 4 ∧ (0 : Int) ≤ (w32 ((w32 (8 * a1)) + x11_339)) ∧ (w32 ((w32 (8 * a1)) + x11_339)) < h_339 (h_339 a0 39) (-1)) (pt h_339 (h_339 a0 39) (w32 ((w32 (8 * a1)) + x11_339)) s0_426 fun h441 =>
  lt_ (w64 (x9_339 + s0_426)) fun x9_447 =>
  lt_ (w32 (x11_339 + 1)) fun x11_449 =>
  some (.inl (x9_447, x11_449, h441)))
noncomputable def m_X25_table_l339 (a0 a1 x2_269 v284 x5_333 x7_333 x9_339 x11_339 : Int) (h_339 : Hp) : Option ((Int × Int × Hp) ⊕ ((Int × Hp))) :=
  if x2_269 ≤ x11_339 then (some (.inr (x9_339, h_339)))
  else (if 0 < (lcmp_ x5_333 v284) then (if 0 < (lcmp_ x7_333 v284) then (gd (h_339 (h_339 a0 40) (-2) % 16 = 4 ∧ (0 : Int) ≤ x11_339 ∧ x11_339 < h_339 (h_339 a0 40) (-1)) (gd (x7_333 ≠ 0) (m_X25_table_j426 a0 a1 x9_339 x11_339 (w64 (Int.tdiv (w64 (v284 * (h_339 (h_339 a0 40) x11_339))) x7_333)) h_339)))
  else (gd (h_339 (h_339 a0 40) (-2) % 16 = 4 ∧ (0 : Int) ≤ x11_339 ∧ x11_339 < h_339 (h_339 a0 40) (-1)) (gd (h_339 (h_339 a0 41) (-2) % 16 = 4 ∧ (0 : Int) ≤ x11_339 ∧ x11_339 < h_339 (h_339 a0 41) (-1)) (gd ((w64 (x5_333 - x7_333)) ≠ 0) (m_X25_table_j426 a0 a1 x9_339 x11_339 (w64 ((h_339 (h_339 a0 40) x11_339) + (w64 (Int.tdiv (w64 ((w64 (v284 - x7_333)) * (w64 ((h_339 (h_339 a0 41) x11_339) - (h_339 (h_339 a0 40) x11_339))))) (w64 (x5_333 - x7_333)))))) h_339)))))
  else (gd (h_339 (h_339 a0 41) (-2) % 16 = 4 ∧ (0 : Int) ≤ x11_339 ∧ x11_339 < h_339 (h_339 a0 41) (-1)) (gd (x2_269 ≠ 0) (m_X25_table_j426 a0 a1 x9_339 x11_339 (w64 ((h_339 (h_339 a0 41) x11_339) + (w64 (Int.tdiv (w64 (v284 - x5_333)) x2_269)))) h_339))))
noncomputable def m_X25_table_l458 (a0 a1 x2_269 v284 x9_458 x11_458 : Int) (h_458 : Hp) : Option ((Int × Int × Hp) ⊕ ((Hp))) :=
  if x2_269 ≤ x11_458 then (some (.inr h_458))
  else (if 0 ≤ (lcmp_ x9_458 v284) then (some (.inr h_458))
  else (gd (h_458 (h_458 a0 39) (-2) % 16 = 4 ∧ (0 : Int) ≤ (w32 ((w32 (8 * a1)) + x11_458)) ∧ (w32 ((w32 (8 * a1)) + x11_458)) < h_458 (h_458 a0 39) (-1)) (pt h_458 (h_458 a0 39) (w32 ((w32 (8 * a1)) + x11_458)) (w64 ((h_458 (h_458 a0 39) (w32 ((w32 (8 * a1)) + x11_458))) + 1)) fun h486 =>
  lt_ (w64 (x9_458 + 1)) fun x9_491 =>
  lt_ (w32 (x11_458 + 1)) fun x11_493 =>
  some (.inl (x9_491, x11_493, h486)))))
noncomputable def m_X25_table_j659 (x11_502 : Int) (h_659 : Hp) : Option ((Int × Hp) ⊕ ((Hp))) :=
  lt_ (w32 (x11_502 + 1)) fun x11_659 =>
  some (.inl (x11_659, h_659))
noncomputable def m_X25_table_j636 (x14_566 a0 a1 x12_566 : Int) (h_636 : Hp) : Option ((Int × Int × Hp) ⊕ ((Hp))) :=
  gd (h_636 (h_636 a0 39) (-2) % 16 = 4 ∧ (0 : Int) ≤ (w32 ((w32 (8 * a1)) + x14_566)) ∧ (w32 ((w32 (8 * a1)) + x14_566)) < h_636 (h_636 a0 39) (-1)) (lt_ (w64 (x12_566 + (h_636 (h_636 a0 39) (w32 ((w32 (8 * a1)) + x14_566))))) fun x12_651 =>
  lt_ (w32 (x14_566 + 1)) fun x14_653 =>
  some (.inl (x12_651, x14_653, h_636)))
noncomputable def m_X25_table_l566 (a0 a1 x11_502 x12_566 x14_566 : Int) (h_566 : Hp) : Option ((Int × Int × Hp) ⊕ ((Hp))) :=
  gd (h_566 (h_566 a0 0) (-2) = 400) (gd (h_566 (h_566 (h_566 a0 0) 7) (-2) % 16 = 1 ∧ (0 : Int) ≤ x11_502 ∧ x11_502 < h_566 (h_566 (h_566 a0 0) 7) (-1)) (if (h_566 (h_566 (h_566 a0 0) 7) x11_502) ≤ x14_566 then (some (.inr h_566))
  else (gd (h_566 (h_566 a0 34) (-2) % 16 = 1 ∧ (0 : Int) ≤ (w32 ((w32 (8 * x11_502)) + x14_566)) ∧ (w32 ((w32 (8 * x11_502)) + x14_566)) < h_566 (h_566 a0 34) (-1)) (lt_ (h_566 (h_566 a0 34) (w32 ((w32 (8 * x11_502)) + x14_566))) fun x15_594 =>
  if x15_594 < 0 then (m_X25_table_j636 x14_566 a0 a1 x12_566 h_566)
  else (gd (h_566 (h_566 a0 39) (-2) % 16 = 4 ∧ (0 : Int) ≤ (w32 ((w32 (8 * a1)) + x14_566)) ∧ (w32 ((w32 (8 * a1)) + x14_566)) < h_566 (h_566 a0 39) (-1)) (gd (h_566 (h_566 a0 21) (-2) % 16 = 4 ∧ (0 : Int) ≤ x15_594 ∧ x15_594 < h_566 (h_566 a0 21) (-1)) (pt h_566 (h_566 a0 21) x15_594 (max_ 1000 (h_566 (h_566 a0 39) (w32 ((w32 (8 * a1)) + x14_566)))) fun h625 =>
  gd (h625 (h625 a0 14) (-2) % 16 = 1 ∧ (0 : Int) ≤ x15_594 ∧ x15_594 < h625 (h625 a0 14) (-1)) (pt h625 (h625 a0 14) x15_594 (w32 x12_566) fun h635 =>
  m_X25_table_j636 x14_566 a0 a1 x12_566 h635))))))))
noncomputable def m_X25_table_l502 (a0 a1 x11_502 : Int) (h_502 : Hp) : Option ((Int × Hp) ⊕ ((Hp))) :=
  gd (h_502 (h_502 a0 1) (-2) = 384) (if (h_502 (h_502 a0 1) 3) ≤ x11_502 then (some (.inr h_502))
  else (gd (h_502 (h_502 (h_502 a0 1) 11) (-2) % 16 = 1 ∧ (0 : Int) ≤ x11_502 ∧ x11_502 < h_502 (h_502 (h_502 a0 1) 11) (-1)) (if (h_502 (h_502 (h_502 a0 1) 11) x11_502) ≠ a1 then (m_X25_table_j659 x11_502 h_502)
  else (gd (h_502 (h_502 a0 0) (-2) = 400) (gd (h_502 (h_502 (h_502 a0 0) 14) (-2) % 16 = 3 ∧ (0 : Int) ≤ x11_502 ∧ x11_502 < h_502 (h_502 (h_502 a0 0) 14) (-1)) (if (h_502 (h_502 (h_502 a0 0) 14) x11_502) = 0 then (m_X25_table_j659 x11_502 h_502)
  else (gd (h_502 (h_502 a0 38) (-2) % 16 = 3 ∧ (0 : Int) ≤ x11_502 ∧ x11_502 < h_502 (h_502 a0 38) (-1)) (if (h_502 (h_502 a0 38) x11_502) ≠ 0 then (gd (h_502 (h_502 a0 36) (-2) % 16 = 1 ∧ (0 : Int) ≤ a1 ∧ a1 < h_502 (h_502 a0 36) (-1)) (lt_ (h_502 (h_502 a0 36) a1) fun x12_561 =>
  lt_ 0 fun x14_564 =>
  (lp (fun (q : Int × Int × Hp) => m_X25_table_l566 a0 a1 x11_502 q.1 q.2.1 q.2.2) (x12_561, x14_564, h_502)).bind (fun (y659 : Hp) => m_X25_table_j659 x11_502 y659)))
  else (m_X25_table_j659 x11_502 h_502)))))))))
noncomputable def m_X25_table (a0 a1 : Int) (h : Hp) : Option (Hp) :=
  (m_X25_leftOf a0 a1 h).bind fun v7 =>
  gd (h (h a0 36) (-2) % 16 = 1 ∧ (0 : Int) ≤ a1 ∧ a1 < h (h a0 36) (-1)) (pt h (h a0 36) a1 v7 fun h10 =>
  lt_ 0 fun x2_12 =>
  lt_ 0 fun x3_14 =>
  (lp (fun (q : Int × Hp) => m_X25_table_l15 a0 q.1 q.2) (x3_14, h10)).bind (fun (y45 : Hp) => lt_ 0 fun x3_46 =>
  (lp (fun (q : Int × Int × Hp) => m_X25_table_l47 a0 a1 q.1 q.2.1 q.2.2) (x2_12, x3_46, y45)).bind (fun (y269 : Int × Hp) => gd (y269.2 (y269.2 a0 37) (-2) % 16 = 1 ∧ (0 : Int) ≤ a1 ∧ a1 < y269.2 (y269.2 a0 37) (-1)) (pt y269.2 (y269.2 a0 37) a1 y269.1 fun h275 =>
  if y269.1 ≠ 0 then ((m_X25_widthOf a0 a1 0 h275).bind fun v284 =>
  lt_ 0 fun x5_289 =>
  lt_ 0 fun x7_292 =>
  lt_ 0 fun x9_295 =>
  (lp (fun (q : Int × Int × Int) => m_X25_table_l297 a0 y269.1 q.1 q.2.1 q.2.2 h275) (x5_289, x7_292, x9_295)).bind (fun (y333 : Int × Int) => lt_ 0 fun x9_334 =>
  lt_ 0 fun x11_337 =>
  (lp (fun (q : Int × Int × Hp) => m_X25_table_l339 a0 a1 y269.1 v284 y333.1 y333.2 q.1 q.2.1 q.2.2) (x9_334, x11_337, h275)).bind (fun (y455 : Int × Hp) => lt_ 0 fun x11_456 =>
  (lp (fun (q : Int × Int × Hp) => m_X25_table_l458 a0 a1 y269.1 v284 q.1 q.2.1 q.2.2) (y455.1, x11_456, y455.2)).bind (fun (y499 : Hp) => lt_ 0 fun x11_500 =>
  (lp (fun (q : Int × Hp) => m_X25_table_l502 a0 a1 q.1 q.2) (x11_500, y499)).bind (fun (x : Hp) => some x)))))
  else (some h275)))))
theorem s_X25_table {l : Launch} [NoTr l] {D : SD} {a0 a1 : Int} {h : Hp} (hk : h a0 (-2) = 416) (r1 : r32 a1) {r : Hp} (hm : m_X25_table a0 a1 h = some r) : Sim l D yX25_table (Cond.code yX25_table cX25_table 16 (Option.none : Option Jvm.ClassFile.FieldType)) 3 115 [rv D a0, iv a1] h 0 ((0, 0), r) := by
  refine Sim.of (fin := fun (v : Hp) => ((0, 0), v)) (lsE := [(0, rv D a0), (1, iv a1)]) hm rfl cwS_code (la_r (la_i la_n)) (ll_r (ll_i ll_n)) ?_
  intro p e s m below meth c X hcw hmm hcc hnm hname
  unfold m_X25_table
  refine g_aload_n (pc := 0) X (j := 0) (i := 0) (q := 0) (x := a0) rfl rfl (dl_at t_X25_table 0 rfl) ?_
  refine r_getr (pc := 1) X fX25_36 hk q3813 (dl_at t_X25_table 1 rfl) ?_
  refine g_iload_n (pc := 4) X (j := 1) (i := 1) (q := 1) (x := a1) rfl rfl (dl_at t_X25_table 2 rfl) ?_
  refine g_aload_n (pc := 5) X (j := 0) (i := 0) (q := 0) (x := a0) rfl rfl (dl_at t_X25_table 3 rfl) ?_
  refine g_iload_n (pc := 6) X (j := 1) (i := 1) (q := 1) (x := a1) rfl rfl (dl_at t_X25_table 4 rfl) ?_
  refine r_callRi (pc := 7) X (fun _ hv => s_X25_leftOf hk r1 hv) cw_code q4843 q379 (in_Vk X (As := [iv a1]) kX25 hk (Or.inl q4840) q4842 qs297 cw_code q4843 ⟨by decide, by decide⟩ rfl (dl_at t_X25_table 5 rfl)) (dl_at t_X25_table 5 rfl) (cat24 (st := [iv a1, rv D (h a0 36)]) (Nat.le_of_ble_eq_true rfl)) (Nat.le_of_ble_eq_true rfl) (Nat.le_of_ble_eq_true rfl) fun v7 g7 => ?_
  refine g_gd fun k10 => ?_
  refine r_iast (pc := 10) X r1 g7 k10 (dl_at t_X25_table 6 rfl) (fun h10 E10 => ?_)
  refine g_iconst (pc := 11) X (n := 0) (dl_at t_X25_table 7 rfl) ?_
  refine g_ltz (Or.inl rfl) fun x2_12 r2_12 => ?_
  refine g_istore_nN (pc := 12) X (j := 2) (i := 2) (x := x2_12) (b := 1) (w := iv a1) (rest := [(0, rv D a0)]) rfl (Nat.le_of_ble_eq_true rfl) [1, 0] rfl (by decide) rfl rfl (dl_at t_X25_table 8 rfl) ?_
  refine g_iconst (pc := 13) X (n := 0) (dl_at t_X25_table 9 rfl) ?_
  refine g_ltz (Or.inl rfl) fun x3_14 r3_14 => ?_
  refine g_istore_nN (pc := 14) X (j := 3) (i := 3) (x := x3_14) (b := 2) (w := iv x2_12) (rest := [(1, iv a1), (0, rv D a0)]) rfl (Nat.le_of_ble_eq_true rfl) [0, 1, 2] rfl (by decide) rfl rfl (dl_at t_X25_table 10 rfl) ?_
  refine g_ls (ls2 := [(0, rv D a0), (1, iv a1), (2, iv x2_12), (3, iv x3_14)]) [3, 2, 1, 0] rfl ?_
  refine g_loop1 (fun (q : Int × Hp) => [(0, rv D a0), (1, iv a1), (2, iv x2_12), (3, iv q.1)]) (fun (q : Int × Hp) => q.2) (fun (q : Int × Hp) => r32 q.1 ∧ Ext h10 q.2) 45 (fun (y45 : Hp) => [(0, rv D a0), (1, iv a1), (2, iv x2_12)]) (fun (y45 : Hp) => y45) (fun (y45 : Hp) => Ext h10 y45) (x3_14, h10) ⟨(r32_z r3_14), (Ext.refl _)⟩ ?_ ?_
  · rintro ⟨x3_15, h_15⟩ ⟨r3_15, E_15⟩
    try dsimp only
    unfold m_X25_table_l15
    refine g_iload_n (pc := 15) X (j := 3) (i := 3) (q := 3) (x := x3_15) rfl rfl (dl_at t_X25_table 11 rfl) ?_
    refine g_bipush (pc := 16) X (n := 8) rfl (dl_at t_X25_table 12 rfl) ?_
    refine g_icmpge (pc := 18) X r3_15 (r32_c rfl) (off := 27) (tgt := 45) rfl (dl_at t_X25_table 13 rfl) (fun _ => ?_) (fun _ => ?_)
    · refine g_ls (ls2 := [(0, rv D a0), (1, iv a1), (2, iv x2_12)]) [0, 1, 2] rfl ?_
      exact g_at fun Q hQ => hQ E_15
    refine g_aload_n (pc := 21) X (j := 0) (i := 0) (q := 0) (x := a0) rfl rfl (dl_at t_X25_table 14 rfl) ?_
    have k22 := kx (E10.trans E_15) (by decide) hk
    refine r_getr (pc := 22) X fX25_40 k22 q3818 (dl_at t_X25_table 15 rfl) ?_
    refine g_iload_n (pc := 25) X (j := 3) (i := 3) (q := 3) (x := x3_15) rfl rfl (dl_at t_X25_table 16 rfl) ?_
    refine g_ldc2 (pc := 26) X (index := 490) (n := 1000) q4849 (dl_at t_X25_table 17 rfl) ?_
    refine g_gd fun k29 => ?_
    refine r_last (pc := 29) X r3_15 (r64_c rfl) k29 (dl_at t_X25_table 18 rfl) (fun h29 E29 => ?_)
    refine g_aload_n (pc := 30) X (j := 0) (i := 0) (q := 0) (x := a0) rfl rfl (dl_at t_X25_table 19 rfl) ?_
    have k31 := kx E29 (by decide) k22
    refine r_getr (pc := 31) X fX25_41 k31 q3819 (dl_at t_X25_table 20 rfl) ?_
    refine g_iload_n (pc := 34) X (j := 3) (i := 3) (q := 3) (x := x3_15) rfl rfl (dl_at t_X25_table 21 rfl) ?_
    refine g_ldc2 (pc := 35) X (index := 490) (n := 1000) q4849 (dl_at t_X25_table 22 rfl) ?_
    refine g_gd fun k38 => ?_
    refine r_last (pc := 38) X r3_15 (r64_c rfl) k38 (dl_at t_X25_table 23 rfl) (fun h38 E38 => ?_)
    refine r_iincN (pc := 39) X (i := 3) (q := 3) (n := 1) (x := x3_15) (b := 2) (w := iv x2_12) (rest := [(0, rv D a0), (1, iv a1)]) rfl r3_15 (r32_c rfl) (Nat.le_of_ble_eq_true rfl) [2, 0, 1] rfl (by decide) rfl rfl (dl_at t_X25_table 24 rfl) fun x3_39 r3_39 => ?_
    refine g_goto (pc := 42) X (off := (-27)) (tgt := 15) rfl (dl_at t_X25_table 25 rfl) ?_
    refine g_ls (ls2 := [(0, rv D a0), (1, iv a1), (2, iv x2_12), (3, iv x3_39)]) [2, 3, 1, 0] rfl ?_
    exact g_at fun Q hQ => hQ ⟨r3_39, (E_15.trans (E29.trans E38))⟩
  · rintro h_45 E_45
    try dsimp only [sE]
    refine g_iconst (pc := 45) X (n := 0) (dl_at t_X25_table 26 rfl) ?_
    refine g_ltz (Or.inl rfl) fun x3_46 r3_46 => ?_
    refine g_istore_nN (pc := 46) X (j := 3) (i := 3) (x := x3_46) (b := 2) (w := iv x2_12) (rest := [(0, rv D a0), (1, iv a1)]) rfl (Nat.le_of_ble_eq_true rfl) [2, 0, 1] rfl (by decide) rfl rfl (dl_at t_X25_table 27 rfl) ?_
    refine g_ls (ls2 := [(0, rv D a0), (1, iv a1), (2, iv x2_12), (3, iv x3_46)]) [2, 3, 1, 0] rfl ?_
    refine g_loop1 (fun (q : Int × Int × Hp) => [(0, rv D a0), (1, iv a1), (2, iv q.1), (3, iv q.2.1)]) (fun (q : Int × Int × Hp) => q.2.2) (fun (q : Int × Int × Hp) => r32 q.1 ∧ r32 q.2.1 ∧ Ext h_45 q.2.2) 269 (fun (y269 : Int × Hp) => [(0, rv D a0), (1, iv a1), (2, iv y269.1)]) (fun (y269 : Int × Hp) => y269.2) (fun (y269 : Int × Hp) => r32 y269.1 ∧ Ext h_45 y269.2) (x2_12, x3_46, h_45) ⟨(r32_z r2_12), (r32_z r3_46), (Ext.refl _)⟩ ?_ ?_
    · rintro ⟨x2_47, x3_47, h_47⟩ ⟨r2_47, r3_47, E_47⟩
      try dsimp only
      unfold m_X25_table_l47
      refine g_iload_n (pc := 47) X (j := 3) (i := 3) (q := 3) (x := x3_47) rfl rfl (dl_at t_X25_table 28 rfl) ?_
      refine g_aload_n (pc := 48) X (j := 0) (i := 0) (q := 0) (x := a0) rfl rfl (dl_at t_X25_table 29 rfl) ?_
      have k49 := kx (E10.trans (E_45.trans E_47)) (by decide) hk
      refine r_getr (pc := 49) X fX25_1 k49 q3763 (dl_at t_X25_table 30 rfl) ?_
      refine g_gd fun k52 => ?_
      refine r_geti (pc := 52) X fX23_3 k52 q3526 (dl_at t_X25_table 31 rfl) fun g52 => ?_
      refine g_icmpge (pc := 55) X r3_47 g52 (off := 214) (tgt := 269) rfl (dl_at t_X25_table 32 rfl) (fun _ => ?_) (fun _ => ?_)
      · refine g_ls (ls2 := [(0, rv D a0), (1, iv a1), (2, iv x2_47)]) [0, 1, 2] rfl ?_
        exact g_at fun Q hQ => hQ ⟨r2_47, E_47⟩
      refine g_aload_n (pc := 58) X (j := 0) (i := 0) (q := 0) (x := a0) rfl rfl (dl_at t_X25_table 33 rfl) ?_
      refine r_getr (pc := 59) X fX25_1 k49 q3763 (dl_at t_X25_table 34 rfl) ?_
      refine r_getr (pc := 62) X fX23_11 k52 q3548 (dl_at t_X25_table 35 rfl) ?_
      refine g_iload_n (pc := 65) X (j := 3) (i := 3) (q := 3) (x := x3_47) rfl rfl (dl_at t_X25_table 36 rfl) ?_
      refine g_gd fun k66 => ?_
      refine g_iald (pc := 66) X r3_47 k66 (dl_at t_X25_table 37 rfl) fun g66 => ?_
      refine g_iload_n (pc := 67) X (j := 1) (i := 1) (q := 1) (x := a1) rfl rfl (dl_at t_X25_table 38 rfl) ?_
      refine g_join (γ := Int × Hp) (fun q => r32 q.1 ∧ Ext h_47 q.2) 263 (fun q => [(0, rv D a0), (1, iv a1), (2, iv q.1), (3, iv x3_47)]) (fun q => []) (fun q => q.2) (fun q => m_X25_table_j263 x3_47 q.1 q.2) ?_ ?_
      · rintro ⟨x2_263, h_263⟩ ⟨r2_263, E_263⟩
        try dsimp only
        unfold m_X25_table_j263
        refine r_iincN (pc := 263) X (i := 3) (q := 3) (n := 1) (x := x3_47) (b := 2) (w := iv x2_263) (rest := [(0, rv D a0), (1, iv a1)]) rfl r3_47 (r32_c rfl) (Nat.le_of_ble_eq_true rfl) [2, 0, 1] rfl (by decide) rfl rfl (dl_at t_X25_table 143 rfl) fun x3_263 r3_263 => ?_
        refine g_goto (pc := 266) X (off := (-219)) (tgt := 47) rfl (dl_at t_X25_table 144 rfl) ?_
        refine g_ls (ls2 := [(0, rv D a0), (1, iv a1), (2, iv x2_263), (3, iv x3_263)]) [2, 3, 1, 0] rfl ?_
        exact g_at fun Q hQ => hQ ⟨r2_263, r3_263, (E_47.trans E_263)⟩
      intro J263
      refine g_icmpne (pc := 68) X g66 r1 (off := 195) (tgt := 263) rfl (dl_at t_X25_table 39 rfl) (fun _ => ?_) (fun _ => ?_)
      · exact J263 (x2_47, h_47) ⟨r2_47, (Ext.refl _)⟩
      refine g_aload_n (pc := 71) X (j := 0) (i := 0) (q := 0) (x := a0) rfl rfl (dl_at t_X25_table 40 rfl) ?_
      refine r_getr (pc := 72) X fX25_0 k49 q3761 (dl_at t_X25_table 41 rfl) ?_
      refine g_gd fun k75 => ?_
      refine r_getr (pc := 75) X fX24_14 k75 q3675 (dl_at t_X25_table 42 rfl) ?_
      refine g_iload_n (pc := 78) X (j := 3) (i := 3) (q := 3) (x := x3_47) rfl rfl (dl_at t_X25_table 43 rfl) ?_
      refine g_gd fun k79 => ?_
      refine g_zald (pc := 79) X r3_47 k79 (dl_at t_X25_table 44 rfl) fun g79 => ?_
      refine g_ifeq (pc := 80) X (r32_z g79) (off := 183) (tgt := 263) rfl (dl_at t_X25_table 45 rfl) (fun _ => ?_) (fun _ => ?_)
      · exact J263 (x2_47, h_47) ⟨r2_47, (Ext.refl _)⟩
      refine g_aload_n (pc := 83) X (j := 0) (i := 0) (q := 0) (x := a0) rfl rfl (dl_at t_X25_table 46 rfl) ?_
      refine r_getr (pc := 84) X fX25_38 k49 q3816 (dl_at t_X25_table 47 rfl) ?_
      refine g_iload_n (pc := 87) X (j := 3) (i := 3) (q := 3) (x := x3_47) rfl rfl (dl_at t_X25_table 48 rfl) ?_
      refine g_gd fun k88 => ?_
      refine g_zald (pc := 88) X r3_47 k88 (dl_at t_X25_table 49 rfl) fun g88 => ?_
      refine g_ifne (pc := 89) X (r32_z g88) (off := 6) (tgt := 95) rfl (dl_at t_X25_table 50 rfl) (fun _ => ?_) (fun _ => ?_)
      · refine g_iload_n (pc := 95) X (j := 2) (i := 2) (q := 2) (x := x2_47) rfl rfl (dl_at t_X25_table 52 rfl) ?_
        refine g_aload_n (pc := 96) X (j := 0) (i := 0) (q := 0) (x := a0) rfl rfl (dl_at t_X25_table 53 rfl) ?_
        refine r_getr (pc := 97) X fX25_0 k49 q3761 (dl_at t_X25_table 54 rfl) ?_
        refine r_getr (pc := 100) X fX24_7 k75 q3659 (dl_at t_X25_table 55 rfl) ?_
        refine g_iload_n (pc := 103) X (j := 3) (i := 3) (q := 3) (x := x3_47) rfl rfl (dl_at t_X25_table 56 rfl) ?_
        refine g_gd fun k104 => ?_
        refine g_iald (pc := 104) X r3_47 k104 (dl_at t_X25_table 57 rfl) fun g104 => ?_
        refine g_mmax (pc := 105) X r2_47 g104 q4858 q4859 q398 q4860 (cat24 (st := []) (Nat.le_of_ble_eq_true rfl)) (Nat.le_of_ble_eq_true rfl) (Nat.le_of_ble_eq_true rfl) (dl_at t_X25_table 58 rfl) ?_
        refine g_lti (r32_max r2_47 g104) fun x2_108 r2_108 => ?_
        refine g_istore_nN (pc := 108) X (j := 2) (i := 2) (x := x2_108) (b := 1) (w := iv a1) (rest := [(0, rv D a0), (3, iv x3_47)]) rfl (Nat.le_of_ble_eq_true rfl) [1, 0, 3] rfl (by decide) rfl rfl (dl_at t_X25_table 59 rfl) ?_
        refine g_iconst (pc := 109) X (n := 0) (dl_at t_X25_table 60 rfl) ?_
        refine g_ltz (Or.inl rfl) fun x4_110 r4_110 => ?_
        refine g_istoreN (pc := 110) X (i := 4) (x := x4_110) (b := 3) (w := iv x3_47) (rest := [(2, iv x2_108), (1, iv a1), (0, rv D a0)]) (Nat.le_of_ble_eq_true rfl) [3, 0, 1, 2] rfl (by decide) rfl rfl (dl_at t_X25_table 61 rfl) ?_
        refine g_ls (ls2 := [(0, rv D a0), (1, iv a1), (2, iv x2_108), (3, iv x3_47), (4, iv x4_110)]) [4, 3, 2, 1, 0] rfl ?_
        refine g_loop1 (fun (q : Int × Hp) => [(0, rv D a0), (1, iv a1), (2, iv x2_108), (3, iv x3_47), (4, iv q.1)]) (fun (q : Int × Hp) => q.2) (fun (q : Int × Hp) => r32 q.1 ∧ Ext h_47 q.2) 263 (fun (y263 : Hp) => [(0, rv D a0), (1, iv a1), (2, iv x2_108), (3, iv x3_47)]) (fun (y263 : Hp) => y263) (fun (y263 : Hp) => Ext h_47 y263) (x4_110, h_47) ⟨(r32_z r4_110), (Ext.refl _)⟩ ?_ ?_
        · rintro ⟨x4_112, h_112⟩ ⟨r4_112, E_112⟩
          try dsimp only
          unfold m_X25_table_l112
          refine g_iload (pc := 112) X (i := 4) (q := 4) (x := x4_112) rfl (dl_at t_X25_table 62 rfl) ?_
          refine g_aload_n (pc := 114) X (j := 0) (i := 0) (q := 0) (x := a0) rfl rfl (dl_at t_X25_table 63 rfl) ?_
          have k115 := kx E_112 (by decide) k49
          refine r_getr (pc := 115) X fX25_0 k115 q3761 (dl_at t_X25_table 64 rfl) ?_
          refine g_gd fun k118 => ?_
          refine r_getr (pc := 118) X fX24_7 k118 q3659 (dl_at t_X25_table 65 rfl) ?_
          refine g_iload_n (pc := 121) X (j := 3) (i := 3) (q := 3) (x := x3_47) rfl rfl (dl_at t_X25_table 66 rfl) ?_
          refine g_gd fun k122 => ?_
          refine g_iald (pc := 122) X r3_47 k122 (dl_at t_X25_table 67 rfl) fun g122 => ?_
          refine g_icmpge (pc := 123) X r4_112 g122 (off := 140) (tgt := 263) rfl (dl_at t_X25_table 68 rfl) (fun _ => ?_) (fun _ => ?_)
          · refine g_ls (ls2 := [(0, rv D a0), (1, iv a1), (2, iv x2_108), (3, iv x3_47)]) [0, 1, 2, 3] rfl ?_
            exact g_at fun Q hQ => hQ E_112
          refine g_aload_n (pc := 126) X (j := 0) (i := 0) (q := 0) (x := a0) rfl rfl (dl_at t_X25_table 69 rfl) ?_
          refine r_getr (pc := 127) X fX25_34 k115 q3810 (dl_at t_X25_table 70 rfl) ?_
          refine g_bipush (pc := 130) X (n := 8) rfl (dl_at t_X25_table 71 rfl) ?_
          refine g_iload_n (pc := 132) X (j := 3) (i := 3) (q := 3) (x := x3_47) rfl rfl (dl_at t_X25_table 72 rfl) ?_
          refine g_imul (pc := 133) X (r32_c rfl) r3_47 (dl_at t_X25_table 73 rfl) ?_
          refine g_iload (pc := 134) X (i := 4) (q := 4) (x := x4_112) rfl (dl_at t_X25_table 74 rfl) ?_
          refine g_iadd (pc := 136) X (r32_w _) r4_112 (dl_at t_X25_table 75 rfl) ?_
          refine g_gd fun k137 => ?_
          refine g_iald (pc := 137) X (r32_w _) k137 (dl_at t_X25_table 76 rfl) fun g137 => ?_
          refine g_lti g137 fun x5_138 r5_138 => ?_
          refine g_istoreN (pc := 138) X (i := 5) (x := x5_138) (b := 4) (w := iv x4_112) (rest := [(0, rv D a0), (1, iv a1), (2, iv x2_108), (3, iv x3_47)]) (Nat.le_of_ble_eq_true rfl) [4, 0, 1, 2, 3] rfl (by decide) rfl rfl (dl_at t_X25_table 77 rfl) ?_
          refine g_iload (pc := 140) X (i := 5) (q := 0) (x := x5_138) rfl (dl_at t_X25_table 78 rfl) ?_
          refine g_join (γ := Hp) (fun q => Ext h_112 q) 257 (fun q => [(0, rv D a0), (1, iv a1), (2, iv x2_108), (3, iv x3_47), (4, iv x4_112)]) (fun q => []) (fun q => q) (fun q => m_X25_table_j257 x4_112 q) ?_ ?_
          · rintro h_257 E_257
            try dsimp only
            unfold m_X25_table_j257
            refine r_iincN (pc := 257) X (i := 4) (q := 4) (n := 1) (x := x4_112) (b := 3) (w := iv x3_47) (rest := [(0, rv D a0), (1, iv a1), (2, iv x2_108)]) rfl r4_112 (r32_c rfl) (Nat.le_of_ble_eq_true rfl) [3, 0, 1, 2] rfl (by decide) rfl rfl (dl_at t_X25_table 141 rfl) fun x4_257 r4_257 => ?_
            refine g_goto (pc := 260) X (off := (-148)) (tgt := 112) rfl (dl_at t_X25_table 142 rfl) ?_
            refine g_ls (ls2 := [(0, rv D a0), (1, iv a1), (2, iv x2_108), (3, iv x3_47), (4, iv x4_257)]) [2, 3, 4, 1, 0] rfl ?_
            exact g_at fun Q hQ => hQ ⟨r4_257, (E_112.trans E_257)⟩
          intro J257
          refine g_ifge (pc := 142) X r5_138 (off := 6) (tgt := 148) rfl (dl_at t_X25_table 79 rfl) (fun _ => ?_) (fun _ => ?_)
          · refine g_lconst0 (pc := 148) X (dl_at t_X25_table 81 rfl) ?_
            refine g_ltl (r64_c rfl) fun x6_149 r6_149 => ?_
            refine g_lstoreN (pc := 149) X (i := 6) (x := x6_149) (b := 5) (w := iv x5_138) (rest := [(4, iv x4_112), (0, rv D a0), (1, iv a1), (2, iv x2_108), (3, iv x3_47)]) (Nat.le_of_ble_eq_true rfl) [0, 1, 2, 3, 4, 5] rfl (by decide) (by decide) rfl rfl (dl_at t_X25_table 82 rfl) ?_
            refine g_aload_n (pc := 151) X (j := 0) (i := 0) (q := 3) (x := a0) rfl rfl (dl_at t_X25_table 83 rfl) ?_
            refine r_getr (pc := 152) X fX25_16 k115 q3785 (dl_at t_X25_table 84 rfl) ?_
            refine g_iload (pc := 155) X (i := 5) (q := 1) (x := x5_138) rfl (dl_at t_X25_table 85 rfl) ?_
            refine g_gd fun k157 => ?_
            refine g_iald (pc := 157) X r5_138 k157 (dl_at t_X25_table 86 rfl) fun g157 => ?_
            refine g_lti g157 fun x8_158 r8_158 => ?_
            refine g_istore (pc := 158) X (i := 8) (x := x8_158) (rest := [(6, jv x6_149), (5, iv x5_138), (4, iv x4_112), (0, rv D a0), (1, iv a1), (2, iv x2_108), (3, iv x3_47)]) (Nat.le_of_ble_eq_true rfl) [0, 1, 2, 3, 4, 5, 6] rfl rfl (dl_at t_X25_table 87 rfl) ?_
            refine g_ls (ls2 := [(0, rv D a0), (1, iv a1), (2, iv x2_108), (3, iv x3_47), (4, iv x4_112), (5, iv x5_138), (6, jv x6_149), (8, iv x8_158)]) [4, 5, 6, 7, 3, 2, 1, 0] rfl ?_
            refine g_loop1 (fun (q : Int × Int × Hp) => [(0, rv D a0), (1, iv a1), (2, iv x2_108), (3, iv x3_47), (4, iv x4_112), (5, iv x5_138), (6, jv q.1), (8, iv q.2.1)]) (fun (q : Int × Int × Hp) => q.2.2) (fun (q : Int × Int × Hp) => r64 q.1 ∧ r32 q.2.1 ∧ Ext h_112 q.2.2) 238 (fun (y238 : Int × Hp) => [(0, rv D a0), (1, iv a1), (2, iv x2_108), (3, iv x3_47), (4, iv x4_112), (6, jv y238.1)]) (fun (y238 : Int × Hp) => y238.2) (fun (y238 : Int × Hp) => r64 y238.1 ∧ Ext h_112 y238.2) (x6_149, x8_158, h_112) ⟨r6_149, r8_158, (Ext.refl _)⟩ ?_ ?_
            · rintro ⟨x6_160, x8_160, h_160⟩ ⟨r6_160, r8_160, E_160⟩
              try dsimp only
              unfold m_X25_table_l160
              refine g_iload (pc := 160) X (i := 8) (q := 7) (x := x8_160) rfl (dl_at t_X25_table 88 rfl) ?_
              refine g_aload_n (pc := 162) X (j := 0) (i := 0) (q := 0) (x := a0) rfl rfl (dl_at t_X25_table 89 rfl) ?_
              have k163 := kx E_160 (by decide) k115
              refine r_getr (pc := 163) X fX25_16 k163 q3785 (dl_at t_X25_table 90 rfl) ?_
              refine g_iload (pc := 166) X (i := 5) (q := 5) (x := x5_138) rfl (dl_at t_X25_table 91 rfl) ?_
              refine g_gd fun k168 => ?_
              refine g_iald (pc := 168) X r5_138 k168 (dl_at t_X25_table 92 rfl) fun g168 => ?_
              refine g_aload_n (pc := 169) X (j := 0) (i := 0) (q := 0) (x := a0) rfl rfl (dl_at t_X25_table 93 rfl) ?_
              refine r_getr (pc := 170) X fX25_15 k163 q3783 (dl_at t_X25_table 94 rfl) ?_
              refine g_iload (pc := 173) X (i := 5) (q := 5) (x := x5_138) rfl (dl_at t_X25_table 95 rfl) ?_
              refine g_gd fun k175 => ?_
              refine g_iald (pc := 175) X r5_138 k175 (dl_at t_X25_table 96 rfl) fun g175 => ?_
              refine g_iadd (pc := 176) X g168 g175 (dl_at t_X25_table 97 rfl) ?_
              refine g_icmpge (pc := 177) X r8_160 (r32_w _) (off := 61) (tgt := 238) rfl (dl_at t_X25_table 98 rfl) (fun _ => ?_) (fun _ => ?_)
              · refine g_ls (ls2 := [(0, rv D a0), (1, iv a1), (2, iv x2_108), (3, iv x3_47), (4, iv x4_112), (6, jv x6_160)]) [0, 1, 2, 3, 4, 6] rfl ?_
                exact g_at fun Q hQ => hQ ⟨r6_160, E_160⟩
              refine g_aload_n (pc := 180) X (j := 0) (i := 0) (q := 0) (x := a0) rfl rfl (dl_at t_X25_table 99 rfl) ?_
              refine r_getr (pc := 181) X fX25_40 k163 q3818 (dl_at t_X25_table 100 rfl) ?_
              refine g_iload (pc := 184) X (i := 4) (q := 4) (x := x4_112) rfl (dl_at t_X25_table 101 rfl) ?_
              refine g_aload_n (pc := 186) X (j := 0) (i := 0) (q := 0) (x := a0) rfl rfl (dl_at t_X25_table 102 rfl) ?_
              refine r_getr (pc := 187) X fX25_40 k163 q3818 (dl_at t_X25_table 103 rfl) ?_
              refine g_iload (pc := 190) X (i := 4) (q := 4) (x := x4_112) rfl (dl_at t_X25_table 104 rfl) ?_
              refine g_gd fun k192 => ?_
              refine g_lald (pc := 192) X r4_112 k192 (dl_at t_X25_table 105 rfl) fun g192 => ?_
              refine g_aload_n (pc := 193) X (j := 0) (i := 0) (q := 0) (x := a0) rfl rfl (dl_at t_X25_table 106 rfl) ?_
              refine r_getr (pc := 194) X fX25_25 k163 q3799 (dl_at t_X25_table 107 rfl) ?_
              refine g_iload (pc := 197) X (i := 8) (q := 7) (x := x8_160) rfl (dl_at t_X25_table 108 rfl) ?_
              refine g_gd fun k199 => ?_
              refine g_lald (pc := 199) X r8_160 k199 (dl_at t_X25_table 109 rfl) fun g199 => ?_
              refine g_aload_n (pc := 200) X (j := 0) (i := 0) (q := 0) (x := a0) rfl rfl (dl_at t_X25_table 110 rfl) ?_
              refine r_getr (pc := 201) X fX25_27 k163 q3801 (dl_at t_X25_table 111 rfl) ?_
              refine g_iload (pc := 204) X (i := 8) (q := 7) (x := x8_160) rfl (dl_at t_X25_table 112 rfl) ?_
              refine g_gd fun k206 => ?_
              refine g_lald (pc := 206) X r8_160 k206 (dl_at t_X25_table 113 rfl) fun g206 => ?_
              refine g_ladd (pc := 207) X g199 g206 (dl_at t_X25_table 114 rfl) ?_
              refine g_mmaxl (pc := 208) X g192 (r64_w _) q4943 q4944 q398 q4945 (cat24 (st := [iv x4_112, rv D (h_160 a0 40)]) (Nat.le_of_ble_eq_true rfl)) (Nat.le_of_ble_eq_true rfl) (Nat.le_of_ble_eq_true rfl) (dl_at t_X25_table 115 rfl) ?_
              refine r_last (pc := 211) X r4_112 (r64_max g192 (r64_w _)) k192 (dl_at t_X25_table 116 rfl) (fun h211 E211 => ?_)
              refine g_lload (pc := 212) X (i := 6) (q := 6) (x := x6_160) rfl (dl_at t_X25_table 117 rfl) ?_
              refine g_aload_n (pc := 214) X (j := 0) (i := 0) (q := 0) (x := a0) rfl rfl (dl_at t_X25_table 118 rfl) ?_
              have k215 := kx E211 (by decide) k163
              refine r_getr (pc := 215) X fX25_25 k215 q3799 (dl_at t_X25_table 119 rfl) ?_
              refine g_iload (pc := 218) X (i := 8) (q := 7) (x := x8_160) rfl (dl_at t_X25_table 120 rfl) ?_
              refine g_gd fun k220 => ?_
              refine g_lald (pc := 220) X r8_160 k220 (dl_at t_X25_table 121 rfl) fun g220 => ?_
              refine g_aload_n (pc := 221) X (j := 0) (i := 0) (q := 0) (x := a0) rfl rfl (dl_at t_X25_table 122 rfl) ?_
              refine r_getr (pc := 222) X fX25_26 k215 q3800 (dl_at t_X25_table 123 rfl) ?_
              refine g_iload (pc := 225) X (i := 8) (q := 7) (x := x8_160) rfl (dl_at t_X25_table 124 rfl) ?_
              refine g_gd fun k227 => ?_
              refine g_lald (pc := 227) X r8_160 k227 (dl_at t_X25_table 125 rfl) fun g227 => ?_
              refine g_ladd (pc := 228) X g220 g227 (dl_at t_X25_table 126 rfl) ?_
              refine g_ladd (pc := 229) X r6_160 (r64_w _) (dl_at t_X25_table 127 rfl) ?_
              refine g_ltl (r64_w _) fun x6_230 r6_230 => ?_
              refine g_lstoreN (pc := 230) X (i := 6) (x := x6_230) (b := 5) (w := iv x5_138) (rest := [(0, rv D a0), (1, iv a1), (2, iv x2_108), (3, iv x3_47), (4, iv x4_112), (8, iv x8_160)]) (Nat.le_of_ble_eq_true rfl) [5, 0, 1, 2, 3, 4, 7] rfl (by decide) (by decide) rfl rfl (dl_at t_X25_table 128 rfl) ?_
              refine r_iinc (pc := 232) X (i := 8) (q := 7) (n := 1) (x := x8_160) (rest := [(6, jv x6_230), (5, iv x5_138), (0, rv D a0), (1, iv a1), (2, iv x2_108), (3, iv x3_47), (4, iv x4_112)]) rfl r8_160 (r32_c rfl) (Nat.le_of_ble_eq_true rfl) [0, 1, 2, 3, 4, 5, 6] rfl rfl (dl_at t_X25_table 129 rfl) fun x8_232 r8_232 => ?_
              refine g_goto (pc := 235) X (off := (-75)) (tgt := 160) rfl (dl_at t_X25_table 130 rfl) ?_
              refine g_ls (ls2 := [(0, rv D a0), (1, iv a1), (2, iv x2_108), (3, iv x3_47), (4, iv x4_112), (5, iv x5_138), (6, jv x6_230), (8, iv x8_232)]) [3, 4, 5, 6, 7, 2, 1, 0] rfl ?_
              exact g_at fun Q hQ => hQ ⟨r6_230, r8_232, (E_160.trans E211)⟩
            · rintro ⟨x6_238, h_238⟩ ⟨r6_238, E_238⟩
              try dsimp only [sE]
              refine g_aload_n (pc := 238) X (j := 0) (i := 0) (q := 0) (x := a0) rfl rfl (dl_at t_X25_table 131 rfl) ?_
              have k239 := kx E_238 (by decide) k115
              refine r_getr (pc := 239) X fX25_41 k239 q3819 (dl_at t_X25_table 132 rfl) ?_
              refine g_iload (pc := 242) X (i := 4) (q := 4) (x := x4_112) rfl (dl_at t_X25_table 133 rfl) ?_
              refine g_aload_n (pc := 244) X (j := 0) (i := 0) (q := 0) (x := a0) rfl rfl (dl_at t_X25_table 134 rfl) ?_
              refine r_getr (pc := 245) X fX25_41 k239 q3819 (dl_at t_X25_table 135 rfl) ?_
              refine g_iload (pc := 248) X (i := 4) (q := 4) (x := x4_112) rfl (dl_at t_X25_table 136 rfl) ?_
              refine g_gd fun k250 => ?_
              refine g_lald (pc := 250) X r4_112 k250 (dl_at t_X25_table 137 rfl) fun g250 => ?_
              refine g_lload (pc := 251) X (i := 6) (q := 5) (x := x6_238) rfl (dl_at t_X25_table 138 rfl) ?_
              refine g_mmaxl (pc := 253) X g250 r6_238 q4943 q4944 q398 q4945 (cat24 (st := [iv x4_112, rv D (h_238 a0 41)]) (Nat.le_of_ble_eq_true rfl)) (Nat.le_of_ble_eq_true rfl) (Nat.le_of_ble_eq_true rfl) (dl_at t_X25_table 139 rfl) ?_
              refine r_last (pc := 256) X r4_112 (r64_max g250 r6_238) k250 (dl_at t_X25_table 140 rfl) (fun h256 E256 => ?_)
              refine g_ls (ls2 := [(0, rv D a0), (1, iv a1), (2, iv x2_108), (3, iv x3_47), (4, iv x4_112)]) [0, 1, 2, 3, 4] rfl ?_
              exact J257 h256 (E_238.trans E256)
          refine g_goto (pc := 145) X (off := 112) (tgt := 257) rfl (dl_at t_X25_table 80 rfl) ?_
          refine g_ls (ls2 := [(0, rv D a0), (1, iv a1), (2, iv x2_108), (3, iv x3_47), (4, iv x4_112)]) [2, 3, 4, 5, 1] rfl ?_
          exact J257 h_112 (Ext.refl _)
        · rintro h_263_1 E_263_1
          try dsimp only [sE]
          exact J263 (x2_108, h_263_1) ⟨r2_108, E_263_1⟩
      refine g_goto (pc := 92) X (off := 171) (tgt := 263) rfl (dl_at t_X25_table 51 rfl) ?_
      exact J263 (x2_47, h_47) ⟨r2_47, (Ext.refl _)⟩
    · rintro ⟨x2_269, h_269⟩ ⟨r2_269, E_269⟩
      try dsimp only [sE]
      refine g_aload_n (pc := 269) X (j := 0) (i := 0) (q := 0) (x := a0) rfl rfl (dl_at t_X25_table 145 rfl) ?_
      have k270 := kx (E10.trans (E_45.trans E_269)) (by decide) hk
      refine r_getr (pc := 270) X fX25_37 k270 q3815 (dl_at t_X25_table 146 rfl) ?_
      refine g_iload_n (pc := 273) X (j := 1) (i := 1) (q := 1) (x := a1) rfl rfl (dl_at t_X25_table 147 rfl) ?_
      refine g_iload_n (pc := 274) X (j := 2) (i := 2) (q := 2) (x := x2_269) rfl rfl (dl_at t_X25_table 148 rfl) ?_
      refine g_gd fun k275 => ?_
      refine r_iast (pc := 275) X r1 r2_269 k275 (dl_at t_X25_table 149 rfl) (fun h275 E275 => ?_)
      refine g_iload_n (pc := 276) X (j := 2) (i := 2) (q := 2) (x := x2_269) rfl rfl (dl_at t_X25_table 150 rfl) ?_
      refine g_ifne (pc := 277) X r2_269 (off := 4) (tgt := 281) rfl (dl_at t_X25_table 151 rfl) (fun _ => ?_) (fun _ => ?_)
      · refine g_aload_n (pc := 281) X (j := 0) (i := 0) (q := 0) (x := a0) rfl rfl (dl_at t_X25_table 153 rfl) ?_
        refine g_iload_n (pc := 282) X (j := 1) (i := 1) (q := 1) (x := a1) rfl rfl (dl_at t_X25_table 154 rfl) ?_
        refine g_iconst (pc := 283) X (n := 0) (dl_at t_X25_table 155 rfl) ?_
        have k284 := kx E275 (by decide) k270
        refine r_callRl (pc := 284) X (fun _ hv => s_X25_widthOf k284 r1 (r32_c rfl) hv) cw_code q4848 q379 (in_Vk X (As := [iv a1, iv 0]) kX25 k284 (Or.inl q4845) q4847 qs298 cw_code q4848 ⟨by decide, by decide⟩ rfl (dl_at t_X25_table 156 rfl)) (dl_at t_X25_table 156 rfl) (cat24 (st := []) (Nat.le_of_ble_eq_true rfl)) (Nat.le_of_ble_eq_true rfl) (Nat.le_of_ble_eq_true rfl) fun v284 g284 => ?_
        refine g_lstore_nN (pc := 287) X (j := 3) (i := 3) (x := v284) (b := 2) (w := iv x2_269) (rest := [(0, rv D a0), (1, iv a1)]) rfl (Nat.le_of_ble_eq_true rfl) [2, 0, 1] rfl (by decide) (by decide) rfl rfl (dl_at t_X25_table 157 rfl) ?_
        refine g_lconst0 (pc := 288) X (dl_at t_X25_table 158 rfl) ?_
        refine g_ltl (r64_c rfl) fun x5_289 r5_289 => ?_
        refine g_lstore (pc := 289) X (i := 5) (x := x5_289) (rest := [(3, jv v284), (2, iv x2_269), (0, rv D a0), (1, iv a1)]) (Nat.le_of_ble_eq_true rfl) [0, 1, 2, 3] rfl rfl (dl_at t_X25_table 159 rfl) ?_
        refine g_lconst0 (pc := 291) X (dl_at t_X25_table 160 rfl) ?_
        refine g_ltl (r64_c rfl) fun x7_292 r7_292 => ?_
        refine g_lstore (pc := 292) X (i := 7) (x := x7_292) (rest := [(5, jv x5_289), (3, jv v284), (2, iv x2_269), (0, rv D a0), (1, iv a1)]) (Nat.le_of_ble_eq_true rfl) [0, 1, 2, 3, 4] rfl rfl (dl_at t_X25_table 161 rfl) ?_
        refine g_iconst (pc := 294) X (n := 0) (dl_at t_X25_table 162 rfl) ?_
        refine g_ltz (Or.inl rfl) fun x9_295 r9_295 => ?_
        refine g_istore (pc := 295) X (i := 9) (x := x9_295) (rest := [(7, jv x7_292), (5, jv x5_289), (3, jv v284), (2, iv x2_269), (0, rv D a0), (1, iv a1)]) (Nat.le_of_ble_eq_true rfl) [0, 1, 2, 3, 4, 5] rfl rfl (dl_at t_X25_table 163 rfl) ?_
        refine g_ls (ls2 := [(0, rv D a0), (1, iv a1), (2, iv x2_269), (3, jv v284), (5, jv x5_289), (7, jv x7_292), (9, iv x9_295)]) [5, 6, 4, 3, 2, 1, 0] rfl ?_
        refine g_loop1 (fun (q : Int × Int × Int) => [(0, rv D a0), (1, iv a1), (2, iv x2_269), (3, jv v284), (5, jv q.1), (7, jv q.2.1), (9, iv q.2.2)]) (fun (q : Int × Int × Int) => h275) (fun (q : Int × Int × Int) => r64 q.1 ∧ r64 q.2.1 ∧ r32 q.2.2) 333 (fun (y333 : Int × Int) => [(0, rv D a0), (1, iv a1), (2, iv x2_269), (3, jv v284), (5, jv y333.1), (7, jv y333.2)]) (fun (y333 : Int × Int) => h275) (fun (y333 : Int × Int) => r64 y333.1 ∧ r64 y333.2) (x5_289, x7_292, x9_295) ⟨r5_289, r7_292, (r32_z r9_295)⟩ ?_ ?_
        · rintro ⟨x5_297, x7_297, x9_297⟩ ⟨r5_297, r7_297, r9_297⟩
          try dsimp only
          unfold m_X25_table_l297
          refine g_iload (pc := 297) X (i := 9) (q := 6) (x := x9_297) rfl (dl_at t_X25_table 164 rfl) ?_
          refine g_iload_n (pc := 299) X (j := 2) (i := 2) (q := 2) (x := x2_269) rfl rfl (dl_at t_X25_table 165 rfl) ?_
          refine g_icmpge (pc := 300) X r9_297 r2_269 (off := 33) (tgt := 333) rfl (dl_at t_X25_table 166 rfl) (fun _ => ?_) (fun _ => ?_)
          · refine g_ls (ls2 := [(0, rv D a0), (1, iv a1), (2, iv x2_269), (3, jv v284), (5, jv x5_297), (7, jv x7_297)]) [0, 1, 2, 3, 4, 5] rfl ?_
            exact g_at fun Q hQ => hQ ⟨r5_297, r7_297⟩
          refine g_lload (pc := 303) X (i := 5) (q := 4) (x := x5_297) rfl (dl_at t_X25_table 167 rfl) ?_
          refine g_aload_n (pc := 305) X (j := 0) (i := 0) (q := 0) (x := a0) rfl rfl (dl_at t_X25_table 168 rfl) ?_
          refine r_getr (pc := 306) X fX25_41 k284 q3819 (dl_at t_X25_table 169 rfl) ?_
          refine g_iload (pc := 309) X (i := 9) (q := 6) (x := x9_297) rfl (dl_at t_X25_table 170 rfl) ?_
          refine g_gd fun k311 => ?_
          refine g_lald (pc := 311) X r9_297 k311 (dl_at t_X25_table 171 rfl) fun g311 => ?_
          refine g_ladd (pc := 312) X r5_297 g311 (dl_at t_X25_table 172 rfl) ?_
          refine g_ltl (r64_w _) fun x5_313 r5_313 => ?_
          refine g_lstore (pc := 313) X (i := 5) (x := x5_313) (rest := [(0, rv D a0), (1, iv a1), (2, iv x2_269), (3, jv v284), (7, jv x7_297), (9, iv x9_297)]) (Nat.le_of_ble_eq_true rfl) [0, 1, 2, 3, 5, 6] rfl rfl (dl_at t_X25_table 173 rfl) ?_
          refine g_lload (pc := 315) X (i := 7) (q := 5) (x := x7_297) rfl (dl_at t_X25_table 174 rfl) ?_
          refine g_aload_n (pc := 317) X (j := 0) (i := 0) (q := 1) (x := a0) rfl rfl (dl_at t_X25_table 175 rfl) ?_
          refine r_getr (pc := 318) X fX25_40 k284 q3818 (dl_at t_X25_table 176 rfl) ?_
          refine g_iload (pc := 321) X (i := 9) (q := 6) (x := x9_297) rfl (dl_at t_X25_table 177 rfl) ?_
          refine g_gd fun k323 => ?_
          refine g_lald (pc := 323) X r9_297 k323 (dl_at t_X25_table 178 rfl) fun g323 => ?_
          refine g_ladd (pc := 324) X r7_297 g323 (dl_at t_X25_table 179 rfl) ?_
          refine g_ltl (r64_w _) fun x7_325 r7_325 => ?_
          refine g_lstore (pc := 325) X (i := 7) (x := x7_325) (rest := [(5, jv x5_313), (0, rv D a0), (1, iv a1), (2, iv x2_269), (3, jv v284), (9, iv x9_297)]) (Nat.le_of_ble_eq_true rfl) [0, 1, 2, 3, 4, 6] rfl rfl (dl_at t_X25_table 180 rfl) ?_
          refine r_iinc (pc := 327) X (i := 9) (q := 6) (n := 1) (x := x9_297) (rest := [(7, jv x7_325), (5, jv x5_313), (0, rv D a0), (1, iv a1), (2, iv x2_269), (3, jv v284)]) rfl r9_297 (r32_c rfl) (Nat.le_of_ble_eq_true rfl) [0, 1, 2, 3, 4, 5] rfl rfl (dl_at t_X25_table 181 rfl) fun x9_327 r9_327 => ?_
          refine g_goto (pc := 330) X (off := (-33)) (tgt := 297) rfl (dl_at t_X25_table 182 rfl) ?_
          refine g_ls (ls2 := [(0, rv D a0), (1, iv a1), (2, iv x2_269), (3, jv v284), (5, jv x5_313), (7, jv x7_325), (9, iv x9_327)]) [3, 4, 5, 6, 2, 1, 0] rfl ?_
          exact g_at fun Q hQ => hQ ⟨r5_313, r7_325, r9_327⟩
        · rintro ⟨x5_333, x7_333⟩ ⟨r5_333, r7_333⟩
          try dsimp only [sE]
          refine g_lconst0 (pc := 333) X (dl_at t_X25_table 183 rfl) ?_
          refine g_ltl (r64_c rfl) fun x9_334 r9_334 => ?_
          refine g_lstore (pc := 334) X (i := 9) (x := x9_334) (rest := [(0, rv D a0), (1, iv a1), (2, iv x2_269), (3, jv v284), (5, jv x5_333), (7, jv x7_333)]) (Nat.le_of_ble_eq_true rfl) [0, 1, 2, 3, 4, 5] rfl rfl (dl_at t_X25_table 184 rfl) ?_
          refine g_iconst (pc := 336) X (n := 0) (dl_at t_X25_table 185 rfl) ?_
          refine g_ltz (Or.inl rfl) fun x11_337 r11_337 => ?_
          refine g_istore (pc := 337) X (i := 11) (x := x11_337) (rest := [(9, jv x9_334), (0, rv D a0), (1, iv a1), (2, iv x2_269), (3, jv v284), (5, jv x5_333), (7, jv x7_333)]) (Nat.le_of_ble_eq_true rfl) [0, 1, 2, 3, 4, 5, 6] rfl rfl (dl_at t_X25_table 186 rfl) ?_
          refine g_ls (ls2 := [(0, rv D a0), (1, iv a1), (2, iv x2_269), (3, jv v284), (5, jv x5_333), (7, jv x7_333), (9, jv x9_334), (11, iv x11_337)]) [2, 3, 4, 5, 6, 7, 1, 0] rfl ?_
          refine g_loop1 (fun (q : Int × Int × Hp) => [(0, rv D a0), (1, iv a1), (2, iv x2_269), (3, jv v284), (5, jv x5_333), (7, jv x7_333), (9, jv q.1), (11, iv q.2.1)]) (fun (q : Int × Int × Hp) => q.2.2) (fun (q : Int × Int × Hp) => r64 q.1 ∧ r32 q.2.1 ∧ Ext h275 q.2.2) 455 (fun (y455 : Int × Hp) => [(0, rv D a0), (1, iv a1), (2, iv x2_269), (3, jv v284), (9, jv y455.1)]) (fun (y455 : Int × Hp) => y455.2) (fun (y455 : Int × Hp) => r64 y455.1 ∧ Ext h275 y455.2) (x9_334, x11_337, h275) ⟨r9_334, (r32_z r11_337), (Ext.refl _)⟩ ?_ ?_
          · rintro ⟨x9_339, x11_339, h_339⟩ ⟨r9_339, r11_339, E_339⟩
            try dsimp only
            unfold m_X25_table_l339
            refine g_iload (pc := 339) X (i := 11) (q := 7) (x := x11_339) rfl (dl_at t_X25_table 187 rfl) ?_
            refine g_iload_n (pc := 341) X (j := 2) (i := 2) (q := 2) (x := x2_269) rfl rfl (dl_at t_X25_table 188 rfl) ?_
            refine g_icmpge (pc := 342) X r11_339 r2_269 (off := 113) (tgt := 455) rfl (dl_at t_X25_table 189 rfl) (fun _ => ?_) (fun _ => ?_)
            · refine g_ls (ls2 := [(0, rv D a0), (1, iv a1), (2, iv x2_269), (3, jv v284), (9, jv x9_339)]) [0, 1, 2, 3, 6] rfl ?_
              exact g_at fun Q hQ => hQ ⟨r9_339, E_339⟩
            refine g_lload (pc := 345) X (i := 5) (q := 4) (x := x5_333) rfl (dl_at t_X25_table 190 rfl) ?_
            refine g_lload_n (pc := 347) X (j := 3) (i := 3) (q := 3) (x := v284) rfl rfl (dl_at t_X25_table 191 rfl) ?_
            refine g_lcmp (pc := 348) X r5_333 g284 (dl_at t_X25_table 192 rfl) ?_
            refine g_join (γ := Int) (fun q => r64 q) 426 (fun q => [(0, rv D a0), (1, iv a1), (2, iv x2_269), (3, jv v284), (5, jv x5_333), (7, jv x7_333), (9, jv x9_339), (11, iv x11_339)]) (fun q => [jv q]) (fun q => h_339) (fun q => m_X25_table_j426 a0 a1 x9_339 x11_339 q h_339) ?_ ?_
            · rintro s0_426 rs0_426
              try dsimp only
              unfold m_X25_table_j426
              refine g_lstoreN (pc := 426) X (i := 12) (x := s0_426) (b := 11) (w := iv x11_339) (rest := [(0, rv D a0), (1, iv a1), (2, iv x2_269), (3, jv v284), (5, jv x5_333), (7, jv x7_333), (9, jv x9_339)]) (Nat.le_of_ble_eq_true rfl) [7, 0, 1, 2, 3, 4, 5, 6] rfl (by decide) (by decide) rfl rfl (dl_at t_X25_table 241 rfl) ?_
              refine g_aload_n (pc := 428) X (j := 0) (i := 0) (q := 2) (x := a0) rfl rfl (dl_at t_X25_table 242 rfl) ?_
              have k429 := kx E_339 (by decide) k284
              refine r_getr (pc := 429) X fX25_39 k429 q3817 (dl_at t_X25_table 243 rfl) ?_
              refine g_bipush (pc := 432) X (n := 8) rfl (dl_at t_X25_table 244 rfl) ?_
              refine g_iload_n (pc := 434) X (j := 1) (i := 1) (q := 3) (x := a1) rfl rfl (dl_at t_X25_table 245 rfl) ?_
              refine g_imul (pc := 435) X (r32_c rfl) r1 (dl_at t_X25_table 246 rfl) ?_
              refine g_iload (pc := 436) X (i := 11) (q := 1) (x := x11_339) rfl (dl_at t_X25_table 247 rfl) ?_
              refine g_iadd (pc := 438) X (r32_w _) r11_339 (dl_at t_X25_table 248 rfl) ?_
              refine g_lload (pc := 439) X (i := 12) (q := 0) (x := s0_426) rfl (dl_at t_X25_table 249 rfl) ?_
              refine g_gd fun k441 => ?_
              refine r_last (pc := 441) X (r32_w _) rs0_426 k441 (dl_at t_X25_table 250 rfl) (fun h441 E441 => ?_)
              refine g_lload (pc := 442) X (i := 9) (q := 8) (x := x9_339) rfl (dl_at t_X25_table 251 rfl) ?_
              refine g_lload (pc := 444) X (i := 12) (q := 0) (x := s0_426) rfl (dl_at t_X25_table 252 rfl) ?_
              refine g_ladd (pc := 446) X r9_339 rs0_426 (dl_at t_X25_table 253 rfl) ?_
              refine g_ltl (r64_w _) fun x9_447 r9_447 => ?_
              refine g_lstore (pc := 447) X (i := 9) (x := x9_447) (rest := [(11, iv x11_339), (0, rv D a0), (1, iv a1), (2, iv x2_269), (3, jv v284), (5, jv x5_333), (7, jv x7_333)]) (Nat.le_of_ble_eq_true rfl) [1, 2, 3, 4, 5, 6, 7] rfl rfl (dl_at t_X25_table 254 rfl) ?_
              refine r_iinc (pc := 449) X (i := 11) (q := 1) (n := 1) (x := x11_339) (rest := [(9, jv x9_447), (0, rv D a0), (1, iv a1), (2, iv x2_269), (3, jv v284), (5, jv x5_333), (7, jv x7_333)]) rfl r11_339 (r32_c rfl) (Nat.le_of_ble_eq_true rfl) [0, 2, 3, 4, 5, 6, 7] rfl rfl (dl_at t_X25_table 255 rfl) fun x11_449 r11_449 => ?_
              refine g_goto (pc := 452) X (off := (-113)) (tgt := 339) rfl (dl_at t_X25_table 256 rfl) ?_
              refine g_ls (ls2 := [(0, rv D a0), (1, iv a1), (2, iv x2_269), (3, jv v284), (5, jv x5_333), (7, jv x7_333), (9, jv x9_447), (11, iv x11_449)]) [2, 3, 4, 5, 6, 7, 1, 0] rfl ?_
              exact g_at fun Q hQ => hQ ⟨r9_447, r11_449, (E_339.trans E441)⟩
            intro J426
            refine g_ifgt (pc := 349) X (r32_lcmp _ _) (off := 21) (tgt := 370) rfl (dl_at t_X25_table 193 rfl) (fun _ => ?_) (fun _ => ?_)
            · refine g_lload (pc := 370) X (i := 7) (q := 5) (x := x7_333) rfl (dl_at t_X25_table 206 rfl) ?_
              refine g_lload_n (pc := 372) X (j := 3) (i := 3) (q := 3) (x := v284) rfl rfl (dl_at t_X25_table 207 rfl) ?_
              refine g_lcmp (pc := 373) X r7_333 g284 (dl_at t_X25_table 208 rfl) ?_
              refine g_ifgt (pc := 374) X (r32_lcmp _ _) (off := 40) (tgt := 414) rfl (dl_at t_X25_table 209 rfl) (fun _ => ?_) (fun _ => ?_)
              · refine g_lload_n (pc := 414) X (j := 3) (i := 3) (q := 3) (x := v284) rfl rfl (dl_at t_X25_table 233 rfl) ?_
                refine g_aload_n (pc := 415) X (j := 0) (i := 0) (q := 0) (x := a0) rfl rfl (dl_at t_X25_table 234 rfl) ?_
                have k416 := kx E_339 (by decide) k284
                refine r_getr (pc := 416) X fX25_40 k416 q3818 (dl_at t_X25_table 235 rfl) ?_
                refine g_iload (pc := 419) X (i := 11) (q := 7) (x := x11_339) rfl (dl_at t_X25_table 236 rfl) ?_
                refine g_gd fun k421 => ?_
                refine g_lald (pc := 421) X r11_339 k421 (dl_at t_X25_table 237 rfl) fun g421 => ?_
                refine g_lmul (pc := 422) X g284 g421 (dl_at t_X25_table 238 rfl) ?_
                refine g_lload (pc := 423) X (i := 7) (q := 5) (x := x7_333) rfl (dl_at t_X25_table 239 rfl) ?_
                refine g_gd fun z425 => ?_
                refine g_ldiv (pc := 425) X (r64_w _) r7_333 z425 (dl_at t_X25_table 240 rfl) ?_
                exact J426 (w64 (Int.tdiv (w64 (v284 * (h_339 (h_339 a0 40) x11_339))) x7_333)) (r64_w _)
              refine g_aload_n (pc := 377) X (j := 0) (i := 0) (q := 0) (x := a0) rfl rfl (dl_at t_X25_table 210 rfl) ?_
              have k378 := kx E_339 (by decide) k284
              refine r_getr (pc := 378) X fX25_40 k378 q3818 (dl_at t_X25_table 211 rfl) ?_
              refine g_iload (pc := 381) X (i := 11) (q := 7) (x := x11_339) rfl (dl_at t_X25_table 212 rfl) ?_
              refine g_gd fun k383 => ?_
              refine g_lald (pc := 383) X r11_339 k383 (dl_at t_X25_table 213 rfl) fun g383 => ?_
              refine g_lload_n (pc := 384) X (j := 3) (i := 3) (q := 3) (x := v284) rfl rfl (dl_at t_X25_table 214 rfl) ?_
              refine g_lload (pc := 385) X (i := 7) (q := 5) (x := x7_333) rfl (dl_at t_X25_table 215 rfl) ?_
              refine g_lsub (pc := 387) X g284 r7_333 (dl_at t_X25_table 216 rfl) ?_
              refine g_aload_n (pc := 388) X (j := 0) (i := 0) (q := 0) (x := a0) rfl rfl (dl_at t_X25_table 217 rfl) ?_
              refine r_getr (pc := 389) X fX25_41 k378 q3819 (dl_at t_X25_table 218 rfl) ?_
              refine g_iload (pc := 392) X (i := 11) (q := 7) (x := x11_339) rfl (dl_at t_X25_table 219 rfl) ?_
              refine g_gd fun k394 => ?_
              refine g_lald (pc := 394) X r11_339 k394 (dl_at t_X25_table 220 rfl) fun g394 => ?_
              refine g_aload_n (pc := 395) X (j := 0) (i := 0) (q := 0) (x := a0) rfl rfl (dl_at t_X25_table 221 rfl) ?_
              refine r_getr (pc := 396) X fX25_40 k378 q3818 (dl_at t_X25_table 222 rfl) ?_
              refine g_iload (pc := 399) X (i := 11) (q := 7) (x := x11_339) rfl (dl_at t_X25_table 223 rfl) ?_
              refine g_lald (pc := 401) X r11_339 k383 (dl_at t_X25_table 224 rfl) fun g401 => ?_
              refine g_lsub (pc := 402) X g394 g401 (dl_at t_X25_table 225 rfl) ?_
              refine g_lmul (pc := 403) X (r64_w _) (r64_w _) (dl_at t_X25_table 226 rfl) ?_
              refine g_lload (pc := 404) X (i := 5) (q := 4) (x := x5_333) rfl (dl_at t_X25_table 227 rfl) ?_
              refine g_lload (pc := 406) X (i := 7) (q := 5) (x := x7_333) rfl (dl_at t_X25_table 228 rfl) ?_
              refine g_lsub (pc := 408) X r5_333 r7_333 (dl_at t_X25_table 229 rfl) ?_
              refine g_gd fun z409 => ?_
              refine g_ldiv (pc := 409) X (r64_w _) (r64_w _) z409 (dl_at t_X25_table 230 rfl) ?_
              refine g_ladd (pc := 410) X g383 (r64_w _) (dl_at t_X25_table 231 rfl) ?_
              refine g_goto (pc := 411) X (off := 15) (tgt := 426) rfl (dl_at t_X25_table 232 rfl) ?_
              exact J426 (w64 ((h_339 (h_339 a0 40) x11_339) + (w64 (Int.tdiv (w64 ((w64 (v284 - x7_333)) * (w64 ((h_339 (h_339 a0 41) x11_339) - (h_339 (h_339 a0 40) x11_339))))) (w64 (x5_333 - x7_333)))))) (r64_w _)
            refine g_aload_n (pc := 352) X (j := 0) (i := 0) (q := 0) (x := a0) rfl rfl (dl_at t_X25_table 194 rfl) ?_
            have k353 := kx E_339 (by decide) k284
            refine r_getr (pc := 353) X fX25_41 k353 q3819 (dl_at t_X25_table 195 rfl) ?_
            refine g_iload (pc := 356) X (i := 11) (q := 7) (x := x11_339) rfl (dl_at t_X25_table 196 rfl) ?_
            refine g_gd fun k358 => ?_
            refine g_lald (pc := 358) X r11_339 k358 (dl_at t_X25_table 197 rfl) fun g358 => ?_
            refine g_lload_n (pc := 359) X (j := 3) (i := 3) (q := 3) (x := v284) rfl rfl (dl_at t_X25_table 198 rfl) ?_
            refine g_lload (pc := 360) X (i := 5) (q := 4) (x := x5_333) rfl (dl_at t_X25_table 199 rfl) ?_
            refine g_lsub (pc := 362) X g284 r5_333 (dl_at t_X25_table 200 rfl) ?_
            refine g_iload_n (pc := 363) X (j := 2) (i := 2) (q := 2) (x := x2_269) rfl rfl (dl_at t_X25_table 201 rfl) ?_
            refine g_i2l (pc := 364) X r2_269 (dl_at t_X25_table 202 rfl) ?_
            refine g_gd fun z365 => ?_
            refine g_ldiv (pc := 365) X (r64_w _) (r64_of r2_269) z365 (dl_at t_X25_table 203 rfl) ?_
            refine g_ladd (pc := 366) X g358 (r64_w _) (dl_at t_X25_table 204 rfl) ?_
            refine g_goto (pc := 367) X (off := 59) (tgt := 426) rfl (dl_at t_X25_table 205 rfl) ?_
            exact J426 (w64 ((h_339 (h_339 a0 41) x11_339) + (w64 (Int.tdiv (w64 (v284 - x5_333)) x2_269)))) (r64_w _)
          · rintro ⟨x9_455, h_455⟩ ⟨r9_455, E_455⟩
            try dsimp only [sE]
            refine g_iconst (pc := 455) X (n := 0) (dl_at t_X25_table 257 rfl) ?_
            refine g_ltz (Or.inl rfl) fun x11_456 r11_456 => ?_
            refine g_istore (pc := 456) X (i := 11) (x := x11_456) (rest := [(0, rv D a0), (1, iv a1), (2, iv x2_269), (3, jv v284), (9, jv x9_455)]) (Nat.le_of_ble_eq_true rfl) [0, 1, 2, 3, 4] rfl rfl (dl_at t_X25_table 258 rfl) ?_
            refine g_ls (ls2 := [(0, rv D a0), (1, iv a1), (2, iv x2_269), (3, jv v284), (9, jv x9_455), (11, iv x11_456)]) [1, 2, 3, 4, 5, 0] rfl ?_
            refine g_loop1 (fun (q : Int × Int × Hp) => [(0, rv D a0), (1, iv a1), (2, iv x2_269), (3, jv v284), (9, jv q.1), (11, iv q.2.1)]) (fun (q : Int × Int × Hp) => q.2.2) (fun (q : Int × Int × Hp) => r64 q.1 ∧ r32 q.2.1 ∧ Ext h_455 q.2.2) 499 (fun (y499 : Hp) => [(0, rv D a0), (1, iv a1)]) (fun (y499 : Hp) => y499) (fun (y499 : Hp) => Ext h_455 y499) (x9_455, x11_456, h_455) ⟨r9_455, (r32_z r11_456), (Ext.refl _)⟩ ?_ ?_
            · rintro ⟨x9_458, x11_458, h_458⟩ ⟨r9_458, r11_458, E_458⟩
              try dsimp only
              unfold m_X25_table_l458
              refine g_iload (pc := 458) X (i := 11) (q := 5) (x := x11_458) rfl (dl_at t_X25_table 259 rfl) ?_
              refine g_iload_n (pc := 460) X (j := 2) (i := 2) (q := 2) (x := x2_269) rfl rfl (dl_at t_X25_table 260 rfl) ?_
              refine g_icmpge (pc := 461) X r11_458 r2_269 (off := 38) (tgt := 499) rfl (dl_at t_X25_table 261 rfl) (fun _ => ?_) (fun _ => ?_)
              · refine g_ls (ls2 := [(0, rv D a0), (1, iv a1)]) [0, 1] rfl ?_
                exact g_at fun Q hQ => hQ E_458
              refine g_lload (pc := 464) X (i := 9) (q := 4) (x := x9_458) rfl (dl_at t_X25_table 262 rfl) ?_
              refine g_lload_n (pc := 466) X (j := 3) (i := 3) (q := 3) (x := v284) rfl rfl (dl_at t_X25_table 263 rfl) ?_
              refine g_lcmp (pc := 467) X r9_458 g284 (dl_at t_X25_table 264 rfl) ?_
              refine g_ifge (pc := 468) X (r32_lcmp _ _) (off := 31) (tgt := 499) rfl (dl_at t_X25_table 265 rfl) (fun _ => ?_) (fun _ => ?_)
              · refine g_ls (ls2 := [(0, rv D a0), (1, iv a1)]) [0, 1] rfl ?_
                exact g_at fun Q hQ => hQ E_458
              refine g_aload_n (pc := 471) X (j := 0) (i := 0) (q := 0) (x := a0) rfl rfl (dl_at t_X25_table 266 rfl) ?_
              have k472 := kx (E_455.trans E_458) (by decide) k284
              refine r_getr (pc := 472) X fX25_39 k472 q3817 (dl_at t_X25_table 267 rfl) ?_
              refine g_bipush (pc := 475) X (n := 8) rfl (dl_at t_X25_table 268 rfl) ?_
              refine g_iload_n (pc := 477) X (j := 1) (i := 1) (q := 1) (x := a1) rfl rfl (dl_at t_X25_table 269 rfl) ?_
              refine g_imul (pc := 478) X (r32_c rfl) r1 (dl_at t_X25_table 270 rfl) ?_
              refine g_iload (pc := 479) X (i := 11) (q := 5) (x := x11_458) rfl (dl_at t_X25_table 271 rfl) ?_
              refine g_iadd (pc := 481) X (r32_w _) r11_458 (dl_at t_X25_table 272 rfl) ?_
              refine g_dup2 (pc := 482) X rfl rv_cat (dl_at t_X25_table 273 rfl) ?_
              refine g_gd fun k483 => ?_
              refine g_lald (pc := 483) X (r32_w _) k483 (dl_at t_X25_table 274 rfl) fun g483 => ?_
              refine g_lconst1 (pc := 484) X (dl_at t_X25_table 275 rfl) ?_
              refine g_ladd (pc := 485) X g483 (r64_c rfl) (dl_at t_X25_table 276 rfl) ?_
              refine r_last (pc := 486) X (r32_w _) (r64_w _) k483 (dl_at t_X25_table 277 rfl) (fun h486 E486 => ?_)
              refine g_lload (pc := 487) X (i := 9) (q := 4) (x := x9_458) rfl (dl_at t_X25_table 278 rfl) ?_
              refine g_lconst1 (pc := 489) X (dl_at t_X25_table 279 rfl) ?_
              refine g_ladd (pc := 490) X r9_458 (r64_c rfl) (dl_at t_X25_table 280 rfl) ?_
              refine g_ltl (r64_w _) fun x9_491 r9_491 => ?_
              refine g_lstore (pc := 491) X (i := 9) (x := x9_491) (rest := [(0, rv D a0), (1, iv a1), (2, iv x2_269), (3, jv v284), (11, iv x11_458)]) (Nat.le_of_ble_eq_true rfl) [0, 1, 2, 3, 5] rfl rfl (dl_at t_X25_table 281 rfl) ?_
              refine r_iinc (pc := 493) X (i := 11) (q := 5) (n := 1) (x := x11_458) (rest := [(9, jv x9_491), (0, rv D a0), (1, iv a1), (2, iv x2_269), (3, jv v284)]) rfl r11_458 (r32_c rfl) (Nat.le_of_ble_eq_true rfl) [0, 1, 2, 3, 4] rfl rfl (dl_at t_X25_table 282 rfl) fun x11_493 r11_493 => ?_
              refine g_goto (pc := 496) X (off := (-38)) (tgt := 458) rfl (dl_at t_X25_table 283 rfl) ?_
              refine g_ls (ls2 := [(0, rv D a0), (1, iv a1), (2, iv x2_269), (3, jv v284), (9, jv x9_491), (11, iv x11_493)]) [2, 3, 4, 5, 1, 0] rfl ?_
              exact g_at fun Q hQ => hQ ⟨r9_491, r11_493, (E_458.trans E486)⟩
            · rintro h_499 E_499
              try dsimp only [sE]
              refine g_iconst (pc := 499) X (n := 0) (dl_at t_X25_table 284 rfl) ?_
              refine g_ltz (Or.inl rfl) fun x11_500 r11_500 => ?_
              refine g_istore (pc := 500) X (i := 11) (x := x11_500) (rest := [(0, rv D a0), (1, iv a1)]) (Nat.le_of_ble_eq_true rfl) [0, 1] rfl rfl (dl_at t_X25_table 285 rfl) ?_
              refine g_ls (ls2 := [(0, rv D a0), (1, iv a1), (11, iv x11_500)]) [1, 2, 0] rfl ?_
              refine g_loop0F (fun (q : Int × Hp) => [(0, rv D a0), (1, iv a1), (11, iv q.1)]) (fun (q : Int × Hp) => q.2) (fun (q : Int × Hp) => r32 q.1 ∧ Ext h_499 q.2) (x11_500, h_499) ⟨(r32_z r11_500), (Ext.refl _)⟩ ?_ (fun _ => rfl)
              · rintro ⟨x11_502, h_502⟩ ⟨r11_502, E_502⟩
                try dsimp only
                unfold m_X25_table_l502
                refine g_iload (pc := 502) X (i := 11) (q := 2) (x := x11_502) rfl (dl_at t_X25_table 286 rfl) ?_
                refine g_aload_n (pc := 504) X (j := 0) (i := 0) (q := 0) (x := a0) rfl rfl (dl_at t_X25_table 287 rfl) ?_
                have k505 := kx (E_455.trans (E_499.trans E_502)) (by decide) k284
                refine r_getr (pc := 505) X fX25_1 k505 q3763 (dl_at t_X25_table 288 rfl) ?_
                refine g_gd fun k508 => ?_
                refine r_geti (pc := 508) X fX23_3 k508 q3526 (dl_at t_X25_table 289 rfl) fun g508 => ?_
                refine g_icmpge (pc := 511) X r11_502 g508 (off := 154) (tgt := 665) rfl (dl_at t_X25_table 290 rfl) (fun _ => ?_) (fun _ => ?_)
                · exact g_at fun Q hQ => (g_vret (pc := 665) X (v := 0) rfl rfl (dl_at t_X25_table 371 rfl)) _ Q rfl hQ
                refine g_aload_n (pc := 514) X (j := 0) (i := 0) (q := 0) (x := a0) rfl rfl (dl_at t_X25_table 291 rfl) ?_
                refine r_getr (pc := 515) X fX25_1 k505 q3763 (dl_at t_X25_table 292 rfl) ?_
                refine r_getr (pc := 518) X fX23_11 k508 q3548 (dl_at t_X25_table 293 rfl) ?_
                refine g_iload (pc := 521) X (i := 11) (q := 2) (x := x11_502) rfl (dl_at t_X25_table 294 rfl) ?_
                refine g_gd fun k523 => ?_
                refine g_iald (pc := 523) X r11_502 k523 (dl_at t_X25_table 295 rfl) fun g523 => ?_
                refine g_iload_n (pc := 524) X (j := 1) (i := 1) (q := 1) (x := a1) rfl rfl (dl_at t_X25_table 296 rfl) ?_
                refine g_join (γ := Hp) (fun q => Ext h_502 q) 659 (fun q => [(0, rv D a0), (1, iv a1), (11, iv x11_502)]) (fun q => []) (fun q => q) (fun q => m_X25_table_j659 x11_502 q) ?_ ?_
                · rintro h_659 E_659
                  try dsimp only
                  unfold m_X25_table_j659
                  refine r_iinc (pc := 659) X (i := 11) (q := 2) (n := 1) (x := x11_502) (rest := [(0, rv D a0), (1, iv a1)]) rfl r11_502 (r32_c rfl) (Nat.le_of_ble_eq_true rfl) [0, 1] rfl rfl (dl_at t_X25_table 369 rfl) fun x11_659 r11_659 => ?_
                  refine g_goto (pc := 662) X (off := (-160)) (tgt := 502) rfl (dl_at t_X25_table 370 rfl) ?_
                  refine g_ls (ls2 := [(0, rv D a0), (1, iv a1), (11, iv x11_659)]) [1, 2, 0] rfl ?_
                  exact g_at fun Q hQ => hQ ⟨r11_659, (E_502.trans E_659)⟩
                intro J659
                refine g_icmpne (pc := 525) X g523 r1 (off := 134) (tgt := 659) rfl (dl_at t_X25_table 297 rfl) (fun _ => ?_) (fun _ => ?_)
                · exact J659 h_502 (Ext.refl _)
                refine g_aload_n (pc := 528) X (j := 0) (i := 0) (q := 0) (x := a0) rfl rfl (dl_at t_X25_table 298 rfl) ?_
                refine r_getr (pc := 529) X fX25_0 k505 q3761 (dl_at t_X25_table 299 rfl) ?_
                refine g_gd fun k532 => ?_
                refine r_getr (pc := 532) X fX24_14 k532 q3675 (dl_at t_X25_table 300 rfl) ?_
                refine g_iload (pc := 535) X (i := 11) (q := 2) (x := x11_502) rfl (dl_at t_X25_table 301 rfl) ?_
                refine g_gd fun k537 => ?_
                refine g_zald (pc := 537) X r11_502 k537 (dl_at t_X25_table 302 rfl) fun g537 => ?_
                refine g_ifeq (pc := 538) X (r32_z g537) (off := 121) (tgt := 659) rfl (dl_at t_X25_table 303 rfl) (fun _ => ?_) (fun _ => ?_)
                · exact J659 h_502 (Ext.refl _)
                refine g_aload_n (pc := 541) X (j := 0) (i := 0) (q := 0) (x := a0) rfl rfl (dl_at t_X25_table 304 rfl) ?_
                refine r_getr (pc := 542) X fX25_38 k505 q3816 (dl_at t_X25_table 305 rfl) ?_
                refine g_iload (pc := 545) X (i := 11) (q := 2) (x := x11_502) rfl (dl_at t_X25_table 306 rfl) ?_
                refine g_gd fun k547 => ?_
                refine g_zald (pc := 547) X r11_502 k547 (dl_at t_X25_table 307 rfl) fun g547 => ?_
                refine g_ifne (pc := 548) X (r32_z g547) (off := 6) (tgt := 554) rfl (dl_at t_X25_table 308 rfl) (fun _ => ?_) (fun _ => ?_)
                · refine g_aload_n (pc := 554) X (j := 0) (i := 0) (q := 0) (x := a0) rfl rfl (dl_at t_X25_table 310 rfl) ?_
                  refine r_getr (pc := 555) X fX25_36 k505 q3813 (dl_at t_X25_table 311 rfl) ?_
                  refine g_iload_n (pc := 558) X (j := 1) (i := 1) (q := 1) (x := a1) rfl rfl (dl_at t_X25_table 312 rfl) ?_
                  refine g_gd fun k559 => ?_
                  refine g_iald (pc := 559) X r1 k559 (dl_at t_X25_table 313 rfl) fun g559 => ?_
                  refine g_i2l (pc := 560) X g559 (dl_at t_X25_table 314 rfl) ?_
                  refine g_ltl (r64_of g559) fun x12_561 r12_561 => ?_
                  refine g_lstoreN (pc := 561) X (i := 12) (x := x12_561) (b := 11) (w := iv x11_502) (rest := [(0, rv D a0), (1, iv a1)]) (Nat.le_of_ble_eq_true rfl) [2, 0, 1] rfl (by decide) (by decide) rfl rfl (dl_at t_X25_table 315 rfl) ?_
                  refine g_iconst (pc := 563) X (n := 0) (dl_at t_X25_table 316 rfl) ?_
                  refine g_ltz (Or.inl rfl) fun x14_564 r14_564 => ?_
                  refine g_istore (pc := 564) X (i := 14) (x := x14_564) (rest := [(12, jv x12_561), (11, iv x11_502), (0, rv D a0), (1, iv a1)]) (Nat.le_of_ble_eq_true rfl) [0, 1, 2, 3] rfl rfl (dl_at t_X25_table 317 rfl) ?_
                  refine g_ls (ls2 := [(0, rv D a0), (1, iv a1), (11, iv x11_502), (12, jv x12_561), (14, iv x14_564)]) [3, 4, 2, 1, 0] rfl ?_
                  refine g_loop1 (fun (q : Int × Int × Hp) => [(0, rv D a0), (1, iv a1), (11, iv x11_502), (12, jv q.1), (14, iv q.2.1)]) (fun (q : Int × Int × Hp) => q.2.2) (fun (q : Int × Int × Hp) => r64 q.1 ∧ r32 q.2.1 ∧ Ext h_502 q.2.2) 659 (fun (y659 : Hp) => [(0, rv D a0), (1, iv a1), (11, iv x11_502)]) (fun (y659 : Hp) => y659) (fun (y659 : Hp) => Ext h_502 y659) (x12_561, x14_564, h_502) ⟨r12_561, (r32_z r14_564), (Ext.refl _)⟩ ?_ ?_
                  · rintro ⟨x12_566, x14_566, h_566⟩ ⟨r12_566, r14_566, E_566⟩
                    try dsimp only
                    unfold m_X25_table_l566
                    refine g_iload (pc := 566) X (i := 14) (q := 4) (x := x14_566) rfl (dl_at t_X25_table 318 rfl) ?_
                    refine g_aload_n (pc := 568) X (j := 0) (i := 0) (q := 0) (x := a0) rfl rfl (dl_at t_X25_table 319 rfl) ?_
                    have k569 := kx E_566 (by decide) k505
                    refine r_getr (pc := 569) X fX25_0 k569 q3761 (dl_at t_X25_table 320 rfl) ?_
                    refine g_gd fun k572 => ?_
                    refine r_getr (pc := 572) X fX24_7 k572 q3659 (dl_at t_X25_table 321 rfl) ?_
                    refine g_iload (pc := 575) X (i := 11) (q := 2) (x := x11_502) rfl (dl_at t_X25_table 322 rfl) ?_
                    refine g_gd fun k577 => ?_
                    refine g_iald (pc := 577) X r11_502 k577 (dl_at t_X25_table 323 rfl) fun g577 => ?_
                    refine g_icmpge (pc := 578) X r14_566 g577 (off := 81) (tgt := 659) rfl (dl_at t_X25_table 324 rfl) (fun _ => ?_) (fun _ => ?_)
                    · refine g_ls (ls2 := [(0, rv D a0), (1, iv a1), (11, iv x11_502)]) [0, 1, 2] rfl ?_
                      exact g_at fun Q hQ => hQ E_566
                    refine g_aload_n (pc := 581) X (j := 0) (i := 0) (q := 0) (x := a0) rfl rfl (dl_at t_X25_table 325 rfl) ?_
                    refine r_getr (pc := 582) X fX25_34 k569 q3810 (dl_at t_X25_table 326 rfl) ?_
                    refine g_bipush (pc := 585) X (n := 8) rfl (dl_at t_X25_table 327 rfl) ?_
                    refine g_iload (pc := 587) X (i := 11) (q := 2) (x := x11_502) rfl (dl_at t_X25_table 328 rfl) ?_
                    refine g_imul (pc := 589) X (r32_c rfl) r11_502 (dl_at t_X25_table 329 rfl) ?_
                    refine g_iload (pc := 590) X (i := 14) (q := 4) (x := x14_566) rfl (dl_at t_X25_table 330 rfl) ?_
                    refine g_iadd (pc := 592) X (r32_w _) r14_566 (dl_at t_X25_table 331 rfl) ?_
                    refine g_gd fun k593 => ?_
                    refine g_iald (pc := 593) X (r32_w _) k593 (dl_at t_X25_table 332 rfl) fun g593 => ?_
                    refine g_lti g593 fun x15_594 r15_594 => ?_
                    refine g_istoreN (pc := 594) X (i := 15) (x := x15_594) (b := 14) (w := iv x14_566) (rest := [(0, rv D a0), (1, iv a1), (11, iv x11_502), (12, jv x12_566)]) (Nat.le_of_ble_eq_true rfl) [4, 0, 1, 2, 3] rfl (by decide) rfl rfl (dl_at t_X25_table 333 rfl) ?_
                    refine g_iload (pc := 596) X (i := 15) (q := 0) (x := x15_594) rfl (dl_at t_X25_table 334 rfl) ?_
                    refine g_join (γ := Hp) (fun q => Ext h_566 q) 636 (fun q => [(0, rv D a0), (1, iv a1), (11, iv x11_502), (12, jv x12_566), (14, iv x14_566)]) (fun q => []) (fun q => q) (fun q => m_X25_table_j636 x14_566 a0 a1 x12_566 q) ?_ ?_
                    · rintro h_636 E_636
                      try dsimp only
                      unfold m_X25_table_j636
                      refine g_lload (pc := 636) X (i := 12) (q := 3) (x := x12_566) rfl (dl_at t_X25_table 356 rfl) ?_
                      refine g_aload_n (pc := 638) X (j := 0) (i := 0) (q := 0) (x := a0) rfl rfl (dl_at t_X25_table 357 rfl) ?_
                      have k639 := kx E_636 (by decide) k569
                      refine r_getr (pc := 639) X fX25_39 k639 q3817 (dl_at t_X25_table 358 rfl) ?_
                      refine g_bipush (pc := 642) X (n := 8) rfl (dl_at t_X25_table 359 rfl) ?_
                      refine g_iload_n (pc := 644) X (j := 1) (i := 1) (q := 1) (x := a1) rfl rfl (dl_at t_X25_table 360 rfl) ?_
                      refine g_imul (pc := 645) X (r32_c rfl) r1 (dl_at t_X25_table 361 rfl) ?_
                      refine g_iload (pc := 646) X (i := 14) (q := 4) (x := x14_566) rfl (dl_at t_X25_table 362 rfl) ?_
                      refine g_iadd (pc := 648) X (r32_w _) r14_566 (dl_at t_X25_table 363 rfl) ?_
                      refine g_gd fun k649 => ?_
                      refine g_lald (pc := 649) X (r32_w _) k649 (dl_at t_X25_table 364 rfl) fun g649 => ?_
                      refine g_ladd (pc := 650) X r12_566 g649 (dl_at t_X25_table 365 rfl) ?_
                      refine g_ltl (r64_w _) fun x12_651 r12_651 => ?_
                      refine g_lstoreN (pc := 651) X (i := 12) (x := x12_651) (b := 11) (w := iv x11_502) (rest := [(0, rv D a0), (1, iv a1), (14, iv x14_566)]) (Nat.le_of_ble_eq_true rfl) [2, 0, 1, 4] rfl (by decide) (by decide) rfl rfl (dl_at t_X25_table 366 rfl) ?_
                      refine r_iinc (pc := 653) X (i := 14) (q := 4) (n := 1) (x := x14_566) (rest := [(12, jv x12_651), (11, iv x11_502), (0, rv D a0), (1, iv a1)]) rfl r14_566 (r32_c rfl) (Nat.le_of_ble_eq_true rfl) [0, 1, 2, 3] rfl rfl (dl_at t_X25_table 367 rfl) fun x14_653 r14_653 => ?_
                      refine g_goto (pc := 656) X (off := (-90)) (tgt := 566) rfl (dl_at t_X25_table 368 rfl) ?_
                      refine g_ls (ls2 := [(0, rv D a0), (1, iv a1), (11, iv x11_502), (12, jv x12_651), (14, iv x14_653)]) [3, 4, 2, 1, 0] rfl ?_
                      exact g_at fun Q hQ => hQ ⟨r12_651, r14_653, (E_566.trans E_636)⟩
                    intro J636
                    refine g_iflt (pc := 598) X r15_594 (off := 38) (tgt := 636) rfl (dl_at t_X25_table 335 rfl) (fun _ => ?_) (fun _ => ?_)
                    · refine g_ls (ls2 := [(0, rv D a0), (1, iv a1), (11, iv x11_502), (12, jv x12_566), (14, iv x14_566)]) [2, 3, 4, 5, 1] rfl ?_
                      exact J636 h_566 (Ext.refl _)
                    refine g_aload_n (pc := 601) X (j := 0) (i := 0) (q := 2) (x := a0) rfl rfl (dl_at t_X25_table 336 rfl) ?_
                    refine r_getr (pc := 602) X fX25_21 k569 q3793 (dl_at t_X25_table 337 rfl) ?_
                    refine g_iload (pc := 605) X (i := 15) (q := 0) (x := x15_594) rfl (dl_at t_X25_table 338 rfl) ?_
                    refine g_ldc2 (pc := 607) X (index := 490) (n := 1000) q4849 (dl_at t_X25_table 339 rfl) ?_
                    refine g_aload_n (pc := 610) X (j := 0) (i := 0) (q := 2) (x := a0) rfl rfl (dl_at t_X25_table 340 rfl) ?_
                    refine r_getr (pc := 611) X fX25_39 k569 q3817 (dl_at t_X25_table 341 rfl) ?_
                    refine g_bipush (pc := 614) X (n := 8) rfl (dl_at t_X25_table 342 rfl) ?_
                    refine g_iload_n (pc := 616) X (j := 1) (i := 1) (q := 3) (x := a1) rfl rfl (dl_at t_X25_table 343 rfl) ?_
                    refine g_imul (pc := 617) X (r32_c rfl) r1 (dl_at t_X25_table 344 rfl) ?_
                    refine g_iload (pc := 618) X (i := 14) (q := 1) (x := x14_566) rfl (dl_at t_X25_table 345 rfl) ?_
                    refine g_iadd (pc := 620) X (r32_w _) r14_566 (dl_at t_X25_table 346 rfl) ?_
                    refine g_gd fun k621 => ?_
                    refine g_lald (pc := 621) X (r32_w _) k621 (dl_at t_X25_table 347 rfl) fun g621 => ?_
                    refine g_mmaxl (pc := 622) X (r64_c rfl) g621 q4943 q4944 q398 q4945 (cat24 (st := [iv x15_594, rv D (h_566 a0 21)]) (Nat.le_of_ble_eq_true rfl)) (Nat.le_of_ble_eq_true rfl) (Nat.le_of_ble_eq_true rfl) (dl_at t_X25_table 348 rfl) ?_
                    refine g_gd fun k625 => ?_
                    refine r_last (pc := 625) X r15_594 (r64_max (r64_c rfl) g621) k625 (dl_at t_X25_table 349 rfl) (fun h625 E625 => ?_)
                    refine g_aload_n (pc := 626) X (j := 0) (i := 0) (q := 2) (x := a0) rfl rfl (dl_at t_X25_table 350 rfl) ?_
                    have k627 := kx E625 (by decide) k569
                    refine r_getr (pc := 627) X fX25_14 k627 q3782 (dl_at t_X25_table 351 rfl) ?_
                    refine g_iload (pc := 630) X (i := 15) (q := 0) (x := x15_594) rfl (dl_at t_X25_table 352 rfl) ?_
                    refine g_lload (pc := 632) X (i := 12) (q := 5) (x := x12_566) rfl (dl_at t_X25_table 353 rfl) ?_
                    refine g_l2i (pc := 634) X r12_566 (dl_at t_X25_table 354 rfl) ?_
                    refine g_gd fun k635 => ?_
                    refine r_iast (pc := 635) X r15_594 (r32_w _) k635 (dl_at t_X25_table 355 rfl) (fun h635 E635 => ?_)
                    refine g_ls (ls2 := [(0, rv D a0), (1, iv a1), (11, iv x11_502), (12, jv x12_566), (14, iv x14_566)]) [2, 3, 4, 5, 1] rfl ?_
                    exact J636 h635 (E625.trans E635)
                  · rintro h_659_1 E_659_1
                    try dsimp only [sE]
                    exact J659 h_659_1 E_659_1
                refine g_goto (pc := 551) X (off := 108) (tgt := 659) rfl (dl_at t_X25_table 309 rfl) ?_
                exact J659 h_502 (Ext.refl _)
      exact g_vret (pc := 280) X (v := 0) rfl rfl (dl_at t_X25_table 152 rfl)
def k_X25_tables : List (Nat × Instr × Nat) := [(0, .iconst 0, 1), (1, .istore_n 1, 1), (2, .iload_n 1, 1), (3, .aload_n 0, 1), (4, .getfield 342, 3), (7, .getfield 351, 3), (10, .if_icmp .ge 26, 3), (13, .aload_n 0, 1), (14, .getfield 14, 3), (17, .getfield 646, 3), (20, .iload_n 1, 1), (21, .baload, 1), (22, .ifCond .eq 8, 3), (25, .aload_n 0, 1), (26, .iload_n 1, 1), (27, .invokevirtual 690, 3), (30, .iinc 1 1, 3), (33, .goto (-31), 3), (36, .return_, 1)]
theorem t_X25_tables : ∀ q ∈ k_X25_tables, decode cX25_tables q.1 = .ok q.2 := dl_all (by decide +kernel)
noncomputable def m_X25_tables_j30 (x1_2 : Int) (h_30 : Hp) : Option ((Int × Hp) ⊕ ((Hp))) :=
  lt_ (w32 (x1_2 + 1)) fun x1_30 =>
  some (.inl (x1_30, h_30))
noncomputable def m_X25_tables_l2 (a0 x1_2 : Int) (h_2 : Hp) : Option ((Int × Hp) ⊕ ((Hp))) :=
  gd (h_2 (h_2 a0 1) (-2) = 384) (if (h_2 (h_2 a0 1) 3) ≤ x1_2 then (some (.inr h_2))
  else (gd (h_2 (h_2 a0 0) (-2) = 400) (gd (h_2 (h_2 (h_2 a0 0) 13) (-2) % 16 = 3 ∧ (0 : Int) ≤ x1_2 ∧ x1_2 < h_2 (h_2 (h_2 a0 0) 13) (-1)) (if (h_2 (h_2 (h_2 a0 0) 13) x1_2) = 0 then (m_X25_tables_j30 x1_2 h_2)
  else ((m_X25_table a0 x1_2 h_2).bind fun h27 =>
  m_X25_tables_j30 x1_2 h27)))))
noncomputable def m_X25_tables (a0 : Int) (h : Hp) : Option (Hp) :=
  lt_ 0 fun x1_1 =>
  (lp (fun (q : Int × Hp) => m_X25_tables_l2 a0 q.1 q.2) (x1_1, h)).bind (fun (x : Hp) => some x)
theorem s_X25_tables {l : Launch} [NoTr l] {D : SD} {a0 : Int} {h : Hp} (hk : h a0 (-2) = 416) {r : Hp} (hm : m_X25_tables a0 h = some r) : Sim l D yX25_tables (Cond.code yX25_tables cX25_tables 2 (Option.none : Option Jvm.ClassFile.FieldType)) 4 166 [rv D a0] h 0 ((0, 0), r) := by
  refine Sim.of (fin := fun (v : Hp) => ((0, 0), v)) (lsE := [(0, rv D a0)]) hm rfl cwS_code (la_r la_n) (ll_r ll_n) ?_
  intro p e s m below meth c X hcw hmm hcc hnm hname
  unfold m_X25_tables
  refine g_iconst (pc := 0) X (n := 0) (dl_at t_X25_tables 0 rfl) ?_
  refine g_ltz (Or.inl rfl) fun x1_1 r1_1 => ?_
  refine g_istore_nN (pc := 1) X (j := 1) (i := 1) (x := x1_1) (b := 0) (w := rv D a0) (rest := []) rfl (Nat.le_of_ble_eq_true rfl) [0] rfl (by decide) rv_cat rfl (dl_at t_X25_tables 1 rfl) ?_
  refine g_ls (ls2 := [(0, rv D a0), (1, iv x1_1)]) [1, 0] rfl ?_
  refine g_loop0F (fun (q : Int × Hp) => [(0, rv D a0), (1, iv q.1)]) (fun (q : Int × Hp) => q.2) (fun (q : Int × Hp) => r32 q.1 ∧ Ext h q.2) (x1_1, h) ⟨(r32_z r1_1), (Ext.refl _)⟩ ?_ (fun _ => rfl)
  · rintro ⟨x1_2, h_2⟩ ⟨r1_2, E_2⟩
    try dsimp only
    unfold m_X25_tables_l2
    refine g_iload_n (pc := 2) X (j := 1) (i := 1) (q := 1) (x := x1_2) rfl rfl (dl_at t_X25_tables 2 rfl) ?_
    refine g_aload_n (pc := 3) X (j := 0) (i := 0) (q := 0) (x := a0) rfl rfl (dl_at t_X25_tables 3 rfl) ?_
    have k4 := kx E_2 (by decide) hk
    refine r_getr (pc := 4) X fX25_1 k4 q3763 (dl_at t_X25_tables 4 rfl) ?_
    refine g_gd fun k7 => ?_
    refine r_geti (pc := 7) X fX23_3 k7 q3526 (dl_at t_X25_tables 5 rfl) fun g7 => ?_
    refine g_icmpge (pc := 10) X r1_2 g7 (off := 26) (tgt := 36) rfl (dl_at t_X25_tables 6 rfl) (fun _ => ?_) (fun _ => ?_)
    · exact g_at fun Q hQ => (g_vret (pc := 36) X (v := 0) rfl rfl (dl_at t_X25_tables 18 rfl)) _ Q rfl hQ
    refine g_aload_n (pc := 13) X (j := 0) (i := 0) (q := 0) (x := a0) rfl rfl (dl_at t_X25_tables 7 rfl) ?_
    refine r_getr (pc := 14) X fX25_0 k4 q3761 (dl_at t_X25_tables 8 rfl) ?_
    refine g_gd fun k17 => ?_
    refine r_getr (pc := 17) X fX24_13 k17 q3673 (dl_at t_X25_tables 9 rfl) ?_
    refine g_iload_n (pc := 20) X (j := 1) (i := 1) (q := 1) (x := x1_2) rfl rfl (dl_at t_X25_tables 10 rfl) ?_
    refine g_gd fun k21 => ?_
    refine g_zald (pc := 21) X r1_2 k21 (dl_at t_X25_tables 11 rfl) fun g21 => ?_
    refine g_join (γ := Hp) (fun q => Ext h_2 q) 30 (fun q => [(0, rv D a0), (1, iv x1_2)]) (fun q => []) (fun q => q) (fun q => m_X25_tables_j30 x1_2 q) ?_ ?_
    · rintro h_30 E_30
      try dsimp only
      unfold m_X25_tables_j30
      refine r_iincN (pc := 30) X (i := 1) (q := 1) (n := 1) (x := x1_2) (b := 0) (w := rv D a0) (rest := []) rfl r1_2 (r32_c rfl) (Nat.le_of_ble_eq_true rfl) [0] rfl (by decide) rv_cat rfl (dl_at t_X25_tables 16 rfl) fun x1_30 r1_30 => ?_
      refine g_goto (pc := 33) X (off := (-31)) (tgt := 2) rfl (dl_at t_X25_tables 17 rfl) ?_
      refine g_ls (ls2 := [(0, rv D a0), (1, iv x1_30)]) [1, 0] rfl ?_
      exact g_at fun Q hQ => hQ ⟨r1_30, (E_2.trans E_30)⟩
    intro J30
    refine g_ifeq (pc := 22) X (r32_z g21) (off := 8) (tgt := 30) rfl (dl_at t_X25_tables 12 rfl) (fun _ => ?_) (fun _ => ?_)
    · exact J30 h_2 (Ext.refl _)
    refine g_aload_n (pc := 25) X (j := 0) (i := 0) (q := 0) (x := a0) rfl rfl (dl_at t_X25_tables 13 rfl) ?_
    refine g_iload_n (pc := 26) X (j := 1) (i := 1) (q := 1) (x := x1_2) rfl rfl (dl_at t_X25_tables 14 rfl) ?_
    refine r_callV (pc := 27) X (fun _ hv => s_X25_table k4 r1_2 hv) cw_code q4996 q379 (in_Vk X (As := [iv x1_2]) kX25 k4 (Or.inl q4993) q4995 qs321 cw_code q4996 ⟨by decide, by decide⟩ rfl (dl_at t_X25_tables 15 rfl)) (dl_at t_X25_tables 15 rfl) (cat24 (st := []) (Nat.le_of_ble_eq_true rfl)) (Nat.le_of_ble_eq_true rfl) (Nat.le_of_ble_eq_true rfl) fun h27 E27 => ?_
    exact J30 h27 E27
def k_X25_sums : List (Nat × Instr × Nat) := [(0, .aload_n 0, 1), (1, .getfield 268, 3), (4, .iconst 0, 1), (5, .lconst 0, 1), (6, .lastore, 1), (7, .aload_n 0, 1), (8, .getfield 271, 3), (11, .iconst 0, 1), (12, .lconst 0, 1), (13, .lastore, 1), (14, .aload_n 0, 1), (15, .getfield 274, 3), (18, .iconst 0, 1), (19, .lconst 0, 1), (20, .lastore, 1), (21, .aload_n 0, 1), (22, .getfield 277, 3), (25, .iconst 0, 1), (26, .lconst 0, 1), (27, .lastore, 1), (28, .iconst 1, 1), (29, .istore_n 2, 1), (30, .iload_n 2, 1), (31, .aload_n 0, 1), (32, .getfield 44, 3), (35, .iload_n 1, 1), (36, .iaload, 1), (37, .if_icmp .gt 112, 3), (40, .aload_n 0, 1), (41, .getfield 47, 3), (44, .iload_n 1, 1), (45, .iaload, 1), (46, .iload_n 2, 1), (47, .iadd, 1), (48, .iconst 1, 1), (49, .isub, 1), (50, .istore_n 3, 1), (51, .aload_n 0, 1), (52, .getfield 268, 3), (55, .iload_n 2, 1), (56, .aload_n 0, 1), (57, .getfield 268, 3), (60, .iload_n 2, 1), (61, .iconst 1, 1), (62, .isub, 1), (63, .laload, 1), (64, .aload_n 0, 1), (65, .getfield 75, 3), (68, .iload_n 3, 1), (69, .laload, 1), (70, .ladd, 1), (71, .lastore, 1), (72, .aload_n 0, 1), (73, .getfield 271, 3), (76, .iload_n 2, 1), (77, .aload_n 0, 1), (78, .getfield 271, 3), (81, .iload_n 2, 1), (82, .iconst 1, 1), (83, .isub, 1), (84, .laload, 1), (85, .aload_n 0, 1), (86, .getfield 78, 3), (89, .iload_n 3, 1), (90, .laload, 1), (91, .ladd, 1), (92, .lastore, 1), (93, .aload_n 0, 1), (94, .getfield 274, 3), (97, .iload_n 2, 1), (98, .aload_n 0, 1), (99, .getfield 274, 3), (102, .iload_n 2, 1), (103, .iconst 1, 1), (104, .isub, 1), (105, .laload, 1), (106, .aload_n 0, 1), (107, .getfield 78, 3), (110, .iload_n 3, 1), (111, .laload, 1), (112, .ldc2_w 695, 3), (115, .ldiv, 1), (116, .ladd, 1), (117, .lastore, 1), (118, .aload_n 0, 1), (119, .getfield 277, 3), (122, .iload_n 2, 1), (123, .aload_n 0, 1), (124, .getfield 277, 3), (127, .iload_n 2, 1), (128, .iconst 1, 1), (129, .isub, 1), (130, .laload, 1), (131, .aload_n 0, 1), (132, .getfield 78, 3), (135, .iload_n 3, 1), (136, .laload, 1), (137, .ldc2_w 697, 3), (140, .ldiv, 1), (141, .ladd, 1), (142, .lastore, 1), (143, .iinc 2 1, 3), (146, .goto (-116), 3), (149, .return_, 1)]
theorem t_X25_sums : ∀ q ∈ k_X25_sums, decode cX25_sums q.1 = .ok q.2 := dl_all (by decide +kernel)
noncomputable def m_X25_sums_l30 (a0 a1 x2_30 : Int) (h_30 : Hp) : Option ((Int × Hp) ⊕ ((Hp))) :=
  gd (h_30 (h_30 a0 15) (-2) % 16 = 1 ∧ (0 : Int) ≤ a1 ∧ a1 < h_30 (h_30 a0 15) (-1)) (if (h_30 (h_30 a0 15) a1) < x2_30 then (some (.inr h_30))
  else (gd (h_30 (h_30 a0 16) (-2) % 16 = 1 ∧ (0 : Int) ≤ a1 ∧ a1 < h_30 (h_30 a0 16) (-1)) (lt_ (w32 ((w32 ((h_30 (h_30 a0 16) a1) + x2_30)) - 1)) fun x3_50 =>
  gd (h_30 (h_30 a0 104) (-2) % 16 = 4 ∧ (0 : Int) ≤ (w32 (x2_30 - 1)) ∧ (w32 (x2_30 - 1)) < h_30 (h_30 a0 104) (-1)) (gd (h_30 (h_30 a0 25) (-2) % 16 = 4 ∧ (0 : Int) ≤ x3_50 ∧ x3_50 < h_30 (h_30 a0 25) (-1)) (gd (h_30 (h_30 a0 104) (-2) % 16 = 4 ∧ (0 : Int) ≤ x2_30 ∧ x2_30 < h_30 (h_30 a0 104) (-1)) (pt h_30 (h_30 a0 104) x2_30 (w64 ((h_30 (h_30 a0 104) (w32 (x2_30 - 1))) + (h_30 (h_30 a0 25) x3_50))) fun h71 =>
  gd (h71 (h71 a0 105) (-2) % 16 = 4 ∧ (0 : Int) ≤ (w32 (x2_30 - 1)) ∧ (w32 (x2_30 - 1)) < h71 (h71 a0 105) (-1)) (gd (h71 (h71 a0 26) (-2) % 16 = 4 ∧ (0 : Int) ≤ x3_50 ∧ x3_50 < h71 (h71 a0 26) (-1)) (gd (h71 (h71 a0 105) (-2) % 16 = 4 ∧ (0 : Int) ≤ x2_30 ∧ x2_30 < h71 (h71 a0 105) (-1)) (pt h71 (h71 a0 105) x2_30 (w64 ((h71 (h71 a0 105) (w32 (x2_30 - 1))) + (h71 (h71 a0 26) x3_50))) fun h92 =>
  gd (h92 (h92 a0 106) (-2) % 16 = 4 ∧ (0 : Int) ≤ (w32 (x2_30 - 1)) ∧ (w32 (x2_30 - 1)) < h92 (h92 a0 106) (-1)) (gd (h92 (h92 a0 26) (-2) % 16 = 4 ∧ (0 : Int) ≤ x3_50 ∧ x3_50 < h92 (h92 a0 26) (-1)) (gd (h92 (h92 a0 106) (-2) % 16 = 4 ∧ (0 : Int) ≤ x2_30 ∧ x2_30 < h92 (h92 a0 106) (-1)) (pt h92 (h92 a0 106) x2_30 (w64 ((h92 (h92 a0 106) (w32 (x2_30 - 1))) + (w64 (Int.tdiv (h92 (h92 a0 26) x3_50) 2)))) fun h117 =>
  gd (h117 (h117 a0 107) (-2) % 16 = 4 ∧ (0 : Int) ≤ (w32 (x2_30 - 1)) ∧ (w32 (x2_30 - 1)) < h117 (h117 a0 107) (-1)) (gd (h117 (h117 a0 26) (-2) % 16 = 4 ∧ (0 : Int) ≤ x3_50 ∧ x3_50 < h117 (h117 a0 26) (-1)) (gd (h117 (h117 a0 107) (-2) % 16 = 4 ∧ (0 : Int) ≤ x2_30 ∧ x2_30 < h117 (h117 a0 107) (-1)) (pt h117 (h117 a0 107) x2_30 (w64 ((h117 (h117 a0 107) (w32 (x2_30 - 1))) + (w64 (Int.tdiv (h117 (h117 a0 26) x3_50) 3)))) fun h142 =>
  lt_ (w32 (x2_30 + 1)) fun x2_143 =>
  some (.inl (x2_143, h142)))))))))))))))))
noncomputable def m_X25_sums (a0 a1 : Int) (h : Hp) : Option (Hp) :=
  gd (h (h a0 104) (-2) % 16 = 4 ∧ (0 : Int) ≤ 0 ∧ 0 < h (h a0 104) (-1)) (pt h (h a0 104) 0 0 fun h6 =>
  gd (h6 (h6 a0 105) (-2) % 16 = 4 ∧ (0 : Int) ≤ 0 ∧ 0 < h6 (h6 a0 105) (-1)) (pt h6 (h6 a0 105) 0 0 fun h13 =>
  gd (h13 (h13 a0 106) (-2) % 16 = 4 ∧ (0 : Int) ≤ 0 ∧ 0 < h13 (h13 a0 106) (-1)) (pt h13 (h13 a0 106) 0 0 fun h20 =>
  gd (h20 (h20 a0 107) (-2) % 16 = 4 ∧ (0 : Int) ≤ 0 ∧ 0 < h20 (h20 a0 107) (-1)) (pt h20 (h20 a0 107) 0 0 fun h27 =>
  lt_ 1 fun x2_29 =>
  (lp (fun (q : Int × Hp) => m_X25_sums_l30 a0 a1 q.1 q.2) (x2_29, h27)).bind (fun (x : Hp) => some x)))))
theorem s_X25_sums {l : Launch} [NoTr l] {D : SD} {a0 a1 : Int} {h : Hp} (hk : h a0 (-2) = 416) (r1 : r32 a1) {r : Hp} (hm : m_X25_sums a0 a1 h = some r) : Sim l D yX25_sums (Cond.code yX25_sums cX25_sums 4 (Option.none : Option Jvm.ClassFile.FieldType)) 0 0 [rv D a0, iv a1] h 0 ((0, 0), r) := by
  refine Sim.of (fin := fun (v : Hp) => ((0, 0), v)) (lsE := [(0, rv D a0), (1, iv a1)]) hm rfl cwS_code (la_r (la_i la_n)) (ll_r (ll_i ll_n)) ?_
  intro p e s m below meth c X hcw hmm hcc hnm hname
  unfold m_X25_sums
  refine g_aload_n (pc := 0) X (j := 0) (i := 0) (q := 0) (x := a0) rfl rfl (dl_at t_X25_sums 0 rfl) ?_
  refine r_getr (pc := 1) X fX25_104 hk q3916 (dl_at t_X25_sums 1 rfl) ?_
  refine g_iconst (pc := 4) X (n := 0) (dl_at t_X25_sums 2 rfl) ?_
  refine g_lconst0 (pc := 5) X (dl_at t_X25_sums 3 rfl) ?_
  refine g_gd fun k6 => ?_
  refine r_last (pc := 6) X (r32_c rfl) (r64_c rfl) k6 (dl_at t_X25_sums 4 rfl) (fun h6 E6 => ?_)
  refine g_aload_n (pc := 7) X (j := 0) (i := 0) (q := 0) (x := a0) rfl rfl (dl_at t_X25_sums 5 rfl) ?_
  have k8 := kx E6 (by decide) hk
  refine r_getr (pc := 8) X fX25_105 k8 q3917 (dl_at t_X25_sums 6 rfl) ?_
  refine g_iconst (pc := 11) X (n := 0) (dl_at t_X25_sums 7 rfl) ?_
  refine g_lconst0 (pc := 12) X (dl_at t_X25_sums 8 rfl) ?_
  refine g_gd fun k13 => ?_
  refine r_last (pc := 13) X (r32_c rfl) (r64_c rfl) k13 (dl_at t_X25_sums 9 rfl) (fun h13 E13 => ?_)
  refine g_aload_n (pc := 14) X (j := 0) (i := 0) (q := 0) (x := a0) rfl rfl (dl_at t_X25_sums 10 rfl) ?_
  have k15 := kx E13 (by decide) k8
  refine r_getr (pc := 15) X fX25_106 k15 q3918 (dl_at t_X25_sums 11 rfl) ?_
  refine g_iconst (pc := 18) X (n := 0) (dl_at t_X25_sums 12 rfl) ?_
  refine g_lconst0 (pc := 19) X (dl_at t_X25_sums 13 rfl) ?_
  refine g_gd fun k20 => ?_
  refine r_last (pc := 20) X (r32_c rfl) (r64_c rfl) k20 (dl_at t_X25_sums 14 rfl) (fun h20 E20 => ?_)
  refine g_aload_n (pc := 21) X (j := 0) (i := 0) (q := 0) (x := a0) rfl rfl (dl_at t_X25_sums 15 rfl) ?_
  have k22 := kx E20 (by decide) k15
  refine r_getr (pc := 22) X fX25_107 k22 q3919 (dl_at t_X25_sums 16 rfl) ?_
  refine g_iconst (pc := 25) X (n := 0) (dl_at t_X25_sums 17 rfl) ?_
  refine g_lconst0 (pc := 26) X (dl_at t_X25_sums 18 rfl) ?_
  refine g_gd fun k27 => ?_
  refine r_last (pc := 27) X (r32_c rfl) (r64_c rfl) k27 (dl_at t_X25_sums 19 rfl) (fun h27 E27 => ?_)
  refine g_iconst (pc := 28) X (n := 1) (dl_at t_X25_sums 20 rfl) ?_
  refine g_ltz (Or.inr rfl) fun x2_29 r2_29 => ?_
  refine g_istore_nN (pc := 29) X (j := 2) (i := 2) (x := x2_29) (b := 1) (w := iv a1) (rest := [(0, rv D a0)]) rfl (Nat.le_of_ble_eq_true rfl) [1, 0] rfl (by decide) rfl rfl (dl_at t_X25_sums 21 rfl) ?_
  refine g_ls (ls2 := [(0, rv D a0), (1, iv a1), (2, iv x2_29)]) [2, 1, 0] rfl ?_
  refine g_loop0F (fun (q : Int × Hp) => [(0, rv D a0), (1, iv a1), (2, iv q.1)]) (fun (q : Int × Hp) => q.2) (fun (q : Int × Hp) => r32 q.1 ∧ Ext h27 q.2) (x2_29, h27) ⟨(r32_z r2_29), (Ext.refl _)⟩ ?_ (fun _ => rfl)
  · rintro ⟨x2_30, h_30⟩ ⟨r2_30, E_30⟩
    try dsimp only
    unfold m_X25_sums_l30
    refine g_iload_n (pc := 30) X (j := 2) (i := 2) (q := 2) (x := x2_30) rfl rfl (dl_at t_X25_sums 22 rfl) ?_
    refine g_aload_n (pc := 31) X (j := 0) (i := 0) (q := 0) (x := a0) rfl rfl (dl_at t_X25_sums 23 rfl) ?_
    have k32 := kx (E27.trans E_30) (by decide) k22
    refine r_getr (pc := 32) X fX25_15 k32 q3783 (dl_at t_X25_sums 24 rfl) ?_
    refine g_iload_n (pc := 35) X (j := 1) (i := 1) (q := 1) (x := a1) rfl rfl (dl_at t_X25_sums 25 rfl) ?_
    refine g_gd fun k36 => ?_
    refine g_iald (pc := 36) X r1 k36 (dl_at t_X25_sums 26 rfl) fun g36 => ?_
    refine g_icmpgt (pc := 37) X r2_30 g36 (off := 112) (tgt := 149) rfl (dl_at t_X25_sums 27 rfl) (fun _ => ?_) (fun _ => ?_)
    · exact g_at fun Q hQ => (g_vret (pc := 149) X (v := 0) rfl rfl (dl_at t_X25_sums 103 rfl)) _ Q rfl hQ
    refine g_aload_n (pc := 40) X (j := 0) (i := 0) (q := 0) (x := a0) rfl rfl (dl_at t_X25_sums 28 rfl) ?_
    refine r_getr (pc := 41) X fX25_16 k32 q3785 (dl_at t_X25_sums 29 rfl) ?_
    refine g_iload_n (pc := 44) X (j := 1) (i := 1) (q := 1) (x := a1) rfl rfl (dl_at t_X25_sums 30 rfl) ?_
    refine g_gd fun k45 => ?_
    refine g_iald (pc := 45) X r1 k45 (dl_at t_X25_sums 31 rfl) fun g45 => ?_
    refine g_iload_n (pc := 46) X (j := 2) (i := 2) (q := 2) (x := x2_30) rfl rfl (dl_at t_X25_sums 32 rfl) ?_
    refine g_iadd (pc := 47) X g45 r2_30 (dl_at t_X25_sums 33 rfl) ?_
    refine g_iconst (pc := 48) X (n := 1) (dl_at t_X25_sums 34 rfl) ?_
    refine g_isub (pc := 49) X (r32_w _) (r32_c rfl) (dl_at t_X25_sums 35 rfl) ?_
    refine g_lti (r32_w _) fun x3_50 r3_50 => ?_
    refine g_istore_nN (pc := 50) X (j := 3) (i := 3) (x := x3_50) (b := 2) (w := iv x2_30) (rest := [(0, rv D a0), (1, iv a1)]) rfl (Nat.le_of_ble_eq_true rfl) [2, 0, 1] rfl (by decide) rfl rfl (dl_at t_X25_sums 36 rfl) ?_
    refine g_aload_n (pc := 51) X (j := 0) (i := 0) (q := 2) (x := a0) rfl rfl (dl_at t_X25_sums 37 rfl) ?_
    refine r_getr (pc := 52) X fX25_104 k32 q3916 (dl_at t_X25_sums 38 rfl) ?_
    refine g_iload_n (pc := 55) X (j := 2) (i := 2) (q := 1) (x := x2_30) rfl rfl (dl_at t_X25_sums 39 rfl) ?_
    refine g_aload_n (pc := 56) X (j := 0) (i := 0) (q := 2) (x := a0) rfl rfl (dl_at t_X25_sums 40 rfl) ?_
    refine r_getr (pc := 57) X fX25_104 k32 q3916 (dl_at t_X25_sums 41 rfl) ?_
    refine g_iload_n (pc := 60) X (j := 2) (i := 2) (q := 1) (x := x2_30) rfl rfl (dl_at t_X25_sums 42 rfl) ?_
    refine g_iconst (pc := 61) X (n := 1) (dl_at t_X25_sums 43 rfl) ?_
    refine g_isub (pc := 62) X r2_30 (r32_c rfl) (dl_at t_X25_sums 44 rfl) ?_
    refine g_gd fun k63 => ?_
    refine g_lald (pc := 63) X (r32_w _) k63 (dl_at t_X25_sums 45 rfl) fun g63 => ?_
    refine g_aload_n (pc := 64) X (j := 0) (i := 0) (q := 2) (x := a0) rfl rfl (dl_at t_X25_sums 46 rfl) ?_
    refine r_getr (pc := 65) X fX25_25 k32 q3799 (dl_at t_X25_sums 47 rfl) ?_
    refine g_iload_n (pc := 68) X (j := 3) (i := 3) (q := 0) (x := x3_50) rfl rfl (dl_at t_X25_sums 48 rfl) ?_
    refine g_gd fun k69 => ?_
    refine g_lald (pc := 69) X r3_50 k69 (dl_at t_X25_sums 49 rfl) fun g69 => ?_
    refine g_ladd (pc := 70) X g63 g69 (dl_at t_X25_sums 50 rfl) ?_
    refine g_gd fun k71 => ?_
    refine r_last (pc := 71) X r2_30 (r64_w _) k71 (dl_at t_X25_sums 51 rfl) (fun h71 E71 => ?_)
    refine g_aload_n (pc := 72) X (j := 0) (i := 0) (q := 2) (x := a0) rfl rfl (dl_at t_X25_sums 52 rfl) ?_
    have k73 := kx E71 (by decide) k32
    refine r_getr (pc := 73) X fX25_105 k73 q3917 (dl_at t_X25_sums 53 rfl) ?_
    refine g_iload_n (pc := 76) X (j := 2) (i := 2) (q := 1) (x := x2_30) rfl rfl (dl_at t_X25_sums 54 rfl) ?_
    refine g_aload_n (pc := 77) X (j := 0) (i := 0) (q := 2) (x := a0) rfl rfl (dl_at t_X25_sums 55 rfl) ?_
    refine r_getr (pc := 78) X fX25_105 k73 q3917 (dl_at t_X25_sums 56 rfl) ?_
    refine g_iload_n (pc := 81) X (j := 2) (i := 2) (q := 1) (x := x2_30) rfl rfl (dl_at t_X25_sums 57 rfl) ?_
    refine g_iconst (pc := 82) X (n := 1) (dl_at t_X25_sums 58 rfl) ?_
    refine g_isub (pc := 83) X r2_30 (r32_c rfl) (dl_at t_X25_sums 59 rfl) ?_
    refine g_gd fun k84 => ?_
    refine g_lald (pc := 84) X (r32_w _) k84 (dl_at t_X25_sums 60 rfl) fun g84 => ?_
    refine g_aload_n (pc := 85) X (j := 0) (i := 0) (q := 2) (x := a0) rfl rfl (dl_at t_X25_sums 61 rfl) ?_
    refine r_getr (pc := 86) X fX25_26 k73 q3800 (dl_at t_X25_sums 62 rfl) ?_
    refine g_iload_n (pc := 89) X (j := 3) (i := 3) (q := 0) (x := x3_50) rfl rfl (dl_at t_X25_sums 63 rfl) ?_
    refine g_gd fun k90 => ?_
    refine g_lald (pc := 90) X r3_50 k90 (dl_at t_X25_sums 64 rfl) fun g90 => ?_
    refine g_ladd (pc := 91) X g84 g90 (dl_at t_X25_sums 65 rfl) ?_
    refine g_gd fun k92 => ?_
    refine r_last (pc := 92) X r2_30 (r64_w _) k92 (dl_at t_X25_sums 66 rfl) (fun h92 E92 => ?_)
    refine g_aload_n (pc := 93) X (j := 0) (i := 0) (q := 2) (x := a0) rfl rfl (dl_at t_X25_sums 67 rfl) ?_
    have k94 := kx E92 (by decide) k73
    refine r_getr (pc := 94) X fX25_106 k94 q3918 (dl_at t_X25_sums 68 rfl) ?_
    refine g_iload_n (pc := 97) X (j := 2) (i := 2) (q := 1) (x := x2_30) rfl rfl (dl_at t_X25_sums 69 rfl) ?_
    refine g_aload_n (pc := 98) X (j := 0) (i := 0) (q := 2) (x := a0) rfl rfl (dl_at t_X25_sums 70 rfl) ?_
    refine r_getr (pc := 99) X fX25_106 k94 q3918 (dl_at t_X25_sums 71 rfl) ?_
    refine g_iload_n (pc := 102) X (j := 2) (i := 2) (q := 1) (x := x2_30) rfl rfl (dl_at t_X25_sums 72 rfl) ?_
    refine g_iconst (pc := 103) X (n := 1) (dl_at t_X25_sums 73 rfl) ?_
    refine g_isub (pc := 104) X r2_30 (r32_c rfl) (dl_at t_X25_sums 74 rfl) ?_
    refine g_gd fun k105 => ?_
    refine g_lald (pc := 105) X (r32_w _) k105 (dl_at t_X25_sums 75 rfl) fun g105 => ?_
    refine g_aload_n (pc := 106) X (j := 0) (i := 0) (q := 2) (x := a0) rfl rfl (dl_at t_X25_sums 76 rfl) ?_
    refine r_getr (pc := 107) X fX25_26 k94 q3800 (dl_at t_X25_sums 77 rfl) ?_
    refine g_iload_n (pc := 110) X (j := 3) (i := 3) (q := 0) (x := x3_50) rfl rfl (dl_at t_X25_sums 78 rfl) ?_
    refine g_gd fun k111 => ?_
    refine g_lald (pc := 111) X r3_50 k111 (dl_at t_X25_sums 79 rfl) fun g111 => ?_
    refine g_ldc2 (pc := 112) X (index := 695) (n := 2) q5005 (dl_at t_X25_sums 80 rfl) ?_
    refine g_ldiv (pc := 115) X g111 (r64_c rfl) (by decide) (dl_at t_X25_sums 81 rfl) ?_
    refine g_ladd (pc := 116) X g105 (r64_w _) (dl_at t_X25_sums 82 rfl) ?_
    refine g_gd fun k117 => ?_
    refine r_last (pc := 117) X r2_30 (r64_w _) k117 (dl_at t_X25_sums 83 rfl) (fun h117 E117 => ?_)
    refine g_aload_n (pc := 118) X (j := 0) (i := 0) (q := 2) (x := a0) rfl rfl (dl_at t_X25_sums 84 rfl) ?_
    have k119 := kx E117 (by decide) k94
    refine r_getr (pc := 119) X fX25_107 k119 q3919 (dl_at t_X25_sums 85 rfl) ?_
    refine g_iload_n (pc := 122) X (j := 2) (i := 2) (q := 1) (x := x2_30) rfl rfl (dl_at t_X25_sums 86 rfl) ?_
    refine g_aload_n (pc := 123) X (j := 0) (i := 0) (q := 2) (x := a0) rfl rfl (dl_at t_X25_sums 87 rfl) ?_
    refine r_getr (pc := 124) X fX25_107 k119 q3919 (dl_at t_X25_sums 88 rfl) ?_
    refine g_iload_n (pc := 127) X (j := 2) (i := 2) (q := 1) (x := x2_30) rfl rfl (dl_at t_X25_sums 89 rfl) ?_
    refine g_iconst (pc := 128) X (n := 1) (dl_at t_X25_sums 90 rfl) ?_
    refine g_isub (pc := 129) X r2_30 (r32_c rfl) (dl_at t_X25_sums 91 rfl) ?_
    refine g_gd fun k130 => ?_
    refine g_lald (pc := 130) X (r32_w _) k130 (dl_at t_X25_sums 92 rfl) fun g130 => ?_
    refine g_aload_n (pc := 131) X (j := 0) (i := 0) (q := 2) (x := a0) rfl rfl (dl_at t_X25_sums 93 rfl) ?_
    refine r_getr (pc := 132) X fX25_26 k119 q3800 (dl_at t_X25_sums 94 rfl) ?_
    refine g_iload_n (pc := 135) X (j := 3) (i := 3) (q := 0) (x := x3_50) rfl rfl (dl_at t_X25_sums 95 rfl) ?_
    refine g_gd fun k136 => ?_
    refine g_lald (pc := 136) X r3_50 k136 (dl_at t_X25_sums 96 rfl) fun g136 => ?_
    refine g_ldc2 (pc := 137) X (index := 697) (n := 3) q5006 (dl_at t_X25_sums 97 rfl) ?_
    refine g_ldiv (pc := 140) X g136 (r64_c rfl) (by decide) (dl_at t_X25_sums 98 rfl) ?_
    refine g_ladd (pc := 141) X g130 (r64_w _) (dl_at t_X25_sums 99 rfl) ?_
    refine g_gd fun k142 => ?_
    refine r_last (pc := 142) X r2_30 (r64_w _) k142 (dl_at t_X25_sums 100 rfl) (fun h142 E142 => ?_)
    refine r_iincN (pc := 143) X (i := 2) (q := 1) (n := 1) (x := x2_30) (b := 1) (w := iv a1) (rest := [(0, rv D a0)]) rfl r2_30 (r32_c rfl) (Nat.le_of_ble_eq_true rfl) [3, 2] rfl (by decide) rfl rfl (dl_at t_X25_sums 101 rfl) fun x2_143 r2_143 => ?_
    refine g_goto (pc := 146) X (off := (-116)) (tgt := 30) rfl (dl_at t_X25_sums 102 rfl) ?_
    refine g_ls (ls2 := [(0, rv D a0), (1, iv a1), (2, iv x2_143)]) [2, 1, 0] rfl ?_
    exact g_at fun Q hQ => hQ ⟨r2_143, (E_30.trans (E71.trans (E92.trans (E117.trans E142))))⟩
def k_X25_typeOf : List (Nat × Instr × Nat) := [(0, .aload_n 0, 1), (1, .getfield 69, 3), (4, .aload_n 0, 1), (5, .getfield 47, 3), (8, .iload_n 1, 1), (9, .iaload, 1), (10, .iload_n 2, 1), (11, .iadd, 1), (12, .iconst 1, 1), (13, .isub, 1), (14, .iaload, 1), (15, .ireturn, 1)]
theorem t_X25_typeOf : ∀ q ∈ k_X25_typeOf, decode cX25_typeOf q.1 = .ok q.2 := dl_all (by decide +kernel)
noncomputable def m_X25_typeOf (a0 a1 a2 : Int) (h : Hp) : Option (Int) :=
  gd (h (h a0 16) (-2) % 16 = 1 ∧ (0 : Int) ≤ a1 ∧ a1 < h (h a0 16) (-1)) (gd (h (h a0 23) (-2) % 16 = 1 ∧ (0 : Int) ≤ (w32 ((w32 ((h (h a0 16) a1) + a2)) - 1)) ∧ (w32 ((w32 ((h (h a0 16) a1) + a2)) - 1)) < h (h a0 23) (-1)) (some (h (h a0 23) (w32 ((w32 ((h (h a0 16) a1) + a2)) - 1)))))
theorem s_X25_typeOf {l : Launch} [NoTr l] {D : SD} {a0 a1 a2 : Int} {h : Hp} (hk : h a0 (-2) = 416) (r1 : r32 a1) (r2 : r32 a2) {r : Int} (hm : m_X25_typeOf a0 a1 a2 h = some r) : Sim l D yX25_typeOf (Cond.code yX25_typeOf cX25_typeOf 3 (Option.some Jvm.ClassFile.FieldType.int)) 0 0 [rv D a0, iv a1, iv a2] h 1 ((0, r), h) := by
  refine Sim.of (fin := fun (v : Int) => ((0, v), h)) (lsE := [(0, rv D a0), (1, iv a1), (2, iv a2)]) hm rfl cwS_code (la_r (la_i (la_i la_n))) (ll_r (ll_i (ll_i ll_n))) ?_
  intro p e s m below meth c X hcw hmm hcc hnm hname
  unfold m_X25_typeOf
  refine g_aload_n (pc := 0) X (j := 0) (i := 0) (q := 0) (x := a0) rfl rfl (dl_at t_X25_typeOf 0 rfl) ?_
  refine r_getr (pc := 1) X fX25_23 hk q3797 (dl_at t_X25_typeOf 1 rfl) ?_
  refine g_aload_n (pc := 4) X (j := 0) (i := 0) (q := 0) (x := a0) rfl rfl (dl_at t_X25_typeOf 2 rfl) ?_
  refine r_getr (pc := 5) X fX25_16 hk q3785 (dl_at t_X25_typeOf 3 rfl) ?_
  refine g_iload_n (pc := 8) X (j := 1) (i := 1) (q := 1) (x := a1) rfl rfl (dl_at t_X25_typeOf 4 rfl) ?_
  refine g_gd fun k9 => ?_
  refine g_iald (pc := 9) X r1 k9 (dl_at t_X25_typeOf 5 rfl) fun g9 => ?_
  refine g_iload_n (pc := 10) X (j := 2) (i := 2) (q := 2) (x := a2) rfl rfl (dl_at t_X25_typeOf 6 rfl) ?_
  refine g_iadd (pc := 11) X g9 r2 (dl_at t_X25_typeOf 7 rfl) ?_
  refine g_iconst (pc := 12) X (n := 1) (dl_at t_X25_typeOf 8 rfl) ?_
  refine g_isub (pc := 13) X (r32_w _) (r32_c rfl) (dl_at t_X25_typeOf 9 rfl) ?_
  refine g_gd fun k14 => ?_
  refine g_iald (pc := 14) X (r32_w _) k14 (dl_at t_X25_typeOf 10 rfl) fun g14 => ?_
  exact g_iret (pc := 15) X g14 rfl rfl (dl_at t_X25_typeOf 11 rfl)
def k_X25_lineWidth : List (Nat × Instr × Nat) := [(0, .iload_n 2, 1), (1, .ifCond .eq 12, 3), (4, .aload_n 0, 1), (5, .getfield 38, 3), (8, .iload_n 1, 1), (9, .iaload, 1), (10, .ifCond .eq 10, 3), (13, .aload_n 0, 1), (14, .getfield 62, 3), (17, .iload_n 1, 1), (18, .laload, 1), (19, .lreturn, 1), (20, .ldc2_w 490, 3), (23, .aload_n 0, 1), (24, .getfield 62, 3), (27, .iload_n 1, 1), (28, .laload, 1), (29, .aload_n 0, 1), (30, .getfield 59, 3), (33, .iload_n 1, 1), (34, .iaload, 1), (35, .i2l, 1), (36, .lsub, 1), (37, .invokestatic 658, 3), (40, .lreturn, 1)]
theorem t_X25_lineWidth : ∀ q ∈ k_X25_lineWidth, decode cX25_lineWidth q.1 = .ok q.2 := dl_all (by decide +kernel)
noncomputable def m_X25_lineWidth (a0 a1 a2 : Int) (h : Hp) : Option (Int) :=
  if a2 = 0 then (gd (h (h a0 21) (-2) % 16 = 4 ∧ (0 : Int) ≤ a1 ∧ a1 < h (h a0 21) (-1)) (some (h (h a0 21) a1)))
  else (gd (h (h a0 13) (-2) % 16 = 1 ∧ (0 : Int) ≤ a1 ∧ a1 < h (h a0 13) (-1)) (if (h (h a0 13) a1) = 0 then (gd (h (h a0 21) (-2) % 16 = 4 ∧ (0 : Int) ≤ a1 ∧ a1 < h (h a0 21) (-1)) (gd (h (h a0 20) (-2) % 16 = 1 ∧ (0 : Int) ≤ a1 ∧ a1 < h (h a0 20) (-1)) (some (max_ 1000 (w64 ((h (h a0 21) a1) - (h (h a0 20) a1)))))))
  else (gd (h (h a0 21) (-2) % 16 = 4 ∧ (0 : Int) ≤ a1 ∧ a1 < h (h a0 21) (-1)) (some (h (h a0 21) a1)))))
theorem s_X25_lineWidth {l : Launch} [NoTr l] {D : SD} {a0 a1 a2 : Int} {h : Hp} (hk : h a0 (-2) = 416) (r1 : r32 a1) (r2 : (a2 = 0 ∨ a2 = 1)) {r : Int} (hm : m_X25_lineWidth a0 a1 a2 h = some r) : Sim l D yX25_lineWidth (Cond.code yX25_lineWidth cX25_lineWidth 3 (Option.some Jvm.ClassFile.FieldType.long)) 1 40 [rv D a0, iv a1, iv a2] h 4 ((0, r), h) := by
  refine Sim.of (fin := fun (v : Int) => ((0, v), h)) (lsE := [(0, rv D a0), (1, iv a1), (2, iv a2)]) hm rfl cwS_code (la_r (la_i (la_i la_n))) (ll_r (ll_i (ll_i ll_n))) ?_
  intro p e s m below meth c X hcw hmm hcc hnm hname
  unfold m_X25_lineWidth
  refine g_iload_n (pc := 0) X (j := 2) (i := 2) (q := 2) (x := a2) rfl rfl (dl_at t_X25_lineWidth 0 rfl) ?_
  refine g_ifeq (pc := 1) X (r32_z r2) (off := 12) (tgt := 13) rfl (dl_at t_X25_lineWidth 1 rfl) (fun _ => ?_) (fun _ => ?_)
  · refine g_aload_n (pc := 13) X (j := 0) (i := 0) (q := 0) (x := a0) rfl rfl (dl_at t_X25_lineWidth 7 rfl) ?_
    refine r_getr (pc := 14) X fX25_21 hk q3793 (dl_at t_X25_lineWidth 8 rfl) ?_
    refine g_iload_n (pc := 17) X (j := 1) (i := 1) (q := 1) (x := a1) rfl rfl (dl_at t_X25_lineWidth 9 rfl) ?_
    refine g_gd fun k18 => ?_
    refine g_lald (pc := 18) X r1 k18 (dl_at t_X25_lineWidth 10 rfl) fun g18 => ?_
    exact g_lret (pc := 19) X g18 rfl rfl (dl_at t_X25_lineWidth 11 rfl)
  refine g_aload_n (pc := 4) X (j := 0) (i := 0) (q := 0) (x := a0) rfl rfl (dl_at t_X25_lineWidth 2 rfl) ?_
  refine r_getr (pc := 5) X fX25_13 hk q3781 (dl_at t_X25_lineWidth 3 rfl) ?_
  refine g_iload_n (pc := 8) X (j := 1) (i := 1) (q := 1) (x := a1) rfl rfl (dl_at t_X25_lineWidth 4 rfl) ?_
  refine g_gd fun k9 => ?_
  refine g_iald (pc := 9) X r1 k9 (dl_at t_X25_lineWidth 5 rfl) fun g9 => ?_
  refine g_ifeq (pc := 10) X g9 (off := 10) (tgt := 20) rfl (dl_at t_X25_lineWidth 6 rfl) (fun _ => ?_) (fun _ => ?_)
  · refine g_ldc2 (pc := 20) X (index := 490) (n := 1000) q4849 (dl_at t_X25_lineWidth 12 rfl) ?_
    refine g_aload_n (pc := 23) X (j := 0) (i := 0) (q := 0) (x := a0) rfl rfl (dl_at t_X25_lineWidth 13 rfl) ?_
    refine r_getr (pc := 24) X fX25_21 hk q3793 (dl_at t_X25_lineWidth 14 rfl) ?_
    refine g_iload_n (pc := 27) X (j := 1) (i := 1) (q := 1) (x := a1) rfl rfl (dl_at t_X25_lineWidth 15 rfl) ?_
    refine g_gd fun k28 => ?_
    refine g_lald (pc := 28) X r1 k28 (dl_at t_X25_lineWidth 16 rfl) fun g28 => ?_
    refine g_aload_n (pc := 29) X (j := 0) (i := 0) (q := 0) (x := a0) rfl rfl (dl_at t_X25_lineWidth 17 rfl) ?_
    refine r_getr (pc := 30) X fX25_20 hk q3792 (dl_at t_X25_lineWidth 18 rfl) ?_
    refine g_iload_n (pc := 33) X (j := 1) (i := 1) (q := 1) (x := a1) rfl rfl (dl_at t_X25_lineWidth 19 rfl) ?_
    refine g_gd fun k34 => ?_
    refine g_iald (pc := 34) X r1 k34 (dl_at t_X25_lineWidth 20 rfl) fun g34 => ?_
    refine g_i2l (pc := 35) X g34 (dl_at t_X25_lineWidth 21 rfl) ?_
    refine g_lsub (pc := 36) X g28 (r64_of g34) (dl_at t_X25_lineWidth 22 rfl) ?_
    refine g_mmaxl (pc := 37) X (r64_c rfl) (r64_w _) q4943 q4944 q398 q4945 (cat24 (st := []) (Nat.le_of_ble_eq_true rfl)) (Nat.le_of_ble_eq_true rfl) (Nat.le_of_ble_eq_true rfl) (dl_at t_X25_lineWidth 23 rfl) ?_
    exact g_lret (pc := 40) X (r64_max (r64_c rfl) (r64_w _)) rfl rfl (dl_at t_X25_lineWidth 24 rfl)
  refine g_aload_n (pc := 13) X (j := 0) (i := 0) (q := 0) (x := a0) rfl rfl (dl_at t_X25_lineWidth 7 rfl) ?_
  refine r_getr (pc := 14) X fX25_21 hk q3793 (dl_at t_X25_lineWidth 8 rfl) ?_
  refine g_iload_n (pc := 17) X (j := 1) (i := 1) (q := 1) (x := a1) rfl rfl (dl_at t_X25_lineWidth 9 rfl) ?_
  refine g_gd fun k18_1 => ?_
  refine g_lald (pc := 18) X r1 k18_1 (dl_at t_X25_lineWidth 10 rfl) fun g18_1 => ?_
  exact g_lret (pc := 19) X g18_1 rfl rfl (dl_at t_X25_lineWidth 11 rfl)
def k_X25_isParted : List (Nat × Instr × Nat) := [(0, .iload_n 2, 1), (1, .ifCond .le 27, 3), (4, .aload_n 0, 1), (5, .iload_n 1, 1), (6, .iload_n 2, 1), (7, .invokevirtual 699, 3), (10, .iconst 1, 1), (11, .if_icmp .eq 13, 3), (14, .aload_n 0, 1), (15, .iload_n 1, 1), (16, .iload_n 2, 1), (17, .invokevirtual 699, 3), (20, .iconst 2, 1), (21, .if_icmp .ne 7, 3), (24, .iconst 1, 1), (25, .goto 4, 3), (28, .iconst 0, 1), (29, .ireturn, 1)]
theorem t_X25_isParted : ∀ q ∈ k_X25_isParted, decode cX25_isParted q.1 = .ok q.2 := dl_all (by decide +kernel)
noncomputable def m_X25_isParted (a0 a1 a2 : Int) (h : Hp) : Option (Int) :=
  if a2 ≤ 0 then (some 0)
  else ((m_X25_typeOf a0 a1 a2 h).bind fun v7 =>
  if v7 = 1 then (some 1)
  else ((m_X25_typeOf a0 a1 a2 h).bind fun v17 =>
  if v17 ≠ 2 then (some 0)
  else (some 1)))
theorem s_X25_isParted {l : Launch} [NoTr l] {D : SD} {a0 a1 a2 : Int} {h : Hp} (hk : h a0 (-2) = 416) (r1 : r32 a1) (r2 : r32 a2) {r : Int} (hm : m_X25_isParted a0 a1 a2 h = some r) : Sim l D yX25_isParted (Cond.code yX25_isParted cX25_isParted 3 (Option.some Jvm.ClassFile.FieldType.boolean)) 1 38 [rv D a0, iv a1, iv a2] h 3 ((0, r), h) := by
  refine Sim.of (fin := fun (v : Int) => ((0, v), h)) (lsE := [(0, rv D a0), (1, iv a1), (2, iv a2)]) hm rfl cwS_code (la_r (la_i (la_i la_n))) (ll_r (ll_i (ll_i ll_n))) ?_
  intro p e s m below meth c X hcw hmm hcc hnm hname
  unfold m_X25_isParted
  refine g_iload_n (pc := 0) X (j := 2) (i := 2) (q := 2) (x := a2) rfl rfl (dl_at t_X25_isParted 0 rfl) ?_
  refine g_ifle (pc := 1) X r2 (off := 27) (tgt := 28) rfl (dl_at t_X25_isParted 1 rfl) (fun _ => ?_) (fun _ => ?_)
  · refine g_iconst (pc := 28) X (n := 0) (dl_at t_X25_isParted 16 rfl) ?_
    exact g_zret (pc := 29) X (Or.inl rfl) rfl rfl (dl_at t_X25_isParted 17 rfl)
  refine g_aload_n (pc := 4) X (j := 0) (i := 0) (q := 0) (x := a0) rfl rfl (dl_at t_X25_isParted 2 rfl) ?_
  refine g_iload_n (pc := 5) X (j := 1) (i := 1) (q := 1) (x := a1) rfl rfl (dl_at t_X25_isParted 3 rfl) ?_
  refine g_iload_n (pc := 6) X (j := 2) (i := 2) (q := 2) (x := a2) rfl rfl (dl_at t_X25_isParted 4 rfl) ?_
  refine r_callRi (pc := 7) X (fun _ hv => s_X25_typeOf hk r1 r2 hv) cw_code q5018 q379 (in_Vk X (As := [iv a1, iv a2]) kX25 hk (Or.inl q5015) q5017 qs326 cw_code q5018 ⟨by decide, by decide⟩ rfl (dl_at t_X25_isParted 5 rfl)) (dl_at t_X25_isParted 5 rfl) (cat24 (st := []) (Nat.le_of_ble_eq_true rfl)) (Nat.le_of_ble_eq_true rfl) (Nat.le_of_ble_eq_true rfl) fun v7 g7 => ?_
  refine g_iconst (pc := 10) X (n := 1) (dl_at t_X25_isParted 6 rfl) ?_
  refine g_icmpeq (pc := 11) X g7 (r32_c rfl) (off := 13) (tgt := 24) rfl (dl_at t_X25_isParted 7 rfl) (fun _ => ?_) (fun _ => ?_)
  · refine g_iconst (pc := 24) X (n := 1) (dl_at t_X25_isParted 14 rfl) ?_
    refine g_goto (pc := 25) X (off := 4) (tgt := 29) rfl (dl_at t_X25_isParted 15 rfl) ?_
    exact g_zret (pc := 29) X (Or.inr rfl) rfl rfl (dl_at t_X25_isParted 17 rfl)
  refine g_aload_n (pc := 14) X (j := 0) (i := 0) (q := 0) (x := a0) rfl rfl (dl_at t_X25_isParted 8 rfl) ?_
  refine g_iload_n (pc := 15) X (j := 1) (i := 1) (q := 1) (x := a1) rfl rfl (dl_at t_X25_isParted 9 rfl) ?_
  refine g_iload_n (pc := 16) X (j := 2) (i := 2) (q := 2) (x := a2) rfl rfl (dl_at t_X25_isParted 10 rfl) ?_
  refine r_callRi (pc := 17) X (fun _ hv => s_X25_typeOf hk r1 r2 hv) cw_code q5018 q379 (in_Vk X (As := [iv a1, iv a2]) kX25 hk (Or.inl q5015) q5017 qs326 cw_code q5018 ⟨by decide, by decide⟩ rfl (dl_at t_X25_isParted 11 rfl)) (dl_at t_X25_isParted 11 rfl) (cat24 (st := []) (Nat.le_of_ble_eq_true rfl)) (Nat.le_of_ble_eq_true rfl) (Nat.le_of_ble_eq_true rfl) fun v17 g17 => ?_
  refine g_iconst (pc := 20) X (n := 2) (dl_at t_X25_isParted 12 rfl) ?_
  refine g_icmpne (pc := 21) X g17 (r32_c rfl) (off := 7) (tgt := 28) rfl (dl_at t_X25_isParted 13 rfl) (fun _ => ?_) (fun _ => ?_)
  · refine g_iconst (pc := 28) X (n := 0) (dl_at t_X25_isParted 16 rfl) ?_
    exact g_zret (pc := 29) X (Or.inl rfl) rfl rfl (dl_at t_X25_isParted 17 rfl)
  refine g_iconst (pc := 24) X (n := 1) (dl_at t_X25_isParted 14 rfl) ?_
  refine g_goto (pc := 25) X (off := 4) (tgt := 29) rfl (dl_at t_X25_isParted 15 rfl) ?_
  exact g_zret (pc := 29) X (Or.inr rfl) rfl rfl (dl_at t_X25_isParted 17 rfl)
def k_X25_measure : List (Nat × Instr × Nat) := [(0, .aload_n 0, 1), (1, .iload_n 1, 1), (2, .iload_n 3, 1), (3, .invokevirtual 699, 3), (6, .istore 4, 2), (8, .aload_n 0, 1), (9, .aload_n 0, 1), (10, .getfield 268, 3), (13, .iload_n 3, 1), (14, .laload, 1), (15, .aload_n 0, 1), (16, .getfield 268, 3), (19, .iload_n 2, 1), (20, .laload, 1), (21, .lsub, 1), (22, .aload_n 0, 1), (23, .getfield 271, 3), (26, .iload_n 3, 1), (27, .iconst 1, 1), (28, .isub, 1), (29, .laload, 1), (30, .ladd, 1), (31, .aload_n 0, 1), (32, .getfield 271, 3), (35, .iload_n 2, 1), (36, .laload, 1), (37, .lsub, 1), (38, .aload_n 0, 1), (39, .getfield 81, 3), (42, .aload_n 0, 1), (43, .getfield 47, 3), (46, .iload_n 1, 1), (47, .iaload, 1), (48, .iload_n 3, 1), (49, .iadd, 1), (50, .iconst 1, 1), (51, .isub, 1), (52, .laload, 1), (53, .ladd, 1), (54, .putfield 702, 3), (57, .aload_n 0, 1), (58, .aload_n 0, 1), (59, .iload_n 1, 1), (60, .iload_n 2, 1), (61, .ifCond .ne 7, 3), (64, .iconst 1, 1), (65, .goto 4, 3), (68, .iconst 0, 1), (69, .invokevirtual 706, 3), (72, .putfield 710, 3), (75, .aload_n 0, 1), (76, .getfield 14, 3), (79, .aload_n 0, 1), (80, .getfield 35, 3), (83, .iload_n 1, 1), (84, .iaload, 1), (85, .bipush 8, 2), (87, .invokevirtual 477, 3), (90, .ifCond .ne 7, 3), (93, .iconst 1, 1), (94, .goto 4, 3), (97, .iconst 0, 1), (98, .istore 5, 2), (100, .aload_n 0, 1), (101, .iload 5, 2), (103, .ifCond .eq 21, 3), (106, .aload_n 0, 1), (107, .getfield 274, 3), (110, .iload_n 3, 1), (111, .iconst 1, 1), (112, .isub, 1), (113, .laload, 1), (114, .aload_n 0, 1), (115, .getfield 274, 3), (118, .iload_n 2, 1), (119, .laload, 1), (120, .lsub, 1), (121, .goto 7, 3), (124, .aload_n 0, 1), (125, .getfield 710, 3), (128, .putfield 713, 3), (131, .aload_n 0, 1), (132, .iload 5, 2), (134, .ifCond .eq 21, 3), (137, .aload_n 0, 1), (138, .getfield 277, 3), (141, .iload_n 3, 1), (142, .iconst 1, 1), (143, .isub, 1), (144, .laload, 1), (145, .aload_n 0, 1), (146, .getfield 277, 3), (149, .iload_n 2, 1), (150, .laload, 1), (151, .lsub, 1), (152, .goto 4, 3), (155, .lconst 0, 1), (156, .putfield 716, 3), (159, .aload_n 0, 1), (160, .iconst 0, 1), (161, .putfield 719, 3), (164, .aload_n 0, 1), (165, .getfield 702, 3), (168, .aload_n 0, 1), (169, .getfield 710, 3), (172, .lcmp, 1), (173, .ifCond .ge 60, 3), (176, .aload_n 0, 1), (177, .iload 4, 2), (179, .iconst 3, 1), (180, .if_icmp .ne 7, 3), (183, .iconst 0, 1), (184, .goto 43, 3), (187, .aload_n 0, 1), (188, .getfield 713, 3), (191, .lconst 0, 1), (192, .lcmp, 1), (193, .ifCond .ne 9, 3), (196, .ldc_w 723, 3), (199, .goto 28, 3), (202, .ldc2_w 724, 3), (205, .aload_n 0, 1), (206, .getfield 710, 3), (209, .aload_n 0, 1), (210, .getfield 702, 3), (213, .lsub, 1), (214, .ldc2_w 490, 3), (217, .lmul, 1), (218, .aload_n 0, 1), (219, .getfield 713, 3), (222, .ldiv, 1), (223, .invokestatic 726, 3), (226, .l2i, 1), (227, .putfield 728, 3), (230, .goto 86, 3), (233, .aload_n 0, 1), (234, .getfield 702, 3), (237, .aload_n 0, 1), (238, .getfield 710, 3), (241, .lcmp, 1), (242, .ifCond .ne 11, 3), (245, .aload_n 0, 1), (246, .iconst 0, 1), (247, .putfield 728, 3), (250, .goto 66, 3), (253, .aload_n 0, 1), (254, .getfield 702, 3), (257, .aload_n 0, 1), (258, .getfield 710, 3), (261, .lsub, 1), (262, .aload_n 0, 1), (263, .getfield 716, 3), (266, .lcmp, 1), (267, .ifCond .gt 37, 3), (270, .aload_n 0, 1), (271, .aload_n 0, 1), (272, .getfield 702, 3), (275, .aload_n 0, 1), (276, .getfield 710, 3), (279, .lsub, 1), (280, .ldc2_w 490, 3), (283, .lmul, 1), (284, .aload_n 0, 1), (285, .getfield 716, 3), (288, .ladd, 1), (289, .lconst 1, 1), (290, .lsub, 1), (291, .aload_n 0, 1), (292, .getfield 716, 3), (295, .ldiv, 1), (296, .l2i, 1), (297, .ineg, 1), (298, .putfield 728, 3), (301, .goto 15, 3), (304, .aload_n 0, 1), (305, .sipush (-1000), 3), (308, .putfield 728, 3), (311, .aload_n 0, 1), (312, .iconst 1, 1), (313, .putfield 719, 3), (316, .aload_n 0, 1), (317, .getfield 728, 3), (320, .invokestatic 669, 3), (323, .i2l, 1), (324, .lstore 6, 2), (326, .aload_n 0, 1), (327, .aload_n 0, 1), (328, .getfield 719, 3), (331, .ifCond .eq 9, 3), (334, .sipush 10000, 3), (337, .goto 26, 3), (340, .ldc2_w 731, 3), (343, .ldc2_w 733, 3), (346, .lload 6, 2), (348, .lmul, 1), (349, .lload 6, 2), (351, .lmul, 1), (352, .lload 6, 2), (354, .lmul, 1), (355, .ldc2_w 735, 3), (358, .ldiv, 1), (359, .invokestatic 726, 3), (362, .l2i, 1), (363, .putfield 737, 3), (366, .aload_n 0, 1), (367, .aload_n 0, 1), (368, .getfield 728, 3), (371, .sipush (-500), 3), (374, .if_icmp .ge 7, 3), (377, .iconst 0, 1), (378, .goto 32, 3), (381, .aload_n 0, 1), (382, .getfield 728, 3), (385, .sipush 500, 3), (388, .if_icmp .gt 7, 3), (391, .iconst 1, 1), (392, .goto 18, 3), (395, .aload_n 0, 1), (396, .getfield 728, 3), (399, .sipush 1000, 3), (402, .if_icmp .gt 7, 3), (405, .iconst 2, 1), (406, .goto 4, 3), (409, .iconst 3, 1), (410, .putfield 740, 3), (413, .aload_n 0, 1), (414, .ldc2_w 743, 3), (417, .aload_n 0, 1), (418, .getfield 737, 3), (421, .i2l, 1), (422, .ladd, 1), (423, .ldc2_w 743, 3), (426, .aload_n 0, 1), (427, .getfield 737, 3), (430, .i2l, 1), (431, .ladd, 1), (432, .lmul, 1), (433, .iload 4, 2), (435, .iconst 1, 1), (436, .if_icmp .ne 9, 3), (439, .ldc2_w 745, 3), (442, .goto 16, 3), (445, .iload 4, 2), (447, .iconst 2, 1), (448, .if_icmp .ne 9, 3), (451, .ldc2_w 747, 3), (454, .goto 4, 3), (457, .lconst 0, 1), (458, .ladd, 1), (459, .aload_n 0, 1), (460, .getfield 719, 3), (463, .ifCond .eq 24, 3), (466, .ldc2_w 735, 3), (469, .aload_n 0, 1), (470, .getfield 702, 3), (473, .ladd, 1), (474, .aload_n 0, 1), (475, .getfield 716, 3), (478, .lsub, 1), (479, .aload_n 0, 1), (480, .getfield 710, 3), (483, .lsub, 1), (484, .goto 4, 3), (487, .lconst 0, 1), (488, .ladd, 1), (489, .putfield 749, 3), (492, .aload_n 0, 1), (493, .iload_n 1, 1), (494, .iload_n 2, 1), (495, .invokevirtual 752, 3), (498, .ifCond .eq 40, 3), (501, .aload_n 0, 1), (502, .dup, 1), (503, .getfield 749, 3), (506, .aload_n 0, 1), (507, .iload_n 1, 1), (508, .iload_n 3, 1), (509, .invokevirtual 752, 3), (512, .ifCond .eq 9, 3), (515, .ldc2_w 755, 3), (518, .goto 16, 3), (521, .iload 4, 2), (523, .iconst 3, 1), (524, .if_icmp .ne 9, 3), (527, .ldc2_w 757, 3), (530, .goto 4, 3), (533, .lconst 0, 1), (534, .ladd, 1), (535, .putfield 749, 3), (538, .return_, 1)]
theorem t_X25_measure : ∀ q ∈ k_X25_measure, decode cX25_measure q.1 = .ok q.2 := dl_all (by decide +kernel)
noncomputable def m_X25_measure_j488 (a0 a1 a2 a3 v3 s1_488 s2_488 : Int) (h410 : Hp) : Option (Hp) :=
  pt h410 a0 116 (w64 (s1_488 + s2_488)) fun h489 =>
  (m_X25_isParted a0 a1 a2 h489).bind fun v495 =>
  if v495 = 0 then (some h489)
  else ((m_X25_isParted a0 a1 a3 h489).bind fun v509 =>
  if v509 = 0 then (if v3 ≠ 3 then (pt h489 a0 116 (w64 ((h489 a0 116) + 0)) fun h535 =>
  some h535)
  else (pt h489 a0 116 (w64 ((h489 a0 116) + 5000)) fun h535_1 =>
  some h535_1))
  else (pt h489 a0 116 (w64 ((h489 a0 116) + 3000)) fun h535_2 =>
  some h535_2))
noncomputable def m_X25_measure_j458 (a0 a1 a2 a3 v3 s1_458 s2_458 : Int) (h410 : Hp) : Option (Hp) :=
  if (h410 a0 120) = 0 then (m_X25_measure_j488 a0 a1 a2 a3 v3 (w64 (s1_458 + s2_458)) 0 h410)
  else (m_X25_measure_j488 a0 a1 a2 a3 v3 (w64 (s1_458 + s2_458)) (w64 ((w64 ((w64 (1000000000 + (h410 a0 112))) - (h410 a0 115))) - (h410 a0 113))) h410)
noncomputable def m_X25_measure_j410 (a0 a1 a2 a3 v3 s1_410 : Int) (h363 : Hp) : Option (Hp) :=
  pt h363 a0 119 s1_410 fun h410 =>
  if v3 ≠ 1 then (if v3 ≠ 2 then (m_X25_measure_j458 a0 a1 a2 a3 v3 (w64 ((w64 (10 + (h410 a0 118))) * (w64 (10 + (h410 a0 118))))) 0 h410)
  else (m_X25_measure_j458 a0 a1 a2 a3 v3 (w64 ((w64 (10 + (h410 a0 118))) * (w64 (10 + (h410 a0 118))))) 900 h410))
  else (m_X25_measure_j458 a0 a1 a2 a3 v3 (w64 ((w64 (10 + (h410 a0 118))) * (w64 (10 + (h410 a0 118))))) 2500 h410)
noncomputable def m_X25_measure_j363 (a0 a1 a2 a3 v3 s1_363 : Int) (h_316 : Hp) : Option (Hp) :=
  pt h_316 a0 118 s1_363 fun h363 =>
  if (-500) ≤ (h363 a0 117) then (if 500 < (h363 a0 117) then (if 1000 < (h363 a0 117) then (m_X25_measure_j410 a0 a1 a2 a3 v3 3 h363)
  else (m_X25_measure_j410 a0 a1 a2 a3 v3 2 h363))
  else (m_X25_measure_j410 a0 a1 a2 a3 v3 1 h363))
  else (m_X25_measure_j410 a0 a1 a2 a3 v3 0 h363)
noncomputable def m_X25_measure_j316 (a0 a1 a2 a3 v3 : Int) (h_316 : Hp) : Option (Hp) :=
  lt_ (abs_ (h_316 a0 117)) fun x6_324 =>
  if (h_316 a0 120) = 0 then (m_X25_measure_j363 a0 a1 a2 a3 v3 (w32 (min_ 10000 (w64 (Int.tdiv (w64 ((w64 ((w64 (100 * x6_324)) * x6_324)) * x6_324)) 1000000000)))) h_316)
  else (m_X25_measure_j363 a0 a1 a2 a3 v3 10000 h_316)
noncomputable def m_X25_measure_j227 (a0 a1 a2 a3 v3 s1_227 : Int) (h161 : Hp) : Option (Hp) :=
  pt h161 a0 117 s1_227 fun h227 =>
  m_X25_measure_j316 a0 a1 a2 a3 v3 h227
noncomputable def m_X25_measure_j156 (a0 a1 a2 a3 v3 s1_156 : Int) (h128 : Hp) : Option (Hp) :=
  pt h128 a0 115 s1_156 fun h156 =>
  pt h156 a0 120 0 fun h161 =>
  if 0 ≤ (lcmp_ (h161 a0 112) (h161 a0 113)) then (if (lcmp_ (h161 a0 112) (h161 a0 113)) ≠ 0 then (if 0 < (lcmp_ (w64 ((h161 a0 112) - (h161 a0 113))) (h161 a0 115)) then (pt h161 a0 117 (-1000) fun h308 =>
  pt h308 a0 120 1 fun h313 =>
  m_X25_measure_j316 a0 a1 a2 a3 v3 h313)
  else (gd ((h161 a0 115) ≠ 0) (pt h161 a0 117 (w32 (-(w32 (w64 (Int.tdiv (w64 ((w64 ((w64 ((w64 ((h161 a0 112) - (h161 a0 113))) * 1000)) + (h161 a0 115))) - 1)) (h161 a0 115)))))) fun h298 =>
  m_X25_measure_j316 a0 a1 a2 a3 v3 h298)))
  else (pt h161 a0 117 0 fun h247 =>
  m_X25_measure_j316 a0 a1 a2 a3 v3 h247))
  else (if v3 ≠ 3 then (if (lcmp_ (h161 a0 114) 0) ≠ 0 then (gd ((h161 a0 114) ≠ 0) (m_X25_measure_j227 a0 a1 a2 a3 v3 (w32 (min_ 100000 (w64 (Int.tdiv (w64 ((w64 ((h161 a0 113) - (h161 a0 112))) * 1000)) (h161 a0 114))))) h161))
  else (m_X25_measure_j227 a0 a1 a2 a3 v3 100000 h161))
  else (m_X25_measure_j227 a0 a1 a2 a3 v3 0 h161))
noncomputable def m_X25_measure_j128 (s0_98 v3 a0 a1 a2 a3 s1_128 : Int) (h72 : Hp) : Option (Hp) :=
  pt h72 a0 114 s1_128 fun h128 =>
  if s0_98 = 0 then (m_X25_measure_j156 a0 a1 a2 a3 v3 0 h128)
  else (gd (h128 (h128 a0 107) (-2) % 16 = 4 ∧ (0 : Int) ≤ (w32 (a3 - 1)) ∧ (w32 (a3 - 1)) < h128 (h128 a0 107) (-1)) (gd (h128 (h128 a0 107) (-2) % 16 = 4 ∧ (0 : Int) ≤ a2 ∧ a2 < h128 (h128 a0 107) (-1)) (m_X25_measure_j156 a0 a1 a2 a3 v3 (w64 ((h128 (h128 a0 107) (w32 (a3 - 1))) - (h128 (h128 a0 107) a2))) h128)))
noncomputable def m_X25_measure_j98 (a0 a1 a2 a3 v3 s0_98 : Int) (h72 : Hp) : Option (Hp) :=
  if s0_98 = 0 then (m_X25_measure_j128 s0_98 v3 a0 a1 a2 a3 (h72 a0 113) h72)
  else (gd (h72 (h72 a0 106) (-2) % 16 = 4 ∧ (0 : Int) ≤ (w32 (a3 - 1)) ∧ (w32 (a3 - 1)) < h72 (h72 a0 106) (-1)) (gd (h72 (h72 a0 106) (-2) % 16 = 4 ∧ (0 : Int) ≤ a2 ∧ a2 < h72 (h72 a0 106) (-1)) (m_X25_measure_j128 s0_98 v3 a0 a1 a2 a3 (w64 ((h72 (h72 a0 106) (w32 (a3 - 1))) - (h72 (h72 a0 106) a2))) h72)))
noncomputable def m_X25_measure_j69 (v3 a3 a0 a1 a2 s3_69 : Int) (h54 : Hp) : Option (Hp) :=
  (m_X25_lineWidth a0 a1 s3_69 h54).bind fun v69 =>
  pt h54 a0 113 v69 fun h72 =>
  gd (h72 (h72 a0 12) (-2) % 16 = 1 ∧ (0 : Int) ≤ a1 ∧ a1 < h72 (h72 a0 12) (-1)) (gd (h72 (h72 a0 0) (-2) = 400) ((m_X24_of (h72 a0 0) (h72 (h72 a0 12) a1) 8 h72).bind fun v87 =>
  if v87 ≠ 0 then (m_X25_measure_j98 a0 a1 a2 a3 v3 0 h72)
  else (m_X25_measure_j98 a0 a1 a2 a3 v3 1 h72)))
noncomputable def m_X25_measure (a0 a1 a2 a3 : Int) (h : Hp) : Option (Hp) :=
  (m_X25_typeOf a0 a1 a3 h).bind fun v3 =>
  gd (h (h a0 104) (-2) % 16 = 4 ∧ (0 : Int) ≤ a3 ∧ a3 < h (h a0 104) (-1)) (gd (h (h a0 104) (-2) % 16 = 4 ∧ (0 : Int) ≤ a2 ∧ a2 < h (h a0 104) (-1)) (gd (h (h a0 105) (-2) % 16 = 4 ∧ (0 : Int) ≤ (w32 (a3 - 1)) ∧ (w32 (a3 - 1)) < h (h a0 105) (-1)) (gd (h (h a0 105) (-2) % 16 = 4 ∧ (0 : Int) ≤ a2 ∧ a2 < h (h a0 105) (-1)) (gd (h (h a0 16) (-2) % 16 = 1 ∧ (0 : Int) ≤ a1 ∧ a1 < h (h a0 16) (-1)) (gd (h (h a0 27) (-2) % 16 = 4 ∧ (0 : Int) ≤ (w32 ((w32 ((h (h a0 16) a1) + a3)) - 1)) ∧ (w32 ((w32 ((h (h a0 16) a1) + a3)) - 1)) < h (h a0 27) (-1)) (pt h a0 112 (w64 ((w64 ((w64 ((w64 ((h (h a0 104) a3) - (h (h a0 104) a2))) + (h (h a0 105) (w32 (a3 - 1))))) - (h (h a0 105) a2))) + (h (h a0 27) (w32 ((w32 ((h (h a0 16) a1) + a3)) - 1))))) fun h54 =>
  if a2 ≠ 0 then (m_X25_measure_j69 v3 a3 a0 a1 a2 0 h54)
  else (m_X25_measure_j69 v3 a3 a0 a1 a2 1 h54)))))))
theorem s_X25_measure {l : Launch} [NoTr l] {D : SD} {a0 a1 a2 a3 : Int} {h : Hp} (hk : h a0 (-2) = 416) (r1 : r32 a1) (r2 : r32 a2) (r3 : r32 a3) {r : Hp} (hm : m_X25_measure a0 a1 a2 a3 h = some r) : Sim l D yX25_measure (Cond.code yX25_measure cX25_measure 8 (Option.none : Option Jvm.ClassFile.FieldType)) 2 78 [rv D a0, iv a1, iv a2, iv a3] h 0 ((0, 0), r) := by
  refine Sim.of (fin := fun (v : Hp) => ((0, 0), v)) (lsE := [(0, rv D a0), (1, iv a1), (2, iv a2), (3, iv a3)]) hm rfl cwS_code (la_r (la_i (la_i (la_i la_n)))) (ll_r (ll_i (ll_i (ll_i ll_n)))) ?_
  intro p e s m below meth c X hcw hmm hcc hnm hname
  unfold m_X25_measure
  refine g_aload_n (pc := 0) X (j := 0) (i := 0) (q := 0) (x := a0) rfl rfl (dl_at t_X25_measure 0 rfl) ?_
  refine g_iload_n (pc := 1) X (j := 1) (i := 1) (q := 1) (x := a1) rfl rfl (dl_at t_X25_measure 1 rfl) ?_
  refine g_iload_n (pc := 2) X (j := 3) (i := 3) (q := 3) (x := a3) rfl rfl (dl_at t_X25_measure 2 rfl) ?_
  refine r_callRi (pc := 3) X (fun _ hv => s_X25_typeOf hk r1 r3 hv) cw_code q5018 q379 (in_Vk X (As := [iv a1, iv a3]) kX25 hk (Or.inl q5015) q5017 qs326 cw_code q5018 ⟨by decide, by decide⟩ rfl (dl_at t_X25_measure 3 rfl)) (dl_at t_X25_measure 3 rfl) (cat24 (st := []) (Nat.le_of_ble_eq_true rfl)) (Nat.le_of_ble_eq_true rfl) (Nat.le_of_ble_eq_true rfl) fun v3 g3 => ?_
  refine g_istoreN (pc := 6) X (i := 4) (x := v3) (b := 3) (w := iv a3) (rest := [(0, rv D a0), (1, iv a1), (2, iv a2)]) (Nat.le_of_ble_eq_true rfl) [3, 0, 1, 2] rfl (by decide) rfl rfl (dl_at t_X25_measure 4 rfl) ?_
  refine g_aload_n (pc := 8) X (j := 0) (i := 0) (q := 2) (x := a0) rfl rfl (dl_at t_X25_measure 5 rfl) ?_
  refine g_aload_n (pc := 9) X (j := 0) (i := 0) (q := 2) (x := a0) rfl rfl (dl_at t_X25_measure 6 rfl) ?_
  refine r_getr (pc := 10) X fX25_104 hk q3916 (dl_at t_X25_measure 7 rfl) ?_
  refine g_iload_n (pc := 13) X (j := 3) (i := 3) (q := 1) (x := a3) rfl rfl (dl_at t_X25_measure 8 rfl) ?_
  refine g_gd fun k14 => ?_
  refine g_lald (pc := 14) X r3 k14 (dl_at t_X25_measure 9 rfl) fun g14 => ?_
  refine g_aload_n (pc := 15) X (j := 0) (i := 0) (q := 2) (x := a0) rfl rfl (dl_at t_X25_measure 10 rfl) ?_
  refine r_getr (pc := 16) X fX25_104 hk q3916 (dl_at t_X25_measure 11 rfl) ?_
  refine g_iload_n (pc := 19) X (j := 2) (i := 2) (q := 4) (x := a2) rfl rfl (dl_at t_X25_measure 12 rfl) ?_
  refine g_gd fun k20 => ?_
  refine g_lald (pc := 20) X r2 k20 (dl_at t_X25_measure 13 rfl) fun g20 => ?_
  refine g_lsub (pc := 21) X g14 g20 (dl_at t_X25_measure 14 rfl) ?_
  refine g_aload_n (pc := 22) X (j := 0) (i := 0) (q := 2) (x := a0) rfl rfl (dl_at t_X25_measure 15 rfl) ?_
  refine r_getr (pc := 23) X fX25_105 hk q3917 (dl_at t_X25_measure 16 rfl) ?_
  refine g_iload_n (pc := 26) X (j := 3) (i := 3) (q := 1) (x := a3) rfl rfl (dl_at t_X25_measure 17 rfl) ?_
  refine g_iconst (pc := 27) X (n := 1) (dl_at t_X25_measure 18 rfl) ?_
  refine g_isub (pc := 28) X r3 (r32_c rfl) (dl_at t_X25_measure 19 rfl) ?_
  refine g_gd fun k29 => ?_
  refine g_lald (pc := 29) X (r32_w _) k29 (dl_at t_X25_measure 20 rfl) fun g29 => ?_
  refine g_ladd (pc := 30) X (r64_w _) g29 (dl_at t_X25_measure 21 rfl) ?_
  refine g_aload_n (pc := 31) X (j := 0) (i := 0) (q := 2) (x := a0) rfl rfl (dl_at t_X25_measure 22 rfl) ?_
  refine r_getr (pc := 32) X fX25_105 hk q3917 (dl_at t_X25_measure 23 rfl) ?_
  refine g_iload_n (pc := 35) X (j := 2) (i := 2) (q := 4) (x := a2) rfl rfl (dl_at t_X25_measure 24 rfl) ?_
  refine g_gd fun k36 => ?_
  refine g_lald (pc := 36) X r2 k36 (dl_at t_X25_measure 25 rfl) fun g36 => ?_
  refine g_lsub (pc := 37) X (r64_w _) g36 (dl_at t_X25_measure 26 rfl) ?_
  refine g_aload_n (pc := 38) X (j := 0) (i := 0) (q := 2) (x := a0) rfl rfl (dl_at t_X25_measure 27 rfl) ?_
  refine r_getr (pc := 39) X fX25_27 hk q3801 (dl_at t_X25_measure 28 rfl) ?_
  refine g_aload_n (pc := 42) X (j := 0) (i := 0) (q := 2) (x := a0) rfl rfl (dl_at t_X25_measure 29 rfl) ?_
  refine r_getr (pc := 43) X fX25_16 hk q3785 (dl_at t_X25_measure 30 rfl) ?_
  refine g_iload_n (pc := 46) X (j := 1) (i := 1) (q := 3) (x := a1) rfl rfl (dl_at t_X25_measure 31 rfl) ?_
  refine g_gd fun k47 => ?_
  refine g_iald (pc := 47) X r1 k47 (dl_at t_X25_measure 32 rfl) fun g47 => ?_
  refine g_iload_n (pc := 48) X (j := 3) (i := 3) (q := 1) (x := a3) rfl rfl (dl_at t_X25_measure 33 rfl) ?_
  refine g_iadd (pc := 49) X g47 r3 (dl_at t_X25_measure 34 rfl) ?_
  refine g_iconst (pc := 50) X (n := 1) (dl_at t_X25_measure 35 rfl) ?_
  refine g_isub (pc := 51) X (r32_w _) (r32_c rfl) (dl_at t_X25_measure 36 rfl) ?_
  refine g_gd fun k52 => ?_
  refine g_lald (pc := 52) X (r32_w _) k52 (dl_at t_X25_measure 37 rfl) fun g52 => ?_
  refine g_ladd (pc := 53) X (r64_w _) g52 (dl_at t_X25_measure 38 rfl) ?_
  refine r_putl (pc := 54) X fX25_112 hk q3924 rfl (dl_at t_X25_measure 39 rfl) (r64_w _) (fun h54 E54 => ?_)
  refine g_aload_n (pc := 57) X (j := 0) (i := 0) (q := 2) (x := a0) rfl rfl (dl_at t_X25_measure 40 rfl) ?_
  refine g_aload_n (pc := 58) X (j := 0) (i := 0) (q := 2) (x := a0) rfl rfl (dl_at t_X25_measure 41 rfl) ?_
  refine g_iload_n (pc := 59) X (j := 1) (i := 1) (q := 3) (x := a1) rfl rfl (dl_at t_X25_measure 42 rfl) ?_
  refine g_iload_n (pc := 60) X (j := 2) (i := 2) (q := 4) (x := a2) rfl rfl (dl_at t_X25_measure 43 rfl) ?_
  refine g_join (γ := Int) (fun q => (q = 0 ∨ q = 1)) 69 (fun q => [(0, rv D a0), (1, iv a1), (2, iv a2), (3, iv a3), (4, iv v3)]) (fun q => [iv q, iv a1, rv D a0, rv D a0]) (fun q => h54) (fun q => m_X25_measure_j69 v3 a3 a0 a1 a2 q h54) ?_ ?_
  · rintro s3_69 rs3_69
    try dsimp only
    unfold m_X25_measure_j69
    have k69 := kx E54 (by decide) hk
    refine r_callRl (pc := 69) X (fun _ hv => s_X25_lineWidth k69 r1 rs3_69 hv) cw_code q5022 q379 (in_Vk X (As := [iv a1, iv s3_69]) kX25 k69 (Or.inl q5019) q5021 qs327 cw_code q5022 ⟨by decide, by decide⟩ rfl (dl_at t_X25_measure 48 rfl)) (dl_at t_X25_measure 48 rfl) (cat24 (st := [rv D a0]) (Nat.le_of_ble_eq_true rfl)) (Nat.le_of_ble_eq_true rfl) (Nat.le_of_ble_eq_true rfl) fun v69 g69 => ?_
    refine r_putl (pc := 72) X fX25_113 k69 q3925 rfl (dl_at t_X25_measure 49 rfl) g69 (fun h72 E72 => ?_)
    refine g_aload_n (pc := 75) X (j := 0) (i := 0) (q := 0) (x := a0) rfl rfl (dl_at t_X25_measure 50 rfl) ?_
    have k76 := kx E72 (by decide) k69
    refine r_getr (pc := 76) X fX25_0 k76 q3761 (dl_at t_X25_measure 51 rfl) ?_
    refine g_aload_n (pc := 79) X (j := 0) (i := 0) (q := 0) (x := a0) rfl rfl (dl_at t_X25_measure 52 rfl) ?_
    refine r_getr (pc := 80) X fX25_12 k76 q3779 (dl_at t_X25_measure 53 rfl) ?_
    refine g_iload_n (pc := 83) X (j := 1) (i := 1) (q := 1) (x := a1) rfl rfl (dl_at t_X25_measure 54 rfl) ?_
    refine g_gd fun k84 => ?_
    refine g_iald (pc := 84) X r1 k84 (dl_at t_X25_measure 55 rfl) fun g84 => ?_
    refine g_bipush (pc := 85) X (n := 8) rfl (dl_at t_X25_measure 56 rfl) ?_
    refine g_gd fun k87 => ?_
    refine r_callRi (pc := 87) X (fun _ hv => s_X24_of k87 g84 (r32_c rfl) hv) cw_code q4704 q378 (in_Vk X (As := [iv (h72 (h72 a0 12) a1), iv 8]) kX24 k87 (Or.inl q4844) q4702 q4703 cw_code q4704 ⟨by decide, by decide⟩ rfl (dl_at t_X25_measure 57 rfl)) (dl_at t_X25_measure 57 rfl) (cat24 (st := []) (Nat.le_of_ble_eq_true rfl)) (Nat.le_of_ble_eq_true rfl) (Nat.le_of_ble_eq_true rfl) fun v87 g87 => ?_
    refine g_join (γ := Int) (fun q => (q = 0 ∨ q = 1)) 98 (fun q => [(0, rv D a0), (1, iv a1), (2, iv a2), (3, iv a3), (4, iv v3)]) (fun q => [iv q]) (fun q => h72) (fun q => m_X25_measure_j98 a0 a1 a2 a3 v3 q h72) ?_ ?_
    · rintro s0_98 rs0_98
      try dsimp only
      unfold m_X25_measure_j98
      refine g_istoreN (pc := 98) X (i := 5) (x := s0_98) (b := 4) (w := iv v3) (rest := [(0, rv D a0), (1, iv a1), (2, iv a2), (3, iv a3)]) (Nat.le_of_ble_eq_true rfl) [4, 0, 1, 2, 3] rfl (by decide) rfl rfl (dl_at t_X25_measure 62 rfl) ?_
      refine g_aload_n (pc := 100) X (j := 0) (i := 0) (q := 2) (x := a0) rfl rfl (dl_at t_X25_measure 63 rfl) ?_
      refine g_iload (pc := 101) X (i := 5) (q := 0) (x := s0_98) rfl (dl_at t_X25_measure 64 rfl) ?_
      refine g_join (γ := Int) (fun q => r64 q) 128 (fun q => [(0, rv D a0), (1, iv a1), (2, iv a2), (3, iv a3), (4, iv v3), (5, iv s0_98)]) (fun q => [jv q, rv D a0]) (fun q => h72) (fun q => m_X25_measure_j128 s0_98 v3 a0 a1 a2 a3 q h72) ?_ ?_
      · rintro s1_128 rs1_128
        try dsimp only
        unfold m_X25_measure_j128
        refine r_putl (pc := 128) X fX25_114 k76 q3926 rfl (dl_at t_X25_measure 80 rfl) rs1_128 (fun h128 E128 => ?_)
        refine g_aload_n (pc := 131) X (j := 0) (i := 0) (q := 0) (x := a0) rfl rfl (dl_at t_X25_measure 81 rfl) ?_
        refine g_iload (pc := 132) X (i := 5) (q := 5) (x := s0_98) rfl (dl_at t_X25_measure 82 rfl) ?_
        refine g_join (γ := Int) (fun q => r64 q) 156 (fun q => [(0, rv D a0), (1, iv a1), (2, iv a2), (3, iv a3), (4, iv v3)]) (fun q => [jv q, rv D a0]) (fun q => h128) (fun q => m_X25_measure_j156 a0 a1 a2 a3 v3 q h128) ?_ ?_
        · rintro s1_156 rs1_156
          try dsimp only
          unfold m_X25_measure_j156
          have k156 := kx E128 (by decide) k76
          refine r_putl (pc := 156) X fX25_115 k156 q3927 rfl (dl_at t_X25_measure 97 rfl) rs1_156 (fun h156 E156 => ?_)
          refine g_aload_n (pc := 159) X (j := 0) (i := 0) (q := 0) (x := a0) rfl rfl (dl_at t_X25_measure 98 rfl) ?_
          refine g_iconst (pc := 160) X (n := 0) (dl_at t_X25_measure 99 rfl) ?_
          have k161 := kx E156 (by decide) k156
          refine r_putz (pc := 161) X fX25_120 k161 q3932 rfl (dl_at t_X25_measure 100 rfl) (Or.inl rfl) (fun h161 E161 => ?_)
          refine g_aload_n (pc := 164) X (j := 0) (i := 0) (q := 0) (x := a0) rfl rfl (dl_at t_X25_measure 101 rfl) ?_
          have k165 := kx E161 (by decide) k161
          refine r_getl (pc := 165) X fX25_112 k165 q3924 (dl_at t_X25_measure 102 rfl) fun g165 => ?_
          refine g_aload_n (pc := 168) X (j := 0) (i := 0) (q := 0) (x := a0) rfl rfl (dl_at t_X25_measure 103 rfl) ?_
          refine r_getl (pc := 169) X fX25_113 k165 q3925 (dl_at t_X25_measure 104 rfl) fun g169 => ?_
          refine g_lcmp (pc := 172) X g165 g169 (dl_at t_X25_measure 105 rfl) ?_
          refine g_join (γ := Hp) (fun q => Ext h161 q) 316 (fun q => [(0, rv D a0), (1, iv a1), (2, iv a2), (3, iv a3), (4, iv v3)]) (fun q => []) (fun q => q) (fun q => m_X25_measure_j316 a0 a1 a2 a3 v3 q) ?_ ?_
          · rintro h_316 E_316
            try dsimp only
            unfold m_X25_measure_j316
            refine g_aload_n (pc := 316) X (j := 0) (i := 0) (q := 0) (x := a0) rfl rfl (dl_at t_X25_measure 180 rfl) ?_
            have k317 := kx E_316 (by decide) k165
            refine r_geti (pc := 317) X fX25_117 k317 q3929 (dl_at t_X25_measure 181 rfl) fun g317 => ?_
            refine g_mabs (pc := 320) X g317 q4982 q4983 q398 q4984 (cat24 (st := []) (Nat.le_of_ble_eq_true rfl)) (Nat.le_of_ble_eq_true rfl) (Nat.le_of_ble_eq_true rfl) (dl_at t_X25_measure 182 rfl) ?_
            refine g_i2l (pc := 323) X (r32_abs g317) (dl_at t_X25_measure 183 rfl) ?_
            refine g_ltl (r64_of (r32_abs g317)) fun x6_324 r6_324 => ?_
            refine g_lstore (pc := 324) X (i := 6) (x := x6_324) (rest := [(0, rv D a0), (1, iv a1), (2, iv a2), (3, iv a3), (4, iv v3)]) (Nat.le_of_ble_eq_true rfl) [0, 1, 2, 3, 4] rfl rfl (dl_at t_X25_measure 184 rfl) ?_
            refine g_aload_n (pc := 326) X (j := 0) (i := 0) (q := 1) (x := a0) rfl rfl (dl_at t_X25_measure 185 rfl) ?_
            refine g_aload_n (pc := 327) X (j := 0) (i := 0) (q := 1) (x := a0) rfl rfl (dl_at t_X25_measure 186 rfl) ?_
            refine r_getz (pc := 328) X fX25_120 k317 q3932 (dl_at t_X25_measure 187 rfl) fun g328 => ?_
            refine g_join (γ := Int) (fun q => r32 q) 363 (fun q => [(0, rv D a0), (1, iv a1), (2, iv a2), (3, iv a3), (4, iv v3)]) (fun q => [iv q, rv D a0]) (fun q => h_316) (fun q => m_X25_measure_j363 a0 a1 a2 a3 v3 q h_316) ?_ ?_
            · rintro s1_363 rs1_363
              try dsimp only
              unfold m_X25_measure_j363
              refine r_puti (pc := 363) X fX25_118 k317 q3930 rfl (dl_at t_X25_measure 203 rfl) rs1_363 (fun h363 E363 => ?_)
              refine g_aload_n (pc := 366) X (j := 0) (i := 0) (q := 0) (x := a0) rfl rfl (dl_at t_X25_measure 204 rfl) ?_
              refine g_aload_n (pc := 367) X (j := 0) (i := 0) (q := 0) (x := a0) rfl rfl (dl_at t_X25_measure 205 rfl) ?_
              have k368 := kx E363 (by decide) k317
              refine r_geti (pc := 368) X fX25_117 k368 q3929 (dl_at t_X25_measure 206 rfl) fun g368 => ?_
              refine g_sipush (pc := 371) X (n := (-500)) rfl (dl_at t_X25_measure 207 rfl) ?_
              refine g_join (γ := Int) (fun q => r32 q) 410 (fun q => [(0, rv D a0), (1, iv a1), (2, iv a2), (3, iv a3), (4, iv v3)]) (fun q => [iv q, rv D a0]) (fun q => h363) (fun q => m_X25_measure_j410 a0 a1 a2 a3 v3 q h363) ?_ ?_
              · rintro s1_410 rs1_410
                try dsimp only
                unfold m_X25_measure_j410
                refine r_puti (pc := 410) X fX25_119 k368 q3931 rfl (dl_at t_X25_measure 224 rfl) rs1_410 (fun h410 E410 => ?_)
                refine g_aload_n (pc := 413) X (j := 0) (i := 0) (q := 0) (x := a0) rfl rfl (dl_at t_X25_measure 225 rfl) ?_
                refine g_ldc2 (pc := 414) X (index := 743) (n := 10) q5031 (dl_at t_X25_measure 226 rfl) ?_
                refine g_aload_n (pc := 417) X (j := 0) (i := 0) (q := 0) (x := a0) rfl rfl (dl_at t_X25_measure 227 rfl) ?_
                have k418 := kx E410 (by decide) k368
                refine r_geti (pc := 418) X fX25_118 k418 q3930 (dl_at t_X25_measure 228 rfl) fun g418 => ?_
                refine g_i2l (pc := 421) X g418 (dl_at t_X25_measure 229 rfl) ?_
                refine g_ladd (pc := 422) X (r64_c rfl) (r64_of g418) (dl_at t_X25_measure 230 rfl) ?_
                refine g_ldc2 (pc := 423) X (index := 743) (n := 10) q5031 (dl_at t_X25_measure 231 rfl) ?_
                refine g_aload_n (pc := 426) X (j := 0) (i := 0) (q := 0) (x := a0) rfl rfl (dl_at t_X25_measure 232 rfl) ?_
                refine r_geti (pc := 427) X fX25_118 k418 q3930 (dl_at t_X25_measure 233 rfl) fun g427 => ?_
                refine g_i2l (pc := 430) X g427 (dl_at t_X25_measure 234 rfl) ?_
                refine g_ladd (pc := 431) X (r64_c rfl) (r64_of g427) (dl_at t_X25_measure 235 rfl) ?_
                refine g_lmul (pc := 432) X (r64_w _) (r64_w _) (dl_at t_X25_measure 236 rfl) ?_
                refine g_iload (pc := 433) X (i := 4) (q := 4) (x := v3) rfl (dl_at t_X25_measure 237 rfl) ?_
                refine g_iconst (pc := 435) X (n := 1) (dl_at t_X25_measure 238 rfl) ?_
                refine g_join (γ := Int × Int) (fun q => r64 q.1 ∧ r64 q.2) 458 (fun q => [(0, rv D a0), (1, iv a1), (2, iv a2), (3, iv a3), (4, iv v3)]) (fun q => [jv q.2, jv q.1, rv D a0]) (fun q => h410) (fun q => m_X25_measure_j458 a0 a1 a2 a3 v3 q.1 q.2 h410) ?_ ?_
                · rintro ⟨s1_458, s2_458⟩ ⟨rs1_458, rs2_458⟩
                  try dsimp only
                  unfold m_X25_measure_j458
                  refine g_ladd (pc := 458) X rs1_458 rs2_458 (dl_at t_X25_measure 248 rfl) ?_
                  refine g_aload_n (pc := 459) X (j := 0) (i := 0) (q := 0) (x := a0) rfl rfl (dl_at t_X25_measure 249 rfl) ?_
                  refine r_getz (pc := 460) X fX25_120 k418 q3932 (dl_at t_X25_measure 250 rfl) fun g460 => ?_
                  refine g_join (γ := Int × Int) (fun q => r64 q.1 ∧ r64 q.2) 488 (fun q => [(0, rv D a0), (1, iv a1), (2, iv a2), (3, iv a3), (4, iv v3)]) (fun q => [jv q.2, jv q.1, rv D a0]) (fun q => h410) (fun q => m_X25_measure_j488 a0 a1 a2 a3 v3 q.1 q.2 h410) ?_ ?_
                  · rintro ⟨s1_488, s2_488⟩ ⟨rs1_488, rs2_488⟩
                    try dsimp only
                    unfold m_X25_measure_j488
                    refine g_ladd (pc := 488) X rs1_488 rs2_488 (dl_at t_X25_measure 264 rfl) ?_
                    refine r_putl (pc := 489) X fX25_116 k418 q3928 rfl (dl_at t_X25_measure 265 rfl) (r64_w _) (fun h489 E489 => ?_)
                    refine g_aload_n (pc := 492) X (j := 0) (i := 0) (q := 0) (x := a0) rfl rfl (dl_at t_X25_measure 266 rfl) ?_
                    refine g_iload_n (pc := 493) X (j := 1) (i := 1) (q := 1) (x := a1) rfl rfl (dl_at t_X25_measure 267 rfl) ?_
                    refine g_iload_n (pc := 494) X (j := 2) (i := 2) (q := 2) (x := a2) rfl rfl (dl_at t_X25_measure 268 rfl) ?_
                    have k495 := kx E489 (by decide) k418
                    refine r_callRz (pc := 495) X (fun _ hv => s_X25_isParted k495 r1 r2 hv) cw_code q5037 q379 (in_Vk X (As := [iv a1, iv a2]) kX25 k495 (Or.inl q5034) q5036 qs328 cw_code q5037 ⟨by decide, by decide⟩ rfl (dl_at t_X25_measure 269 rfl)) (dl_at t_X25_measure 269 rfl) (cat24 (st := []) (Nat.le_of_ble_eq_true rfl)) (Nat.le_of_ble_eq_true rfl) (Nat.le_of_ble_eq_true rfl) fun v495 g495 => ?_
                    refine g_ifeq (pc := 498) X (r32_z g495) (off := 40) (tgt := 538) rfl (dl_at t_X25_measure 270 rfl) (fun _ => ?_) (fun _ => ?_)
                    · exact g_vret (pc := 538) X (v := 0) rfl rfl (dl_at t_X25_measure 289 rfl)
                    refine g_aload_n (pc := 501) X (j := 0) (i := 0) (q := 0) (x := a0) rfl rfl (dl_at t_X25_measure 271 rfl) ?_
                    refine g_dup (pc := 502) X rv_cat (dl_at t_X25_measure 272 rfl) ?_
                    refine r_getl (pc := 503) X fX25_116 k495 q3928 (dl_at t_X25_measure 273 rfl) fun g503 => ?_
                    refine g_aload_n (pc := 506) X (j := 0) (i := 0) (q := 0) (x := a0) rfl rfl (dl_at t_X25_measure 274 rfl) ?_
                    refine g_iload_n (pc := 507) X (j := 1) (i := 1) (q := 1) (x := a1) rfl rfl (dl_at t_X25_measure 275 rfl) ?_
                    refine g_iload_n (pc := 508) X (j := 3) (i := 3) (q := 3) (x := a3) rfl rfl (dl_at t_X25_measure 276 rfl) ?_
                    refine r_callRz (pc := 509) X (fun _ hv => s_X25_isParted k495 r1 r3 hv) cw_code q5037 q379 (in_Vk X (As := [iv a1, iv a3]) kX25 k495 (Or.inl q5034) q5036 qs328 cw_code q5037 ⟨by decide, by decide⟩ rfl (dl_at t_X25_measure 277 rfl)) (dl_at t_X25_measure 277 rfl) (cat24 (st := [jv (h489 a0 116), rv D a0]) (Nat.le_of_ble_eq_true rfl)) (Nat.le_of_ble_eq_true rfl) (Nat.le_of_ble_eq_true rfl) fun v509 g509 => ?_
                    refine g_ifeq (pc := 512) X (r32_z g509) (off := 9) (tgt := 521) rfl (dl_at t_X25_measure 278 rfl) (fun _ => ?_) (fun _ => ?_)
                    · refine g_iload (pc := 521) X (i := 4) (q := 4) (x := v3) rfl (dl_at t_X25_measure 281 rfl) ?_
                      refine g_iconst (pc := 523) X (n := 3) (dl_at t_X25_measure 282 rfl) ?_
                      refine g_icmpne (pc := 524) X g3 (r32_c rfl) (off := 9) (tgt := 533) rfl (dl_at t_X25_measure 283 rfl) (fun _ => ?_) (fun _ => ?_)
                      · refine g_lconst0 (pc := 533) X (dl_at t_X25_measure 286 rfl) ?_
                        refine g_ladd (pc := 534) X g503 (r64_c rfl) (dl_at t_X25_measure 287 rfl) ?_
                        refine r_putl (pc := 535) X fX25_116 k495 q3928 rfl (dl_at t_X25_measure 288 rfl) (r64_w _) (fun h535 E535 => ?_)
                        exact g_vret (pc := 538) X (v := 0) rfl rfl (dl_at t_X25_measure 289 rfl)
                      refine g_ldc2 (pc := 527) X (index := 757) (n := 5000) q5039 (dl_at t_X25_measure 284 rfl) ?_
                      refine g_goto (pc := 530) X (off := 4) (tgt := 534) rfl (dl_at t_X25_measure 285 rfl) ?_
                      refine g_ladd (pc := 534) X g503 (r64_c rfl) (dl_at t_X25_measure 287 rfl) ?_
                      refine r_putl (pc := 535) X fX25_116 k495 q3928 rfl (dl_at t_X25_measure 288 rfl) (r64_w _) (fun h535_1 E535_1 => ?_)
                      exact g_vret (pc := 538) X (v := 0) rfl rfl (dl_at t_X25_measure 289 rfl)
                    refine g_ldc2 (pc := 515) X (index := 755) (n := 3000) q5038 (dl_at t_X25_measure 279 rfl) ?_
                    refine g_goto (pc := 518) X (off := 16) (tgt := 534) rfl (dl_at t_X25_measure 280 rfl) ?_
                    refine g_ladd (pc := 534) X g503 (r64_c rfl) (dl_at t_X25_measure 287 rfl) ?_
                    refine r_putl (pc := 535) X fX25_116 k495 q3928 rfl (dl_at t_X25_measure 288 rfl) (r64_w _) (fun h535_2 E535_2 => ?_)
                    exact g_vret (pc := 538) X (v := 0) rfl rfl (dl_at t_X25_measure 289 rfl)
                  intro J488
                  refine g_ifeq (pc := 463) X (r32_z g460) (off := 24) (tgt := 487) rfl (dl_at t_X25_measure 251 rfl) (fun _ => ?_) (fun _ => ?_)
                  · refine g_lconst0 (pc := 487) X (dl_at t_X25_measure 263 rfl) ?_
                    exact J488 ((w64 (s1_458 + s2_458)), 0) ⟨(r64_w _), (r64_c rfl)⟩
                  refine g_ldc2 (pc := 466) X (index := 735) (n := 1000000000) q5030 (dl_at t_X25_measure 252 rfl) ?_
                  refine g_aload_n (pc := 469) X (j := 0) (i := 0) (q := 0) (x := a0) rfl rfl (dl_at t_X25_measure 253 rfl) ?_
                  refine r_getl (pc := 470) X fX25_112 k418 q3924 (dl_at t_X25_measure 254 rfl) fun g470 => ?_
                  refine g_ladd (pc := 473) X (r64_c rfl) g470 (dl_at t_X25_measure 255 rfl) ?_
                  refine g_aload_n (pc := 474) X (j := 0) (i := 0) (q := 0) (x := a0) rfl rfl (dl_at t_X25_measure 256 rfl) ?_
                  refine r_getl (pc := 475) X fX25_115 k418 q3927 (dl_at t_X25_measure 257 rfl) fun g475 => ?_
                  refine g_lsub (pc := 478) X (r64_w _) g475 (dl_at t_X25_measure 258 rfl) ?_
                  refine g_aload_n (pc := 479) X (j := 0) (i := 0) (q := 0) (x := a0) rfl rfl (dl_at t_X25_measure 259 rfl) ?_
                  refine r_getl (pc := 480) X fX25_113 k418 q3925 (dl_at t_X25_measure 260 rfl) fun g480 => ?_
                  refine g_lsub (pc := 483) X (r64_w _) g480 (dl_at t_X25_measure 261 rfl) ?_
                  refine g_goto (pc := 484) X (off := 4) (tgt := 488) rfl (dl_at t_X25_measure 262 rfl) ?_
                  exact J488 ((w64 (s1_458 + s2_458)), (w64 ((w64 ((w64 (1000000000 + (h410 a0 112))) - (h410 a0 115))) - (h410 a0 113)))) ⟨(r64_w _), (r64_w _)⟩
                intro J458
                refine g_icmpne (pc := 436) X g3 (r32_c rfl) (off := 9) (tgt := 445) rfl (dl_at t_X25_measure 239 rfl) (fun _ => ?_) (fun _ => ?_)
                · refine g_iload (pc := 445) X (i := 4) (q := 4) (x := v3) rfl (dl_at t_X25_measure 242 rfl) ?_
                  refine g_iconst (pc := 447) X (n := 2) (dl_at t_X25_measure 243 rfl) ?_
                  refine g_icmpne (pc := 448) X g3 (r32_c rfl) (off := 9) (tgt := 457) rfl (dl_at t_X25_measure 244 rfl) (fun _ => ?_) (fun _ => ?_)
                  · refine g_lconst0 (pc := 457) X (dl_at t_X25_measure 247 rfl) ?_
                    exact J458 ((w64 ((w64 (10 + (h410 a0 118))) * (w64 (10 + (h410 a0 118))))), 0) ⟨(r64_w _), (r64_c rfl)⟩
                  refine g_ldc2 (pc := 451) X (index := 747) (n := 900) q5033 (dl_at t_X25_measure 245 rfl) ?_
                  refine g_goto (pc := 454) X (off := 4) (tgt := 458) rfl (dl_at t_X25_measure 246 rfl) ?_
                  exact J458 ((w64 ((w64 (10 + (h410 a0 118))) * (w64 (10 + (h410 a0 118))))), 900) ⟨(r64_w _), (r64_c rfl)⟩
                refine g_ldc2 (pc := 439) X (index := 745) (n := 2500) q5032 (dl_at t_X25_measure 240 rfl) ?_
                refine g_goto (pc := 442) X (off := 16) (tgt := 458) rfl (dl_at t_X25_measure 241 rfl) ?_
                exact J458 ((w64 ((w64 (10 + (h410 a0 118))) * (w64 (10 + (h410 a0 118))))), 2500) ⟨(r64_w _), (r64_c rfl)⟩
              intro J410
              refine g_icmpge (pc := 374) X g368 (r32_c rfl) (off := 7) (tgt := 381) rfl (dl_at t_X25_measure 208 rfl) (fun _ => ?_) (fun _ => ?_)
              · refine g_aload_n (pc := 381) X (j := 0) (i := 0) (q := 0) (x := a0) rfl rfl (dl_at t_X25_measure 211 rfl) ?_
                refine r_geti (pc := 382) X fX25_117 k368 q3929 (dl_at t_X25_measure 212 rfl) fun g382 => ?_
                refine g_sipush (pc := 385) X (n := 500) rfl (dl_at t_X25_measure 213 rfl) ?_
                refine g_icmpgt (pc := 388) X g382 (r32_c rfl) (off := 7) (tgt := 395) rfl (dl_at t_X25_measure 214 rfl) (fun _ => ?_) (fun _ => ?_)
                · refine g_aload_n (pc := 395) X (j := 0) (i := 0) (q := 0) (x := a0) rfl rfl (dl_at t_X25_measure 217 rfl) ?_
                  refine r_geti (pc := 396) X fX25_117 k368 q3929 (dl_at t_X25_measure 218 rfl) fun g396 => ?_
                  refine g_sipush (pc := 399) X (n := 1000) rfl (dl_at t_X25_measure 219 rfl) ?_
                  refine g_icmpgt (pc := 402) X g396 (r32_c rfl) (off := 7) (tgt := 409) rfl (dl_at t_X25_measure 220 rfl) (fun _ => ?_) (fun _ => ?_)
                  · refine g_iconst (pc := 409) X (n := 3) (dl_at t_X25_measure 223 rfl) ?_
                    exact J410 3 (r32_c rfl)
                  refine g_iconst (pc := 405) X (n := 2) (dl_at t_X25_measure 221 rfl) ?_
                  refine g_goto (pc := 406) X (off := 4) (tgt := 410) rfl (dl_at t_X25_measure 222 rfl) ?_
                  exact J410 2 (r32_c rfl)
                refine g_iconst (pc := 391) X (n := 1) (dl_at t_X25_measure 215 rfl) ?_
                refine g_goto (pc := 392) X (off := 18) (tgt := 410) rfl (dl_at t_X25_measure 216 rfl) ?_
                exact J410 1 (r32_c rfl)
              refine g_iconst (pc := 377) X (n := 0) (dl_at t_X25_measure 209 rfl) ?_
              refine g_goto (pc := 378) X (off := 32) (tgt := 410) rfl (dl_at t_X25_measure 210 rfl) ?_
              exact J410 0 (r32_c rfl)
            intro J363
            refine g_ifeq (pc := 331) X (r32_z g328) (off := 9) (tgt := 340) rfl (dl_at t_X25_measure 188 rfl) (fun _ => ?_) (fun _ => ?_)
            · refine g_ldc2 (pc := 340) X (index := 731) (n := 10000) q5028 (dl_at t_X25_measure 191 rfl) ?_
              refine g_ldc2 (pc := 343) X (index := 733) (n := 100) q5029 (dl_at t_X25_measure 192 rfl) ?_
              refine g_lload (pc := 346) X (i := 6) (q := 0) (x := x6_324) rfl (dl_at t_X25_measure 193 rfl) ?_
              refine g_lmul (pc := 348) X (r64_c rfl) r6_324 (dl_at t_X25_measure 194 rfl) ?_
              refine g_lload (pc := 349) X (i := 6) (q := 0) (x := x6_324) rfl (dl_at t_X25_measure 195 rfl) ?_
              refine g_lmul (pc := 351) X (r64_w _) r6_324 (dl_at t_X25_measure 196 rfl) ?_
              refine g_lload (pc := 352) X (i := 6) (q := 0) (x := x6_324) rfl (dl_at t_X25_measure 197 rfl) ?_
              refine g_lmul (pc := 354) X (r64_w _) r6_324 (dl_at t_X25_measure 198 rfl) ?_
              refine g_ldc2 (pc := 355) X (index := 735) (n := 1000000000) q5030 (dl_at t_X25_measure 199 rfl) ?_
              refine g_ldiv (pc := 358) X (r64_w _) (r64_c rfl) (by decide) (dl_at t_X25_measure 200 rfl) ?_
              refine g_mminl (pc := 359) X (r64_c rfl) (r64_w _) q5025 q5026 q398 q5027 (cat24 (st := [rv D a0]) (Nat.le_of_ble_eq_true rfl)) (Nat.le_of_ble_eq_true rfl) (Nat.le_of_ble_eq_true rfl) (dl_at t_X25_measure 201 rfl) ?_
              refine g_l2i (pc := 362) X (r64_min (r64_c rfl) (r64_w _)) (dl_at t_X25_measure 202 rfl) ?_
              refine g_ls (ls2 := [(0, rv D a0), (1, iv a1), (2, iv a2), (3, iv a3), (4, iv v3)]) [1, 2, 3, 4, 5] rfl ?_
              exact J363 (w32 (min_ 10000 (w64 (Int.tdiv (w64 ((w64 ((w64 (100 * x6_324)) * x6_324)) * x6_324)) 1000000000)))) (r32_w _)
            refine g_sipush (pc := 334) X (n := 10000) rfl (dl_at t_X25_measure 189 rfl) ?_
            refine g_goto (pc := 337) X (off := 26) (tgt := 363) rfl (dl_at t_X25_measure 190 rfl) ?_
            refine g_ls (ls2 := [(0, rv D a0), (1, iv a1), (2, iv a2), (3, iv a3), (4, iv v3)]) [1, 2, 3, 4, 5] rfl ?_
            exact J363 10000 (r32_c rfl)
          intro J316
          refine g_ifge (pc := 173) X (r32_lcmp _ _) (off := 60) (tgt := 233) rfl (dl_at t_X25_measure 106 rfl) (fun _ => ?_) (fun _ => ?_)
          · refine g_aload_n (pc := 233) X (j := 0) (i := 0) (q := 0) (x := a0) rfl rfl (dl_at t_X25_measure 135 rfl) ?_
            refine r_getl (pc := 234) X fX25_112 k165 q3924 (dl_at t_X25_measure 136 rfl) fun g234 => ?_
            refine g_aload_n (pc := 237) X (j := 0) (i := 0) (q := 0) (x := a0) rfl rfl (dl_at t_X25_measure 137 rfl) ?_
            refine r_getl (pc := 238) X fX25_113 k165 q3925 (dl_at t_X25_measure 138 rfl) fun g238 => ?_
            refine g_lcmp (pc := 241) X g234 g238 (dl_at t_X25_measure 139 rfl) ?_
            refine g_ifne (pc := 242) X (r32_lcmp _ _) (off := 11) (tgt := 253) rfl (dl_at t_X25_measure 140 rfl) (fun _ => ?_) (fun _ => ?_)
            · refine g_aload_n (pc := 253) X (j := 0) (i := 0) (q := 0) (x := a0) rfl rfl (dl_at t_X25_measure 145 rfl) ?_
              refine r_getl (pc := 254) X fX25_112 k165 q3924 (dl_at t_X25_measure 146 rfl) fun g254 => ?_
              refine g_aload_n (pc := 257) X (j := 0) (i := 0) (q := 0) (x := a0) rfl rfl (dl_at t_X25_measure 147 rfl) ?_
              refine r_getl (pc := 258) X fX25_113 k165 q3925 (dl_at t_X25_measure 148 rfl) fun g258 => ?_
              refine g_lsub (pc := 261) X g254 g258 (dl_at t_X25_measure 149 rfl) ?_
              refine g_aload_n (pc := 262) X (j := 0) (i := 0) (q := 0) (x := a0) rfl rfl (dl_at t_X25_measure 150 rfl) ?_
              refine r_getl (pc := 263) X fX25_115 k165 q3927 (dl_at t_X25_measure 151 rfl) fun g263 => ?_
              refine g_lcmp (pc := 266) X (r64_w _) g263 (dl_at t_X25_measure 152 rfl) ?_
              refine g_ifgt (pc := 267) X (r32_lcmp _ _) (off := 37) (tgt := 304) rfl (dl_at t_X25_measure 153 rfl) (fun _ => ?_) (fun _ => ?_)
              · refine g_aload_n (pc := 304) X (j := 0) (i := 0) (q := 0) (x := a0) rfl rfl (dl_at t_X25_measure 174 rfl) ?_
                refine g_sipush (pc := 305) X (n := (-1000)) rfl (dl_at t_X25_measure 175 rfl) ?_
                refine r_puti (pc := 308) X fX25_117 k165 q3929 rfl (dl_at t_X25_measure 176 rfl) (r32_c rfl) (fun h308 E308 => ?_)
                refine g_aload_n (pc := 311) X (j := 0) (i := 0) (q := 0) (x := a0) rfl rfl (dl_at t_X25_measure 177 rfl) ?_
                refine g_iconst (pc := 312) X (n := 1) (dl_at t_X25_measure 178 rfl) ?_
                have k313 := kx E308 (by decide) k165
                refine r_putz (pc := 313) X fX25_120 k313 q3932 rfl (dl_at t_X25_measure 179 rfl) (Or.inr rfl) (fun h313 E313 => ?_)
                exact J316 h313 (E308.trans E313)
              refine g_aload_n (pc := 270) X (j := 0) (i := 0) (q := 0) (x := a0) rfl rfl (dl_at t_X25_measure 154 rfl) ?_
              refine g_aload_n (pc := 271) X (j := 0) (i := 0) (q := 0) (x := a0) rfl rfl (dl_at t_X25_measure 155 rfl) ?_
              refine r_getl (pc := 272) X fX25_112 k165 q3924 (dl_at t_X25_measure 156 rfl) fun g272 => ?_
              refine g_aload_n (pc := 275) X (j := 0) (i := 0) (q := 0) (x := a0) rfl rfl (dl_at t_X25_measure 157 rfl) ?_
              refine r_getl (pc := 276) X fX25_113 k165 q3925 (dl_at t_X25_measure 158 rfl) fun g276 => ?_
              refine g_lsub (pc := 279) X g272 g276 (dl_at t_X25_measure 159 rfl) ?_
              refine g_ldc2 (pc := 280) X (index := 490) (n := 1000) q4849 (dl_at t_X25_measure 160 rfl) ?_
              refine g_lmul (pc := 283) X (r64_w _) (r64_c rfl) (dl_at t_X25_measure 161 rfl) ?_
              refine g_aload_n (pc := 284) X (j := 0) (i := 0) (q := 0) (x := a0) rfl rfl (dl_at t_X25_measure 162 rfl) ?_
              refine r_getl (pc := 285) X fX25_115 k165 q3927 (dl_at t_X25_measure 163 rfl) fun g285 => ?_
              refine g_ladd (pc := 288) X (r64_w _) g285 (dl_at t_X25_measure 164 rfl) ?_
              refine g_lconst1 (pc := 289) X (dl_at t_X25_measure 165 rfl) ?_
              refine g_lsub (pc := 290) X (r64_w _) (r64_c rfl) (dl_at t_X25_measure 166 rfl) ?_
              refine g_aload_n (pc := 291) X (j := 0) (i := 0) (q := 0) (x := a0) rfl rfl (dl_at t_X25_measure 167 rfl) ?_
              refine r_getl (pc := 292) X fX25_115 k165 q3927 (dl_at t_X25_measure 168 rfl) fun g292 => ?_
              refine g_gd fun z295 => ?_
              refine g_ldiv (pc := 295) X (r64_w _) g292 z295 (dl_at t_X25_measure 169 rfl) ?_
              refine g_l2i (pc := 296) X (r64_w _) (dl_at t_X25_measure 170 rfl) ?_
              refine g_ineg (pc := 297) X (r32_w _) (dl_at t_X25_measure 171 rfl) ?_
              refine r_puti (pc := 298) X fX25_117 k165 q3929 rfl (dl_at t_X25_measure 172 rfl) (r32_w _) (fun h298 E298 => ?_)
              refine g_goto (pc := 301) X (off := 15) (tgt := 316) rfl (dl_at t_X25_measure 173 rfl) ?_
              exact J316 h298 E298
            refine g_aload_n (pc := 245) X (j := 0) (i := 0) (q := 0) (x := a0) rfl rfl (dl_at t_X25_measure 141 rfl) ?_
            refine g_iconst (pc := 246) X (n := 0) (dl_at t_X25_measure 142 rfl) ?_
            refine r_puti (pc := 247) X fX25_117 k165 q3929 rfl (dl_at t_X25_measure 143 rfl) (r32_c rfl) (fun h247 E247 => ?_)
            refine g_goto (pc := 250) X (off := 66) (tgt := 316) rfl (dl_at t_X25_measure 144 rfl) ?_
            exact J316 h247 E247
          refine g_aload_n (pc := 176) X (j := 0) (i := 0) (q := 0) (x := a0) rfl rfl (dl_at t_X25_measure 107 rfl) ?_
          refine g_iload (pc := 177) X (i := 4) (q := 4) (x := v3) rfl (dl_at t_X25_measure 108 rfl) ?_
          refine g_iconst (pc := 179) X (n := 3) (dl_at t_X25_measure 109 rfl) ?_
          refine g_join (γ := Int) (fun q => r32 q) 227 (fun q => [(0, rv D a0), (1, iv a1), (2, iv a2), (3, iv a3), (4, iv v3)]) (fun q => [iv q, rv D a0]) (fun q => h161) (fun q => m_X25_measure_j227 a0 a1 a2 a3 v3 q h161) ?_ ?_
          · rintro s1_227 rs1_227
            try dsimp only
            unfold m_X25_measure_j227
            refine r_puti (pc := 227) X fX25_117 k165 q3929 rfl (dl_at t_X25_measure 133 rfl) rs1_227 (fun h227 E227 => ?_)
            refine g_goto (pc := 230) X (off := 86) (tgt := 316) rfl (dl_at t_X25_measure 134 rfl) ?_
            exact J316 h227 E227
          intro J227
          refine g_icmpne (pc := 180) X g3 (r32_c rfl) (off := 7) (tgt := 187) rfl (dl_at t_X25_measure 110 rfl) (fun _ => ?_) (fun _ => ?_)
          · refine g_aload_n (pc := 187) X (j := 0) (i := 0) (q := 0) (x := a0) rfl rfl (dl_at t_X25_measure 113 rfl) ?_
            refine r_getl (pc := 188) X fX25_114 k165 q3926 (dl_at t_X25_measure 114 rfl) fun g188 => ?_
            refine g_lconst0 (pc := 191) X (dl_at t_X25_measure 115 rfl) ?_
            refine g_lcmp (pc := 192) X g188 (r64_c rfl) (dl_at t_X25_measure 116 rfl) ?_
            refine g_ifne (pc := 193) X (r32_lcmp _ _) (off := 9) (tgt := 202) rfl (dl_at t_X25_measure 117 rfl) (fun _ => ?_) (fun _ => ?_)
            · refine g_ldc2 (pc := 202) X (index := 724) (n := 100000) q5024 (dl_at t_X25_measure 120 rfl) ?_
              refine g_aload_n (pc := 205) X (j := 0) (i := 0) (q := 0) (x := a0) rfl rfl (dl_at t_X25_measure 121 rfl) ?_
              refine r_getl (pc := 206) X fX25_113 k165 q3925 (dl_at t_X25_measure 122 rfl) fun g206 => ?_
              refine g_aload_n (pc := 209) X (j := 0) (i := 0) (q := 0) (x := a0) rfl rfl (dl_at t_X25_measure 123 rfl) ?_
              refine r_getl (pc := 210) X fX25_112 k165 q3924 (dl_at t_X25_measure 124 rfl) fun g210 => ?_
              refine g_lsub (pc := 213) X g206 g210 (dl_at t_X25_measure 125 rfl) ?_
              refine g_ldc2 (pc := 214) X (index := 490) (n := 1000) q4849 (dl_at t_X25_measure 126 rfl) ?_
              refine g_lmul (pc := 217) X (r64_w _) (r64_c rfl) (dl_at t_X25_measure 127 rfl) ?_
              refine g_aload_n (pc := 218) X (j := 0) (i := 0) (q := 0) (x := a0) rfl rfl (dl_at t_X25_measure 128 rfl) ?_
              refine r_getl (pc := 219) X fX25_114 k165 q3926 (dl_at t_X25_measure 129 rfl) fun g219 => ?_
              refine g_gd fun z222 => ?_
              refine g_ldiv (pc := 222) X (r64_w _) g219 z222 (dl_at t_X25_measure 130 rfl) ?_
              refine g_mminl (pc := 223) X (r64_c rfl) (r64_w _) q5025 q5026 q398 q5027 (cat24 (st := [rv D a0]) (Nat.le_of_ble_eq_true rfl)) (Nat.le_of_ble_eq_true rfl) (Nat.le_of_ble_eq_true rfl) (dl_at t_X25_measure 131 rfl) ?_
              refine g_l2i (pc := 226) X (r64_min (r64_c rfl) (r64_w _)) (dl_at t_X25_measure 132 rfl) ?_
              exact J227 (w32 (min_ 100000 (w64 (Int.tdiv (w64 ((w64 ((h161 a0 113) - (h161 a0 112))) * 1000)) (h161 a0 114))))) (r32_w _)
            refine g_ldcw (pc := 196) X (index := 723) (n := 100000) q5023 (dl_at t_X25_measure 118 rfl) ?_
            refine g_goto (pc := 199) X (off := 28) (tgt := 227) rfl (dl_at t_X25_measure 119 rfl) ?_
            exact J227 100000 (r32_c rfl)
          refine g_iconst (pc := 183) X (n := 0) (dl_at t_X25_measure 111 rfl) ?_
          refine g_goto (pc := 184) X (off := 43) (tgt := 227) rfl (dl_at t_X25_measure 112 rfl) ?_
          exact J227 0 (r32_c rfl)
        intro J156
        refine g_ifeq (pc := 134) X (r32_z rs0_98) (off := 21) (tgt := 155) rfl (dl_at t_X25_measure 83 rfl) (fun _ => ?_) (fun _ => ?_)
        · refine g_lconst0 (pc := 155) X (dl_at t_X25_measure 96 rfl) ?_
          refine g_ls (ls2 := [(0, rv D a0), (1, iv a1), (2, iv a2), (3, iv a3), (4, iv v3)]) [0, 1, 2, 3, 4] rfl ?_
          exact J156 0 (r64_c rfl)
        refine g_aload_n (pc := 137) X (j := 0) (i := 0) (q := 0) (x := a0) rfl rfl (dl_at t_X25_measure 84 rfl) ?_
        have k138 := kx E128 (by decide) k76
        refine r_getr (pc := 138) X fX25_107 k138 q3919 (dl_at t_X25_measure 85 rfl) ?_
        refine g_iload_n (pc := 141) X (j := 3) (i := 3) (q := 3) (x := a3) rfl rfl (dl_at t_X25_measure 86 rfl) ?_
        refine g_iconst (pc := 142) X (n := 1) (dl_at t_X25_measure 87 rfl) ?_
        refine g_isub (pc := 143) X r3 (r32_c rfl) (dl_at t_X25_measure 88 rfl) ?_
        refine g_gd fun k144 => ?_
        refine g_lald (pc := 144) X (r32_w _) k144 (dl_at t_X25_measure 89 rfl) fun g144 => ?_
        refine g_aload_n (pc := 145) X (j := 0) (i := 0) (q := 0) (x := a0) rfl rfl (dl_at t_X25_measure 90 rfl) ?_
        refine r_getr (pc := 146) X fX25_107 k138 q3919 (dl_at t_X25_measure 91 rfl) ?_
        refine g_iload_n (pc := 149) X (j := 2) (i := 2) (q := 2) (x := a2) rfl rfl (dl_at t_X25_measure 92 rfl) ?_
        refine g_gd fun k150 => ?_
        refine g_lald (pc := 150) X r2 k150 (dl_at t_X25_measure 93 rfl) fun g150 => ?_
        refine g_lsub (pc := 151) X g144 g150 (dl_at t_X25_measure 94 rfl) ?_
        refine g_goto (pc := 152) X (off := 4) (tgt := 156) rfl (dl_at t_X25_measure 95 rfl) ?_
        refine g_ls (ls2 := [(0, rv D a0), (1, iv a1), (2, iv a2), (3, iv a3), (4, iv v3)]) [0, 1, 2, 3, 4] rfl ?_
        exact J156 (w64 ((h128 (h128 a0 107) (w32 (a3 - 1))) - (h128 (h128 a0 107) a2))) (r64_w _)
      intro J128
      refine g_ifeq (pc := 103) X (r32_z rs0_98) (off := 21) (tgt := 124) rfl (dl_at t_X25_measure 65 rfl) (fun _ => ?_) (fun _ => ?_)
      · refine g_aload_n (pc := 124) X (j := 0) (i := 0) (q := 2) (x := a0) rfl rfl (dl_at t_X25_measure 78 rfl) ?_
        refine r_getl (pc := 125) X fX25_113 k76 q3925 (dl_at t_X25_measure 79 rfl) fun g125 => ?_
        refine g_ls (ls2 := [(0, rv D a0), (1, iv a1), (2, iv a2), (3, iv a3), (4, iv v3), (5, iv s0_98)]) [2, 3, 4, 5, 1, 0] rfl ?_
        exact J128 (h72 a0 113) g125
      refine g_aload_n (pc := 106) X (j := 0) (i := 0) (q := 2) (x := a0) rfl rfl (dl_at t_X25_measure 66 rfl) ?_
      refine r_getr (pc := 107) X fX25_106 k76 q3918 (dl_at t_X25_measure 67 rfl) ?_
      refine g_iload_n (pc := 110) X (j := 3) (i := 3) (q := 5) (x := a3) rfl rfl (dl_at t_X25_measure 68 rfl) ?_
      refine g_iconst (pc := 111) X (n := 1) (dl_at t_X25_measure 69 rfl) ?_
      refine g_isub (pc := 112) X r3 (r32_c rfl) (dl_at t_X25_measure 70 rfl) ?_
      refine g_gd fun k113 => ?_
      refine g_lald (pc := 113) X (r32_w _) k113 (dl_at t_X25_measure 71 rfl) fun g113 => ?_
      refine g_aload_n (pc := 114) X (j := 0) (i := 0) (q := 2) (x := a0) rfl rfl (dl_at t_X25_measure 72 rfl) ?_
      refine r_getr (pc := 115) X fX25_106 k76 q3918 (dl_at t_X25_measure 73 rfl) ?_
      refine g_iload_n (pc := 118) X (j := 2) (i := 2) (q := 4) (x := a2) rfl rfl (dl_at t_X25_measure 74 rfl) ?_
      refine g_gd fun k119 => ?_
      refine g_lald (pc := 119) X r2 k119 (dl_at t_X25_measure 75 rfl) fun g119 => ?_
      refine g_lsub (pc := 120) X g113 g119 (dl_at t_X25_measure 76 rfl) ?_
      refine g_goto (pc := 121) X (off := 7) (tgt := 128) rfl (dl_at t_X25_measure 77 rfl) ?_
      refine g_ls (ls2 := [(0, rv D a0), (1, iv a1), (2, iv a2), (3, iv a3), (4, iv v3), (5, iv s0_98)]) [2, 3, 4, 5, 1, 0] rfl ?_
      exact J128 (w64 ((h72 (h72 a0 106) (w32 (a3 - 1))) - (h72 (h72 a0 106) a2))) (r64_w _)
    intro J98
    refine g_ifne (pc := 90) X g87 (off := 7) (tgt := 97) rfl (dl_at t_X25_measure 58 rfl) (fun _ => ?_) (fun _ => ?_)
    · refine g_iconst (pc := 97) X (n := 0) (dl_at t_X25_measure 61 rfl) ?_
      exact J98 0 (Or.inl rfl)
    refine g_iconst (pc := 93) X (n := 1) (dl_at t_X25_measure 59 rfl) ?_
    refine g_goto (pc := 94) X (off := 4) (tgt := 98) rfl (dl_at t_X25_measure 60 rfl) ?_
    exact J98 1 (Or.inr rfl)
  intro J69
  refine g_ifne (pc := 61) X r2 (off := 7) (tgt := 68) rfl (dl_at t_X25_measure 44 rfl) (fun _ => ?_) (fun _ => ?_)
  · refine g_iconst (pc := 68) X (n := 0) (dl_at t_X25_measure 47 rfl) ?_
    refine g_ls (ls2 := [(0, rv D a0), (1, iv a1), (2, iv a2), (3, iv a3), (4, iv v3)]) [2, 3, 4, 1, 0] rfl ?_
    exact J69 0 (Or.inl rfl)
  refine g_iconst (pc := 64) X (n := 1) (dl_at t_X25_measure 45 rfl) ?_
  refine g_goto (pc := 65) X (off := 4) (tgt := 69) rfl (dl_at t_X25_measure 46 rfl) ?_
  refine g_ls (ls2 := [(0, rv D a0), (1, iv a1), (2, iv a2), (3, iv a3), (4, iv v3)]) [2, 3, 4, 1, 0] rfl ?_
  exact J69 1 (Or.inr rfl)
def k_X25_isAllowed : List (Nat × Instr × Nat) := [(0, .iload_n 1, 1), (1, .sipush 10000, 3), (4, .if_icmp .gt 18, 3), (7, .aload_n 0, 1), (8, .getfield 719, 3), (11, .ifCond .ne 15, 3), (14, .aload_n 0, 1), (15, .getfield 737, 3), (18, .iload_n 1, 1), (19, .if_icmp .gt 7, 3), (22, .iconst 1, 1), (23, .goto 4, 3), (26, .iconst 0, 1), (27, .ireturn, 1)]
theorem t_X25_isAllowed : ∀ q ∈ k_X25_isAllowed, decode cX25_isAllowed q.1 = .ok q.2 := dl_all (by decide +kernel)
noncomputable def m_X25_isAllowed (a0 a1 : Int) (h : Hp) : Option (Int) :=
  if 10000 < a1 then (some 1)
  else (if (h a0 120) ≠ 0 then (some 0)
  else (if a1 < (h a0 118) then (some 0)
  else (some 1)))
theorem s_X25_isAllowed {l : Launch} [NoTr l] {D : SD} {a0 a1 : Int} {h : Hp} (hk : h a0 (-2) = 416) (r1 : r32 a1) {r : Int} (hm : m_X25_isAllowed a0 a1 h = some r) : Sim l D yX25_isAllowed (Cond.code yX25_isAllowed cX25_isAllowed 2 (Option.some Jvm.ClassFile.FieldType.boolean)) 0 0 [rv D a0, iv a1] h 3 ((0, r), h) := by
  refine Sim.of (fin := fun (v : Int) => ((0, v), h)) (lsE := [(0, rv D a0), (1, iv a1)]) hm rfl cwS_code (la_r (la_i la_n)) (ll_r (ll_i ll_n)) ?_
  intro p e s m below meth c X hcw hmm hcc hnm hname
  unfold m_X25_isAllowed
  refine g_iload_n (pc := 0) X (j := 1) (i := 1) (q := 1) (x := a1) rfl rfl (dl_at t_X25_isAllowed 0 rfl) ?_
  refine g_sipush (pc := 1) X (n := 10000) rfl (dl_at t_X25_isAllowed 1 rfl) ?_
  refine g_icmpgt (pc := 4) X r1 (r32_c rfl) (off := 18) (tgt := 22) rfl (dl_at t_X25_isAllowed 2 rfl) (fun _ => ?_) (fun _ => ?_)
  · refine g_iconst (pc := 22) X (n := 1) (dl_at t_X25_isAllowed 10 rfl) ?_
    refine g_goto (pc := 23) X (off := 4) (tgt := 27) rfl (dl_at t_X25_isAllowed 11 rfl) ?_
    exact g_zret (pc := 27) X (Or.inr rfl) rfl rfl (dl_at t_X25_isAllowed 13 rfl)
  refine g_aload_n (pc := 7) X (j := 0) (i := 0) (q := 0) (x := a0) rfl rfl (dl_at t_X25_isAllowed 3 rfl) ?_
  refine r_getz (pc := 8) X fX25_120 hk q3932 (dl_at t_X25_isAllowed 4 rfl) fun g8 => ?_
  refine g_ifne (pc := 11) X (r32_z g8) (off := 15) (tgt := 26) rfl (dl_at t_X25_isAllowed 5 rfl) (fun _ => ?_) (fun _ => ?_)
  · refine g_iconst (pc := 26) X (n := 0) (dl_at t_X25_isAllowed 12 rfl) ?_
    exact g_zret (pc := 27) X (Or.inl rfl) rfl rfl (dl_at t_X25_isAllowed 13 rfl)
  refine g_aload_n (pc := 14) X (j := 0) (i := 0) (q := 0) (x := a0) rfl rfl (dl_at t_X25_isAllowed 6 rfl) ?_
  refine r_geti (pc := 15) X fX25_118 hk q3930 (dl_at t_X25_isAllowed 7 rfl) fun g15 => ?_
  refine g_iload_n (pc := 18) X (j := 1) (i := 1) (q := 1) (x := a1) rfl rfl (dl_at t_X25_isAllowed 8 rfl) ?_
  refine g_icmpgt (pc := 19) X g15 r1 (off := 7) (tgt := 26) rfl (dl_at t_X25_isAllowed 9 rfl) (fun _ => ?_) (fun _ => ?_)
  · refine g_iconst (pc := 26) X (n := 0) (dl_at t_X25_isAllowed 12 rfl) ?_
    exact g_zret (pc := 27) X (Or.inl rfl) rfl rfl (dl_at t_X25_isAllowed 13 rfl)
  refine g_iconst (pc := 22) X (n := 1) (dl_at t_X25_isAllowed 10 rfl) ?_
  refine g_goto (pc := 23) X (off := 4) (tgt := 27) rfl (dl_at t_X25_isAllowed 11 rfl) ?_
  exact g_zret (pc := 27) X (Or.inr rfl) rfl rfl (dl_at t_X25_isAllowed 13 rfl)
def k_X25_comesFirst : List (Nat × Instr × Nat) := [(0, .iconst 4, 1), (1, .iload_n 1, 1), (2, .imul, 1), (3, .iload_n 2, 1), (4, .iadd, 1), (5, .istore 5, 2), (7, .iconst 4, 1), (8, .iload_n 3, 1), (9, .imul, 1), (10, .iload 4, 2), (12, .iadd, 1), (13, .istore 6, 2), (15, .iload 5, 2), (17, .iload 6, 2), (19, .if_icmp .eq 100, 3), (22, .aload_n 0, 1), (23, .getfield 286, 3), (26, .iload 5, 2), (28, .iaload, 1), (29, .aload_n 0, 1), (30, .getfield 286, 3), (33, .iload 6, 2), (35, .iaload, 1), (36, .if_icmp .eq 26, 3), (39, .aload_n 0, 1), (40, .getfield 286, 3), (43, .iload 5, 2), (45, .iaload, 1), (46, .aload_n 0, 1), (47, .getfield 286, 3), (50, .iload 6, 2), (52, .iaload, 1), (53, .if_icmp .ge 7, 3), (56, .iconst 1, 1), (57, .goto 4, 3), (60, .iconst 0, 1), (61, .ireturn, 1), (62, .aload_n 0, 1), (63, .getfield 286, 3), (66, .iload 5, 2), (68, .iaload, 1), (69, .ifCond .ne 5, 3), (72, .iconst 0, 1), (73, .ireturn, 1), (74, .iconst 4, 1), (75, .aload_n 0, 1), (76, .getfield 286, 3), (79, .iload 5, 2), (81, .iaload, 1), (82, .imul, 1), (83, .aload_n 0, 1), (84, .getfield 289, 3), (87, .iload 5, 2), (89, .iaload, 1), (90, .iadd, 1), (91, .istore 7, 2), (93, .iconst 4, 1), (94, .aload_n 0, 1), (95, .getfield 286, 3), (98, .iload 6, 2), (100, .iaload, 1), (101, .imul, 1), (102, .aload_n 0, 1), (103, .getfield 289, 3), (106, .iload 6, 2), (108, .iaload, 1), (109, .iadd, 1), (110, .istore 6, 2), (112, .iload 7, 2), (114, .istore 5, 2), (116, .goto (-101), 3), (119, .iconst 0, 1), (120, .ireturn, 1)]
theorem t_X25_comesFirst : ∀ q ∈ k_X25_comesFirst, decode cX25_comesFirst q.1 = .ok q.2 := dl_all (by decide +kernel)
noncomputable def m_X25_comesFirst_l15 (a0 x5_15 x6_15 : Int) (h : Hp) : Option ((Int × Int) ⊕ ((Int × Int) ⊕ ((Int)))) :=
  if x5_15 = x6_15 then (some (.inr (.inr 0)))
  else (gd (h (h a0 110) (-2) % 16 = 1 ∧ (0 : Int) ≤ x5_15 ∧ x5_15 < h (h a0 110) (-1)) (gd (h (h a0 110) (-2) % 16 = 1 ∧ (0 : Int) ≤ x6_15 ∧ x6_15 < h (h a0 110) (-1)) (if (h (h a0 110) x5_15) = (h (h a0 110) x6_15) then (if (h (h a0 110) x5_15) ≠ 0 then (gd (h (h a0 111) (-2) % 16 = 1 ∧ (0 : Int) ≤ x5_15 ∧ x5_15 < h (h a0 111) (-1)) (lt_ (w32 ((w32 (4 * (h (h a0 110) x5_15))) + (h (h a0 111) x5_15))) fun x7_91 =>
  gd (h (h a0 111) (-2) % 16 = 1 ∧ (0 : Int) ≤ x6_15 ∧ x6_15 < h (h a0 111) (-1)) (lt_ (w32 ((w32 (4 * (h (h a0 110) x6_15))) + (h (h a0 111) x6_15))) fun x6_110 =>
  some (.inl (x7_91, x6_110)))))
  else (some (.inr (.inr 0))))
  else (some (.inr (.inl (x5_15, x6_15)))))))
noncomputable def m_X25_comesFirst (a0 a1 a2 a3 a4 : Int) (h : Hp) : Option (Int) :=
  lt_ (w32 ((w32 (4 * a1)) + a2)) fun x5_5 =>
  lt_ (w32 ((w32 (4 * a3)) + a4)) fun x6_13 =>
  (lp (fun (q : Int × Int) => m_X25_comesFirst_l15 a0 q.1 q.2 h) (x5_5, x6_13)).bind (sE (fun (y39 : Int × Int) => gd (h (h a0 110) (-2) % 16 = 1 ∧ (0 : Int) ≤ y39.1 ∧ y39.1 < h (h a0 110) (-1)) (gd (h (h a0 110) (-2) % 16 = 1 ∧ (0 : Int) ≤ y39.2 ∧ y39.2 < h (h a0 110) (-1)) (if (h (h a0 110) y39.2) ≤ (h (h a0 110) y39.1) then (some 0)
  else (some 1)))) (fun (x : Int) => some x))
theorem s_X25_comesFirst {l : Launch} [NoTr l] {D : SD} {a0 a1 a2 a3 a4 : Int} {h : Hp} (hk : h a0 (-2) = 416) (r1 : r32 a1) (r2 : r32 a2) (r3 : r32 a3) (r4 : r32 a4) {r : Int} (hm : m_X25_comesFirst a0 a1 a2 a3 a4 h = some r) : Sim l D yX25_comesFirst (Cond.code yX25_comesFirst cX25_comesFirst 8 (Option.some Jvm.ClassFile.FieldType.boolean)) 0 0 [rv D a0, iv a1, iv a2, iv a3, iv a4] h 3 ((0, r), h) := by
  refine Sim.of (fin := fun (v : Int) => ((0, v), h)) (lsE := [(0, rv D a0), (1, iv a1), (2, iv a2), (3, iv a3), (4, iv a4)]) hm rfl cwS_code (la_r (la_i (la_i (la_i (la_i la_n))))) (ll_r (ll_i (ll_i (ll_i (ll_i ll_n))))) ?_
  intro p e s m below meth c X hcw hmm hcc hnm hname
  unfold m_X25_comesFirst
  refine g_iconst (pc := 0) X (n := 4) (dl_at t_X25_comesFirst 0 rfl) ?_
  refine g_iload_n (pc := 1) X (j := 1) (i := 1) (q := 1) (x := a1) rfl rfl (dl_at t_X25_comesFirst 1 rfl) ?_
  refine g_imul (pc := 2) X (r32_c rfl) r1 (dl_at t_X25_comesFirst 2 rfl) ?_
  refine g_iload_n (pc := 3) X (j := 2) (i := 2) (q := 2) (x := a2) rfl rfl (dl_at t_X25_comesFirst 3 rfl) ?_
  refine g_iadd (pc := 4) X (r32_w _) r2 (dl_at t_X25_comesFirst 4 rfl) ?_
  refine g_lti (r32_w _) fun x5_5 r5_5 => ?_
  refine g_istoreN (pc := 5) X (i := 5) (x := x5_5) (b := 4) (w := iv a4) (rest := [(0, rv D a0), (3, iv a3)]) (Nat.le_of_ble_eq_true rfl) [4, 0, 3] rfl (by decide) rfl rfl (dl_at t_X25_comesFirst 5 rfl) ?_
  refine g_iconst (pc := 7) X (n := 4) (dl_at t_X25_comesFirst 6 rfl) ?_
  refine g_iload_n (pc := 8) X (j := 3) (i := 3) (q := 3) (x := a3) rfl rfl (dl_at t_X25_comesFirst 7 rfl) ?_
  refine g_imul (pc := 9) X (r32_c rfl) r3 (dl_at t_X25_comesFirst 8 rfl) ?_
  refine g_iload (pc := 10) X (i := 4) (q := 1) (x := a4) rfl (dl_at t_X25_comesFirst 9 rfl) ?_
  refine g_iadd (pc := 12) X (r32_w _) r4 (dl_at t_X25_comesFirst 10 rfl) ?_
  refine g_lti (r32_w _) fun x6_13 r6_13 => ?_
  refine g_istoreN (pc := 13) X (i := 6) (x := x6_13) (b := 5) (w := iv x5_5) (rest := [(0, rv D a0)]) (Nat.le_of_ble_eq_true rfl) [0, 2] rfl (by decide) rfl rfl (dl_at t_X25_comesFirst 11 rfl) ?_
  refine g_ls (ls2 := [(0, rv D a0), (5, iv x5_5), (6, iv x6_13)]) [2, 1, 0] rfl ?_
  refine g_loop1F (fun (q : Int × Int) => [(0, rv D a0), (5, iv q.1), (6, iv q.2)]) (fun (q : Int × Int) => h) (fun (q : Int × Int) => r32 q.1 ∧ r32 q.2) 39 (fun (y39 : Int × Int) => [(0, rv D a0), (5, iv y39.1), (6, iv y39.2)]) (fun (y39 : Int × Int) => h) (fun (y39 : Int × Int) => r32 y39.1 ∧ r32 y39.2) (x5_5, x6_13) ⟨r5_5, r6_13⟩ ?_ ?_ (fun _ => rfl)
  · rintro ⟨x5_15, x6_15⟩ ⟨r5_15, r6_15⟩
    try dsimp only
    unfold m_X25_comesFirst_l15
    refine g_iload (pc := 15) X (i := 5) (q := 1) (x := x5_15) rfl (dl_at t_X25_comesFirst 12 rfl) ?_
    refine g_iload (pc := 17) X (i := 6) (q := 2) (x := x6_15) rfl (dl_at t_X25_comesFirst 13 rfl) ?_
    refine g_icmpeq (pc := 19) X r5_15 r6_15 (off := 100) (tgt := 119) rfl (dl_at t_X25_comesFirst 14 rfl) (fun _ => ?_) (fun _ => ?_)
    · refine g_iconst (pc := 119) X (n := 0) (dl_at t_X25_comesFirst 71 rfl) ?_
      exact g_at fun Q hQ => (g_zret (pc := 120) X (Or.inl rfl) rfl rfl (dl_at t_X25_comesFirst 72 rfl)) _ Q rfl hQ
    refine g_aload_n (pc := 22) X (j := 0) (i := 0) (q := 0) (x := a0) rfl rfl (dl_at t_X25_comesFirst 15 rfl) ?_
    refine r_getr (pc := 23) X fX25_110 hk q3922 (dl_at t_X25_comesFirst 16 rfl) ?_
    refine g_iload (pc := 26) X (i := 5) (q := 1) (x := x5_15) rfl (dl_at t_X25_comesFirst 17 rfl) ?_
    refine g_gd fun k28 => ?_
    refine g_iald (pc := 28) X r5_15 k28 (dl_at t_X25_comesFirst 18 rfl) fun g28 => ?_
    refine g_aload_n (pc := 29) X (j := 0) (i := 0) (q := 0) (x := a0) rfl rfl (dl_at t_X25_comesFirst 19 rfl) ?_
    refine r_getr (pc := 30) X fX25_110 hk q3922 (dl_at t_X25_comesFirst 20 rfl) ?_
    refine g_iload (pc := 33) X (i := 6) (q := 2) (x := x6_15) rfl (dl_at t_X25_comesFirst 21 rfl) ?_
    refine g_gd fun k35 => ?_
    refine g_iald (pc := 35) X r6_15 k35 (dl_at t_X25_comesFirst 22 rfl) fun g35 => ?_
    refine g_icmpeq (pc := 36) X g28 g35 (off := 26) (tgt := 62) rfl (dl_at t_X25_comesFirst 23 rfl) (fun _ => ?_) (fun _ => ?_)
    · refine g_aload_n (pc := 62) X (j := 0) (i := 0) (q := 0) (x := a0) rfl rfl (dl_at t_X25_comesFirst 37 rfl) ?_
      refine r_getr (pc := 63) X fX25_110 hk q3922 (dl_at t_X25_comesFirst 38 rfl) ?_
      refine g_iload (pc := 66) X (i := 5) (q := 1) (x := x5_15) rfl (dl_at t_X25_comesFirst 39 rfl) ?_
      refine g_iald (pc := 68) X r5_15 k28 (dl_at t_X25_comesFirst 40 rfl) fun g68 => ?_
      refine g_ifne (pc := 69) X g68 (off := 5) (tgt := 74) rfl (dl_at t_X25_comesFirst 41 rfl) (fun _ => ?_) (fun _ => ?_)
      · refine g_iconst (pc := 74) X (n := 4) (dl_at t_X25_comesFirst 44 rfl) ?_
        refine g_aload_n (pc := 75) X (j := 0) (i := 0) (q := 0) (x := a0) rfl rfl (dl_at t_X25_comesFirst 45 rfl) ?_
        refine r_getr (pc := 76) X fX25_110 hk q3922 (dl_at t_X25_comesFirst 46 rfl) ?_
        refine g_iload (pc := 79) X (i := 5) (q := 1) (x := x5_15) rfl (dl_at t_X25_comesFirst 47 rfl) ?_
        refine g_iald (pc := 81) X r5_15 k28 (dl_at t_X25_comesFirst 48 rfl) fun g81 => ?_
        refine g_imul (pc := 82) X (r32_c rfl) g81 (dl_at t_X25_comesFirst 49 rfl) ?_
        refine g_aload_n (pc := 83) X (j := 0) (i := 0) (q := 0) (x := a0) rfl rfl (dl_at t_X25_comesFirst 50 rfl) ?_
        refine r_getr (pc := 84) X fX25_111 hk q3923 (dl_at t_X25_comesFirst 51 rfl) ?_
        refine g_iload (pc := 87) X (i := 5) (q := 1) (x := x5_15) rfl (dl_at t_X25_comesFirst 52 rfl) ?_
        refine g_gd fun k89 => ?_
        refine g_iald (pc := 89) X r5_15 k89 (dl_at t_X25_comesFirst 53 rfl) fun g89 => ?_
        refine g_iadd (pc := 90) X (r32_w _) g89 (dl_at t_X25_comesFirst 54 rfl) ?_
        refine g_lti (r32_w _) fun x7_91 r7_91 => ?_
        refine g_istoreN (pc := 91) X (i := 7) (x := x7_91) (b := 6) (w := iv x6_15) (rest := [(0, rv D a0)]) (Nat.le_of_ble_eq_true rfl) [2, 0] rfl (by decide) rfl rfl (dl_at t_X25_comesFirst 55 rfl) ?_
        refine g_iconst (pc := 93) X (n := 4) (dl_at t_X25_comesFirst 56 rfl) ?_
        refine g_aload_n (pc := 94) X (j := 0) (i := 0) (q := 2) (x := a0) rfl rfl (dl_at t_X25_comesFirst 57 rfl) ?_
        refine r_getr (pc := 95) X fX25_110 hk q3922 (dl_at t_X25_comesFirst 58 rfl) ?_
        refine g_iload (pc := 98) X (i := 6) (q := 1) (x := x6_15) rfl (dl_at t_X25_comesFirst 59 rfl) ?_
        refine g_iald (pc := 100) X r6_15 k35 (dl_at t_X25_comesFirst 60 rfl) fun g100 => ?_
        refine g_imul (pc := 101) X (r32_c rfl) g100 (dl_at t_X25_comesFirst 61 rfl) ?_
        refine g_aload_n (pc := 102) X (j := 0) (i := 0) (q := 2) (x := a0) rfl rfl (dl_at t_X25_comesFirst 62 rfl) ?_
        refine r_getr (pc := 103) X fX25_111 hk q3923 (dl_at t_X25_comesFirst 63 rfl) ?_
        refine g_iload (pc := 106) X (i := 6) (q := 1) (x := x6_15) rfl (dl_at t_X25_comesFirst 64 rfl) ?_
        refine g_gd fun k108 => ?_
        refine g_iald (pc := 108) X r6_15 k108 (dl_at t_X25_comesFirst 65 rfl) fun g108 => ?_
        refine g_iadd (pc := 109) X (r32_w _) g108 (dl_at t_X25_comesFirst 66 rfl) ?_
        refine g_lti (r32_w _) fun x6_110 r6_110 => ?_
        refine g_istore (pc := 110) X (i := 6) (x := x6_110) (rest := [(7, iv x7_91), (0, rv D a0)]) (Nat.le_of_ble_eq_true rfl) [0, 2] rfl rfl (dl_at t_X25_comesFirst 67 rfl) ?_
        refine g_iload (pc := 112) X (i := 7) (q := 1) (x := x7_91) rfl (dl_at t_X25_comesFirst 68 rfl) ?_
        refine g_istore (pc := 114) X (i := 5) (x := x7_91) (rest := [(6, iv x6_110), (0, rv D a0)]) (Nat.le_of_ble_eq_true rfl) [0, 2] rfl rfl (dl_at t_X25_comesFirst 69 rfl) ?_
        refine g_goto (pc := 116) X (off := (-101)) (tgt := 15) rfl (dl_at t_X25_comesFirst 70 rfl) ?_
        refine g_ls (ls2 := [(0, rv D a0), (5, iv x7_91), (6, iv x6_110)]) [2, 0, 1] rfl ?_
        exact g_at fun Q hQ => hQ ⟨r7_91, r6_110⟩
      refine g_iconst (pc := 72) X (n := 0) (dl_at t_X25_comesFirst 42 rfl) ?_
      exact g_at fun Q hQ => (g_zret (pc := 73) X (Or.inl rfl) rfl rfl (dl_at t_X25_comesFirst 43 rfl)) _ Q rfl hQ
    exact g_at fun Q hQ => hQ ⟨r5_15, r6_15⟩
  · rintro ⟨x5_39, x6_39⟩ ⟨r5_39, r6_39⟩
    try dsimp only [sE]
    refine g_aload_n (pc := 39) X (j := 0) (i := 0) (q := 0) (x := a0) rfl rfl (dl_at t_X25_comesFirst 24 rfl) ?_
    refine r_getr (pc := 40) X fX25_110 hk q3922 (dl_at t_X25_comesFirst 25 rfl) ?_
    refine g_iload (pc := 43) X (i := 5) (q := 1) (x := x5_39) rfl (dl_at t_X25_comesFirst 26 rfl) ?_
    refine g_gd fun k45 => ?_
    refine g_iald (pc := 45) X r5_39 k45 (dl_at t_X25_comesFirst 27 rfl) fun g45 => ?_
    refine g_aload_n (pc := 46) X (j := 0) (i := 0) (q := 0) (x := a0) rfl rfl (dl_at t_X25_comesFirst 28 rfl) ?_
    refine r_getr (pc := 47) X fX25_110 hk q3922 (dl_at t_X25_comesFirst 29 rfl) ?_
    refine g_iload (pc := 50) X (i := 6) (q := 2) (x := x6_39) rfl (dl_at t_X25_comesFirst 30 rfl) ?_
    refine g_gd fun k52 => ?_
    refine g_iald (pc := 52) X r6_39 k52 (dl_at t_X25_comesFirst 31 rfl) fun g52 => ?_
    refine g_icmpge (pc := 53) X g45 g52 (off := 7) (tgt := 60) rfl (dl_at t_X25_comesFirst 32 rfl) (fun _ => ?_) (fun _ => ?_)
    · refine g_iconst (pc := 60) X (n := 0) (dl_at t_X25_comesFirst 35 rfl) ?_
      exact g_zret (pc := 61) X (Or.inl rfl) rfl rfl (dl_at t_X25_comesFirst 36 rfl)
    refine g_iconst (pc := 56) X (n := 1) (dl_at t_X25_comesFirst 33 rfl) ?_
    refine g_goto (pc := 57) X (off := 4) (tgt := 61) rfl (dl_at t_X25_comesFirst 34 rfl) ?_
    exact g_zret (pc := 61) X (Or.inr rfl) rfl rfl (dl_at t_X25_comesFirst 36 rfl)
def k_X25_tryAll : List (Nat × Instr × Nat) := [(0, .aload_n 0, 1), (1, .getfield 44, 3), (4, .iload_n 1, 1), (5, .iaload, 1), (6, .istore_n 3, 1), (7, .iconst 0, 1), (8, .istore 4, 2), (10, .iload 4, 2), (12, .iconst 4, 1), (13, .iload_n 3, 1), (14, .iconst 1, 1), (15, .iadd, 1), (16, .imul, 1), (17, .if_icmp .ge 17, 3), (20, .aload_n 0, 1), (21, .getfield 283, 3), (24, .iload 4, 2), (26, .iconst 0, 1), (27, .bastore, 1), (28, .iinc 4 1, 3), (31, .goto (-21), 3), (34, .iconst 1, 1), (35, .istore 4, 2), (37, .iload 4, 2), (39, .iload_n 3, 1), (40, .if_icmp .gt 294, 3), (43, .iconst 0, 1), (44, .istore 5, 2), (46, .iload 5, 2), (48, .iload 4, 2), (50, .if_icmp .ge 278, 3), (53, .aload_n 0, 1), (54, .iload_n 1, 1), (55, .iload 5, 2), (57, .iload 4, 2), (59, .invokevirtual 759, 3), (62, .aload_n 0, 1), (63, .iload_n 2, 1), (64, .invokevirtual 762, 3), (67, .ifCond .ne 6, 3), (70, .goto 252, 3), (73, .iconst 0, 1), (74, .istore 6, 2), (76, .iload 6, 2), (78, .iconst 4, 1), (79, .if_icmp .ge 243, 3), (82, .iload 5, 2), (84, .ifCond .ne 17, 3), (87, .iload 6, 2), (89, .iconst 1, 1), (90, .if_icmp .ne 7, 3), (93, .iconst 1, 1), (94, .goto 19, 3), (97, .iconst 0, 1), (98, .goto 15, 3), (101, .aload_n 0, 1), (102, .getfield 283, 3), (105, .iconst 4, 1), (106, .iload 5, 2), (108, .imul, 1), (109, .iload 6, 2), (111, .iadd, 1), (112, .baload, 1), (113, .istore 7, 2), (115, .iload 7, 2), (117, .ifCond .ne 6, 3), (120, .goto 196, 3), (123, .iload 5, 2), (125, .ifCond .ne 7, 3), (128, .lconst 0, 1), (129, .goto 15, 3), (132, .aload_n 0, 1), (133, .getfield 280, 3), (136, .iconst 4, 1), (137, .iload 5, 2), (139, .imul, 1), (140, .iload 6, 2), (142, .iadd, 1), (143, .laload, 1), (144, .aload_n 0, 1), (145, .getfield 749, 3), (148, .ladd, 1), (149, .iload 6, 2), (151, .aload_n 0, 1), (152, .getfield 740, 3), (155, .isub, 1), (156, .invokestatic 669, 3), (159, .iconst 1, 1), (160, .if_icmp .le 9, 3), (163, .ldc2_w 731, 3), (166, .goto 4, 3), (169, .lconst 0, 1), (170, .ladd, 1), (171, .lstore 8, 2), (173, .iconst 4, 1), (174, .iload 4, 2), (176, .imul, 1), (177, .aload_n 0, 1), (178, .getfield 740, 3), (181, .iadd, 1), (182, .istore 10, 2), (184, .aload_n 0, 1), (185, .getfield 283, 3), (188, .iload 10, 2), (190, .baload, 1), (191, .ifCond .eq 78, 3), (194, .lload 8, 2), (196, .aload_n 0, 1), (197, .getfield 280, 3), (200, .iload 10, 2), (202, .laload, 1), (203, .lcmp, 1), (204, .ifCond .lt 65, 3), (207, .lload 8, 2), (209, .aload_n 0, 1), (210, .getfield 280, 3), (213, .iload 10, 2), (215, .laload, 1), (216, .lcmp, 1), (217, .ifCond .ne 56, 3), (220, .iload 5, 2), (222, .aload_n 0, 1), (223, .getfield 286, 3), (226, .iload 10, 2), (228, .iaload, 1), (229, .if_icmp .lt 40, 3), (232, .iload 5, 2), (234, .aload_n 0, 1), (235, .getfield 286, 3), (238, .iload 10, 2), (240, .iaload, 1), (241, .if_icmp .ne 32, 3), (244, .iload 5, 2), (246, .ifCond .le 27, 3), (249, .aload_n 0, 1), (250, .iload 5, 2), (252, .iload 6, 2), (254, .iload 5, 2), (256, .aload_n 0, 1), (257, .getfield 289, 3), (260, .iload 10, 2), (262, .iaload, 1), (263, .invokevirtual 765, 3), (266, .ifCond .eq 7, 3), (269, .iconst 1, 1), (270, .goto 4, 3), (273, .iconst 0, 1), (274, .istore 11, 2), (276, .iload 11, 2), (278, .ifCond .eq 38, 3), (281, .aload_n 0, 1), (282, .getfield 283, 3), (285, .iload 10, 2), (287, .iconst 1, 1), (288, .bastore, 1), (289, .aload_n 0, 1), (290, .getfield 280, 3), (293, .iload 10, 2), (295, .lload 8, 2), (297, .lastore, 1), (298, .aload_n 0, 1), (299, .getfield 286, 3), (302, .iload 10, 2), (304, .iload 5, 2), (306, .iastore, 1), (307, .aload_n 0, 1), (308, .getfield 289, 3), (311, .iload 10, 2), (313, .iload 6, 2), (315, .iastore, 1), (316, .iinc 6 1, 3), (319, .goto (-243), 3), (322, .iinc 5 1, 3), (325, .goto (-279), 3), (328, .iinc 4 1, 3), (331, .goto (-294), 3), (334, .iconst 0, 1), (335, .istore 4, 2), (337, .iload 4, 2), (339, .iconst 4, 1), (340, .if_icmp .ge 25, 3), (343, .aload_n 0, 1), (344, .getfield 283, 3), (347, .iconst 4, 1), (348, .iload_n 3, 1), (349, .imul, 1), (350, .iload 4, 2), (352, .iadd, 1), (353, .baload, 1), (354, .ifCond .eq 5, 3), (357, .iconst 1, 1), (358, .ireturn, 1), (359, .iinc 4 1, 3), (362, .goto (-25), 3), (365, .iconst 0, 1), (366, .ireturn, 1)]
theorem t_X25_tryAll : ∀ q ∈ k_X25_tryAll, decode cX25_tryAll q.1 = .ok q.2 := dl_all (by decide +kernel)
noncomputable def m_X25_tryAll_l10 (a0 x3_6 x4_10 : Int) (h_10 : Hp) : Option ((Int × Hp) ⊕ ((Hp))) :=
  if (w32 (4 * (w32 (x3_6 + 1)))) ≤ x4_10 then (some (.inr h_10))
  else (gd (h_10 (h_10 a0 109) (-2) % 16 = 3 ∧ (0 : Int) ≤ x4_10 ∧ x4_10 < h_10 (h_10 a0 109) (-1)) (pt h_10 (h_10 a0 109) x4_10 0 fun h27 =>
  lt_ (w32 (x4_10 + 1)) fun x4_28 =>
  some (.inl (x4_28, h27))))
noncomputable def m_X25_tryAll_j322 (x5_46 : Int) (h_322 : Hp) : Option ((Int × Hp) ⊕ ((Hp))) :=
  lt_ (w32 (x5_46 + 1)) fun x5_322 =>
  some (.inl (x5_322, h_322))
noncomputable def m_X25_tryAll_j316 (x6_76 : Int) (h_316 : Hp) : Option ((Int × Hp) ⊕ ((Hp))) :=
  lt_ (w32 (x6_76 + 1)) fun x6_316 =>
  some (.inl (x6_316, h_316))
noncomputable def m_X25_tryAll_j274 (x10_182 x8_171 a0 x5_46 x6_76 s0_274 : Int) (h_76 : Hp) : Option ((Int × Hp) ⊕ ((Hp))) :=
  if s0_274 = 0 then (m_X25_tryAll_j316 x6_76 h_76)
  else (pt h_76 (h_76 a0 109) x10_182 1 fun h288 =>
  gd (h288 (h288 a0 108) (-2) % 16 = 4 ∧ (0 : Int) ≤ x10_182 ∧ x10_182 < h288 (h288 a0 108) (-1)) (pt h288 (h288 a0 108) x10_182 x8_171 fun h297 =>
  gd (h297 (h297 a0 110) (-2) % 16 = 1 ∧ (0 : Int) ≤ x10_182 ∧ x10_182 < h297 (h297 a0 110) (-1)) (pt h297 (h297 a0 110) x10_182 x5_46 fun h306 =>
  gd (h306 (h306 a0 111) (-2) % 16 = 1 ∧ (0 : Int) ≤ x10_182 ∧ x10_182 < h306 (h306 a0 111) (-1)) (pt h306 (h306 a0 111) x10_182 x6_76 fun h315 =>
  m_X25_tryAll_j316 x6_76 h315))))
noncomputable def m_X25_tryAll_j269 (x10_182 x8_171 a0 x5_46 x6_76 : Int) (h_76 : Hp) : Option ((Int × Hp) ⊕ ((Hp))) :=
  m_X25_tryAll_j274 x10_182 x8_171 a0 x5_46 x6_76 1 h_76
noncomputable def m_X25_tryAll_j273 (x10_182 x8_171 a0 x5_46 x6_76 : Int) (h_76 : Hp) : Option ((Int × Hp) ⊕ ((Hp))) :=
  m_X25_tryAll_j274 x10_182 x8_171 a0 x5_46 x6_76 0 h_76
noncomputable def m_X25_tryAll_j170 (a0 x4_37 x5_46 x6_76 s0_170 s1_170 : Int) (h_76 : Hp) : Option ((Int × Hp) ⊕ ((Hp))) :=
  lt_ (w64 (s0_170 + s1_170)) fun x8_171 =>
  lt_ (w32 ((w32 (4 * x4_37)) + (h_76 a0 119))) fun x10_182 =>
  gd (h_76 (h_76 a0 109) (-2) % 16 = 3 ∧ (0 : Int) ≤ x10_182 ∧ x10_182 < h_76 (h_76 a0 109) (-1)) (if (h_76 (h_76 a0 109) x10_182) = 0 then (m_X25_tryAll_j269 x10_182 x8_171 a0 x5_46 x6_76 h_76)
  else (gd (h_76 (h_76 a0 108) (-2) % 16 = 4 ∧ (0 : Int) ≤ x10_182 ∧ x10_182 < h_76 (h_76 a0 108) (-1)) (if (lcmp_ x8_171 (h_76 (h_76 a0 108) x10_182)) < 0 then (m_X25_tryAll_j269 x10_182 x8_171 a0 x5_46 x6_76 h_76)
  else (if (lcmp_ x8_171 (h_76 (h_76 a0 108) x10_182)) ≠ 0 then (m_X25_tryAll_j273 x10_182 x8_171 a0 x5_46 x6_76 h_76)
  else (gd (h_76 (h_76 a0 110) (-2) % 16 = 1 ∧ (0 : Int) ≤ x10_182 ∧ x10_182 < h_76 (h_76 a0 110) (-1)) (if x5_46 < (h_76 (h_76 a0 110) x10_182) then (m_X25_tryAll_j269 x10_182 x8_171 a0 x5_46 x6_76 h_76)
  else (if x5_46 ≠ (h_76 (h_76 a0 110) x10_182) then (m_X25_tryAll_j273 x10_182 x8_171 a0 x5_46 x6_76 h_76)
  else (if x5_46 ≤ 0 then (m_X25_tryAll_j273 x10_182 x8_171 a0 x5_46 x6_76 h_76)
  else (gd (h_76 (h_76 a0 111) (-2) % 16 = 1 ∧ (0 : Int) ≤ x10_182 ∧ x10_182 < h_76 (h_76 a0 111) (-1)) ((m_X25_comesFirst a0 x5_46 x6_76 x5_46 (h_76 (h_76 a0 111) x10_182) h_76).bind fun v263 =>
  if v263 = 0 then (m_X25_tryAll_j273 x10_182 x8_171 a0 x5_46 x6_76 h_76)
  else (m_X25_tryAll_j269 x10_182 x8_171 a0 x5_46 x6_76 h_76)))))))))))
noncomputable def m_X25_tryAll_j144 (x6_76 a0 x4_37 x5_46 s0_144 : Int) (h_76 : Hp) : Option ((Int × Hp) ⊕ ((Hp))) :=
  if (abs_ (w32 (x6_76 - (h_76 a0 119)))) ≤ 1 then (m_X25_tryAll_j170 a0 x4_37 x5_46 x6_76 (w64 (s0_144 + (h_76 a0 116))) 0 h_76)
  else (m_X25_tryAll_j170 a0 x4_37 x5_46 x6_76 (w64 (s0_144 + (h_76 a0 116))) 10000 h_76)
noncomputable def m_X25_tryAll_j113 (a0 x4_37 x5_46 x6_76 s0_113 : Int) (h_76 : Hp) : Option ((Int × Hp) ⊕ ((Hp))) :=
  if s0_113 ≠ 0 then (if x5_46 ≠ 0 then (gd (h_76 (h_76 a0 108) (-2) % 16 = 4 ∧ (0 : Int) ≤ (w32 ((w32 (4 * x5_46)) + x6_76)) ∧ (w32 ((w32 (4 * x5_46)) + x6_76)) < h_76 (h_76 a0 108) (-1)) (m_X25_tryAll_j144 x6_76 a0 x4_37 x5_46 (h_76 (h_76 a0 108) (w32 ((w32 (4 * x5_46)) + x6_76))) h_76))
  else (m_X25_tryAll_j144 x6_76 a0 x4_37 x5_46 0 h_76))
  else (m_X25_tryAll_j316 x6_76 h_76)
noncomputable def m_X25_tryAll_l76 (a0 x4_37 x5_46 x6_76 : Int) (h_76 : Hp) : Option ((Int × Hp) ⊕ ((Hp))) :=
  if 4 ≤ x6_76 then (some (.inr h_76))
  else (if x5_46 ≠ 0 then (gd (h_76 (h_76 a0 109) (-2) % 16 = 3 ∧ (0 : Int) ≤ (w32 ((w32 (4 * x5_46)) + x6_76)) ∧ (w32 ((w32 (4 * x5_46)) + x6_76)) < h_76 (h_76 a0 109) (-1)) (m_X25_tryAll_j113 a0 x4_37 x5_46 x6_76 (h_76 (h_76 a0 109) (w32 ((w32 (4 * x5_46)) + x6_76))) h_76))
  else (if x6_76 ≠ 1 then (m_X25_tryAll_j113 a0 x4_37 x5_46 x6_76 0 h_76)
  else (m_X25_tryAll_j113 a0 x4_37 x5_46 x6_76 1 h_76)))
noncomputable def m_X25_tryAll_l46 (a0 a1 a2 x4_37 x5_46 : Int) (h_46 : Hp) : Option ((Int × Hp) ⊕ ((Hp))) :=
  if x4_37 ≤ x5_46 then (some (.inr h_46))
  else ((m_X25_measure a0 a1 x5_46 x4_37 h_46).bind fun h59 =>
  (m_X25_isAllowed a0 a2 h59).bind fun v64 =>
  if v64 ≠ 0 then (lt_ 0 fun x6_74 =>
  (lp (fun (q : Int × Hp) => m_X25_tryAll_l76 a0 x4_37 x5_46 q.1 q.2) (x6_74, h59)).bind (fun (y322 : Hp) => m_X25_tryAll_j322 x5_46 y322))
  else (m_X25_tryAll_j322 x5_46 h59))
noncomputable def m_X25_tryAll_l37 (a0 a1 a2 x3_6 x4_37 : Int) (h_37 : Hp) : Option ((Int × Hp) ⊕ ((Hp))) :=
  if x3_6 < x4_37 then (some (.inr h_37))
  else (lt_ 0 fun x5_44 =>
  (lp (fun (q : Int × Hp) => m_X25_tryAll_l46 a0 a1 a2 x4_37 q.1 q.2) (x5_44, h_37)).bind (fun (y328 : Hp) => lt_ (w32 (x4_37 + 1)) fun x4_328 =>
  some (.inl (x4_328, y328))))
noncomputable def m_X25_tryAll_l337 (a0 x3_6 x4_337 : Int) (h_334 : Hp) : Option ((Int) ⊕ ((Int × Hp))) :=
  if 4 ≤ x4_337 then (some (.inr (0, h_334)))
  else (gd (h_334 (h_334 a0 109) (-2) % 16 = 3 ∧ (0 : Int) ≤ (w32 ((w32 (4 * x3_6)) + x4_337)) ∧ (w32 ((w32 (4 * x3_6)) + x4_337)) < h_334 (h_334 a0 109) (-1)) (if (h_334 (h_334 a0 109) (w32 ((w32 (4 * x3_6)) + x4_337))) = 0 then (lt_ (w32 (x4_337 + 1)) fun x4_359 =>
  some (.inl x4_359))
  else (some (.inr (1, h_334)))))
noncomputable def m_X25_tryAll (a0 a1 a2 : Int) (h : Hp) : Option (Int × Hp) :=
  gd (h (h a0 15) (-2) % 16 = 1 ∧ (0 : Int) ≤ a1 ∧ a1 < h (h a0 15) (-1)) (lt_ (h (h a0 15) a1) fun x3_6 =>
  lt_ 0 fun x4_8 =>
  (lp (fun (q : Int × Hp) => m_X25_tryAll_l10 a0 x3_6 q.1 q.2) (x4_8, h)).bind (fun (y34 : Hp) => lt_ 1 fun x4_35 =>
  (lp (fun (q : Int × Hp) => m_X25_tryAll_l37 a0 a1 a2 x3_6 q.1 q.2) (x4_35, y34)).bind (fun (y334 : Hp) => lt_ 0 fun x4_335 =>
  (lp (fun (q : Int) => m_X25_tryAll_l337 a0 x3_6 q y334) x4_335).bind (fun (x : Int × Hp) => some x))))
theorem s_X25_tryAll {l : Launch} [NoTr l] {D : SD} {a0 a1 a2 : Int} {h : Hp} (hk : h a0 (-2) = 416) (r1 : r32 a1) (r2 : r32 a2) {r : Int × Hp} (hm : m_X25_tryAll a0 a1 a2 h = some r) : Sim l D yX25_tryAll (Cond.code yX25_tryAll cX25_tryAll 12 (Option.some Jvm.ClassFile.FieldType.boolean)) 3 121 [rv D a0, iv a1, iv a2] h 3 ((0, r.1), r.2) := by
  refine Sim.of (fin := fun (v : Int × Hp) => ((0, v.1), v.2)) (lsE := [(0, rv D a0), (1, iv a1), (2, iv a2)]) hm rfl cwS_code (la_r (la_i (la_i la_n))) (ll_r (ll_i (ll_i ll_n))) ?_
  intro p e s m below meth c X hcw hmm hcc hnm hname
  unfold m_X25_tryAll
  refine g_aload_n (pc := 0) X (j := 0) (i := 0) (q := 0) (x := a0) rfl rfl (dl_at t_X25_tryAll 0 rfl) ?_
  refine r_getr (pc := 1) X fX25_15 hk q3783 (dl_at t_X25_tryAll 1 rfl) ?_
  refine g_iload_n (pc := 4) X (j := 1) (i := 1) (q := 1) (x := a1) rfl rfl (dl_at t_X25_tryAll 2 rfl) ?_
  refine g_gd fun k5 => ?_
  refine g_iald (pc := 5) X r1 k5 (dl_at t_X25_tryAll 3 rfl) fun g5 => ?_
  refine g_lti g5 fun x3_6 r3_6 => ?_
  refine g_istore_nN (pc := 6) X (j := 3) (i := 3) (x := x3_6) (b := 2) (w := iv a2) (rest := [(0, rv D a0), (1, iv a1)]) rfl (Nat.le_of_ble_eq_true rfl) [2, 0, 1] rfl (by decide) rfl rfl (dl_at t_X25_tryAll 4 rfl) ?_
  refine g_iconst (pc := 7) X (n := 0) (dl_at t_X25_tryAll 5 rfl) ?_
  refine g_ltz (Or.inl rfl) fun x4_8 r4_8 => ?_
  refine g_istoreN (pc := 8) X (i := 4) (x := x4_8) (b := 3) (w := iv x3_6) (rest := [(2, iv a2), (0, rv D a0), (1, iv a1)]) (Nat.le_of_ble_eq_true rfl) [0, 1, 2, 3] rfl (by decide) rfl rfl (dl_at t_X25_tryAll 6 rfl) ?_
  refine g_ls (ls2 := [(0, rv D a0), (1, iv a1), (2, iv a2), (3, iv x3_6), (4, iv x4_8)]) [3, 4, 2, 1, 0] rfl ?_
  refine g_loop1 (fun (q : Int × Hp) => [(0, rv D a0), (1, iv a1), (2, iv a2), (3, iv x3_6), (4, iv q.1)]) (fun (q : Int × Hp) => q.2) (fun (q : Int × Hp) => r32 q.1 ∧ Ext h q.2) 34 (fun (y34 : Hp) => [(0, rv D a0), (1, iv a1), (2, iv a2), (3, iv x3_6)]) (fun (y34 : Hp) => y34) (fun (y34 : Hp) => Ext h y34) (x4_8, h) ⟨(r32_z r4_8), (Ext.refl _)⟩ ?_ ?_
  · rintro ⟨x4_10, h_10⟩ ⟨r4_10, E_10⟩
    try dsimp only
    unfold m_X25_tryAll_l10
    refine g_iload (pc := 10) X (i := 4) (q := 4) (x := x4_10) rfl (dl_at t_X25_tryAll 7 rfl) ?_
    refine g_iconst (pc := 12) X (n := 4) (dl_at t_X25_tryAll 8 rfl) ?_
    refine g_iload_n (pc := 13) X (j := 3) (i := 3) (q := 3) (x := x3_6) rfl rfl (dl_at t_X25_tryAll 9 rfl) ?_
    refine g_iconst (pc := 14) X (n := 1) (dl_at t_X25_tryAll 10 rfl) ?_
    refine g_iadd (pc := 15) X r3_6 (r32_c rfl) (dl_at t_X25_tryAll 11 rfl) ?_
    refine g_imul (pc := 16) X (r32_c rfl) (r32_w _) (dl_at t_X25_tryAll 12 rfl) ?_
    refine g_icmpge (pc := 17) X r4_10 (r32_w _) (off := 17) (tgt := 34) rfl (dl_at t_X25_tryAll 13 rfl) (fun _ => ?_) (fun _ => ?_)
    · refine g_ls (ls2 := [(0, rv D a0), (1, iv a1), (2, iv a2), (3, iv x3_6)]) [0, 1, 2, 3] rfl ?_
      exact g_at fun Q hQ => hQ E_10
    refine g_aload_n (pc := 20) X (j := 0) (i := 0) (q := 0) (x := a0) rfl rfl (dl_at t_X25_tryAll 14 rfl) ?_
    have k21 := kx E_10 (by decide) hk
    refine r_getr (pc := 21) X fX25_109 k21 q3921 (dl_at t_X25_tryAll 15 rfl) ?_
    refine g_iload (pc := 24) X (i := 4) (q := 4) (x := x4_10) rfl (dl_at t_X25_tryAll 16 rfl) ?_
    refine g_iconst (pc := 26) X (n := 0) (dl_at t_X25_tryAll 17 rfl) ?_
    refine g_gd fun k27 => ?_
    refine r_zast (pc := 27) X r4_10 (Or.inl rfl) k27 (dl_at t_X25_tryAll 18 rfl) (fun h27 E27 => ?_)
    refine r_iincN (pc := 28) X (i := 4) (q := 4) (n := 1) (x := x4_10) (b := 3) (w := iv x3_6) (rest := [(0, rv D a0), (1, iv a1), (2, iv a2)]) rfl r4_10 (r32_c rfl) (Nat.le_of_ble_eq_true rfl) [3, 0, 1, 2] rfl (by decide) rfl rfl (dl_at t_X25_tryAll 19 rfl) fun x4_28 r4_28 => ?_
    refine g_goto (pc := 31) X (off := (-21)) (tgt := 10) rfl (dl_at t_X25_tryAll 20 rfl) ?_
    refine g_ls (ls2 := [(0, rv D a0), (1, iv a1), (2, iv a2), (3, iv x3_6), (4, iv x4_28)]) [2, 3, 4, 1, 0] rfl ?_
    exact g_at fun Q hQ => hQ ⟨r4_28, (E_10.trans E27)⟩
  · rintro h_34 E_34
    try dsimp only [sE]
    refine g_iconst (pc := 34) X (n := 1) (dl_at t_X25_tryAll 21 rfl) ?_
    refine g_ltz (Or.inr rfl) fun x4_35 r4_35 => ?_
    refine g_istoreN (pc := 35) X (i := 4) (x := x4_35) (b := 3) (w := iv x3_6) (rest := [(0, rv D a0), (1, iv a1), (2, iv a2)]) (Nat.le_of_ble_eq_true rfl) [3, 0, 1, 2] rfl (by decide) rfl rfl (dl_at t_X25_tryAll 22 rfl) ?_
    refine g_ls (ls2 := [(0, rv D a0), (1, iv a1), (2, iv a2), (3, iv x3_6), (4, iv x4_35)]) [2, 3, 4, 1, 0] rfl ?_
    refine g_loop1 (fun (q : Int × Hp) => [(0, rv D a0), (1, iv a1), (2, iv a2), (3, iv x3_6), (4, iv q.1)]) (fun (q : Int × Hp) => q.2) (fun (q : Int × Hp) => r32 q.1 ∧ Ext h_34 q.2) 334 (fun (y334 : Hp) => [(0, rv D a0), (3, iv x3_6)]) (fun (y334 : Hp) => y334) (fun (y334 : Hp) => Ext h_34 y334) (x4_35, h_34) ⟨(r32_z r4_35), (Ext.refl _)⟩ ?_ ?_
    · rintro ⟨x4_37, h_37⟩ ⟨r4_37, E_37⟩
      try dsimp only
      unfold m_X25_tryAll_l37
      refine g_iload (pc := 37) X (i := 4) (q := 4) (x := x4_37) rfl (dl_at t_X25_tryAll 23 rfl) ?_
      refine g_iload_n (pc := 39) X (j := 3) (i := 3) (q := 3) (x := x3_6) rfl rfl (dl_at t_X25_tryAll 24 rfl) ?_
      refine g_icmpgt (pc := 40) X r4_37 r3_6 (off := 294) (tgt := 334) rfl (dl_at t_X25_tryAll 25 rfl) (fun _ => ?_) (fun _ => ?_)
      · refine g_ls (ls2 := [(0, rv D a0), (3, iv x3_6)]) [0, 3] rfl ?_
        exact g_at fun Q hQ => hQ E_37
      refine g_iconst (pc := 43) X (n := 0) (dl_at t_X25_tryAll 26 rfl) ?_
      refine g_ltz (Or.inl rfl) fun x5_44 r5_44 => ?_
      refine g_istoreN (pc := 44) X (i := 5) (x := x5_44) (b := 4) (w := iv x4_37) (rest := [(0, rv D a0), (1, iv a1), (2, iv a2), (3, iv x3_6)]) (Nat.le_of_ble_eq_true rfl) [4, 0, 1, 2, 3] rfl (by decide) rfl rfl (dl_at t_X25_tryAll 27 rfl) ?_
      refine g_ls (ls2 := [(0, rv D a0), (1, iv a1), (2, iv a2), (3, iv x3_6), (4, iv x4_37), (5, iv x5_44)]) [2, 3, 4, 5, 1, 0] rfl ?_
      refine g_loop1 (fun (q : Int × Hp) => [(0, rv D a0), (1, iv a1), (2, iv a2), (3, iv x3_6), (4, iv x4_37), (5, iv q.1)]) (fun (q : Int × Hp) => q.2) (fun (q : Int × Hp) => r32 q.1 ∧ Ext h_37 q.2) 328 (fun (y328 : Hp) => [(0, rv D a0), (1, iv a1), (2, iv a2), (3, iv x3_6), (4, iv x4_37)]) (fun (y328 : Hp) => y328) (fun (y328 : Hp) => Ext h_37 y328) (x5_44, h_37) ⟨(r32_z r5_44), (Ext.refl _)⟩ ?_ ?_
      · rintro ⟨x5_46, h_46⟩ ⟨r5_46, E_46⟩
        try dsimp only
        unfold m_X25_tryAll_l46
        refine g_iload (pc := 46) X (i := 5) (q := 5) (x := x5_46) rfl (dl_at t_X25_tryAll 28 rfl) ?_
        refine g_iload (pc := 48) X (i := 4) (q := 4) (x := x4_37) rfl (dl_at t_X25_tryAll 29 rfl) ?_
        refine g_icmpge (pc := 50) X r5_46 r4_37 (off := 278) (tgt := 328) rfl (dl_at t_X25_tryAll 30 rfl) (fun _ => ?_) (fun _ => ?_)
        · refine g_ls (ls2 := [(0, rv D a0), (1, iv a1), (2, iv a2), (3, iv x3_6), (4, iv x4_37)]) [0, 1, 2, 3, 4] rfl ?_
          exact g_at fun Q hQ => hQ E_46
        refine g_aload_n (pc := 53) X (j := 0) (i := 0) (q := 0) (x := a0) rfl rfl (dl_at t_X25_tryAll 31 rfl) ?_
        refine g_iload_n (pc := 54) X (j := 1) (i := 1) (q := 1) (x := a1) rfl rfl (dl_at t_X25_tryAll 32 rfl) ?_
        refine g_iload (pc := 55) X (i := 5) (q := 5) (x := x5_46) rfl (dl_at t_X25_tryAll 33 rfl) ?_
        refine g_iload (pc := 57) X (i := 4) (q := 4) (x := x4_37) rfl (dl_at t_X25_tryAll 34 rfl) ?_
        have k59 := kx (E_34.trans (E_37.trans E_46)) (by decide) hk
        refine r_callV (pc := 59) X (fun _ hv => s_X25_measure k59 r1 r5_46 r4_37 hv) cw_code q5014 q379 (in_Vk X (As := [iv a1, iv x5_46, iv x4_37]) kX25 k59 (Or.inl q5011) q5013 qs325 cw_code q5014 ⟨by decide, by decide⟩ rfl (dl_at t_X25_tryAll 35 rfl)) (dl_at t_X25_tryAll 35 rfl) (cat24 (st := []) (Nat.le_of_ble_eq_true rfl)) (Nat.le_of_ble_eq_true rfl) (Nat.le_of_ble_eq_true rfl) fun h59 E59 => ?_
        refine g_aload_n (pc := 62) X (j := 0) (i := 0) (q := 0) (x := a0) rfl rfl (dl_at t_X25_tryAll 36 rfl) ?_
        refine g_iload_n (pc := 63) X (j := 2) (i := 2) (q := 2) (x := a2) rfl rfl (dl_at t_X25_tryAll 37 rfl) ?_
        have k64 := kx E59 (by decide) k59
        refine r_callRz (pc := 64) X (fun _ hv => s_X25_isAllowed k64 r2 hv) cw_code q5043 q379 (in_Vk X (As := [iv a2]) kX25 k64 (Or.inl q5040) q5042 qs329 cw_code q5043 ⟨by decide, by decide⟩ rfl (dl_at t_X25_tryAll 38 rfl)) (dl_at t_X25_tryAll 38 rfl) (cat24 (st := []) (Nat.le_of_ble_eq_true rfl)) (Nat.le_of_ble_eq_true rfl) (Nat.le_of_ble_eq_true rfl) fun v64 g64 => ?_
        refine g_join (γ := Hp) (fun q => Ext h59 q) 322 (fun q => [(0, rv D a0), (1, iv a1), (2, iv a2), (3, iv x3_6), (4, iv x4_37), (5, iv x5_46)]) (fun q => []) (fun q => q) (fun q => m_X25_tryAll_j322 x5_46 q) ?_ ?_
        · rintro h_322 E_322
          try dsimp only
          unfold m_X25_tryAll_j322
          refine r_iincN (pc := 322) X (i := 5) (q := 5) (n := 1) (x := x5_46) (b := 4) (w := iv x4_37) (rest := [(0, rv D a0), (1, iv a1), (2, iv a2), (3, iv x3_6)]) rfl r5_46 (r32_c rfl) (Nat.le_of_ble_eq_true rfl) [4, 0, 1, 2, 3] rfl (by decide) rfl rfl (dl_at t_X25_tryAll 172 rfl) fun x5_322 r5_322 => ?_
          refine g_goto (pc := 325) X (off := (-279)) (tgt := 46) rfl (dl_at t_X25_tryAll 173 rfl) ?_
          refine g_ls (ls2 := [(0, rv D a0), (1, iv a1), (2, iv a2), (3, iv x3_6), (4, iv x4_37), (5, iv x5_322)]) [2, 3, 4, 5, 1, 0] rfl ?_
          exact g_at fun Q hQ => hQ ⟨r5_322, (E_46.trans (E59.trans E_322))⟩
        intro J322
        refine g_ifne (pc := 67) X (r32_z g64) (off := 6) (tgt := 73) rfl (dl_at t_X25_tryAll 39 rfl) (fun _ => ?_) (fun _ => ?_)
        · refine g_iconst (pc := 73) X (n := 0) (dl_at t_X25_tryAll 41 rfl) ?_
          refine g_ltz (Or.inl rfl) fun x6_74 r6_74 => ?_
          refine g_istoreN (pc := 74) X (i := 6) (x := x6_74) (b := 5) (w := iv x5_46) (rest := [(0, rv D a0), (1, iv a1), (2, iv a2), (3, iv x3_6), (4, iv x4_37)]) (Nat.le_of_ble_eq_true rfl) [5, 0, 1, 2, 3, 4] rfl (by decide) rfl rfl (dl_at t_X25_tryAll 42 rfl) ?_
          refine g_ls (ls2 := [(0, rv D a0), (1, iv a1), (2, iv a2), (3, iv x3_6), (4, iv x4_37), (5, iv x5_46), (6, iv x6_74)]) [2, 3, 4, 5, 6, 1, 0] rfl ?_
          refine g_loop1 (fun (q : Int × Hp) => [(0, rv D a0), (1, iv a1), (2, iv a2), (3, iv x3_6), (4, iv x4_37), (5, iv x5_46), (6, iv q.1)]) (fun (q : Int × Hp) => q.2) (fun (q : Int × Hp) => r32 q.1 ∧ Ext h59 q.2) 322 (fun (y322 : Hp) => [(0, rv D a0), (1, iv a1), (2, iv a2), (3, iv x3_6), (4, iv x4_37), (5, iv x5_46)]) (fun (y322 : Hp) => y322) (fun (y322 : Hp) => Ext h59 y322) (x6_74, h59) ⟨(r32_z r6_74), (Ext.refl _)⟩ ?_ ?_
          · rintro ⟨x6_76, h_76⟩ ⟨r6_76, E_76⟩
            try dsimp only
            unfold m_X25_tryAll_l76
            refine g_iload (pc := 76) X (i := 6) (q := 6) (x := x6_76) rfl (dl_at t_X25_tryAll 43 rfl) ?_
            refine g_iconst (pc := 78) X (n := 4) (dl_at t_X25_tryAll 44 rfl) ?_
            refine g_icmpge (pc := 79) X r6_76 (r32_c rfl) (off := 243) (tgt := 322) rfl (dl_at t_X25_tryAll 45 rfl) (fun _ => ?_) (fun _ => ?_)
            · refine g_ls (ls2 := [(0, rv D a0), (1, iv a1), (2, iv a2), (3, iv x3_6), (4, iv x4_37), (5, iv x5_46)]) [0, 1, 2, 3, 4, 5] rfl ?_
              exact g_at fun Q hQ => hQ E_76
            refine g_iload (pc := 82) X (i := 5) (q := 5) (x := x5_46) rfl (dl_at t_X25_tryAll 46 rfl) ?_
            refine g_join (γ := Int) (fun q => (q = 0 ∨ q = 1)) 113 (fun q => [(0, rv D a0), (1, iv a1), (2, iv a2), (3, iv x3_6), (4, iv x4_37), (5, iv x5_46), (6, iv x6_76)]) (fun q => [iv q]) (fun q => h_76) (fun q => m_X25_tryAll_j113 a0 x4_37 x5_46 x6_76 q h_76) ?_ ?_
            · rintro s0_113 rs0_113
              try dsimp only
              unfold m_X25_tryAll_j113
              refine g_istoreN (pc := 113) X (i := 7) (x := s0_113) (b := 6) (w := iv x6_76) (rest := [(0, rv D a0), (1, iv a1), (2, iv a2), (3, iv x3_6), (4, iv x4_37), (5, iv x5_46)]) (Nat.le_of_ble_eq_true rfl) [6, 0, 1, 2, 3, 4, 5] rfl (by decide) rfl rfl (dl_at t_X25_tryAll 63 rfl) ?_
              refine g_iload (pc := 115) X (i := 7) (q := 0) (x := s0_113) rfl (dl_at t_X25_tryAll 64 rfl) ?_
              refine g_join (γ := Hp) (fun q => Ext h_76 q) 316 (fun q => [(0, rv D a0), (1, iv a1), (2, iv a2), (3, iv x3_6), (4, iv x4_37), (5, iv x5_46), (6, iv x6_76)]) (fun q => []) (fun q => q) (fun q => m_X25_tryAll_j316 x6_76 q) ?_ ?_
              · rintro h_316 E_316
                try dsimp only
                unfold m_X25_tryAll_j316
                refine r_iincN (pc := 316) X (i := 6) (q := 6) (n := 1) (x := x6_76) (b := 5) (w := iv x5_46) (rest := [(0, rv D a0), (1, iv a1), (2, iv a2), (3, iv x3_6), (4, iv x4_37)]) rfl r6_76 (r32_c rfl) (Nat.le_of_ble_eq_true rfl) [5, 0, 1, 2, 3, 4] rfl (by decide) rfl rfl (dl_at t_X25_tryAll 170 rfl) fun x6_316 r6_316 => ?_
                refine g_goto (pc := 319) X (off := (-243)) (tgt := 76) rfl (dl_at t_X25_tryAll 171 rfl) ?_
                refine g_ls (ls2 := [(0, rv D a0), (1, iv a1), (2, iv a2), (3, iv x3_6), (4, iv x4_37), (5, iv x5_46), (6, iv x6_316)]) [2, 3, 4, 5, 6, 1, 0] rfl ?_
                exact g_at fun Q hQ => hQ ⟨r6_316, (E_76.trans E_316)⟩
              intro J316
              refine g_ifne (pc := 117) X (r32_z rs0_113) (off := 6) (tgt := 123) rfl (dl_at t_X25_tryAll 65 rfl) (fun _ => ?_) (fun _ => ?_)
              · refine g_iload (pc := 123) X (i := 5) (q := 7) (x := x5_46) rfl (dl_at t_X25_tryAll 67 rfl) ?_
                refine g_join (γ := Int) (fun q => r64 q) 144 (fun q => [(0, rv D a0), (1, iv a1), (2, iv a2), (3, iv x3_6), (4, iv x4_37), (5, iv x5_46), (6, iv x6_76)]) (fun q => [jv q]) (fun q => h_76) (fun q => m_X25_tryAll_j144 x6_76 a0 x4_37 x5_46 q h_76) ?_ ?_
                · rintro s0_144 rs0_144
                  try dsimp only
                  unfold m_X25_tryAll_j144
                  refine g_aload_n (pc := 144) X (j := 0) (i := 0) (q := 0) (x := a0) rfl rfl (dl_at t_X25_tryAll 79 rfl) ?_
                  have k145 := kx E_76 (by decide) k64
                  refine r_getl (pc := 145) X fX25_116 k145 q3928 (dl_at t_X25_tryAll 80 rfl) fun g145 => ?_
                  refine g_ladd (pc := 148) X rs0_144 g145 (dl_at t_X25_tryAll 81 rfl) ?_
                  refine g_iload (pc := 149) X (i := 6) (q := 6) (x := x6_76) rfl (dl_at t_X25_tryAll 82 rfl) ?_
                  refine g_aload_n (pc := 151) X (j := 0) (i := 0) (q := 0) (x := a0) rfl rfl (dl_at t_X25_tryAll 83 rfl) ?_
                  refine r_geti (pc := 152) X fX25_119 k145 q3931 (dl_at t_X25_tryAll 84 rfl) fun g152 => ?_
                  refine g_isub (pc := 155) X r6_76 g152 (dl_at t_X25_tryAll 85 rfl) ?_
                  refine g_mabs (pc := 156) X (r32_w _) q4982 q4983 q398 q4984 (cat24 (st := [jv (w64 (s0_144 + (h_76 a0 116)))]) (Nat.le_of_ble_eq_true rfl)) (Nat.le_of_ble_eq_true rfl) (Nat.le_of_ble_eq_true rfl) (dl_at t_X25_tryAll 86 rfl) ?_
                  refine g_iconst (pc := 159) X (n := 1) (dl_at t_X25_tryAll 87 rfl) ?_
                  refine g_join (γ := Int × Int) (fun q => r64 q.1 ∧ r64 q.2) 170 (fun q => [(0, rv D a0), (1, iv a1), (2, iv a2), (3, iv x3_6), (4, iv x4_37), (5, iv x5_46), (6, iv x6_76)]) (fun q => [jv q.2, jv q.1]) (fun q => h_76) (fun q => m_X25_tryAll_j170 a0 x4_37 x5_46 x6_76 q.1 q.2 h_76) ?_ ?_
                  · rintro ⟨s0_170, s1_170⟩ ⟨rs0_170, rs1_170⟩
                    try dsimp only
                    unfold m_X25_tryAll_j170
                    refine g_ladd (pc := 170) X rs0_170 rs1_170 (dl_at t_X25_tryAll 92 rfl) ?_
                    refine g_ltl (r64_w _) fun x8_171 r8_171 => ?_
                    refine g_lstore (pc := 171) X (i := 8) (x := x8_171) (rest := [(0, rv D a0), (1, iv a1), (2, iv a2), (3, iv x3_6), (4, iv x4_37), (5, iv x5_46), (6, iv x6_76)]) (Nat.le_of_ble_eq_true rfl) [0, 1, 2, 3, 4, 5, 6] rfl rfl (dl_at t_X25_tryAll 93 rfl) ?_
                    refine g_iconst (pc := 173) X (n := 4) (dl_at t_X25_tryAll 94 rfl) ?_
                    refine g_iload (pc := 174) X (i := 4) (q := 5) (x := x4_37) rfl (dl_at t_X25_tryAll 95 rfl) ?_
                    refine g_imul (pc := 176) X (r32_c rfl) r4_37 (dl_at t_X25_tryAll 96 rfl) ?_
                    refine g_aload_n (pc := 177) X (j := 0) (i := 0) (q := 1) (x := a0) rfl rfl (dl_at t_X25_tryAll 97 rfl) ?_
                    refine r_geti (pc := 178) X fX25_119 k145 q3931 (dl_at t_X25_tryAll 98 rfl) fun g178 => ?_
                    refine g_iadd (pc := 181) X (r32_w _) g178 (dl_at t_X25_tryAll 99 rfl) ?_
                    refine g_lti (r32_w _) fun x10_182 r10_182 => ?_
                    refine g_istore (pc := 182) X (i := 10) (x := x10_182) (rest := [(8, jv x8_171), (0, rv D a0), (1, iv a1), (2, iv a2), (3, iv x3_6), (4, iv x4_37), (5, iv x5_46), (6, iv x6_76)]) (Nat.le_of_ble_eq_true rfl) [0, 1, 2, 3, 4, 5, 6, 7] rfl rfl (dl_at t_X25_tryAll 100 rfl) ?_
                    refine g_aload_n (pc := 184) X (j := 0) (i := 0) (q := 2) (x := a0) rfl rfl (dl_at t_X25_tryAll 101 rfl) ?_
                    refine r_getr (pc := 185) X fX25_109 k145 q3921 (dl_at t_X25_tryAll 102 rfl) ?_
                    refine g_iload (pc := 188) X (i := 10) (q := 0) (x := x10_182) rfl (dl_at t_X25_tryAll 103 rfl) ?_
                    refine g_gd fun k190 => ?_
                    refine g_zald (pc := 190) X r10_182 k190 (dl_at t_X25_tryAll 104 rfl) fun g190 => ?_
                    refine g_join (γ := Int) (fun q => (q = 0 ∨ q = 1)) 274 (fun q => [(0, rv D a0), (1, iv a1), (2, iv a2), (3, iv x3_6), (4, iv x4_37), (5, iv x5_46), (6, iv x6_76), (8, jv x8_171), (10, iv x10_182)]) (fun q => [iv q]) (fun q => h_76) (fun q => m_X25_tryAll_j274 x10_182 x8_171 a0 x5_46 x6_76 q h_76) ?_ ?_
                    · rintro s0_274 rs0_274
                      try dsimp only
                      unfold m_X25_tryAll_j274
                      refine g_istoreN (pc := 274) X (i := 11) (x := s0_274) (b := 10) (w := iv x10_182) (rest := [(0, rv D a0), (1, iv a1), (2, iv a2), (3, iv x3_6), (4, iv x4_37), (5, iv x5_46), (6, iv x6_76), (8, jv x8_171)]) (Nat.le_of_ble_eq_true rfl) [8, 0, 1, 2, 3, 4, 5, 6, 7] rfl (by decide) rfl rfl (dl_at t_X25_tryAll 147 rfl) ?_
                      refine g_iload (pc := 276) X (i := 11) (q := 0) (x := s0_274) rfl (dl_at t_X25_tryAll 148 rfl) ?_
                      refine g_ifeq (pc := 278) X (r32_z rs0_274) (off := 38) (tgt := 316) rfl (dl_at t_X25_tryAll 149 rfl) (fun _ => ?_) (fun _ => ?_)
                      · refine g_ls (ls2 := [(0, rv D a0), (1, iv a1), (2, iv a2), (3, iv x3_6), (4, iv x4_37), (5, iv x5_46), (6, iv x6_76)]) [2, 3, 4, 5, 6, 7, 8] rfl ?_
                        exact J316 h_76 (Ext.refl _)
                      refine g_aload_n (pc := 281) X (j := 0) (i := 0) (q := 2) (x := a0) rfl rfl (dl_at t_X25_tryAll 150 rfl) ?_
                      refine r_getr (pc := 282) X fX25_109 k145 q3921 (dl_at t_X25_tryAll 151 rfl) ?_
                      refine g_iload (pc := 285) X (i := 10) (q := 1) (x := x10_182) rfl (dl_at t_X25_tryAll 152 rfl) ?_
                      refine g_iconst (pc := 287) X (n := 1) (dl_at t_X25_tryAll 153 rfl) ?_
                      refine r_zast (pc := 288) X r10_182 (Or.inr rfl) k190 (dl_at t_X25_tryAll 154 rfl) (fun h288 E288 => ?_)
                      refine g_aload_n (pc := 289) X (j := 0) (i := 0) (q := 2) (x := a0) rfl rfl (dl_at t_X25_tryAll 155 rfl) ?_
                      have k290 := kx E288 (by decide) k145
                      refine r_getr (pc := 290) X fX25_108 k290 q3920 (dl_at t_X25_tryAll 156 rfl) ?_
                      refine g_iload (pc := 293) X (i := 10) (q := 1) (x := x10_182) rfl (dl_at t_X25_tryAll 157 rfl) ?_
                      refine g_lload (pc := 295) X (i := 8) (q := 9) (x := x8_171) rfl (dl_at t_X25_tryAll 158 rfl) ?_
                      refine g_gd fun k297 => ?_
                      refine r_last (pc := 297) X r10_182 r8_171 k297 (dl_at t_X25_tryAll 159 rfl) (fun h297 E297 => ?_)
                      refine g_aload_n (pc := 298) X (j := 0) (i := 0) (q := 2) (x := a0) rfl rfl (dl_at t_X25_tryAll 160 rfl) ?_
                      have k299 := kx E297 (by decide) k290
                      refine r_getr (pc := 299) X fX25_110 k299 q3922 (dl_at t_X25_tryAll 161 rfl) ?_
                      refine g_iload (pc := 302) X (i := 10) (q := 1) (x := x10_182) rfl (dl_at t_X25_tryAll 162 rfl) ?_
                      refine g_iload (pc := 304) X (i := 5) (q := 7) (x := x5_46) rfl (dl_at t_X25_tryAll 163 rfl) ?_
                      refine g_gd fun k306 => ?_
                      refine r_iast (pc := 306) X r10_182 r5_46 k306 (dl_at t_X25_tryAll 164 rfl) (fun h306 E306 => ?_)
                      refine g_aload_n (pc := 307) X (j := 0) (i := 0) (q := 2) (x := a0) rfl rfl (dl_at t_X25_tryAll 165 rfl) ?_
                      have k308 := kx E306 (by decide) k299
                      refine r_getr (pc := 308) X fX25_111 k308 q3923 (dl_at t_X25_tryAll 166 rfl) ?_
                      refine g_iload (pc := 311) X (i := 10) (q := 1) (x := x10_182) rfl (dl_at t_X25_tryAll 167 rfl) ?_
                      refine g_iload (pc := 313) X (i := 6) (q := 8) (x := x6_76) rfl (dl_at t_X25_tryAll 168 rfl) ?_
                      refine g_gd fun k315 => ?_
                      refine r_iast (pc := 315) X r10_182 r6_76 k315 (dl_at t_X25_tryAll 169 rfl) (fun h315 E315 => ?_)
                      refine g_ls (ls2 := [(0, rv D a0), (1, iv a1), (2, iv a2), (3, iv x3_6), (4, iv x4_37), (5, iv x5_46), (6, iv x6_76)]) [2, 3, 4, 5, 6, 7, 8] rfl ?_
                      exact J316 h315 (E288.trans (E297.trans (E306.trans E315)))
                    intro J274
                    refine g_join (γ := Unit) (fun q => True) 269 (fun q => [(0, rv D a0), (1, iv a1), (2, iv a2), (3, iv x3_6), (4, iv x4_37), (5, iv x5_46), (6, iv x6_76), (8, jv x8_171), (10, iv x10_182)]) (fun q => []) (fun q => h_76) (fun q => m_X25_tryAll_j269 x10_182 x8_171 a0 x5_46 x6_76 h_76) ?_ ?_
                    · rintro _ _
                      try dsimp only
                      unfold m_X25_tryAll_j269
                      refine g_iconst (pc := 269) X (n := 1) (dl_at t_X25_tryAll 144 rfl) ?_
                      refine g_goto (pc := 270) X (off := 4) (tgt := 274) rfl (dl_at t_X25_tryAll 145 rfl) ?_
                      exact J274 1 (Or.inr rfl)
                    intro J269
                    refine g_ifeq (pc := 191) X (r32_z g190) (off := 78) (tgt := 269) rfl (dl_at t_X25_tryAll 105 rfl) (fun _ => ?_) (fun _ => ?_)
                    · refine g_ls (ls2 := [(0, rv D a0), (1, iv a1), (2, iv a2), (3, iv x3_6), (4, iv x4_37), (5, iv x5_46), (6, iv x6_76), (8, jv x8_171), (10, iv x10_182)]) [2, 3, 4, 5, 6, 7, 8, 1, 0] rfl ?_
                      exact J269 () trivial
                    refine g_lload (pc := 194) X (i := 8) (q := 1) (x := x8_171) rfl (dl_at t_X25_tryAll 106 rfl) ?_
                    refine g_aload_n (pc := 196) X (j := 0) (i := 0) (q := 2) (x := a0) rfl rfl (dl_at t_X25_tryAll 107 rfl) ?_
                    refine r_getr (pc := 197) X fX25_108 k145 q3920 (dl_at t_X25_tryAll 108 rfl) ?_
                    refine g_iload (pc := 200) X (i := 10) (q := 0) (x := x10_182) rfl (dl_at t_X25_tryAll 109 rfl) ?_
                    refine g_gd fun k202 => ?_
                    refine g_lald (pc := 202) X r10_182 k202 (dl_at t_X25_tryAll 110 rfl) fun g202 => ?_
                    refine g_lcmp (pc := 203) X r8_171 g202 (dl_at t_X25_tryAll 111 rfl) ?_
                    refine g_iflt (pc := 204) X (r32_lcmp _ _) (off := 65) (tgt := 269) rfl (dl_at t_X25_tryAll 112 rfl) (fun _ => ?_) (fun _ => ?_)
                    · refine g_ls (ls2 := [(0, rv D a0), (1, iv a1), (2, iv a2), (3, iv x3_6), (4, iv x4_37), (5, iv x5_46), (6, iv x6_76), (8, jv x8_171), (10, iv x10_182)]) [2, 3, 4, 5, 6, 7, 8, 1, 0] rfl ?_
                      exact J269 () trivial
                    refine g_lload (pc := 207) X (i := 8) (q := 1) (x := x8_171) rfl (dl_at t_X25_tryAll 113 rfl) ?_
                    refine g_aload_n (pc := 209) X (j := 0) (i := 0) (q := 2) (x := a0) rfl rfl (dl_at t_X25_tryAll 114 rfl) ?_
                    refine r_getr (pc := 210) X fX25_108 k145 q3920 (dl_at t_X25_tryAll 115 rfl) ?_
                    refine g_iload (pc := 213) X (i := 10) (q := 0) (x := x10_182) rfl (dl_at t_X25_tryAll 116 rfl) ?_
                    refine g_lald (pc := 215) X r10_182 k202 (dl_at t_X25_tryAll 117 rfl) fun g215 => ?_
                    refine g_lcmp (pc := 216) X r8_171 g215 (dl_at t_X25_tryAll 118 rfl) ?_
                    refine g_join (γ := Unit) (fun q => True) 273 (fun q => [(0, rv D a0), (1, iv a1), (2, iv a2), (3, iv x3_6), (4, iv x4_37), (5, iv x5_46), (6, iv x6_76), (8, jv x8_171), (10, iv x10_182)]) (fun q => []) (fun q => h_76) (fun q => m_X25_tryAll_j273 x10_182 x8_171 a0 x5_46 x6_76 h_76) ?_ ?_
                    · rintro _ _
                      try dsimp only
                      unfold m_X25_tryAll_j273
                      refine g_iconst (pc := 273) X (n := 0) (dl_at t_X25_tryAll 146 rfl) ?_
                      exact J274 0 (Or.inl rfl)
                    intro J273
                    refine g_ifne (pc := 217) X (r32_lcmp _ _) (off := 56) (tgt := 273) rfl (dl_at t_X25_tryAll 119 rfl) (fun _ => ?_) (fun _ => ?_)
                    · refine g_ls (ls2 := [(0, rv D a0), (1, iv a1), (2, iv a2), (3, iv x3_6), (4, iv x4_37), (5, iv x5_46), (6, iv x6_76), (8, jv x8_171), (10, iv x10_182)]) [2, 3, 4, 5, 6, 7, 8, 1, 0] rfl ?_
                      exact J273 () trivial
                    refine g_iload (pc := 220) X (i := 5) (q := 7) (x := x5_46) rfl (dl_at t_X25_tryAll 120 rfl) ?_
                    refine g_aload_n (pc := 222) X (j := 0) (i := 0) (q := 2) (x := a0) rfl rfl (dl_at t_X25_tryAll 121 rfl) ?_
                    refine r_getr (pc := 223) X fX25_110 k145 q3922 (dl_at t_X25_tryAll 122 rfl) ?_
                    refine g_iload (pc := 226) X (i := 10) (q := 0) (x := x10_182) rfl (dl_at t_X25_tryAll 123 rfl) ?_
                    refine g_gd fun k228 => ?_
                    refine g_iald (pc := 228) X r10_182 k228 (dl_at t_X25_tryAll 124 rfl) fun g228 => ?_
                    refine g_icmplt (pc := 229) X r5_46 g228 (off := 40) (tgt := 269) rfl (dl_at t_X25_tryAll 125 rfl) (fun _ => ?_) (fun _ => ?_)
                    · refine g_ls (ls2 := [(0, rv D a0), (1, iv a1), (2, iv a2), (3, iv x3_6), (4, iv x4_37), (5, iv x5_46), (6, iv x6_76), (8, jv x8_171), (10, iv x10_182)]) [2, 3, 4, 5, 6, 7, 8, 1, 0] rfl ?_
                      exact J269 () trivial
                    refine g_iload (pc := 232) X (i := 5) (q := 7) (x := x5_46) rfl (dl_at t_X25_tryAll 126 rfl) ?_
                    refine g_aload_n (pc := 234) X (j := 0) (i := 0) (q := 2) (x := a0) rfl rfl (dl_at t_X25_tryAll 127 rfl) ?_
                    refine r_getr (pc := 235) X fX25_110 k145 q3922 (dl_at t_X25_tryAll 128 rfl) ?_
                    refine g_iload (pc := 238) X (i := 10) (q := 0) (x := x10_182) rfl (dl_at t_X25_tryAll 129 rfl) ?_
                    refine g_iald (pc := 240) X r10_182 k228 (dl_at t_X25_tryAll 130 rfl) fun g240 => ?_
                    refine g_icmpne (pc := 241) X r5_46 g240 (off := 32) (tgt := 273) rfl (dl_at t_X25_tryAll 131 rfl) (fun _ => ?_) (fun _ => ?_)
                    · refine g_ls (ls2 := [(0, rv D a0), (1, iv a1), (2, iv a2), (3, iv x3_6), (4, iv x4_37), (5, iv x5_46), (6, iv x6_76), (8, jv x8_171), (10, iv x10_182)]) [2, 3, 4, 5, 6, 7, 8, 1, 0] rfl ?_
                      exact J273 () trivial
                    refine g_iload (pc := 244) X (i := 5) (q := 7) (x := x5_46) rfl (dl_at t_X25_tryAll 132 rfl) ?_
                    refine g_ifle (pc := 246) X r5_46 (off := 27) (tgt := 273) rfl (dl_at t_X25_tryAll 133 rfl) (fun _ => ?_) (fun _ => ?_)
                    · refine g_ls (ls2 := [(0, rv D a0), (1, iv a1), (2, iv a2), (3, iv x3_6), (4, iv x4_37), (5, iv x5_46), (6, iv x6_76), (8, jv x8_171), (10, iv x10_182)]) [2, 3, 4, 5, 6, 7, 8, 1, 0] rfl ?_
                      exact J273 () trivial
                    refine g_aload_n (pc := 249) X (j := 0) (i := 0) (q := 2) (x := a0) rfl rfl (dl_at t_X25_tryAll 134 rfl) ?_
                    refine g_iload (pc := 250) X (i := 5) (q := 7) (x := x5_46) rfl (dl_at t_X25_tryAll 135 rfl) ?_
                    refine g_iload (pc := 252) X (i := 6) (q := 8) (x := x6_76) rfl (dl_at t_X25_tryAll 136 rfl) ?_
                    refine g_iload (pc := 254) X (i := 5) (q := 7) (x := x5_46) rfl (dl_at t_X25_tryAll 137 rfl) ?_
                    refine g_aload_n (pc := 256) X (j := 0) (i := 0) (q := 2) (x := a0) rfl rfl (dl_at t_X25_tryAll 138 rfl) ?_
                    refine r_getr (pc := 257) X fX25_111 k145 q3923 (dl_at t_X25_tryAll 139 rfl) ?_
                    refine g_iload (pc := 260) X (i := 10) (q := 0) (x := x10_182) rfl (dl_at t_X25_tryAll 140 rfl) ?_
                    refine g_gd fun k262 => ?_
                    refine g_iald (pc := 262) X r10_182 k262 (dl_at t_X25_tryAll 141 rfl) fun g262 => ?_
                    refine r_callRz (pc := 263) X (fun _ hv => s_X25_comesFirst k145 r5_46 r6_76 r5_46 g262 hv) cw_code q5047 q379 (in_Vk X (As := [iv x5_46, iv x6_76, iv x5_46, iv (h_76 (h_76 a0 111) x10_182)]) kX25 k145 (Or.inl q5044) q5046 qs330 cw_code q5047 ⟨by decide, by decide⟩ rfl (dl_at t_X25_tryAll 142 rfl)) (dl_at t_X25_tryAll 142 rfl) (cat24 (st := []) (Nat.le_of_ble_eq_true rfl)) (Nat.le_of_ble_eq_true rfl) (Nat.le_of_ble_eq_true rfl) fun v263 g263 => ?_
                    refine g_ifeq (pc := 266) X (r32_z g263) (off := 7) (tgt := 273) rfl (dl_at t_X25_tryAll 143 rfl) (fun _ => ?_) (fun _ => ?_)
                    · refine g_ls (ls2 := [(0, rv D a0), (1, iv a1), (2, iv a2), (3, iv x3_6), (4, iv x4_37), (5, iv x5_46), (6, iv x6_76), (8, jv x8_171), (10, iv x10_182)]) [2, 3, 4, 5, 6, 7, 8, 1, 0] rfl ?_
                      exact J273 () trivial
                    refine g_ls (ls2 := [(0, rv D a0), (1, iv a1), (2, iv a2), (3, iv x3_6), (4, iv x4_37), (5, iv x5_46), (6, iv x6_76), (8, jv x8_171), (10, iv x10_182)]) [2, 3, 4, 5, 6, 7, 8, 1, 0] rfl ?_
                    exact J269 () trivial
                  intro J170
                  refine g_icmple (pc := 160) X (r32_abs (r32_w _)) (r32_c rfl) (off := 9) (tgt := 169) rfl (dl_at t_X25_tryAll 88 rfl) (fun _ => ?_) (fun _ => ?_)
                  · refine g_lconst0 (pc := 169) X (dl_at t_X25_tryAll 91 rfl) ?_
                    exact J170 ((w64 (s0_144 + (h_76 a0 116))), 0) ⟨(r64_w _), (r64_c rfl)⟩
                  refine g_ldc2 (pc := 163) X (index := 731) (n := 10000) q5028 (dl_at t_X25_tryAll 89 rfl) ?_
                  refine g_goto (pc := 166) X (off := 4) (tgt := 170) rfl (dl_at t_X25_tryAll 90 rfl) ?_
                  exact J170 ((w64 (s0_144 + (h_76 a0 116))), 10000) ⟨(r64_w _), (r64_c rfl)⟩
                intro J144
                refine g_ifne (pc := 125) X r5_46 (off := 7) (tgt := 132) rfl (dl_at t_X25_tryAll 68 rfl) (fun _ => ?_) (fun _ => ?_)
                · refine g_aload_n (pc := 132) X (j := 0) (i := 0) (q := 2) (x := a0) rfl rfl (dl_at t_X25_tryAll 71 rfl) ?_
                  have k133 := kx E_76 (by decide) k64
                  refine r_getr (pc := 133) X fX25_108 k133 q3920 (dl_at t_X25_tryAll 72 rfl) ?_
                  refine g_iconst (pc := 136) X (n := 4) (dl_at t_X25_tryAll 73 rfl) ?_
                  refine g_iload (pc := 137) X (i := 5) (q := 7) (x := x5_46) rfl (dl_at t_X25_tryAll 74 rfl) ?_
                  refine g_imul (pc := 139) X (r32_c rfl) r5_46 (dl_at t_X25_tryAll 75 rfl) ?_
                  refine g_iload (pc := 140) X (i := 6) (q := 1) (x := x6_76) rfl (dl_at t_X25_tryAll 76 rfl) ?_
                  refine g_iadd (pc := 142) X (r32_w _) r6_76 (dl_at t_X25_tryAll 77 rfl) ?_
                  refine g_gd fun k143 => ?_
                  refine g_lald (pc := 143) X (r32_w _) k143 (dl_at t_X25_tryAll 78 rfl) fun g143 => ?_
                  refine g_ls (ls2 := [(0, rv D a0), (1, iv a1), (2, iv a2), (3, iv x3_6), (4, iv x4_37), (5, iv x5_46), (6, iv x6_76)]) [2, 3, 4, 5, 6, 7, 1] rfl ?_
                  exact J144 (h_76 (h_76 a0 108) (w32 ((w32 (4 * x5_46)) + x6_76))) g143
                refine g_lconst0 (pc := 128) X (dl_at t_X25_tryAll 69 rfl) ?_
                refine g_goto (pc := 129) X (off := 15) (tgt := 144) rfl (dl_at t_X25_tryAll 70 rfl) ?_
                refine g_ls (ls2 := [(0, rv D a0), (1, iv a1), (2, iv a2), (3, iv x3_6), (4, iv x4_37), (5, iv x5_46), (6, iv x6_76)]) [2, 3, 4, 5, 6, 7, 1] rfl ?_
                exact J144 0 (r64_c rfl)
              refine g_goto (pc := 120) X (off := 196) (tgt := 316) rfl (dl_at t_X25_tryAll 66 rfl) ?_
              refine g_ls (ls2 := [(0, rv D a0), (1, iv a1), (2, iv a2), (3, iv x3_6), (4, iv x4_37), (5, iv x5_46), (6, iv x6_76)]) [2, 3, 4, 5, 6, 7, 1] rfl ?_
              exact J316 h_76 (Ext.refl _)
            intro J113
            refine g_ifne (pc := 84) X r5_46 (off := 17) (tgt := 101) rfl (dl_at t_X25_tryAll 47 rfl) (fun _ => ?_) (fun _ => ?_)
            · refine g_aload_n (pc := 101) X (j := 0) (i := 0) (q := 0) (x := a0) rfl rfl (dl_at t_X25_tryAll 55 rfl) ?_
              have k102 := kx E_76 (by decide) k64
              refine r_getr (pc := 102) X fX25_109 k102 q3921 (dl_at t_X25_tryAll 56 rfl) ?_
              refine g_iconst (pc := 105) X (n := 4) (dl_at t_X25_tryAll 57 rfl) ?_
              refine g_iload (pc := 106) X (i := 5) (q := 5) (x := x5_46) rfl (dl_at t_X25_tryAll 58 rfl) ?_
              refine g_imul (pc := 108) X (r32_c rfl) r5_46 (dl_at t_X25_tryAll 59 rfl) ?_
              refine g_iload (pc := 109) X (i := 6) (q := 6) (x := x6_76) rfl (dl_at t_X25_tryAll 60 rfl) ?_
              refine g_iadd (pc := 111) X (r32_w _) r6_76 (dl_at t_X25_tryAll 61 rfl) ?_
              refine g_gd fun k112 => ?_
              refine g_zald (pc := 112) X (r32_w _) k112 (dl_at t_X25_tryAll 62 rfl) fun g112 => ?_
              exact J113 (h_76 (h_76 a0 109) (w32 ((w32 (4 * x5_46)) + x6_76))) g112
            refine g_iload (pc := 87) X (i := 6) (q := 6) (x := x6_76) rfl (dl_at t_X25_tryAll 48 rfl) ?_
            refine g_iconst (pc := 89) X (n := 1) (dl_at t_X25_tryAll 49 rfl) ?_
            refine g_icmpne (pc := 90) X r6_76 (r32_c rfl) (off := 7) (tgt := 97) rfl (dl_at t_X25_tryAll 50 rfl) (fun _ => ?_) (fun _ => ?_)
            · refine g_iconst (pc := 97) X (n := 0) (dl_at t_X25_tryAll 53 rfl) ?_
              refine g_goto (pc := 98) X (off := 15) (tgt := 113) rfl (dl_at t_X25_tryAll 54 rfl) ?_
              exact J113 0 (Or.inl rfl)
            refine g_iconst (pc := 93) X (n := 1) (dl_at t_X25_tryAll 51 rfl) ?_
            refine g_goto (pc := 94) X (off := 19) (tgt := 113) rfl (dl_at t_X25_tryAll 52 rfl) ?_
            exact J113 1 (Or.inr rfl)
          · rintro h_322_1 E_322_1
            try dsimp only [sE]
            exact J322 h_322_1 E_322_1
        refine g_goto (pc := 70) X (off := 252) (tgt := 322) rfl (dl_at t_X25_tryAll 40 rfl) ?_
        exact J322 h59 (Ext.refl _)
      · rintro h_328 E_328
        try dsimp only [sE]
        refine r_iincN (pc := 328) X (i := 4) (q := 4) (n := 1) (x := x4_37) (b := 3) (w := iv x3_6) (rest := [(0, rv D a0), (1, iv a1), (2, iv a2)]) rfl r4_37 (r32_c rfl) (Nat.le_of_ble_eq_true rfl) [3, 0, 1, 2] rfl (by decide) rfl rfl (dl_at t_X25_tryAll 174 rfl) fun x4_328 r4_328 => ?_
        refine g_goto (pc := 331) X (off := (-294)) (tgt := 37) rfl (dl_at t_X25_tryAll 175 rfl) ?_
        refine g_ls (ls2 := [(0, rv D a0), (1, iv a1), (2, iv a2), (3, iv x3_6), (4, iv x4_328)]) [2, 3, 4, 1, 0] rfl ?_
        exact g_at fun Q hQ => hQ ⟨r4_328, (E_37.trans E_328)⟩
    · rintro h_334 E_334
      try dsimp only [sE]
      refine g_iconst (pc := 334) X (n := 0) (dl_at t_X25_tryAll 176 rfl) ?_
      refine g_ltz (Or.inl rfl) fun x4_335 r4_335 => ?_
      refine g_istoreN (pc := 335) X (i := 4) (x := x4_335) (b := 3) (w := iv x3_6) (rest := [(0, rv D a0)]) (Nat.le_of_ble_eq_true rfl) [1, 0] rfl (by decide) rfl rfl (dl_at t_X25_tryAll 177 rfl) ?_
      refine g_ls (ls2 := [(0, rv D a0), (3, iv x3_6), (4, iv x4_335)]) [2, 1, 0] rfl ?_
      refine g_loop0F (fun (q : Int) => [(0, rv D a0), (3, iv x3_6), (4, iv q)]) (fun (q : Int) => h_334) (fun (q : Int) => r32 q) x4_335 (r32_z r4_335) ?_ (fun _ => rfl)
      · rintro x4_337 r4_337
        try dsimp only
        unfold m_X25_tryAll_l337
        refine g_iload (pc := 337) X (i := 4) (q := 2) (x := x4_337) rfl (dl_at t_X25_tryAll 178 rfl) ?_
        refine g_iconst (pc := 339) X (n := 4) (dl_at t_X25_tryAll 179 rfl) ?_
        refine g_icmpge (pc := 340) X r4_337 (r32_c rfl) (off := 25) (tgt := 365) rfl (dl_at t_X25_tryAll 180 rfl) (fun _ => ?_) (fun _ => ?_)
        · refine g_iconst (pc := 365) X (n := 0) (dl_at t_X25_tryAll 194 rfl) ?_
          exact g_at fun Q hQ => (g_zret (pc := 366) X (Or.inl rfl) rfl rfl (dl_at t_X25_tryAll 195 rfl)) _ Q rfl hQ
        refine g_aload_n (pc := 343) X (j := 0) (i := 0) (q := 0) (x := a0) rfl rfl (dl_at t_X25_tryAll 181 rfl) ?_
        have k344 := kx (E_34.trans E_334) (by decide) hk
        refine r_getr (pc := 344) X fX25_109 k344 q3921 (dl_at t_X25_tryAll 182 rfl) ?_
        refine g_iconst (pc := 347) X (n := 4) (dl_at t_X25_tryAll 183 rfl) ?_
        refine g_iload_n (pc := 348) X (j := 3) (i := 3) (q := 1) (x := x3_6) rfl rfl (dl_at t_X25_tryAll 184 rfl) ?_
        refine g_imul (pc := 349) X (r32_c rfl) r3_6 (dl_at t_X25_tryAll 185 rfl) ?_
        refine g_iload (pc := 350) X (i := 4) (q := 2) (x := x4_337) rfl (dl_at t_X25_tryAll 186 rfl) ?_
        refine g_iadd (pc := 352) X (r32_w _) r4_337 (dl_at t_X25_tryAll 187 rfl) ?_
        refine g_gd fun k353 => ?_
        refine g_zald (pc := 353) X (r32_w _) k353 (dl_at t_X25_tryAll 188 rfl) fun g353 => ?_
        refine g_ifeq (pc := 354) X (r32_z g353) (off := 5) (tgt := 359) rfl (dl_at t_X25_tryAll 189 rfl) (fun _ => ?_) (fun _ => ?_)
        · refine r_iincN (pc := 359) X (i := 4) (q := 2) (n := 1) (x := x4_337) (b := 3) (w := iv x3_6) (rest := [(0, rv D a0)]) rfl r4_337 (r32_c rfl) (Nat.le_of_ble_eq_true rfl) [1, 0] rfl (by decide) rfl rfl (dl_at t_X25_tryAll 192 rfl) fun x4_359 r4_359 => ?_
          refine g_goto (pc := 362) X (off := (-25)) (tgt := 337) rfl (dl_at t_X25_tryAll 193 rfl) ?_
          refine g_ls (ls2 := [(0, rv D a0), (3, iv x3_6), (4, iv x4_359)]) [2, 1, 0] rfl ?_
          exact g_at fun Q hQ => hQ r4_359
        refine g_iconst (pc := 357) X (n := 1) (dl_at t_X25_tryAll 190 rfl) ?_
        exact g_at fun Q hQ => (g_zret (pc := 358) X (Or.inr rfl) rfl rfl (dl_at t_X25_tryAll 191 rfl)) _ Q rfl hQ
def k_X25_breakUp : List (Nat × Instr × Nat) := [(0, .aload_n 0, 1), (1, .iload_n 1, 1), (2, .invokevirtual 769, 3), (5, .aload_n 0, 1), (6, .getfield 44, 3), (9, .iload_n 1, 1), (10, .iaload, 1), (11, .istore_n 2, 1), (12, .aload_n 0, 1), (13, .getfield 14, 3), (16, .aload_n 0, 1), (17, .getfield 35, 3), (20, .iload_n 1, 1), (21, .iaload, 1), (22, .bipush 10, 2), (24, .invokevirtual 477, 3), (27, .istore_n 3, 1), (28, .aload_n 0, 1), (29, .iload_n 1, 1), (30, .iload_n 3, 1), (31, .invokevirtual 772, 3), (34, .ifCond .ne 27, 3), (37, .sipush 10000, 3), (40, .istore_n 3, 1), (41, .aload_n 0, 1), (42, .iload_n 1, 1), (43, .iload_n 3, 1), (44, .invokevirtual 772, 3), (47, .ifCond .ne 14, 3), (50, .sipush 10001, 3), (53, .istore_n 3, 1), (54, .aload_n 0, 1), (55, .iload_n 1, 1), (56, .iload_n 3, 1), (57, .invokevirtual 772, 3), (60, .pop, 1), (61, .aload_n 0, 1), (62, .getfield 56, 3), (65, .iload_n 1, 1), (66, .iload_n 3, 1), (67, .iastore, 1), (68, .iconst (-1), 1), (69, .istore 4, 2), (71, .iconst 0, 1), (72, .istore 5, 2), (74, .iload 5, 2), (76, .iconst 4, 1), (77, .if_icmp .ge 100, 3), (80, .aload_n 0, 1), (81, .getfield 283, 3), (84, .iconst 4, 1), (85, .iload_n 2, 1), (86, .imul, 1), (87, .iload 5, 2), (89, .iadd, 1), (90, .baload, 1), (91, .ifCond .ne 6, 3), (94, .goto 77, 3), (97, .iload 4, 2), (99, .ifCond .lt 68, 3), (102, .aload_n 0, 1), (103, .getfield 280, 3), (106, .iconst 4, 1), (107, .iload_n 2, 1), (108, .imul, 1), (109, .iload 5, 2), (111, .iadd, 1), (112, .laload, 1), (113, .aload_n 0, 1), (114, .getfield 280, 3), (117, .iconst 4, 1), (118, .iload_n 2, 1), (119, .imul, 1), (120, .iload 4, 2), (122, .iadd, 1), (123, .laload, 1), (124, .lcmp, 1), (125, .ifCond .lt 42, 3), (128, .aload_n 0, 1), (129, .getfield 280, 3), (132, .iconst 4, 1), (133, .iload_n 2, 1), (134, .imul, 1), (135, .iload 5, 2), (137, .iadd, 1), (138, .laload, 1), (139, .aload_n 0, 1), (140, .getfield 280, 3), (143, .iconst 4, 1), (144, .iload_n 2, 1), (145, .imul, 1), (146, .iload 4, 2), (148, .iadd, 1), (149, .laload, 1), (150, .lcmp, 1), (151, .ifCond .ne 20, 3), (154, .aload_n 0, 1), (155, .iload_n 2, 1), (156, .iload 5, 2), (158, .iload_n 2, 1), (159, .iload 4, 2), (161, .invokevirtual 765, 3), (164, .ifCond .eq 7, 3), (167, .iload 5, 2), (169, .istore 4, 2), (171, .iinc 5 1, 3), (174, .goto (-100), 3), (177, .aload_n 0, 1), (178, .getfield 66, 3), (181, .iload_n 1, 1), (182, .aload_n 0, 1), (183, .getfield 280, 3), (186, .iconst 4, 1), (187, .iload_n 2, 1), (188, .imul, 1), (189, .iload 4, 2), (191, .iadd, 1), (192, .laload, 1), (193, .lastore, 1), (194, .iconst 0, 1), (195, .istore 5, 2), (197, .iload_n 2, 1), (198, .istore 6, 2), (200, .iload 4, 2), (202, .istore 7, 2), (204, .iload 6, 2), (206, .ifCond .le 36, 3), (209, .iconst 4, 1), (210, .iload 6, 2), (212, .imul, 1), (213, .iload 7, 2), (215, .iadd, 1), (216, .istore 8, 2), (218, .aload_n 0, 1), (219, .getfield 289, 3), (222, .iload 8, 2), (224, .iaload, 1), (225, .istore 7, 2), (227, .aload_n 0, 1), (228, .getfield 286, 3), (231, .iload 8, 2), (233, .iaload, 1), (234, .istore 6, 2), (236, .iinc 5 1, 3), (239, .goto (-35), 3), (242, .aload_n 0, 1), (243, .getfield 50, 3), (246, .iload_n 1, 1), (247, .iload 5, 2), (249, .iastore, 1), (250, .iload_n 2, 1), (251, .istore 6, 2), (253, .iload 4, 2), (255, .istore 7, 2), (257, .iload 5, 2), (259, .iconst 1, 1), (260, .isub, 1), (261, .istore 8, 2), (263, .iload 8, 2), (265, .ifCond .lt 84, 3), (268, .iconst 4, 1), (269, .iload 6, 2), (271, .imul, 1), (272, .iload 7, 2), (274, .iadd, 1), (275, .istore 9, 2), (277, .aload_n 0, 1), (278, .getfield 84, 3), (281, .aload_n 0, 1), (282, .getfield 53, 3), (285, .iload_n 1, 1), (286, .iaload, 1), (287, .iload 8, 2), (289, .iadd, 1), (290, .iload 6, 2), (292, .iastore, 1), (293, .aload_n 0, 1), (294, .iload_n 1, 1), (295, .aload_n 0, 1), (296, .getfield 286, 3), (299, .iload 9, 2), (301, .iaload, 1), (302, .iload 6, 2), (304, .invokevirtual 759, 3), (307, .aload_n 0, 1), (308, .getfield 87, 3), (311, .aload_n 0, 1), (312, .getfield 53, 3), (315, .iload_n 1, 1), (316, .iaload, 1), (317, .iload 8, 2), (319, .iadd, 1), (320, .aload_n 0, 1), (321, .getfield 728, 3), (324, .iastore, 1), (325, .aload_n 0, 1), (326, .getfield 289, 3), (329, .iload 9, 2), (331, .iaload, 1), (332, .istore 7, 2), (334, .aload_n 0, 1), (335, .getfield 286, 3), (338, .iload 9, 2), (340, .iaload, 1), (341, .istore 6, 2), (343, .iinc 8 (-1), 3), (346, .goto (-83), 3), (349, .return_, 1)]
theorem t_X25_breakUp : ∀ q ∈ k_X25_breakUp, decode cX25_breakUp q.1 = .ok q.2 := dl_all (by decide +kernel)
noncomputable def m_X25_breakUp_j171 (x5_74 x4_171 : Int) : Option ((Int × Int) ⊕ ((Int))) :=
  lt_ (w32 (x5_74 + 1)) fun x5_171 =>
  some (.inl (x4_171, x5_171))
noncomputable def m_X25_breakUp_j167 (x5_74 : Int) : Option ((Int × Int) ⊕ ((Int))) :=
  m_X25_breakUp_j171 x5_74 x5_74
noncomputable def m_X25_breakUp_l74 (a0 x2_11 x4_74 x5_74 : Int) (h67 : Hp) : Option ((Int × Int) ⊕ ((Int))) :=
  if 4 ≤ x5_74 then (some (.inr x4_74))
  else (gd (h67 (h67 a0 109) (-2) % 16 = 3 ∧ (0 : Int) ≤ (w32 ((w32 (4 * x2_11)) + x5_74)) ∧ (w32 ((w32 (4 * x2_11)) + x5_74)) < h67 (h67 a0 109) (-1)) (if (h67 (h67 a0 109) (w32 ((w32 (4 * x2_11)) + x5_74))) ≠ 0 then (if x4_74 < 0 then (m_X25_breakUp_j167 x5_74)
  else (gd (h67 (h67 a0 108) (-2) % 16 = 4 ∧ (0 : Int) ≤ (w32 ((w32 (4 * x2_11)) + x5_74)) ∧ (w32 ((w32 (4 * x2_11)) + x5_74)) < h67 (h67 a0 108) (-1)) (gd (h67 (h67 a0 108) (-2) % 16 = 4 ∧ (0 : Int) ≤ (w32 ((w32 (4 * x2_11)) + x4_74)) ∧ (w32 ((w32 (4 * x2_11)) + x4_74)) < h67 (h67 a0 108) (-1)) (if (lcmp_ (h67 (h67 a0 108) (w32 ((w32 (4 * x2_11)) + x5_74))) (h67 (h67 a0 108) (w32 ((w32 (4 * x2_11)) + x4_74)))) < 0 then (m_X25_breakUp_j167 x5_74)
  else (if (lcmp_ (h67 (h67 a0 108) (w32 ((w32 (4 * x2_11)) + x5_74))) (h67 (h67 a0 108) (w32 ((w32 (4 * x2_11)) + x4_74)))) ≠ 0 then (m_X25_breakUp_j171 x5_74 x4_74)
  else ((m_X25_comesFirst a0 x2_11 x5_74 x2_11 x4_74 h67).bind fun v161 =>
  if v161 = 0 then (m_X25_breakUp_j171 x5_74 x4_74)
  else (m_X25_breakUp_j167 x5_74)))))))
  else (m_X25_breakUp_j171 x5_74 x4_74)))
noncomputable def m_X25_breakUp_l204 (a0 x5_204 x6_204 x7_204 : Int) (h193 : Hp) : Option ((Int × Int × Int) ⊕ ((Int))) :=
  if x6_204 ≤ 0 then (some (.inr x5_204))
  else (lt_ (w32 ((w32 (4 * x6_204)) + x7_204)) fun x8_216 =>
  gd (h193 (h193 a0 111) (-2) % 16 = 1 ∧ (0 : Int) ≤ x8_216 ∧ x8_216 < h193 (h193 a0 111) (-1)) (lt_ (h193 (h193 a0 111) x8_216) fun x7_225 =>
  gd (h193 (h193 a0 110) (-2) % 16 = 1 ∧ (0 : Int) ≤ x8_216 ∧ x8_216 < h193 (h193 a0 110) (-1)) (lt_ (h193 (h193 a0 110) x8_216) fun x6_234 =>
  lt_ (w32 (x5_204 + 1)) fun x5_236 =>
  some (.inl (x5_236, x6_234, x7_225)))))
noncomputable def m_X25_breakUp_l263 (a0 a1 x6_263 x7_263 x8_263 : Int) (h_263 : Hp) : Option ((Int × Int × Int × Hp) ⊕ ((Hp))) :=
  if x8_263 < 0 then (some (.inr h_263))
  else (lt_ (w32 ((w32 (4 * x6_263)) + x7_263)) fun x9_275 =>
  gd (h_263 (h_263 a0 18) (-2) % 16 = 1 ∧ (0 : Int) ≤ a1 ∧ a1 < h_263 (h_263 a0 18) (-1)) (gd (h_263 (h_263 a0 28) (-2) % 16 = 1 ∧ (0 : Int) ≤ (w32 ((h_263 (h_263 a0 18) a1) + x8_263)) ∧ (w32 ((h_263 (h_263 a0 18) a1) + x8_263)) < h_263 (h_263 a0 28) (-1)) (pt h_263 (h_263 a0 28) (w32 ((h_263 (h_263 a0 18) a1) + x8_263)) x6_263 fun h292 =>
  gd (h292 (h292 a0 110) (-2) % 16 = 1 ∧ (0 : Int) ≤ x9_275 ∧ x9_275 < h292 (h292 a0 110) (-1)) ((m_X25_measure a0 a1 (h292 (h292 a0 110) x9_275) x6_263 h292).bind fun h304 =>
  gd (h304 (h304 a0 18) (-2) % 16 = 1 ∧ (0 : Int) ≤ a1 ∧ a1 < h304 (h304 a0 18) (-1)) (gd (h304 (h304 a0 29) (-2) % 16 = 1 ∧ (0 : Int) ≤ (w32 ((h304 (h304 a0 18) a1) + x8_263)) ∧ (w32 ((h304 (h304 a0 18) a1) + x8_263)) < h304 (h304 a0 29) (-1)) (pt h304 (h304 a0 29) (w32 ((h304 (h304 a0 18) a1) + x8_263)) (h304 a0 117) fun h324 =>
  gd (h324 (h324 a0 111) (-2) % 16 = 1 ∧ (0 : Int) ≤ x9_275 ∧ x9_275 < h324 (h324 a0 111) (-1)) (lt_ (h324 (h324 a0 111) x9_275) fun x7_332 =>
  gd (h324 (h324 a0 110) (-2) % 16 = 1 ∧ (0 : Int) ≤ x9_275 ∧ x9_275 < h324 (h324 a0 110) (-1)) (lt_ (h324 (h324 a0 110) x9_275) fun x6_341 =>
  lt_ (w32 (x8_263 + (-1))) fun x8_343 =>
  some (.inl (x6_341, x7_332, x8_343, h324))))))))))
noncomputable def m_X25_breakUp_j61 (x2_11 a1 a0 x3_61 : Int) (h_61 : Hp) : Option (Hp) :=
  gd (h_61 (h_61 a0 19) (-2) % 16 = 1 ∧ (0 : Int) ≤ a1 ∧ a1 < h_61 (h_61 a0 19) (-1)) (pt h_61 (h_61 a0 19) a1 x3_61 fun h67 =>
  lt_ (-1) fun x4_69 =>
  lt_ 0 fun x5_72 =>
  (lp (fun (q : Int × Int) => m_X25_breakUp_l74 a0 x2_11 q.1 q.2 h67) (x4_69, x5_72)).bind (fun (y177 : Int) => gd (h67 (h67 a0 108) (-2) % 16 = 4 ∧ (0 : Int) ≤ (w32 ((w32 (4 * x2_11)) + y177)) ∧ (w32 ((w32 (4 * x2_11)) + y177)) < h67 (h67 a0 108) (-1)) (gd (h67 (h67 a0 22) (-2) % 16 = 4 ∧ (0 : Int) ≤ a1 ∧ a1 < h67 (h67 a0 22) (-1)) (pt h67 (h67 a0 22) a1 (h67 (h67 a0 108) (w32 ((w32 (4 * x2_11)) + y177))) fun h193 =>
  lt_ 0 fun x5_195 =>
  (lp (fun (q : Int × Int × Int) => m_X25_breakUp_l204 a0 q.1 q.2.1 q.2.2 h193) (x5_195, x2_11, y177)).bind (fun (y242 : Int) => gd (h193 (h193 a0 17) (-2) % 16 = 1 ∧ (0 : Int) ≤ a1 ∧ a1 < h193 (h193 a0 17) (-1)) (pt h193 (h193 a0 17) a1 y242 fun h249 =>
  lt_ (w32 (y242 - 1)) fun x8_261 =>
  (lp (fun (q : Int × Int × Int × Hp) => m_X25_breakUp_l263 a0 a1 q.1 q.2.1 q.2.2.1 q.2.2.2) (x2_11, y177, x8_261, h249)).bind (fun (x : Hp) => some x)))))))
noncomputable def m_X25_breakUp (a0 a1 : Int) (h : Hp) : Option (Hp) :=
  (m_X25_sums a0 a1 h).bind fun h2 =>
  gd (h2 (h2 a0 15) (-2) % 16 = 1 ∧ (0 : Int) ≤ a1 ∧ a1 < h2 (h2 a0 15) (-1)) (lt_ (h2 (h2 a0 15) a1) fun x2_11 =>
  gd (h2 (h2 a0 12) (-2) % 16 = 1 ∧ (0 : Int) ≤ a1 ∧ a1 < h2 (h2 a0 12) (-1)) (gd (h2 (h2 a0 0) (-2) = 400) ((m_X24_of (h2 a0 0) (h2 (h2 a0 12) a1) 10 h2).bind fun v24 =>
  bW (m_X25_tryAll a0 a1 v24 h2) fun v31 h31 =>
  if v31 ≠ 0 then (m_X25_breakUp_j61 x2_11 a1 a0 v24 h31)
  else (lt_ 10000 fun x3_40 =>
  bW (m_X25_tryAll a0 a1 x3_40 h31) fun v44 h44 =>
  if v44 ≠ 0 then (m_X25_breakUp_j61 x2_11 a1 a0 x3_40 h44)
  else (lt_ 10001 fun x3_53 =>
  bW (m_X25_tryAll a0 a1 x3_53 h44) fun v57 h57 =>
  m_X25_breakUp_j61 x2_11 a1 a0 x3_53 h57)))))
theorem s_X25_breakUp {l : Launch} [NoTr l] {D : SD} {a0 a1 : Int} {h : Hp} (hk : h a0 (-2) = 416) (r1 : r32 a1) {r : Hp} (hm : m_X25_breakUp a0 a1 h = some r) : Sim l D yX25_breakUp (Cond.code yX25_breakUp cX25_breakUp 10 (Option.none : Option Jvm.ClassFile.FieldType)) 4 168 [rv D a0, iv a1] h 0 ((0, 0), r) := by
  refine Sim.of (fin := fun (v : Hp) => ((0, 0), v)) (lsE := [(0, rv D a0), (1, iv a1)]) hm rfl cwS_code (la_r (la_i la_n)) (ll_r (ll_i ll_n)) ?_
  intro p e s m below meth c X hcw hmm hcc hnm hname
  unfold m_X25_breakUp
  refine g_aload_n (pc := 0) X (j := 0) (i := 0) (q := 0) (x := a0) rfl rfl (dl_at t_X25_breakUp 0 rfl) ?_
  refine g_iload_n (pc := 1) X (j := 1) (i := 1) (q := 1) (x := a1) rfl rfl (dl_at t_X25_breakUp 1 rfl) ?_
  refine r_callV (pc := 2) X (fun _ hv => s_X25_sums hk r1 hv) cw_code q5004 q379 (in_Vk X (As := [iv a1]) kX25 hk (Or.inl q5001) q5003 qs323 cw_code q5004 ⟨by decide, by decide⟩ rfl (dl_at t_X25_breakUp 2 rfl)) (dl_at t_X25_breakUp 2 rfl) (cat24 (st := []) (Nat.le_of_ble_eq_true rfl)) (Nat.le_of_ble_eq_true rfl) (Nat.le_of_ble_eq_true rfl) fun h2 E2 => ?_
  refine g_aload_n (pc := 5) X (j := 0) (i := 0) (q := 0) (x := a0) rfl rfl (dl_at t_X25_breakUp 3 rfl) ?_
  have k6 := kx E2 (by decide) hk
  refine r_getr (pc := 6) X fX25_15 k6 q3783 (dl_at t_X25_breakUp 4 rfl) ?_
  refine g_iload_n (pc := 9) X (j := 1) (i := 1) (q := 1) (x := a1) rfl rfl (dl_at t_X25_breakUp 5 rfl) ?_
  refine g_gd fun k10 => ?_
  refine g_iald (pc := 10) X r1 k10 (dl_at t_X25_breakUp 6 rfl) fun g10 => ?_
  refine g_lti g10 fun x2_11 r2_11 => ?_
  refine g_istore_nN (pc := 11) X (j := 2) (i := 2) (x := x2_11) (b := 1) (w := iv a1) (rest := [(0, rv D a0)]) rfl (Nat.le_of_ble_eq_true rfl) [1, 0] rfl (by decide) rfl rfl (dl_at t_X25_breakUp 7 rfl) ?_
  refine g_aload_n (pc := 12) X (j := 0) (i := 0) (q := 2) (x := a0) rfl rfl (dl_at t_X25_breakUp 8 rfl) ?_
  refine r_getr (pc := 13) X fX25_0 k6 q3761 (dl_at t_X25_breakUp 9 rfl) ?_
  refine g_aload_n (pc := 16) X (j := 0) (i := 0) (q := 2) (x := a0) rfl rfl (dl_at t_X25_breakUp 10 rfl) ?_
  refine r_getr (pc := 17) X fX25_12 k6 q3779 (dl_at t_X25_breakUp 11 rfl) ?_
  refine g_iload_n (pc := 20) X (j := 1) (i := 1) (q := 1) (x := a1) rfl rfl (dl_at t_X25_breakUp 12 rfl) ?_
  refine g_gd fun k21 => ?_
  refine g_iald (pc := 21) X r1 k21 (dl_at t_X25_breakUp 13 rfl) fun g21 => ?_
  refine g_bipush (pc := 22) X (n := 10) rfl (dl_at t_X25_breakUp 14 rfl) ?_
  refine g_gd fun k24 => ?_
  refine r_callRi (pc := 24) X (fun _ hv => s_X24_of k24 g21 (r32_c rfl) hv) cw_code q4704 q378 (in_Vk X (As := [iv (h2 (h2 a0 12) a1), iv 10]) kX24 k24 (Or.inl q4844) q4702 q4703 cw_code q4704 ⟨by decide, by decide⟩ rfl (dl_at t_X25_breakUp 15 rfl)) (dl_at t_X25_breakUp 15 rfl) (cat24 (st := []) (Nat.le_of_ble_eq_true rfl)) (Nat.le_of_ble_eq_true rfl) (Nat.le_of_ble_eq_true rfl) fun v24 g24 => ?_
  refine g_istore_nN (pc := 27) X (j := 3) (i := 3) (x := v24) (b := 2) (w := iv x2_11) (rest := [(1, iv a1), (0, rv D a0)]) rfl (Nat.le_of_ble_eq_true rfl) [0, 1, 2] rfl (by decide) rfl rfl (dl_at t_X25_breakUp 16 rfl) ?_
  refine g_aload_n (pc := 28) X (j := 0) (i := 0) (q := 3) (x := a0) rfl rfl (dl_at t_X25_breakUp 17 rfl) ?_
  refine g_iload_n (pc := 29) X (j := 1) (i := 1) (q := 2) (x := a1) rfl rfl (dl_at t_X25_breakUp 18 rfl) ?_
  refine g_iload_n (pc := 30) X (j := 3) (i := 3) (q := 0) (x := v24) rfl rfl (dl_at t_X25_breakUp 19 rfl) ?_
  refine r_callWz (pc := 31) X (fun _ hv => s_X25_tryAll k6 r1 g24 hv) cw_code q5010 q379 (in_Vk X (As := [iv a1, iv v24]) kX25 k6 (Or.inl q5007) q5009 qs324 cw_code q5010 ⟨by decide, by decide⟩ rfl (dl_at t_X25_breakUp 20 rfl)) (dl_at t_X25_breakUp 20 rfl) (cat24 (st := []) (Nat.le_of_ble_eq_true rfl)) (Nat.le_of_ble_eq_true rfl) (Nat.le_of_ble_eq_true rfl) fun v31 h31 g31 E31 => ?_
  refine g_join (γ := Int × Hp) (fun q => r32 q.1 ∧ Ext h31 q.2) 61 (fun q => [(0, rv D a0), (1, iv a1), (2, iv x2_11), (3, iv q.1)]) (fun q => []) (fun q => q.2) (fun q => m_X25_breakUp_j61 x2_11 a1 a0 q.1 q.2) ?_ ?_
  · rintro ⟨x3_61, h_61⟩ ⟨r3_61, E_61⟩
    try dsimp only
    unfold m_X25_breakUp_j61
    refine g_aload_n (pc := 61) X (j := 0) (i := 0) (q := 0) (x := a0) rfl rfl (dl_at t_X25_breakUp 36 rfl) ?_
    have k62 := kx (E31.trans E_61) (by decide) k6
    refine r_getr (pc := 62) X fX25_19 k62 q3790 (dl_at t_X25_breakUp 37 rfl) ?_
    refine g_iload_n (pc := 65) X (j := 1) (i := 1) (q := 1) (x := a1) rfl rfl (dl_at t_X25_breakUp 38 rfl) ?_
    refine g_iload_n (pc := 66) X (j := 3) (i := 3) (q := 3) (x := x3_61) rfl rfl (dl_at t_X25_breakUp 39 rfl) ?_
    refine g_gd fun k67 => ?_
    refine r_iast (pc := 67) X r1 r3_61 k67 (dl_at t_X25_breakUp 40 rfl) (fun h67 E67 => ?_)
    refine g_iconst (pc := 68) X (n := (-1)) (dl_at t_X25_breakUp 41 rfl) ?_
    refine g_lti (r32_c rfl) fun x4_69 r4_69 => ?_
    refine g_istore (pc := 69) X (i := 4) (x := x4_69) (rest := [(0, rv D a0), (1, iv a1), (2, iv x2_11)]) (Nat.le_of_ble_eq_true rfl) [0, 1, 2] rfl rfl (dl_at t_X25_breakUp 42 rfl) ?_
    refine g_iconst (pc := 71) X (n := 0) (dl_at t_X25_breakUp 43 rfl) ?_
    refine g_ltz (Or.inl rfl) fun x5_72 r5_72 => ?_
    refine g_istoreN (pc := 72) X (i := 5) (x := x5_72) (b := 4) (w := iv x4_69) (rest := [(0, rv D a0), (1, iv a1), (2, iv x2_11)]) (Nat.le_of_ble_eq_true rfl) [0, 1, 2, 3] rfl (by decide) rfl rfl (dl_at t_X25_breakUp 44 rfl) ?_
    refine g_ls (ls2 := [(0, rv D a0), (1, iv a1), (2, iv x2_11), (4, iv x4_69), (5, iv x5_72)]) [2, 3, 4, 1, 0] rfl ?_
    refine g_loop1 (fun (q : Int × Int) => [(0, rv D a0), (1, iv a1), (2, iv x2_11), (4, iv q.1), (5, iv q.2)]) (fun (q : Int × Int) => h67) (fun (q : Int × Int) => r32 q.1 ∧ r32 q.2) 177 (fun (y177 : Int) => [(0, rv D a0), (1, iv a1), (2, iv x2_11), (4, iv y177)]) (fun (y177 : Int) => h67) (fun (y177 : Int) => r32 y177) (x4_69, x5_72) ⟨r4_69, (r32_z r5_72)⟩ ?_ ?_
    · rintro ⟨x4_74, x5_74⟩ ⟨r4_74, r5_74⟩
      try dsimp only
      unfold m_X25_breakUp_l74
      refine g_iload (pc := 74) X (i := 5) (q := 4) (x := x5_74) rfl (dl_at t_X25_breakUp 45 rfl) ?_
      refine g_iconst (pc := 76) X (n := 4) (dl_at t_X25_breakUp 46 rfl) ?_
      refine g_icmpge (pc := 77) X r5_74 (r32_c rfl) (off := 100) (tgt := 177) rfl (dl_at t_X25_breakUp 47 rfl) (fun _ => ?_) (fun _ => ?_)
      · refine g_ls (ls2 := [(0, rv D a0), (1, iv a1), (2, iv x2_11), (4, iv x4_74)]) [0, 1, 2, 3] rfl ?_
        exact g_at fun Q hQ => hQ r4_74
      refine g_aload_n (pc := 80) X (j := 0) (i := 0) (q := 0) (x := a0) rfl rfl (dl_at t_X25_breakUp 48 rfl) ?_
      have k81 := kx E67 (by decide) k62
      refine r_getr (pc := 81) X fX25_109 k81 q3921 (dl_at t_X25_breakUp 49 rfl) ?_
      refine g_iconst (pc := 84) X (n := 4) (dl_at t_X25_breakUp 50 rfl) ?_
      refine g_iload_n (pc := 85) X (j := 2) (i := 2) (q := 2) (x := x2_11) rfl rfl (dl_at t_X25_breakUp 51 rfl) ?_
      refine g_imul (pc := 86) X (r32_c rfl) r2_11 (dl_at t_X25_breakUp 52 rfl) ?_
      refine g_iload (pc := 87) X (i := 5) (q := 4) (x := x5_74) rfl (dl_at t_X25_breakUp 53 rfl) ?_
      refine g_iadd (pc := 89) X (r32_w _) r5_74 (dl_at t_X25_breakUp 54 rfl) ?_
      refine g_gd fun k90 => ?_
      refine g_zald (pc := 90) X (r32_w _) k90 (dl_at t_X25_breakUp 55 rfl) fun g90 => ?_
      refine g_join (γ := Int) (fun q => r32 q) 171 (fun q => [(0, rv D a0), (1, iv a1), (2, iv x2_11), (4, iv q), (5, iv x5_74)]) (fun q => []) (fun q => h67) (fun q => m_X25_breakUp_j171 x5_74 q) ?_ ?_
      · rintro x4_171 r4_171
        try dsimp only
        unfold m_X25_breakUp_j171
        refine r_iincN (pc := 171) X (i := 5) (q := 4) (n := 1) (x := x5_74) (b := 4) (w := iv x4_171) (rest := [(0, rv D a0), (1, iv a1), (2, iv x2_11)]) rfl r5_74 (r32_c rfl) (Nat.le_of_ble_eq_true rfl) [3, 0, 1, 2] rfl (by decide) rfl rfl (dl_at t_X25_breakUp 105 rfl) fun x5_171 r5_171 => ?_
        refine g_goto (pc := 174) X (off := (-100)) (tgt := 74) rfl (dl_at t_X25_breakUp 106 rfl) ?_
        refine g_ls (ls2 := [(0, rv D a0), (1, iv a1), (2, iv x2_11), (4, iv x4_171), (5, iv x5_171)]) [2, 3, 4, 1, 0] rfl ?_
        exact g_at fun Q hQ => hQ ⟨r4_171, r5_171⟩
      intro J171
      refine g_ifne (pc := 91) X (r32_z g90) (off := 6) (tgt := 97) rfl (dl_at t_X25_breakUp 56 rfl) (fun _ => ?_) (fun _ => ?_)
      · refine g_iload (pc := 97) X (i := 4) (q := 3) (x := x4_74) rfl (dl_at t_X25_breakUp 58 rfl) ?_
        refine g_join (γ := Unit) (fun q => True) 167 (fun q => [(0, rv D a0), (1, iv a1), (2, iv x2_11), (5, iv x5_74)]) (fun q => []) (fun q => h67) (fun q => m_X25_breakUp_j167 x5_74) ?_ ?_
        · rintro _ _
          try dsimp only
          unfold m_X25_breakUp_j167
          refine g_iload (pc := 167) X (i := 5) (q := 3) (x := x5_74) rfl (dl_at t_X25_breakUp 103 rfl) ?_
          refine g_istore (pc := 169) X (i := 4) (x := x5_74) (rest := [(0, rv D a0), (1, iv a1), (2, iv x2_11), (5, iv x5_74)]) (Nat.le_of_ble_eq_true rfl) [0, 1, 2, 3] rfl rfl (dl_at t_X25_breakUp 104 rfl) ?_
          refine g_ls (ls2 := [(0, rv D a0), (1, iv a1), (2, iv x2_11), (4, iv x5_74), (5, iv x5_74)]) [1, 2, 3, 0, 4] rfl ?_
          exact J171 x5_74 r5_74
        intro J167
        refine g_iflt (pc := 99) X r4_74 (off := 68) (tgt := 167) rfl (dl_at t_X25_breakUp 59 rfl) (fun _ => ?_) (fun _ => ?_)
        · refine g_ls (ls2 := [(0, rv D a0), (1, iv a1), (2, iv x2_11), (5, iv x5_74)]) [0, 1, 2, 4] rfl ?_
          exact J167 () trivial
        refine g_aload_n (pc := 102) X (j := 0) (i := 0) (q := 0) (x := a0) rfl rfl (dl_at t_X25_breakUp 60 rfl) ?_
        refine r_getr (pc := 103) X fX25_108 k81 q3920 (dl_at t_X25_breakUp 61 rfl) ?_
        refine g_iconst (pc := 106) X (n := 4) (dl_at t_X25_breakUp 62 rfl) ?_
        refine g_iload_n (pc := 107) X (j := 2) (i := 2) (q := 2) (x := x2_11) rfl rfl (dl_at t_X25_breakUp 63 rfl) ?_
        refine g_imul (pc := 108) X (r32_c rfl) r2_11 (dl_at t_X25_breakUp 64 rfl) ?_
        refine g_iload (pc := 109) X (i := 5) (q := 4) (x := x5_74) rfl (dl_at t_X25_breakUp 65 rfl) ?_
        refine g_iadd (pc := 111) X (r32_w _) r5_74 (dl_at t_X25_breakUp 66 rfl) ?_
        refine g_gd fun k112 => ?_
        refine g_lald (pc := 112) X (r32_w _) k112 (dl_at t_X25_breakUp 67 rfl) fun g112 => ?_
        refine g_aload_n (pc := 113) X (j := 0) (i := 0) (q := 0) (x := a0) rfl rfl (dl_at t_X25_breakUp 68 rfl) ?_
        refine r_getr (pc := 114) X fX25_108 k81 q3920 (dl_at t_X25_breakUp 69 rfl) ?_
        refine g_iconst (pc := 117) X (n := 4) (dl_at t_X25_breakUp 70 rfl) ?_
        refine g_iload_n (pc := 118) X (j := 2) (i := 2) (q := 2) (x := x2_11) rfl rfl (dl_at t_X25_breakUp 71 rfl) ?_
        refine g_imul (pc := 119) X (r32_c rfl) r2_11 (dl_at t_X25_breakUp 72 rfl) ?_
        refine g_iload (pc := 120) X (i := 4) (q := 3) (x := x4_74) rfl (dl_at t_X25_breakUp 73 rfl) ?_
        refine g_iadd (pc := 122) X (r32_w _) r4_74 (dl_at t_X25_breakUp 74 rfl) ?_
        refine g_gd fun k123 => ?_
        refine g_lald (pc := 123) X (r32_w _) k123 (dl_at t_X25_breakUp 75 rfl) fun g123 => ?_
        refine g_lcmp (pc := 124) X g112 g123 (dl_at t_X25_breakUp 76 rfl) ?_
        refine g_iflt (pc := 125) X (r32_lcmp _ _) (off := 42) (tgt := 167) rfl (dl_at t_X25_breakUp 77 rfl) (fun _ => ?_) (fun _ => ?_)
        · refine g_ls (ls2 := [(0, rv D a0), (1, iv a1), (2, iv x2_11), (5, iv x5_74)]) [0, 1, 2, 4] rfl ?_
          exact J167 () trivial
        refine g_aload_n (pc := 128) X (j := 0) (i := 0) (q := 0) (x := a0) rfl rfl (dl_at t_X25_breakUp 78 rfl) ?_
        refine r_getr (pc := 129) X fX25_108 k81 q3920 (dl_at t_X25_breakUp 79 rfl) ?_
        refine g_iconst (pc := 132) X (n := 4) (dl_at t_X25_breakUp 80 rfl) ?_
        refine g_iload_n (pc := 133) X (j := 2) (i := 2) (q := 2) (x := x2_11) rfl rfl (dl_at t_X25_breakUp 81 rfl) ?_
        refine g_imul (pc := 134) X (r32_c rfl) r2_11 (dl_at t_X25_breakUp 82 rfl) ?_
        refine g_iload (pc := 135) X (i := 5) (q := 4) (x := x5_74) rfl (dl_at t_X25_breakUp 83 rfl) ?_
        refine g_iadd (pc := 137) X (r32_w _) r5_74 (dl_at t_X25_breakUp 84 rfl) ?_
        refine g_lald (pc := 138) X (r32_w _) k112 (dl_at t_X25_breakUp 85 rfl) fun g138 => ?_
        refine g_aload_n (pc := 139) X (j := 0) (i := 0) (q := 0) (x := a0) rfl rfl (dl_at t_X25_breakUp 86 rfl) ?_
        refine r_getr (pc := 140) X fX25_108 k81 q3920 (dl_at t_X25_breakUp 87 rfl) ?_
        refine g_iconst (pc := 143) X (n := 4) (dl_at t_X25_breakUp 88 rfl) ?_
        refine g_iload_n (pc := 144) X (j := 2) (i := 2) (q := 2) (x := x2_11) rfl rfl (dl_at t_X25_breakUp 89 rfl) ?_
        refine g_imul (pc := 145) X (r32_c rfl) r2_11 (dl_at t_X25_breakUp 90 rfl) ?_
        refine g_iload (pc := 146) X (i := 4) (q := 3) (x := x4_74) rfl (dl_at t_X25_breakUp 91 rfl) ?_
        refine g_iadd (pc := 148) X (r32_w _) r4_74 (dl_at t_X25_breakUp 92 rfl) ?_
        refine g_lald (pc := 149) X (r32_w _) k123 (dl_at t_X25_breakUp 93 rfl) fun g149 => ?_
        refine g_lcmp (pc := 150) X g138 g149 (dl_at t_X25_breakUp 94 rfl) ?_
        refine g_ifne (pc := 151) X (r32_lcmp _ _) (off := 20) (tgt := 171) rfl (dl_at t_X25_breakUp 95 rfl) (fun _ => ?_) (fun _ => ?_)
        · exact J171 x4_74 r4_74
        refine g_aload_n (pc := 154) X (j := 0) (i := 0) (q := 0) (x := a0) rfl rfl (dl_at t_X25_breakUp 96 rfl) ?_
        refine g_iload_n (pc := 155) X (j := 2) (i := 2) (q := 2) (x := x2_11) rfl rfl (dl_at t_X25_breakUp 97 rfl) ?_
        refine g_iload (pc := 156) X (i := 5) (q := 4) (x := x5_74) rfl (dl_at t_X25_breakUp 98 rfl) ?_
        refine g_iload_n (pc := 158) X (j := 2) (i := 2) (q := 2) (x := x2_11) rfl rfl (dl_at t_X25_breakUp 99 rfl) ?_
        refine g_iload (pc := 159) X (i := 4) (q := 3) (x := x4_74) rfl (dl_at t_X25_breakUp 100 rfl) ?_
        refine r_callRz (pc := 161) X (fun _ hv => s_X25_comesFirst k81 r2_11 r5_74 r2_11 r4_74 hv) cw_code q5047 q379 (in_Vk X (As := [iv x2_11, iv x5_74, iv x2_11, iv x4_74]) kX25 k81 (Or.inl q5044) q5046 qs330 cw_code q5047 ⟨by decide, by decide⟩ rfl (dl_at t_X25_breakUp 101 rfl)) (dl_at t_X25_breakUp 101 rfl) (cat24 (st := []) (Nat.le_of_ble_eq_true rfl)) (Nat.le_of_ble_eq_true rfl) (Nat.le_of_ble_eq_true rfl) fun v161 g161 => ?_
        refine g_ifeq (pc := 164) X (r32_z g161) (off := 7) (tgt := 171) rfl (dl_at t_X25_breakUp 102 rfl) (fun _ => ?_) (fun _ => ?_)
        · exact J171 x4_74 r4_74
        refine g_ls (ls2 := [(0, rv D a0), (1, iv a1), (2, iv x2_11), (5, iv x5_74)]) [0, 1, 2, 4] rfl ?_
        exact J167 () trivial
      refine g_goto (pc := 94) X (off := 77) (tgt := 171) rfl (dl_at t_X25_breakUp 57 rfl) ?_
      exact J171 x4_74 r4_74
    · rintro x4_177 r4_177
      try dsimp only [sE]
      refine g_aload_n (pc := 177) X (j := 0) (i := 0) (q := 0) (x := a0) rfl rfl (dl_at t_X25_breakUp 107 rfl) ?_
      have k178 := kx E67 (by decide) k62
      refine r_getr (pc := 178) X fX25_22 k178 q3795 (dl_at t_X25_breakUp 108 rfl) ?_
      refine g_iload_n (pc := 181) X (j := 1) (i := 1) (q := 1) (x := a1) rfl rfl (dl_at t_X25_breakUp 109 rfl) ?_
      refine g_aload_n (pc := 182) X (j := 0) (i := 0) (q := 0) (x := a0) rfl rfl (dl_at t_X25_breakUp 110 rfl) ?_
      refine r_getr (pc := 183) X fX25_108 k178 q3920 (dl_at t_X25_breakUp 111 rfl) ?_
      refine g_iconst (pc := 186) X (n := 4) (dl_at t_X25_breakUp 112 rfl) ?_
      refine g_iload_n (pc := 187) X (j := 2) (i := 2) (q := 2) (x := x2_11) rfl rfl (dl_at t_X25_breakUp 113 rfl) ?_
      refine g_imul (pc := 188) X (r32_c rfl) r2_11 (dl_at t_X25_breakUp 114 rfl) ?_
      refine g_iload (pc := 189) X (i := 4) (q := 3) (x := x4_177) rfl (dl_at t_X25_breakUp 115 rfl) ?_
      refine g_iadd (pc := 191) X (r32_w _) r4_177 (dl_at t_X25_breakUp 116 rfl) ?_
      refine g_gd fun k192 => ?_
      refine g_lald (pc := 192) X (r32_w _) k192 (dl_at t_X25_breakUp 117 rfl) fun g192 => ?_
      refine g_gd fun k193 => ?_
      refine r_last (pc := 193) X r1 g192 k193 (dl_at t_X25_breakUp 118 rfl) (fun h193 E193 => ?_)
      refine g_iconst (pc := 194) X (n := 0) (dl_at t_X25_breakUp 119 rfl) ?_
      refine g_ltz (Or.inl rfl) fun x5_195 r5_195 => ?_
      refine g_istoreN (pc := 195) X (i := 5) (x := x5_195) (b := 4) (w := iv x4_177) (rest := [(0, rv D a0), (1, iv a1), (2, iv x2_11)]) (Nat.le_of_ble_eq_true rfl) [3, 0, 1, 2] rfl (by decide) rfl rfl (dl_at t_X25_breakUp 120 rfl) ?_
      refine g_iload_n (pc := 197) X (j := 2) (i := 2) (q := 4) (x := x2_11) rfl rfl (dl_at t_X25_breakUp 121 rfl) ?_
      refine g_istoreN (pc := 198) X (i := 6) (x := x2_11) (b := 5) (w := iv x5_195) (rest := [(4, iv x4_177), (0, rv D a0), (1, iv a1), (2, iv x2_11)]) (Nat.le_of_ble_eq_true rfl) [0, 1, 2, 3, 4] rfl (by decide) rfl rfl (dl_at t_X25_breakUp 122 rfl) ?_
      refine g_iload (pc := 200) X (i := 4) (q := 2) (x := x4_177) rfl (dl_at t_X25_breakUp 123 rfl) ?_
      refine g_istoreN (pc := 202) X (i := 7) (x := x4_177) (b := 6) (w := iv x2_11) (rest := [(5, iv x5_195), (4, iv x4_177), (0, rv D a0), (1, iv a1), (2, iv x2_11)]) (Nat.le_of_ble_eq_true rfl) [0, 1, 2, 3, 4, 5] rfl (by decide) rfl rfl (dl_at t_X25_breakUp 124 rfl) ?_
      refine g_ls (ls2 := [(0, rv D a0), (1, iv a1), (2, iv x2_11), (4, iv x4_177), (5, iv x5_195), (6, iv x2_11), (7, iv x4_177)]) [4, 5, 6, 3, 2, 1, 0] rfl ?_
      refine g_loop1 (fun (q : Int × Int × Int) => [(0, rv D a0), (1, iv a1), (2, iv x2_11), (4, iv x4_177), (5, iv q.1), (6, iv q.2.1), (7, iv q.2.2)]) (fun (q : Int × Int × Int) => h193) (fun (q : Int × Int × Int) => r32 q.1 ∧ r32 q.2.1 ∧ r32 q.2.2) 242 (fun (y242 : Int) => [(0, rv D a0), (1, iv a1), (2, iv x2_11), (4, iv x4_177), (5, iv y242)]) (fun (y242 : Int) => h193) (fun (y242 : Int) => r32 y242) (x5_195, x2_11, x4_177) ⟨(r32_z r5_195), r2_11, r4_177⟩ ?_ ?_
      · rintro ⟨x5_204, x6_204, x7_204⟩ ⟨r5_204, r6_204, r7_204⟩
        try dsimp only
        unfold m_X25_breakUp_l204
        refine g_iload (pc := 204) X (i := 6) (q := 5) (x := x6_204) rfl (dl_at t_X25_breakUp 125 rfl) ?_
        refine g_ifle (pc := 206) X r6_204 (off := 36) (tgt := 242) rfl (dl_at t_X25_breakUp 126 rfl) (fun _ => ?_) (fun _ => ?_)
        · refine g_ls (ls2 := [(0, rv D a0), (1, iv a1), (2, iv x2_11), (4, iv x4_177), (5, iv x5_204)]) [0, 1, 2, 3, 4] rfl ?_
          exact g_at fun Q hQ => hQ r5_204
        refine g_iconst (pc := 209) X (n := 4) (dl_at t_X25_breakUp 127 rfl) ?_
        refine g_iload (pc := 210) X (i := 6) (q := 5) (x := x6_204) rfl (dl_at t_X25_breakUp 128 rfl) ?_
        refine g_imul (pc := 212) X (r32_c rfl) r6_204 (dl_at t_X25_breakUp 129 rfl) ?_
        refine g_iload (pc := 213) X (i := 7) (q := 6) (x := x7_204) rfl (dl_at t_X25_breakUp 130 rfl) ?_
        refine g_iadd (pc := 215) X (r32_w _) r7_204 (dl_at t_X25_breakUp 131 rfl) ?_
        refine g_lti (r32_w _) fun x8_216 r8_216 => ?_
        refine g_istore (pc := 216) X (i := 8) (x := x8_216) (rest := [(0, rv D a0), (1, iv a1), (2, iv x2_11), (4, iv x4_177), (5, iv x5_204)]) (Nat.le_of_ble_eq_true rfl) [0, 1, 2, 3, 4] rfl rfl (dl_at t_X25_breakUp 132 rfl) ?_
        refine g_aload_n (pc := 218) X (j := 0) (i := 0) (q := 1) (x := a0) rfl rfl (dl_at t_X25_breakUp 133 rfl) ?_
        have k219 := kx E193 (by decide) k178
        refine r_getr (pc := 219) X fX25_111 k219 q3923 (dl_at t_X25_breakUp 134 rfl) ?_
        refine g_iload (pc := 222) X (i := 8) (q := 0) (x := x8_216) rfl (dl_at t_X25_breakUp 135 rfl) ?_
        refine g_gd fun k224 => ?_
        refine g_iald (pc := 224) X r8_216 k224 (dl_at t_X25_breakUp 136 rfl) fun g224 => ?_
        refine g_lti g224 fun x7_225 r7_225 => ?_
        refine g_istore (pc := 225) X (i := 7) (x := x7_225) (rest := [(8, iv x8_216), (0, rv D a0), (1, iv a1), (2, iv x2_11), (4, iv x4_177), (5, iv x5_204)]) (Nat.le_of_ble_eq_true rfl) [0, 1, 2, 3, 4, 5] rfl rfl (dl_at t_X25_breakUp 137 rfl) ?_
        refine g_aload_n (pc := 227) X (j := 0) (i := 0) (q := 2) (x := a0) rfl rfl (dl_at t_X25_breakUp 138 rfl) ?_
        refine r_getr (pc := 228) X fX25_110 k219 q3922 (dl_at t_X25_breakUp 139 rfl) ?_
        refine g_iload (pc := 231) X (i := 8) (q := 1) (x := x8_216) rfl (dl_at t_X25_breakUp 140 rfl) ?_
        refine g_gd fun k233 => ?_
        refine g_iald (pc := 233) X r8_216 k233 (dl_at t_X25_breakUp 141 rfl) fun g233 => ?_
        refine g_lti g233 fun x6_234 r6_234 => ?_
        refine g_istoreN (pc := 234) X (i := 6) (x := x6_234) (b := 5) (w := iv x5_204) (rest := [(7, iv x7_225), (0, rv D a0), (1, iv a1), (2, iv x2_11), (4, iv x4_177)]) (Nat.le_of_ble_eq_true rfl) [6, 0, 2, 3, 4, 5] rfl (by decide) rfl rfl (dl_at t_X25_breakUp 142 rfl) ?_
        refine r_iincN (pc := 236) X (i := 5) (q := 1) (n := 1) (x := x5_204) (b := 4) (w := iv x4_177) (rest := [(6, iv x6_234), (7, iv x7_225), (0, rv D a0), (1, iv a1), (2, iv x2_11)]) rfl r5_204 (r32_c rfl) (Nat.le_of_ble_eq_true rfl) [6, 0, 2, 3, 4, 5] rfl (by decide) rfl rfl (dl_at t_X25_breakUp 143 rfl) fun x5_236 r5_236 => ?_
        refine g_goto (pc := 239) X (off := (-35)) (tgt := 204) rfl (dl_at t_X25_breakUp 144 rfl) ?_
        refine g_ls (ls2 := [(0, rv D a0), (1, iv a1), (2, iv x2_11), (4, iv x4_177), (5, iv x5_236), (6, iv x6_234), (7, iv x7_225)]) [4, 5, 6, 1, 0, 2, 3] rfl ?_
        exact g_at fun Q hQ => hQ ⟨r5_236, r6_234, r7_225⟩
      · rintro x5_242 r5_242
        try dsimp only [sE]
        refine g_aload_n (pc := 242) X (j := 0) (i := 0) (q := 0) (x := a0) rfl rfl (dl_at t_X25_breakUp 145 rfl) ?_
        have k243 := kx E193 (by decide) k178
        refine r_getr (pc := 243) X fX25_17 k243 q3786 (dl_at t_X25_breakUp 146 rfl) ?_
        refine g_iload_n (pc := 246) X (j := 1) (i := 1) (q := 1) (x := a1) rfl rfl (dl_at t_X25_breakUp 147 rfl) ?_
        refine g_iload (pc := 247) X (i := 5) (q := 4) (x := x5_242) rfl (dl_at t_X25_breakUp 148 rfl) ?_
        refine g_gd fun k249 => ?_
        refine r_iast (pc := 249) X r1 r5_242 k249 (dl_at t_X25_breakUp 149 rfl) (fun h249 E249 => ?_)
        refine g_iload_n (pc := 250) X (j := 2) (i := 2) (q := 2) (x := x2_11) rfl rfl (dl_at t_X25_breakUp 150 rfl) ?_
        refine g_istoreN (pc := 251) X (i := 6) (x := x2_11) (b := 5) (w := iv x5_242) (rest := [(0, rv D a0), (1, iv a1), (4, iv x4_177)]) (Nat.le_of_ble_eq_true rfl) [4, 0, 1, 3] rfl (by decide) rfl rfl (dl_at t_X25_breakUp 151 rfl) ?_
        refine g_iload (pc := 253) X (i := 4) (q := 4) (x := x4_177) rfl (dl_at t_X25_breakUp 152 rfl) ?_
        refine g_istoreN (pc := 255) X (i := 7) (x := x4_177) (b := 6) (w := iv x2_11) (rest := [(5, iv x5_242), (0, rv D a0), (1, iv a1)]) (Nat.le_of_ble_eq_true rfl) [0, 1, 2, 3] rfl (by decide) rfl rfl (dl_at t_X25_breakUp 153 rfl) ?_
        refine g_iload (pc := 257) X (i := 5) (q := 2) (x := x5_242) rfl (dl_at t_X25_breakUp 154 rfl) ?_
        refine g_iconst (pc := 259) X (n := 1) (dl_at t_X25_breakUp 155 rfl) ?_
        refine g_isub (pc := 260) X r5_242 (r32_c rfl) (dl_at t_X25_breakUp 156 rfl) ?_
        refine g_lti (r32_w _) fun x8_261 r8_261 => ?_
        refine g_istoreN (pc := 261) X (i := 8) (x := x8_261) (b := 7) (w := iv x4_177) (rest := [(6, iv x2_11), (0, rv D a0), (1, iv a1)]) (Nat.le_of_ble_eq_true rfl) [0, 1, 3, 4] rfl (by decide) rfl rfl (dl_at t_X25_breakUp 157 rfl) ?_
        refine g_ls (ls2 := [(0, rv D a0), (1, iv a1), (6, iv x2_11), (7, iv x4_177), (8, iv x8_261)]) [3, 4, 2, 1, 0] rfl ?_
        refine g_loop0F (fun (q : Int × Int × Int × Hp) => [(0, rv D a0), (1, iv a1), (6, iv q.1), (7, iv q.2.1), (8, iv q.2.2.1)]) (fun (q : Int × Int × Int × Hp) => q.2.2.2) (fun (q : Int × Int × Int × Hp) => r32 q.1 ∧ r32 q.2.1 ∧ r32 q.2.2.1 ∧ Ext h249 q.2.2.2) (x2_11, x4_177, x8_261, h249) ⟨r2_11, r4_177, r8_261, (Ext.refl _)⟩ ?_ (fun _ => rfl)
        · rintro ⟨x6_263, x7_263, x8_263, h_263⟩ ⟨r6_263, r7_263, r8_263, E_263⟩
          try dsimp only
          unfold m_X25_breakUp_l263
          refine g_iload (pc := 263) X (i := 8) (q := 4) (x := x8_263) rfl (dl_at t_X25_breakUp 158 rfl) ?_
          refine g_iflt (pc := 265) X r8_263 (off := 84) (tgt := 349) rfl (dl_at t_X25_breakUp 159 rfl) (fun _ => ?_) (fun _ => ?_)
          · exact g_at fun Q hQ => (g_vret (pc := 349) X (v := 0) rfl rfl (dl_at t_X25_breakUp 207 rfl)) _ Q rfl hQ
          refine g_iconst (pc := 268) X (n := 4) (dl_at t_X25_breakUp 160 rfl) ?_
          refine g_iload (pc := 269) X (i := 6) (q := 2) (x := x6_263) rfl (dl_at t_X25_breakUp 161 rfl) ?_
          refine g_imul (pc := 271) X (r32_c rfl) r6_263 (dl_at t_X25_breakUp 162 rfl) ?_
          refine g_iload (pc := 272) X (i := 7) (q := 3) (x := x7_263) rfl (dl_at t_X25_breakUp 163 rfl) ?_
          refine g_iadd (pc := 274) X (r32_w _) r7_263 (dl_at t_X25_breakUp 164 rfl) ?_
          refine g_lti (r32_w _) fun x9_275 r9_275 => ?_
          refine g_istoreN (pc := 275) X (i := 9) (x := x9_275) (b := 8) (w := iv x8_263) (rest := [(0, rv D a0), (1, iv a1), (6, iv x6_263)]) (Nat.le_of_ble_eq_true rfl) [4, 0, 1, 2] rfl (by decide) rfl rfl (dl_at t_X25_breakUp 165 rfl) ?_
          refine g_aload_n (pc := 277) X (j := 0) (i := 0) (q := 2) (x := a0) rfl rfl (dl_at t_X25_breakUp 166 rfl) ?_
          have k278 := kx (E249.trans E_263) (by decide) k243
          refine r_getr (pc := 278) X fX25_28 k278 q3802 (dl_at t_X25_breakUp 167 rfl) ?_
          refine g_aload_n (pc := 281) X (j := 0) (i := 0) (q := 2) (x := a0) rfl rfl (dl_at t_X25_breakUp 168 rfl) ?_
          refine r_getr (pc := 282) X fX25_18 k278 q3788 (dl_at t_X25_breakUp 169 rfl) ?_
          refine g_iload_n (pc := 285) X (j := 1) (i := 1) (q := 3) (x := a1) rfl rfl (dl_at t_X25_breakUp 170 rfl) ?_
          refine g_gd fun k286 => ?_
          refine g_iald (pc := 286) X r1 k286 (dl_at t_X25_breakUp 171 rfl) fun g286 => ?_
          refine g_iload (pc := 287) X (i := 8) (q := 1) (x := x8_263) rfl (dl_at t_X25_breakUp 172 rfl) ?_
          refine g_iadd (pc := 289) X g286 r8_263 (dl_at t_X25_breakUp 173 rfl) ?_
          refine g_iload (pc := 290) X (i := 6) (q := 4) (x := x6_263) rfl (dl_at t_X25_breakUp 174 rfl) ?_
          refine g_gd fun k292 => ?_
          refine r_iast (pc := 292) X (r32_w _) r6_263 k292 (dl_at t_X25_breakUp 175 rfl) (fun h292 E292 => ?_)
          refine g_aload_n (pc := 293) X (j := 0) (i := 0) (q := 2) (x := a0) rfl rfl (dl_at t_X25_breakUp 176 rfl) ?_
          refine g_iload_n (pc := 294) X (j := 1) (i := 1) (q := 3) (x := a1) rfl rfl (dl_at t_X25_breakUp 177 rfl) ?_
          refine g_aload_n (pc := 295) X (j := 0) (i := 0) (q := 2) (x := a0) rfl rfl (dl_at t_X25_breakUp 178 rfl) ?_
          have k296 := kx E292 (by decide) k278
          refine r_getr (pc := 296) X fX25_110 k296 q3922 (dl_at t_X25_breakUp 179 rfl) ?_
          refine g_iload (pc := 299) X (i := 9) (q := 0) (x := x9_275) rfl (dl_at t_X25_breakUp 180 rfl) ?_
          refine g_gd fun k301 => ?_
          refine g_iald (pc := 301) X r9_275 k301 (dl_at t_X25_breakUp 181 rfl) fun g301 => ?_
          refine g_iload (pc := 302) X (i := 6) (q := 4) (x := x6_263) rfl (dl_at t_X25_breakUp 182 rfl) ?_
          refine r_callV (pc := 304) X (fun _ hv => s_X25_measure k296 r1 g301 r6_263 hv) cw_code q5014 q379 (in_Vk X (As := [iv a1, iv (h292 (h292 a0 110) x9_275), iv x6_263]) kX25 k296 (Or.inl q5011) q5013 qs325 cw_code q5014 ⟨by decide, by decide⟩ rfl (dl_at t_X25_breakUp 183 rfl)) (dl_at t_X25_breakUp 183 rfl) (cat24 (st := []) (Nat.le_of_ble_eq_true rfl)) (Nat.le_of_ble_eq_true rfl) (Nat.le_of_ble_eq_true rfl) fun h304 E304 => ?_
          refine g_aload_n (pc := 307) X (j := 0) (i := 0) (q := 2) (x := a0) rfl rfl (dl_at t_X25_breakUp 184 rfl) ?_
          have k308 := kx E304 (by decide) k296
          refine r_getr (pc := 308) X fX25_29 k308 q3804 (dl_at t_X25_breakUp 185 rfl) ?_
          refine g_aload_n (pc := 311) X (j := 0) (i := 0) (q := 2) (x := a0) rfl rfl (dl_at t_X25_breakUp 186 rfl) ?_
          refine r_getr (pc := 312) X fX25_18 k308 q3788 (dl_at t_X25_breakUp 187 rfl) ?_
          refine g_iload_n (pc := 315) X (j := 1) (i := 1) (q := 3) (x := a1) rfl rfl (dl_at t_X25_breakUp 188 rfl) ?_
          refine g_gd fun k316 => ?_
          refine g_iald (pc := 316) X r1 k316 (dl_at t_X25_breakUp 189 rfl) fun g316 => ?_
          refine g_iload (pc := 317) X (i := 8) (q := 1) (x := x8_263) rfl (dl_at t_X25_breakUp 190 rfl) ?_
          refine g_iadd (pc := 319) X g316 r8_263 (dl_at t_X25_breakUp 191 rfl) ?_
          refine g_aload_n (pc := 320) X (j := 0) (i := 0) (q := 2) (x := a0) rfl rfl (dl_at t_X25_breakUp 192 rfl) ?_
          refine r_geti (pc := 321) X fX25_117 k308 q3929 (dl_at t_X25_breakUp 193 rfl) fun g321 => ?_
          refine g_gd fun k324 => ?_
          refine r_iast (pc := 324) X (r32_w _) g321 k324 (dl_at t_X25_breakUp 194 rfl) (fun h324 E324 => ?_)
          refine g_aload_n (pc := 325) X (j := 0) (i := 0) (q := 2) (x := a0) rfl rfl (dl_at t_X25_breakUp 195 rfl) ?_
          have k326 := kx E324 (by decide) k308
          refine r_getr (pc := 326) X fX25_111 k326 q3923 (dl_at t_X25_breakUp 196 rfl) ?_
          refine g_iload (pc := 329) X (i := 9) (q := 0) (x := x9_275) rfl (dl_at t_X25_breakUp 197 rfl) ?_
          refine g_gd fun k331 => ?_
          refine g_iald (pc := 331) X r9_275 k331 (dl_at t_X25_breakUp 198 rfl) fun g331 => ?_
          refine g_lti g331 fun x7_332 r7_332 => ?_
          refine g_istore (pc := 332) X (i := 7) (x := x7_332) (rest := [(9, iv x9_275), (8, iv x8_263), (0, rv D a0), (1, iv a1)]) (Nat.le_of_ble_eq_true rfl) [0, 1, 2, 3] rfl rfl (dl_at t_X25_breakUp 199 rfl) ?_
          refine g_aload_n (pc := 334) X (j := 0) (i := 0) (q := 3) (x := a0) rfl rfl (dl_at t_X25_breakUp 200 rfl) ?_
          refine r_getr (pc := 335) X fX25_110 k326 q3922 (dl_at t_X25_breakUp 201 rfl) ?_
          refine g_iload (pc := 338) X (i := 9) (q := 1) (x := x9_275) rfl (dl_at t_X25_breakUp 202 rfl) ?_
          refine g_gd fun k340 => ?_
          refine g_iald (pc := 340) X r9_275 k340 (dl_at t_X25_breakUp 203 rfl) fun g340 => ?_
          refine g_lti g340 fun x6_341 r6_341 => ?_
          refine g_istore (pc := 341) X (i := 6) (x := x6_341) (rest := [(7, iv x7_332), (8, iv x8_263), (0, rv D a0), (1, iv a1)]) (Nat.le_of_ble_eq_true rfl) [0, 2, 3, 4] rfl rfl (dl_at t_X25_breakUp 204 rfl) ?_
          refine r_iincN (pc := 343) X (i := 8) (q := 2) (n := (-1)) (x := x8_263) (b := 7) (w := iv x7_332) (rest := [(6, iv x6_341), (0, rv D a0), (1, iv a1)]) rfl r8_263 (r32_c rfl) (Nat.le_of_ble_eq_true rfl) [1, 0, 3, 4] rfl (by decide) rfl rfl (dl_at t_X25_breakUp 205 rfl) fun x8_343 r8_343 => ?_
          refine g_goto (pc := 346) X (off := (-83)) (tgt := 263) rfl (dl_at t_X25_breakUp 206 rfl) ?_
          refine g_ls (ls2 := [(0, rv D a0), (1, iv a1), (6, iv x6_341), (7, iv x7_332), (8, iv x8_343)]) [3, 4, 2, 1, 0] rfl ?_
          exact g_at fun Q hQ => hQ ⟨r6_341, r7_332, r8_343, (E_263.trans (E292.trans (E304.trans E324)))⟩
  intro J61
  refine g_ifne (pc := 34) X (r32_z g31) (off := 27) (tgt := 61) rfl (dl_at t_X25_breakUp 21 rfl) (fun _ => ?_) (fun _ => ?_)
  · refine g_ls (ls2 := [(0, rv D a0), (1, iv a1), (2, iv x2_11), (3, iv v24)]) [3, 2, 1, 0] rfl ?_
    exact J61 (v24, h31) ⟨g24, (Ext.refl _)⟩
  refine g_sipush (pc := 37) X (n := 10000) rfl (dl_at t_X25_breakUp 22 rfl) ?_
  refine g_lti (r32_c rfl) fun x3_40 r3_40 => ?_
  refine g_istore_nN (pc := 40) X (j := 3) (i := 3) (x := x3_40) (b := 2) (w := iv x2_11) (rest := [(1, iv a1), (0, rv D a0)]) rfl (Nat.le_of_ble_eq_true rfl) [1, 2, 3] rfl (by decide) rfl rfl (dl_at t_X25_breakUp 23 rfl) ?_
  refine g_aload_n (pc := 41) X (j := 0) (i := 0) (q := 3) (x := a0) rfl rfl (dl_at t_X25_breakUp 24 rfl) ?_
  refine g_iload_n (pc := 42) X (j := 1) (i := 1) (q := 2) (x := a1) rfl rfl (dl_at t_X25_breakUp 25 rfl) ?_
  refine g_iload_n (pc := 43) X (j := 3) (i := 3) (q := 0) (x := x3_40) rfl rfl (dl_at t_X25_breakUp 26 rfl) ?_
  have k44 := kx E31 (by decide) k6
  refine r_callWz (pc := 44) X (fun _ hv => s_X25_tryAll k44 r1 r3_40 hv) cw_code q5010 q379 (in_Vk X (As := [iv a1, iv x3_40]) kX25 k44 (Or.inl q5007) q5009 qs324 cw_code q5010 ⟨by decide, by decide⟩ rfl (dl_at t_X25_breakUp 27 rfl)) (dl_at t_X25_breakUp 27 rfl) (cat24 (st := []) (Nat.le_of_ble_eq_true rfl)) (Nat.le_of_ble_eq_true rfl) (Nat.le_of_ble_eq_true rfl) fun v44 h44 g44 E44 => ?_
  refine g_ifne (pc := 47) X (r32_z g44) (off := 14) (tgt := 61) rfl (dl_at t_X25_breakUp 28 rfl) (fun _ => ?_) (fun _ => ?_)
  · refine g_ls (ls2 := [(0, rv D a0), (1, iv a1), (2, iv x2_11), (3, iv x3_40)]) [3, 2, 1, 0] rfl ?_
    exact J61 (x3_40, h44) ⟨r3_40, E44⟩
  refine g_sipush (pc := 50) X (n := 10001) rfl (dl_at t_X25_breakUp 29 rfl) ?_
  refine g_lti (r32_c rfl) fun x3_53 r3_53 => ?_
  refine g_istore_nN (pc := 53) X (j := 3) (i := 3) (x := x3_53) (b := 2) (w := iv x2_11) (rest := [(1, iv a1), (0, rv D a0)]) rfl (Nat.le_of_ble_eq_true rfl) [1, 2, 3] rfl (by decide) rfl rfl (dl_at t_X25_breakUp 30 rfl) ?_
  refine g_aload_n (pc := 54) X (j := 0) (i := 0) (q := 3) (x := a0) rfl rfl (dl_at t_X25_breakUp 31 rfl) ?_
  refine g_iload_n (pc := 55) X (j := 1) (i := 1) (q := 2) (x := a1) rfl rfl (dl_at t_X25_breakUp 32 rfl) ?_
  refine g_iload_n (pc := 56) X (j := 3) (i := 3) (q := 0) (x := x3_53) rfl rfl (dl_at t_X25_breakUp 33 rfl) ?_
  have k57 := kx E44 (by decide) k44
  refine r_callWz (pc := 57) X (fun _ hv => s_X25_tryAll k57 r1 r3_53 hv) cw_code q5010 q379 (in_Vk X (As := [iv a1, iv x3_53]) kX25 k57 (Or.inl q5007) q5009 qs324 cw_code q5010 ⟨by decide, by decide⟩ rfl (dl_at t_X25_breakUp 34 rfl)) (dl_at t_X25_breakUp 34 rfl) (cat24 (st := []) (Nat.le_of_ble_eq_true rfl)) (Nat.le_of_ble_eq_true rfl) (Nat.le_of_ble_eq_true rfl) fun v57 h57 g57 E57 => ?_
  refine g_pop (pc := 60) X rfl (dl_at t_X25_breakUp 35 rfl) ?_
  refine g_ls (ls2 := [(0, rv D a0), (1, iv a1), (2, iv x2_11), (3, iv x3_53)]) [3, 2, 1, 0] rfl ?_
  exact J61 (x3_53, h57) ⟨r3_53, (E44.trans E57)⟩
def k_X25_addLine : List (Nat × Instr × Nat) := [(0, .aload_n 0, 1), (1, .getfield 783, 3), (4, .sipush 1500, 3), (7, .if_icmp .ne 11, 3), (10, .new 451, 3), (13, .dup, 1), (14, .invokespecial 453, 3), (17, .athrow, 1), (18, .aload_n 0, 1), (19, .getfield 124, 3), (22, .aload_n 0, 1), (23, .getfield 783, 3), (26, .iload_n 1, 1), (27, .iastore, 1), (28, .aload_n 0, 1), (29, .getfield 127, 3), (32, .aload_n 0, 1), (33, .getfield 783, 3), (36, .iload_n 2, 1), (37, .iastore, 1), (38, .aload_n 0, 1), (39, .getfield 130, 3), (42, .aload_n 0, 1), (43, .getfield 783, 3), (46, .iload_n 3, 1), (47, .iastore, 1), (48, .aload_n 0, 1), (49, .getfield 133, 3), (52, .aload_n 0, 1), (53, .getfield 783, 3), (56, .iload 4, 2), (58, .iastore, 1), (59, .aload_n 0, 1), (60, .getfield 136, 3), (63, .aload_n 0, 1), (64, .getfield 783, 3), (67, .iload 5, 2), (69, .iastore, 1), (70, .aload_n 0, 1), (71, .getfield 148, 3), (74, .aload_n 0, 1), (75, .getfield 783, 3), (78, .iload 6, 2), (80, .bastore, 1), (81, .aload_n 0, 1), (82, .dup, 1), (83, .getfield 783, 3), (86, .iconst 1, 1), (87, .iadd, 1), (88, .putfield 783, 3), (91, .return_, 1)]
theorem t_X25_addLine : ∀ q ∈ k_X25_addLine, decode cX25_addLine q.1 = .ok q.2 := dl_all (by decide +kernel)
noncomputable def m_X25_addLine (a0 a1 a2 a3 a4 a5 a6 : Int) (h : Hp) : Option ((Int × Int) × Hp) :=
  if (h a0 42) ≠ 1500 then (gd (h (h a0 43) (-2) % 16 = 1 ∧ (0 : Int) ≤ (h a0 42) ∧ (h a0 42) < h (h a0 43) (-1)) (pt h (h a0 43) (h a0 42) a1 fun h27 =>
  gd (h27 (h27 a0 44) (-2) % 16 = 1 ∧ (0 : Int) ≤ (h27 a0 42) ∧ (h27 a0 42) < h27 (h27 a0 44) (-1)) (pt h27 (h27 a0 44) (h27 a0 42) a2 fun h37 =>
  gd (h37 (h37 a0 45) (-2) % 16 = 1 ∧ (0 : Int) ≤ (h37 a0 42) ∧ (h37 a0 42) < h37 (h37 a0 45) (-1)) (pt h37 (h37 a0 45) (h37 a0 42) a3 fun h47 =>
  gd (h47 (h47 a0 46) (-2) % 16 = 1 ∧ (0 : Int) ≤ (h47 a0 42) ∧ (h47 a0 42) < h47 (h47 a0 46) (-1)) (pt h47 (h47 a0 46) (h47 a0 42) a4 fun h58 =>
  gd (h58 (h58 a0 47) (-2) % 16 = 1 ∧ (0 : Int) ≤ (h58 a0 42) ∧ (h58 a0 42) < h58 (h58 a0 47) (-1)) (pt h58 (h58 a0 47) (h58 a0 42) a5 fun h69 =>
  gd (h69 (h69 a0 51) (-2) % 16 = 3 ∧ (0 : Int) ≤ (h69 a0 42) ∧ (h69 a0 42) < h69 (h69 a0 51) (-1)) (pt h69 (h69 a0 51) (h69 a0 42) a6 fun h80 =>
  pt h80 a0 42 (w32 ((h80 a0 42) + 1)) fun h88 =>
  some ((0, 0), h88))))))))
  else (al h 464 6 fun a10 h10 =>
  (x_init0 a10 h10).bind fun h14 =>
  some ((1, a10), h14))
theorem s_X25_addLine {l : Launch} [NoTr l] {D : SD} {a0 a1 a2 a3 a4 a5 a6 : Int} {h : Hp} (hk : h a0 (-2) = 416) (r1 : r32 a1) (r2 : r32 a2) (r3 : r32 a3) (r4 : r32 a4) (r5 : r32 a5) (r6 : (a6 = 0 ∨ a6 = 1)) {r : (Int × Int) × Hp} (hm : m_X25_addLine a0 a1 a2 a3 a4 a5 a6 h = some r) : Sim l D yX25_addLine (Cond.code yX25_addLine cX25_addLine 7 (Option.none : Option Jvm.ClassFile.FieldType)) 9 336 [rv D a0, iv a1, iv a2, iv a3, iv a4, iv a5, iv a6] h 0 r := by
  refine Sim.of (fin := fun (v : (Int × Int) × Hp) => v) (lsE := [(0, rv D a0), (1, iv a1), (2, iv a2), (3, iv a3), (4, iv a4), (5, iv a5), (6, iv a6)]) hm rfl cwS_code (la_r (la_i (la_i (la_i (la_i (la_i (la_i la_n))))))) (ll_r (ll_i (ll_i (ll_i (ll_i (ll_i (ll_i ll_n))))))) ?_
  intro p e s m below meth c X hcw hmm hcc hnm hname
  have hno := noh hcw hnm hmm hcc
  unfold m_X25_addLine
  refine g_aload_n (pc := 0) X (j := 0) (i := 0) (q := 0) (x := a0) rfl rfl (dl_at t_X25_addLine 0 rfl) ?_
  refine r_geti (pc := 1) X fX25_42 hk q3821 (dl_at t_X25_addLine 1 rfl) fun g1 => ?_
  refine g_sipush (pc := 4) X (n := 1500) rfl (dl_at t_X25_addLine 2 rfl) ?_
  refine g_icmpne (pc := 7) X g1 (r32_c rfl) (off := 11) (tgt := 18) rfl (dl_at t_X25_addLine 3 rfl) (fun _ => ?_) (fun _ => ?_)
  · refine g_aload_n (pc := 18) X (j := 0) (i := 0) (q := 0) (x := a0) rfl rfl (dl_at t_X25_addLine 8 rfl) ?_
    refine r_getr (pc := 19) X fX25_43 hk q3822 (dl_at t_X25_addLine 9 rfl) ?_
    refine g_aload_n (pc := 22) X (j := 0) (i := 0) (q := 0) (x := a0) rfl rfl (dl_at t_X25_addLine 10 rfl) ?_
    refine r_geti (pc := 23) X fX25_42 hk q3821 (dl_at t_X25_addLine 11 rfl) fun g23 => ?_
    refine g_iload_n (pc := 26) X (j := 1) (i := 1) (q := 1) (x := a1) rfl rfl (dl_at t_X25_addLine 12 rfl) ?_
    refine g_gd fun k27 => ?_
    refine r_iast (pc := 27) X g23 r1 k27 (dl_at t_X25_addLine 13 rfl) (fun h27 E27 => ?_)
    refine g_aload_n (pc := 28) X (j := 0) (i := 0) (q := 0) (x := a0) rfl rfl (dl_at t_X25_addLine 14 rfl) ?_
    have k29 := kx E27 (by decide) hk
    refine r_getr (pc := 29) X fX25_44 k29 q3824 (dl_at t_X25_addLine 15 rfl) ?_
    refine g_aload_n (pc := 32) X (j := 0) (i := 0) (q := 0) (x := a0) rfl rfl (dl_at t_X25_addLine 16 rfl) ?_
    refine r_geti (pc := 33) X fX25_42 k29 q3821 (dl_at t_X25_addLine 17 rfl) fun g33 => ?_
    refine g_iload_n (pc := 36) X (j := 2) (i := 2) (q := 2) (x := a2) rfl rfl (dl_at t_X25_addLine 18 rfl) ?_
    refine g_gd fun k37 => ?_
    refine r_iast (pc := 37) X g33 r2 k37 (dl_at t_X25_addLine 19 rfl) (fun h37 E37 => ?_)
    refine g_aload_n (pc := 38) X (j := 0) (i := 0) (q := 0) (x := a0) rfl rfl (dl_at t_X25_addLine 20 rfl) ?_
    have k39 := kx E37 (by decide) k29
    refine r_getr (pc := 39) X fX25_45 k39 q3826 (dl_at t_X25_addLine 21 rfl) ?_
    refine g_aload_n (pc := 42) X (j := 0) (i := 0) (q := 0) (x := a0) rfl rfl (dl_at t_X25_addLine 22 rfl) ?_
    refine r_geti (pc := 43) X fX25_42 k39 q3821 (dl_at t_X25_addLine 23 rfl) fun g43 => ?_
    refine g_iload_n (pc := 46) X (j := 3) (i := 3) (q := 3) (x := a3) rfl rfl (dl_at t_X25_addLine 24 rfl) ?_
    refine g_gd fun k47 => ?_
    refine r_iast (pc := 47) X g43 r3 k47 (dl_at t_X25_addLine 25 rfl) (fun h47 E47 => ?_)
    refine g_aload_n (pc := 48) X (j := 0) (i := 0) (q := 0) (x := a0) rfl rfl (dl_at t_X25_addLine 26 rfl) ?_
    have k49 := kx E47 (by decide) k39
    refine r_getr (pc := 49) X fX25_46 k49 q3828 (dl_at t_X25_addLine 27 rfl) ?_
    refine g_aload_n (pc := 52) X (j := 0) (i := 0) (q := 0) (x := a0) rfl rfl (dl_at t_X25_addLine 28 rfl) ?_
    refine r_geti (pc := 53) X fX25_42 k49 q3821 (dl_at t_X25_addLine 29 rfl) fun g53 => ?_
    refine g_iload (pc := 56) X (i := 4) (q := 4) (x := a4) rfl (dl_at t_X25_addLine 30 rfl) ?_
    refine g_gd fun k58 => ?_
    refine r_iast (pc := 58) X g53 r4 k58 (dl_at t_X25_addLine 31 rfl) (fun h58 E58 => ?_)
    refine g_aload_n (pc := 59) X (j := 0) (i := 0) (q := 0) (x := a0) rfl rfl (dl_at t_X25_addLine 32 rfl) ?_
    have k60 := kx E58 (by decide) k49
    refine r_getr (pc := 60) X fX25_47 k60 q3829 (dl_at t_X25_addLine 33 rfl) ?_
    refine g_aload_n (pc := 63) X (j := 0) (i := 0) (q := 0) (x := a0) rfl rfl (dl_at t_X25_addLine 34 rfl) ?_
    refine r_geti (pc := 64) X fX25_42 k60 q3821 (dl_at t_X25_addLine 35 rfl) fun g64 => ?_
    refine g_iload (pc := 67) X (i := 5) (q := 5) (x := a5) rfl (dl_at t_X25_addLine 36 rfl) ?_
    refine g_gd fun k69 => ?_
    refine r_iast (pc := 69) X g64 r5 k69 (dl_at t_X25_addLine 37 rfl) (fun h69 E69 => ?_)
    refine g_aload_n (pc := 70) X (j := 0) (i := 0) (q := 0) (x := a0) rfl rfl (dl_at t_X25_addLine 38 rfl) ?_
    have k71 := kx E69 (by decide) k60
    refine r_getr (pc := 71) X fX25_51 k71 q3835 (dl_at t_X25_addLine 39 rfl) ?_
    refine g_aload_n (pc := 74) X (j := 0) (i := 0) (q := 0) (x := a0) rfl rfl (dl_at t_X25_addLine 40 rfl) ?_
    refine r_geti (pc := 75) X fX25_42 k71 q3821 (dl_at t_X25_addLine 41 rfl) fun g75 => ?_
    refine g_iload (pc := 78) X (i := 6) (q := 6) (x := a6) rfl (dl_at t_X25_addLine 42 rfl) ?_
    refine g_gd fun k80 => ?_
    refine r_zast (pc := 80) X g75 r6 k80 (dl_at t_X25_addLine 43 rfl) (fun h80 E80 => ?_)
    refine g_aload_n (pc := 81) X (j := 0) (i := 0) (q := 0) (x := a0) rfl rfl (dl_at t_X25_addLine 44 rfl) ?_
    refine g_dup (pc := 82) X rv_cat (dl_at t_X25_addLine 45 rfl) ?_
    have k83 := kx E80 (by decide) k71
    refine r_geti (pc := 83) X fX25_42 k83 q3821 (dl_at t_X25_addLine 46 rfl) fun g83 => ?_
    refine g_iconst (pc := 86) X (n := 1) (dl_at t_X25_addLine 47 rfl) ?_
    refine g_iadd (pc := 87) X g83 (r32_c rfl) (dl_at t_X25_addLine 48 rfl) ?_
    refine r_puti (pc := 88) X fX25_42 k83 q3821 rfl (dl_at t_X25_addLine 49 rfl) (r32_w _) (fun h88 E88 => ?_)
    exact g_vret (pc := 91) X (v := 0) rfl rfl (dl_at t_X25_addLine 50 rfl)
  refine r_new (pc := 10) X kX29 q4791 (dl_at t_X25_addLine 4 rfl) fun a10 h10 p10 k10 E10 => ?_
  refine g_dup (pc := 13) X rv_cat (dl_at t_X25_addLine 5 rfl) ?_
  refine r_callV (pc := 14) X (fun _ hv => sx_ScholarsPressModel_Beyond_init__V k10 hv) cw_code q4802 q397 (in_I X (As := []) (Int.ne_of_gt p10) rfl (Or.inr ⟨_, nw_in q4800 rfl⟩) q4801 q4802 ⟨by decide, by decide⟩ rfl (dl_at t_X25_addLine 6 rfl)) (dl_at t_X25_addLine 6 rfl) (cat24 (st := [rv D a10]) (Nat.le_of_ble_eq_true rfl)) (Nat.le_of_ble_eq_true rfl) (Nat.le_of_ble_eq_true rfl) fun h14 E14 => ?_
  refine g_athrow (pc := 17) X (Int.ne_of_gt p10) (dl_at t_X25_addLine 7 rfl) ?_
  exact gt_at fun Q hQ => gt_out (Q := Q) X rfl p10 (hno _) _ Q rfl hQ
