set_option maxRecDepth 100000
def k_X25_flow : List (Nat × Instr × Nat) := [(0, .aload_n 0, 1), (1, .iconst 0, 1), (2, .putfield 783, 3), (5, .iconst 0, 1), (6, .istore_n 1, 1), (7, .iload_n 1, 1), (8, .aload_n 0, 1), (9, .getfield 372, 3), (12, .if_icmp .ge 16, 3), (15, .aload_n 0, 1), (16, .getfield 292, 3), (19, .iload_n 1, 1), (20, .iconst (-1), 1), (21, .iastore, 1), (22, .iinc 1 1, 3), (25, .goto (-18), 3), (28, .iconst 0, 1), (29, .istore_n 1, 1), (30, .iload_n 1, 1), (31, .aload_n 0, 1), (32, .getfield 492, 3), (35, .if_icmp .ge 319, 3), (38, .aload_n 0, 1), (39, .getfield 90, 3), (42, .iload_n 1, 1), (43, .iaload, 1), (44, .ifCond .ne 163, 3), (47, .aload_n 0, 1), (48, .getfield 93, 3), (51, .iload_n 1, 1), (52, .iaload, 1), (53, .istore_n 2, 1), (54, .aload_n 0, 1), (55, .getfield 35, 3), (58, .iload_n 2, 1), (59, .iaload, 1), (60, .istore_n 3, 1), (61, .aload_n 0, 1), (62, .getfield 292, 3), (65, .iload_n 2, 1), (66, .aload_n 0, 1), (67, .getfield 783, 3), (70, .iastore, 1), (71, .iconst 1, 1), (72, .istore 4, 2), (74, .iload 4, 2), (76, .aload_n 0, 1), (77, .getfield 50, 3), (80, .iload_n 2, 1), (81, .iaload, 1), (82, .if_icmp .gt 122, 3), (85, .iload 4, 2), (87, .aload_n 0, 1), (88, .getfield 50, 3), (91, .iload_n 2, 1), (92, .iaload, 1), (93, .if_icmp .ne 24, 3), (96, .aload_n 0, 1), (97, .getfield 14, 3), (100, .iload_n 3, 1), (101, .bipush 13, 2), (103, .invokevirtual 477, 3), (106, .ifCond .ne 7, 3), (109, .iconst 1, 1), (110, .goto 49, 3), (113, .iconst 0, 1), (114, .goto 45, 3), (117, .iload 4, 2), (119, .aload_n 0, 1), (120, .getfield 14, 3), (123, .iload_n 3, 1), (124, .bipush 11, 2), (126, .invokevirtual 477, 3), (129, .if_icmp .lt 29, 3), (132, .aload_n 0, 1), (133, .getfield 50, 3), (136, .iload_n 2, 1), (137, .iaload, 1), (138, .iload 4, 2), (140, .isub, 1), (141, .aload_n 0, 1), (142, .getfield 14, 3), (145, .iload_n 3, 1), (146, .bipush 12, 2), (148, .invokevirtual 477, 3), (151, .if_icmp .lt 7, 3), (154, .iconst 1, 1), (155, .goto 4, 3), (158, .iconst 0, 1), (159, .istore 5, 2), (161, .aload_n 0, 1), (162, .iload_n 2, 1), (163, .iload 4, 2), (165, .iconst 1, 1), (166, .isub, 1), (167, .iconst (-1), 1), (168, .aload_n 0, 1), (169, .getfield 14, 3), (172, .iload_n 3, 1), (173, .iconst 2, 1), (174, .invokevirtual 477, 3), (177, .iload 4, 2), (179, .iconst 1, 1), (180, .if_icmp .ne 12, 3), (183, .aload_n 0, 1), (184, .getfield 96, 3), (187, .iload_n 1, 1), (188, .iaload, 1), (189, .goto 4, 3), (192, .iconst 0, 1), (193, .iload 5, 2), (195, .invokevirtual 786, 3), (198, .iinc 4 1, 3), (201, .goto (-127), 3), (204, .goto 144, 3), (207, .aload_n 0, 1), (208, .getfield 93, 3), (211, .iload_n 1, 1), (212, .iaload, 1), (213, .istore_n 2, 1), (214, .aload_n 0, 1), (215, .getfield 14, 3), (218, .iload_n 2, 1), (219, .iconst 2, 1), (220, .invokevirtual 477, 3), (223, .istore_n 3, 1), (224, .iconst 0, 1), (225, .istore 4, 2), (227, .iload 4, 2), (229, .aload_n 0, 1), (230, .getfield 14, 3), (233, .getfield 692, 3), (236, .iload_n 2, 1), (237, .iaload, 1), (238, .if_icmp .ge 70, 3), (241, .aload_n 0, 1), (242, .getfield 99, 3), (245, .bipush 8, 2), (247, .iload_n 2, 1), (248, .imul, 1), (249, .iload 4, 2), (251, .iadd, 1), (252, .iaload, 1), (253, .istore 5, 2), (255, .iload 5, 2), (257, .ifCond .ge 6, 3), (260, .goto 42, 3), (263, .aload_n 0, 1), (264, .getfield 292, 3), (267, .iload 5, 2), (269, .aload_n 0, 1), (270, .getfield 783, 3), (273, .iastore, 1), (274, .iload_n 3, 1), (275, .aload_n 0, 1), (276, .getfield 50, 3), (279, .iload 5, 2), (281, .iaload, 1), (282, .aload_n 0, 1), (283, .getfield 14, 3), (286, .aload_n 0, 1), (287, .getfield 35, 3), (290, .iload 5, 2), (292, .iaload, 1), (293, .iconst 2, 1), (294, .invokevirtual 477, 3), (297, .imul, 1), (298, .invokestatic 624, 3), (301, .istore_n 3, 1), (302, .iinc 4 1, 3), (305, .goto (-78), 3), (308, .aload_n 0, 1), (309, .iconst (-1), 1), (310, .iconst 0, 1), (311, .iload_n 2, 1), (312, .iload_n 3, 1), (313, .aload_n 0, 1), (314, .getfield 96, 3), (317, .iload_n 1, 1), (318, .iaload, 1), (319, .aload_n 0, 1), (320, .getfield 14, 3), (323, .aload_n 0, 1), (324, .getfield 342, 3), (327, .getfield 486, 3), (330, .iload_n 2, 1), (331, .iaload, 1), (332, .bipush 13, 2), (334, .invokevirtual 477, 3), (337, .ifCond .ne 7, 3), (340, .iconst 1, 1), (341, .goto 4, 3), (344, .iconst 0, 1), (345, .invokevirtual 786, 3), (348, .iinc 1 1, 3), (351, .goto (-321), 3), (354, .aload_n 0, 1), (355, .getfield 783, 3), (358, .ifCond .le 15, 3), (361, .aload_n 0, 1), (362, .getfield 148, 3), (365, .aload_n 0, 1), (366, .getfield 783, 3), (369, .iconst 1, 1), (370, .isub, 1), (371, .iconst 1, 1), (372, .bastore, 1), (373, .return_, 1)]
theorem t_X25_flow : ∀ q ∈ k_X25_flow, decode cX25_flow q.1 = .ok q.2 := dl_all (by decide +kernel)
noncomputable def m_X25_flow_l7 (a0 x1_7 : Int) (h_7 : Hp) : Option ((Int × Hp) ⊕ ((Hp))) :=
  if (h_7 a0 9) ≤ x1_7 then (some (.inr h_7))
  else (gd (h_7 (h_7 a0 121) (-2) % 16 = 1 ∧ (0 : Int) ≤ x1_7 ∧ x1_7 < h_7 (h_7 a0 121) (-1)) (pt h_7 (h_7 a0 121) x1_7 (-1) fun h21 =>
  lt_ (w32 (x1_7 + 1)) fun x1_22 =>
  some (.inl (x1_22, h21))))
noncomputable def m_X25_flow_j348 (x1_30 : Int) (h_348 : Hp) : Option ((Int × Hp) ⊕ ((Hp) ⊕ (((Int × Int) × Hp)))) :=
  lt_ (w32 (x1_30 + 1)) fun x1_348 =>
  some (.inl (x1_348, h_348))
noncomputable def m_X25_flow_j302 (x4_227 x3_302 : Int) (h_302 : Hp) : Option ((Int × Int × Hp) ⊕ ((Int × Hp))) :=
  lt_ (w32 (x4_227 + 1)) fun x4_302 =>
  some (.inl (x3_302, x4_302, h_302))
noncomputable def m_X25_flow_l227 (a0 x2_213 x3_227 x4_227 : Int) (h_227 : Hp) : Option ((Int × Int × Hp) ⊕ ((Int × Hp))) :=
  gd (h_227 (h_227 a0 0) (-2) = 400) (gd (h_227 (h_227 (h_227 a0 0) 7) (-2) % 16 = 1 ∧ (0 : Int) ≤ x2_213 ∧ x2_213 < h_227 (h_227 (h_227 a0 0) 7) (-1)) (if (h_227 (h_227 (h_227 a0 0) 7) x2_213) ≤ x4_227 then (some (.inr (x3_227, h_227)))
  else (gd (h_227 (h_227 a0 34) (-2) % 16 = 1 ∧ (0 : Int) ≤ (w32 ((w32 (8 * x2_213)) + x4_227)) ∧ (w32 ((w32 (8 * x2_213)) + x4_227)) < h_227 (h_227 a0 34) (-1)) (lt_ (h_227 (h_227 a0 34) (w32 ((w32 (8 * x2_213)) + x4_227))) fun x5_253 =>
  if 0 ≤ x5_253 then (gd (h_227 (h_227 a0 121) (-2) % 16 = 1 ∧ (0 : Int) ≤ x5_253 ∧ x5_253 < h_227 (h_227 a0 121) (-1)) (pt h_227 (h_227 a0 121) x5_253 (h_227 a0 42) fun h273 =>
  gd (h273 (h273 a0 17) (-2) % 16 = 1 ∧ (0 : Int) ≤ x5_253 ∧ x5_253 < h273 (h273 a0 17) (-1)) (gd (h273 (h273 a0 12) (-2) % 16 = 1 ∧ (0 : Int) ≤ x5_253 ∧ x5_253 < h273 (h273 a0 12) (-1)) (gd (h273 (h273 a0 0) (-2) = 400) ((m_X24_of (h273 a0 0) (h273 (h273 a0 12) x5_253) 2 h273).bind fun v294 =>
  lt_ (max_ x3_227 (w32 ((h273 (h273 a0 17) x5_253) * v294))) fun x3_301 =>
  m_X25_flow_j302 x4_227 x3_301 h273)))))
  else (m_X25_flow_j302 x4_227 x3_227 h_227)))))
noncomputable def m_X25_flow_j345 (a0 x1_30 x2_213 x3_308 s1_345 s2_345 s5_345 s6_345 : Int) (h_308 : Hp) : Option ((Int × Hp) ⊕ ((Hp) ⊕ (((Int × Int) × Hp)))) :=
  bT (m_X25_addLine a0 s1_345 s2_345 x2_213 x3_308 s5_345 s6_345 h_308) (fun _ h345 =>
  m_X25_flow_j348 x1_30 h345) (fun a_ h_ => some (.inr (.inr ((1, a_), h_))))
noncomputable def m_X25_flow_j193 (s0_159 x4_74 a0 x2_53 v174 s2_193 s3_193 s5_193 : Int) (h_74 : Hp) : Option ((Int × Hp) ⊕ ((Hp) ⊕ (((Int × Hp) ⊕ ((Hp) ⊕ (((Int × Int) × Hp))))))) :=
  bT (m_X25_addLine a0 x2_53 s2_193 s3_193 v174 s5_193 s0_159 h_74) (fun _ h195 =>
  lt_ (w32 (x4_74 + 1)) fun x4_198 =>
  some (.inl (x4_198, h195))) (fun a_ h_ => some (.inr (.inr (.inr (.inr ((1, a_), h_))))))
noncomputable def m_X25_flow_j159 (a0 x1_30 x2_53 x3_60 x4_74 s0_159 : Int) (h_74 : Hp) : Option ((Int × Hp) ⊕ ((Hp) ⊕ (((Int × Hp) ⊕ ((Hp) ⊕ (((Int × Int) × Hp))))))) :=
  gd (h_74 (h_74 a0 0) (-2) = 400) ((m_X24_of (h_74 a0 0) x3_60 2 h_74).bind fun v174 =>
  if x4_74 ≠ 1 then (m_X25_flow_j193 s0_159 x4_74 a0 x2_53 v174 (w32 (x4_74 - 1)) (-1) 0 h_74)
  else (gd (h_74 (h_74 a0 33) (-2) % 16 = 1 ∧ (0 : Int) ≤ x1_30 ∧ x1_30 < h_74 (h_74 a0 33) (-1)) (m_X25_flow_j193 s0_159 x4_74 a0 x2_53 v174 (w32 (x4_74 - 1)) (-1) (h_74 (h_74 a0 33) x1_30) h_74)))
noncomputable def m_X25_flow_j158 (a0 x1_30 x2_53 x3_60 x4_74 : Int) (h_74 : Hp) : Option ((Int × Hp) ⊕ ((Hp) ⊕ (((Int × Hp) ⊕ ((Hp) ⊕ (((Int × Int) × Hp))))))) :=
  m_X25_flow_j159 a0 x1_30 x2_53 x3_60 x4_74 0 h_74
noncomputable def m_X25_flow_l74 (a0 x1_30 x2_53 x3_60 x4_74 : Int) (h_74 : Hp) : Option ((Int × Hp) ⊕ ((Hp) ⊕ (((Int × Hp) ⊕ ((Hp) ⊕ (((Int × Int) × Hp))))))) :=
  gd (h_74 (h_74 a0 17) (-2) % 16 = 1 ∧ (0 : Int) ≤ x2_53 ∧ x2_53 < h_74 (h_74 a0 17) (-1)) (if (h_74 (h_74 a0 17) x2_53) < x4_74 then (some (.inr (.inl h_74)))
  else (if x4_74 ≠ (h_74 (h_74 a0 17) x2_53) then (gd (h_74 (h_74 a0 0) (-2) = 400) ((m_X24_of (h_74 a0 0) x3_60 11 h_74).bind fun v126 =>
  if x4_74 < v126 then (m_X25_flow_j158 a0 x1_30 x2_53 x3_60 x4_74 h_74)
  else ((m_X24_of (h_74 a0 0) x3_60 12 h_74).bind fun v148 =>
  if (w32 ((h_74 (h_74 a0 17) x2_53) - x4_74)) < v148 then (m_X25_flow_j158 a0 x1_30 x2_53 x3_60 x4_74 h_74)
  else (m_X25_flow_j159 a0 x1_30 x2_53 x3_60 x4_74 1 h_74))))
  else (gd (h_74 (h_74 a0 0) (-2) = 400) ((m_X24_of (h_74 a0 0) x3_60 13 h_74).bind fun v103 =>
  if v103 ≠ 0 then (m_X25_flow_j159 a0 x1_30 x2_53 x3_60 x4_74 0 h_74)
  else (m_X25_flow_j159 a0 x1_30 x2_53 x3_60 x4_74 1 h_74)))))
noncomputable def m_X25_flow_l30 (a0 x1_30 : Int) (h_30 : Hp) : Option ((Int × Hp) ⊕ ((Hp) ⊕ (((Int × Int) × Hp)))) :=
  if (h_30 a0 30) ≤ x1_30 then (some (.inr (.inl h_30)))
  else (gd (h_30 (h_30 a0 31) (-2) % 16 = 1 ∧ (0 : Int) ≤ x1_30 ∧ x1_30 < h_30 (h_30 a0 31) (-1)) (if (h_30 (h_30 a0 31) x1_30) ≠ 0 then (gd (h_30 (h_30 a0 32) (-2) % 16 = 1 ∧ (0 : Int) ≤ x1_30 ∧ x1_30 < h_30 (h_30 a0 32) (-1)) (lt_ (h_30 (h_30 a0 32) x1_30) fun x2_213 =>
  gd (h_30 (h_30 a0 0) (-2) = 400) ((m_X24_of (h_30 a0 0) x2_213 2 h_30).bind fun v220 =>
  lt_ 0 fun x4_225 =>
  (lp (fun (q : Int × Int × Hp) => m_X25_flow_l227 a0 x2_213 q.1 q.2.1 q.2.2) (v220, x4_225, h_30)).bind (fun (y308 : Int × Hp) => gd (y308.2 (y308.2 a0 33) (-2) % 16 = 1 ∧ (0 : Int) ≤ x1_30 ∧ x1_30 < y308.2 (y308.2 a0 33) (-1)) (gd (y308.2 (y308.2 a0 1) (-2) = 384) (gd (y308.2 (y308.2 (y308.2 a0 1) 11) (-2) % 16 = 1 ∧ (0 : Int) ≤ x2_213 ∧ x2_213 < y308.2 (y308.2 (y308.2 a0 1) 11) (-1)) (gd (y308.2 (y308.2 a0 0) (-2) = 400) ((m_X24_of (y308.2 a0 0) (y308.2 (y308.2 (y308.2 a0 1) 11) x2_213) 13 y308.2).bind fun v334 =>
  if v334 ≠ 0 then (m_X25_flow_j345 a0 x1_30 x2_213 y308.1 (-1) 0 (y308.2 (y308.2 a0 33) x1_30) 0 y308.2)
  else (m_X25_flow_j345 a0 x1_30 x2_213 y308.1 (-1) 0 (y308.2 (y308.2 a0 33) x1_30) 1 y308.2)))))))))
  else (gd (h_30 (h_30 a0 32) (-2) % 16 = 1 ∧ (0 : Int) ≤ x1_30 ∧ x1_30 < h_30 (h_30 a0 32) (-1)) (lt_ (h_30 (h_30 a0 32) x1_30) fun x2_53 =>
  gd (h_30 (h_30 a0 12) (-2) % 16 = 1 ∧ (0 : Int) ≤ x2_53 ∧ x2_53 < h_30 (h_30 a0 12) (-1)) (lt_ (h_30 (h_30 a0 12) x2_53) fun x3_60 =>
  gd (h_30 (h_30 a0 121) (-2) % 16 = 1 ∧ (0 : Int) ≤ x2_53 ∧ x2_53 < h_30 (h_30 a0 121) (-1)) (pt h_30 (h_30 a0 121) x2_53 (h_30 a0 42) fun h70 =>
  lt_ 1 fun x4_72 =>
  (lp (fun (q : Int × Hp) => m_X25_flow_l74 a0 x1_30 x2_53 x3_60 q.1 q.2) (x4_72, h70)).bind (sE (fun (y348 : Hp) => m_X25_flow_j348 x1_30 y348) (fun (x : (Int × Hp) ⊕ ((Hp) ⊕ (((Int × Int) × Hp)))) => some x))))))))
noncomputable def m_X25_flow (a0 : Int) (h : Hp) : Option ((Int × Int) × Hp) :=
  pt h a0 42 0 fun h2 =>
  lt_ 0 fun x1_6 =>
  (lp (fun (q : Int × Hp) => m_X25_flow_l7 a0 q.1 q.2) (x1_6, h2)).bind (fun (y28 : Hp) => lt_ 0 fun x1_29 =>
  (lp (fun (q : Int × Hp) => m_X25_flow_l30 a0 q.1 q.2) (x1_29, y28)).bind (sE (fun (y354 : Hp) => if (y354 a0 42) ≤ 0 then (some ((0, 0), y354))
  else (gd (y354 (y354 a0 51) (-2) % 16 = 3 ∧ (0 : Int) ≤ (w32 ((y354 a0 42) - 1)) ∧ (w32 ((y354 a0 42) - 1)) < y354 (y354 a0 51) (-1)) (pt y354 (y354 a0 51) (w32 ((y354 a0 42) - 1)) 1 fun h372 =>
  some ((0, 0), h372)))) (fun (x : (Int × Int) × Hp) => some x)))
theorem s_X25_flow {l : Launch} [NoTr l] {D : SD} {a0 : Int} {h : Hp} (hk : h a0 (-2) = 416) {r : (Int × Int) × Hp} (hm : m_X25_flow a0 h = some r) : Sim l D yX25_flow (Cond.code yX25_flow cX25_flow 6 (Option.none : Option Jvm.ClassFile.FieldType)) 10 378 [rv D a0] h 0 r := by
  refine Sim.of (fin := fun (v : (Int × Int) × Hp) => v) (lsE := [(0, rv D a0)]) hm rfl cwS_code (la_r la_n) (ll_r ll_n) ?_
  intro p e s m below meth c X hcw hmm hcc hnm hname
  have hno := noh hcw hnm hmm hcc
  unfold m_X25_flow
  refine g_aload_n (pc := 0) X (j := 0) (i := 0) (q := 0) (x := a0) rfl rfl (dl_at t_X25_flow 0 rfl) ?_
  refine g_iconst (pc := 1) X (n := 0) (dl_at t_X25_flow 1 rfl) ?_
  refine r_puti (pc := 2) X fX25_42 hk q3821 rfl (dl_at t_X25_flow 2 rfl) (r32_c rfl) (fun h2 E2 => ?_)
  refine g_iconst (pc := 5) X (n := 0) (dl_at t_X25_flow 3 rfl) ?_
  refine g_ltz (Or.inl rfl) fun x1_6 r1_6 => ?_
  refine g_istore_nN (pc := 6) X (j := 1) (i := 1) (x := x1_6) (b := 0) (w := rv D a0) (rest := []) rfl (Nat.le_of_ble_eq_true rfl) [0] rfl (by decide) rv_cat rfl (dl_at t_X25_flow 4 rfl) ?_
  refine g_ls (ls2 := [(0, rv D a0), (1, iv x1_6)]) [1, 0] rfl ?_
  refine g_loop1 (fun (q : Int × Hp) => [(0, rv D a0), (1, iv q.1)]) (fun (q : Int × Hp) => q.2) (fun (q : Int × Hp) => r32 q.1 ∧ Ext h2 q.2) 28 (fun (y28 : Hp) => [(0, rv D a0)]) (fun (y28 : Hp) => y28) (fun (y28 : Hp) => Ext h2 y28) (x1_6, h2) ⟨(r32_z r1_6), (Ext.refl _)⟩ ?_ ?_
  · rintro ⟨x1_7, h_7⟩ ⟨r1_7, E_7⟩
    try dsimp only
    unfold m_X25_flow_l7
    refine g_iload_n (pc := 7) X (j := 1) (i := 1) (q := 1) (x := x1_7) rfl rfl (dl_at t_X25_flow 5 rfl) ?_
    refine g_aload_n (pc := 8) X (j := 0) (i := 0) (q := 0) (x := a0) rfl rfl (dl_at t_X25_flow 6 rfl) ?_
    have k9 := kx (E2.trans E_7) (by decide) hk
    refine r_geti (pc := 9) X fX25_9 k9 q3773 (dl_at t_X25_flow 7 rfl) fun g9 => ?_
    refine g_icmpge (pc := 12) X r1_7 g9 (off := 16) (tgt := 28) rfl (dl_at t_X25_flow 8 rfl) (fun _ => ?_) (fun _ => ?_)
    · refine g_ls (ls2 := [(0, rv D a0)]) [0] rfl ?_
      exact g_at fun Q hQ => hQ E_7
    refine g_aload_n (pc := 15) X (j := 0) (i := 0) (q := 0) (x := a0) rfl rfl (dl_at t_X25_flow 9 rfl) ?_
    refine r_getr (pc := 16) X fX25_121 k9 q3933 (dl_at t_X25_flow 10 rfl) ?_
    refine g_iload_n (pc := 19) X (j := 1) (i := 1) (q := 1) (x := x1_7) rfl rfl (dl_at t_X25_flow 11 rfl) ?_
    refine g_iconst (pc := 20) X (n := (-1)) (dl_at t_X25_flow 12 rfl) ?_
    refine g_gd fun k21 => ?_
    refine r_iast (pc := 21) X r1_7 (r32_c rfl) k21 (dl_at t_X25_flow 13 rfl) (fun h21 E21 => ?_)
    refine r_iincN (pc := 22) X (i := 1) (q := 1) (n := 1) (x := x1_7) (b := 0) (w := rv D a0) (rest := []) rfl r1_7 (r32_c rfl) (Nat.le_of_ble_eq_true rfl) [0] rfl (by decide) rv_cat rfl (dl_at t_X25_flow 14 rfl) fun x1_22 r1_22 => ?_
    refine g_goto (pc := 25) X (off := (-18)) (tgt := 7) rfl (dl_at t_X25_flow 15 rfl) ?_
    refine g_ls (ls2 := [(0, rv D a0), (1, iv x1_22)]) [1, 0] rfl ?_
    exact g_at fun Q hQ => hQ ⟨r1_22, (E_7.trans E21)⟩
  · rintro h_28 E_28
    try dsimp only [sE]
    refine g_iconst (pc := 28) X (n := 0) (dl_at t_X25_flow 16 rfl) ?_
    refine g_ltz (Or.inl rfl) fun x1_29 r1_29 => ?_
    refine g_istore_nN (pc := 29) X (j := 1) (i := 1) (x := x1_29) (b := 0) (w := rv D a0) (rest := []) rfl (Nat.le_of_ble_eq_true rfl) [0] rfl (by decide) rv_cat rfl (dl_at t_X25_flow 17 rfl) ?_
    refine g_ls (ls2 := [(0, rv D a0), (1, iv x1_29)]) [1, 0] rfl ?_
    refine g_loop1F (fun (q : Int × Hp) => [(0, rv D a0), (1, iv q.1)]) (fun (q : Int × Hp) => q.2) (fun (q : Int × Hp) => r32 q.1 ∧ Ext h_28 q.2) 354 (fun (y354 : Hp) => [(0, rv D a0)]) (fun (y354 : Hp) => y354) (fun (y354 : Hp) => Ext h_28 y354) (x1_29, h_28) ⟨(r32_z r1_29), (Ext.refl _)⟩ ?_ ?_ (fun _ => rfl)
    · rintro ⟨x1_30, h_30⟩ ⟨r1_30, E_30⟩
      try dsimp only
      unfold m_X25_flow_l30
      refine g_iload_n (pc := 30) X (j := 1) (i := 1) (q := 1) (x := x1_30) rfl rfl (dl_at t_X25_flow 18 rfl) ?_
      refine g_aload_n (pc := 31) X (j := 0) (i := 0) (q := 0) (x := a0) rfl rfl (dl_at t_X25_flow 19 rfl) ?_
      have k32 := kx (E2.trans (E_28.trans E_30)) (by decide) hk
      refine r_geti (pc := 32) X fX25_30 k32 q3806 (dl_at t_X25_flow 20 rfl) fun g32 => ?_
      refine g_icmpge (pc := 35) X r1_30 g32 (off := 319) (tgt := 354) rfl (dl_at t_X25_flow 21 rfl) (fun _ => ?_) (fun _ => ?_)
      · refine g_ls (ls2 := [(0, rv D a0)]) [0] rfl ?_
        exact g_at fun Q hQ => hQ E_30
      refine g_aload_n (pc := 38) X (j := 0) (i := 0) (q := 0) (x := a0) rfl rfl (dl_at t_X25_flow 22 rfl) ?_
      refine r_getr (pc := 39) X fX25_31 k32 q3807 (dl_at t_X25_flow 23 rfl) ?_
      refine g_iload_n (pc := 42) X (j := 1) (i := 1) (q := 1) (x := x1_30) rfl rfl (dl_at t_X25_flow 24 rfl) ?_
      refine g_gd fun k43 => ?_
      refine g_iald (pc := 43) X r1_30 k43 (dl_at t_X25_flow 25 rfl) fun g43 => ?_
      refine g_join (γ := Hp) (fun q => Ext h_30 q) 348 (fun q => [(0, rv D a0), (1, iv x1_30)]) (fun q => []) (fun q => q) (fun q => m_X25_flow_j348 x1_30 q) ?_ ?_
      · rintro h_348 E_348
        try dsimp only
        unfold m_X25_flow_j348
        refine r_iincN (pc := 348) X (i := 1) (q := 1) (n := 1) (x := x1_30) (b := 0) (w := rv D a0) (rest := []) rfl r1_30 (r32_c rfl) (Nat.le_of_ble_eq_true rfl) [0] rfl (by decide) rv_cat rfl (dl_at t_X25_flow 194 rfl) fun x1_348 r1_348 => ?_
        refine g_goto (pc := 351) X (off := (-321)) (tgt := 30) rfl (dl_at t_X25_flow 195 rfl) ?_
        refine g_ls (ls2 := [(0, rv D a0), (1, iv x1_348)]) [1, 0] rfl ?_
        exact g_at fun Q hQ => hQ ⟨r1_348, (E_30.trans E_348)⟩
      intro J348
      refine g_ifne (pc := 44) X g43 (off := 163) (tgt := 207) rfl (dl_at t_X25_flow 26 rfl) (fun _ => ?_) (fun _ => ?_)
      · refine g_aload_n (pc := 207) X (j := 0) (i := 0) (q := 0) (x := a0) rfl rfl (dl_at t_X25_flow 115 rfl) ?_
        refine r_getr (pc := 208) X fX25_32 k32 q3808 (dl_at t_X25_flow 116 rfl) ?_
        refine g_iload_n (pc := 211) X (j := 1) (i := 1) (q := 1) (x := x1_30) rfl rfl (dl_at t_X25_flow 117 rfl) ?_
        refine g_gd fun k212 => ?_
        refine g_iald (pc := 212) X r1_30 k212 (dl_at t_X25_flow 118 rfl) fun g212 => ?_
        refine g_lti g212 fun x2_213 r2_213 => ?_
        refine g_istore_nN (pc := 213) X (j := 2) (i := 2) (x := x2_213) (b := 1) (w := iv x1_30) (rest := [(0, rv D a0)]) rfl (Nat.le_of_ble_eq_true rfl) [1, 0] rfl (by decide) rfl rfl (dl_at t_X25_flow 119 rfl) ?_
        refine g_aload_n (pc := 214) X (j := 0) (i := 0) (q := 2) (x := a0) rfl rfl (dl_at t_X25_flow 120 rfl) ?_
        refine r_getr (pc := 215) X fX25_0 k32 q3761 (dl_at t_X25_flow 121 rfl) ?_
        refine g_iload_n (pc := 218) X (j := 2) (i := 2) (q := 0) (x := x2_213) rfl rfl (dl_at t_X25_flow 122 rfl) ?_
        refine g_iconst (pc := 219) X (n := 2) (dl_at t_X25_flow 123 rfl) ?_
        refine g_gd fun k220 => ?_
        refine r_callRi (pc := 220) X (fun _ hv => s_X24_of k220 r2_213 (r32_c rfl) hv) cw_code q4704 q378 (in_Vk X (As := [iv x2_213, iv 2]) kX24 k220 (Or.inl q4844) q4702 q4703 cw_code q4704 ⟨by decide, by decide⟩ rfl (dl_at t_X25_flow 124 rfl)) (dl_at t_X25_flow 124 rfl) (cat24 (st := []) (Nat.le_of_ble_eq_true rfl)) (Nat.le_of_ble_eq_true rfl) (Nat.le_of_ble_eq_true rfl) fun v220 g220 => ?_
        refine g_istore_nN (pc := 223) X (j := 3) (i := 3) (x := v220) (b := 2) (w := iv x2_213) (rest := [(1, iv x1_30), (0, rv D a0)]) rfl (Nat.le_of_ble_eq_true rfl) [0, 1, 2] rfl (by decide) rfl rfl (dl_at t_X25_flow 125 rfl) ?_
        refine g_iconst (pc := 224) X (n := 0) (dl_at t_X25_flow 126 rfl) ?_
        refine g_ltz (Or.inl rfl) fun x4_225 r4_225 => ?_
        refine g_istoreN (pc := 225) X (i := 4) (x := x4_225) (b := 3) (w := iv v220) (rest := [(2, iv x2_213), (1, iv x1_30), (0, rv D a0)]) (Nat.le_of_ble_eq_true rfl) [0, 1, 2, 3] rfl (by decide) rfl rfl (dl_at t_X25_flow 127 rfl) ?_
        refine g_ls (ls2 := [(0, rv D a0), (1, iv x1_30), (2, iv x2_213), (3, iv v220), (4, iv x4_225)]) [4, 3, 2, 1, 0] rfl ?_
        refine g_loop1 (fun (q : Int × Int × Hp) => [(0, rv D a0), (1, iv x1_30), (2, iv x2_213), (3, iv q.1), (4, iv q.2.1)]) (fun (q : Int × Int × Hp) => q.2.2) (fun (q : Int × Int × Hp) => r32 q.1 ∧ r32 q.2.1 ∧ Ext h_30 q.2.2) 308 (fun (y308 : Int × Hp) => [(0, rv D a0), (1, iv x1_30), (2, iv x2_213), (3, iv y308.1)]) (fun (y308 : Int × Hp) => y308.2) (fun (y308 : Int × Hp) => r32 y308.1 ∧ Ext h_30 y308.2) (v220, x4_225, h_30) ⟨g220, (r32_z r4_225), (Ext.refl _)⟩ ?_ ?_
        · rintro ⟨x3_227, x4_227, h_227⟩ ⟨r3_227, r4_227, E_227⟩
          try dsimp only
          unfold m_X25_flow_l227
          refine g_iload (pc := 227) X (i := 4) (q := 4) (x := x4_227) rfl (dl_at t_X25_flow 128 rfl) ?_
          refine g_aload_n (pc := 229) X (j := 0) (i := 0) (q := 0) (x := a0) rfl rfl (dl_at t_X25_flow 129 rfl) ?_
          have k230 := kx E_227 (by decide) k32
          refine r_getr (pc := 230) X fX25_0 k230 q3761 (dl_at t_X25_flow 130 rfl) ?_
          refine g_gd fun k233 => ?_
          refine r_getr (pc := 233) X fX24_7 k233 q3659 (dl_at t_X25_flow 131 rfl) ?_
          refine g_iload_n (pc := 236) X (j := 2) (i := 2) (q := 2) (x := x2_213) rfl rfl (dl_at t_X25_flow 132 rfl) ?_
          refine g_gd fun k237 => ?_
          refine g_iald (pc := 237) X r2_213 k237 (dl_at t_X25_flow 133 rfl) fun g237 => ?_
          refine g_icmpge (pc := 238) X r4_227 g237 (off := 70) (tgt := 308) rfl (dl_at t_X25_flow 134 rfl) (fun _ => ?_) (fun _ => ?_)
          · refine g_ls (ls2 := [(0, rv D a0), (1, iv x1_30), (2, iv x2_213), (3, iv x3_227)]) [0, 1, 2, 3] rfl ?_
            exact g_at fun Q hQ => hQ ⟨r3_227, E_227⟩
          refine g_aload_n (pc := 241) X (j := 0) (i := 0) (q := 0) (x := a0) rfl rfl (dl_at t_X25_flow 135 rfl) ?_
          refine r_getr (pc := 242) X fX25_34 k230 q3810 (dl_at t_X25_flow 136 rfl) ?_
          refine g_bipush (pc := 245) X (n := 8) rfl (dl_at t_X25_flow 137 rfl) ?_
          refine g_iload_n (pc := 247) X (j := 2) (i := 2) (q := 2) (x := x2_213) rfl rfl (dl_at t_X25_flow 138 rfl) ?_
          refine g_imul (pc := 248) X (r32_c rfl) r2_213 (dl_at t_X25_flow 139 rfl) ?_
          refine g_iload (pc := 249) X (i := 4) (q := 4) (x := x4_227) rfl (dl_at t_X25_flow 140 rfl) ?_
          refine g_iadd (pc := 251) X (r32_w _) r4_227 (dl_at t_X25_flow 141 rfl) ?_
          refine g_gd fun k252 => ?_
          refine g_iald (pc := 252) X (r32_w _) k252 (dl_at t_X25_flow 142 rfl) fun g252 => ?_
          refine g_lti g252 fun x5_253 r5_253 => ?_
          refine g_istoreN (pc := 253) X (i := 5) (x := x5_253) (b := 4) (w := iv x4_227) (rest := [(0, rv D a0), (1, iv x1_30), (2, iv x2_213), (3, iv x3_227)]) (Nat.le_of_ble_eq_true rfl) [4, 0, 1, 2, 3] rfl (by decide) rfl rfl (dl_at t_X25_flow 143 rfl) ?_
          refine g_iload (pc := 255) X (i := 5) (q := 0) (x := x5_253) rfl (dl_at t_X25_flow 144 rfl) ?_
          refine g_join (γ := Int × Hp) (fun q => r32 q.1 ∧ Ext h_227 q.2) 302 (fun q => [(0, rv D a0), (1, iv x1_30), (2, iv x2_213), (3, iv q.1), (4, iv x4_227)]) (fun q => []) (fun q => q.2) (fun q => m_X25_flow_j302 x4_227 q.1 q.2) ?_ ?_
          · rintro ⟨x3_302, h_302⟩ ⟨r3_302, E_302⟩
            try dsimp only
            unfold m_X25_flow_j302
            refine r_iincN (pc := 302) X (i := 4) (q := 4) (n := 1) (x := x4_227) (b := 3) (w := iv x3_302) (rest := [(0, rv D a0), (1, iv x1_30), (2, iv x2_213)]) rfl r4_227 (r32_c rfl) (Nat.le_of_ble_eq_true rfl) [3, 0, 1, 2] rfl (by decide) rfl rfl (dl_at t_X25_flow 169 rfl) fun x4_302 r4_302 => ?_
            refine g_goto (pc := 305) X (off := (-78)) (tgt := 227) rfl (dl_at t_X25_flow 170 rfl) ?_
            refine g_ls (ls2 := [(0, rv D a0), (1, iv x1_30), (2, iv x2_213), (3, iv x3_302), (4, iv x4_302)]) [2, 3, 4, 1, 0] rfl ?_
            exact g_at fun Q hQ => hQ ⟨r3_302, r4_302, (E_227.trans E_302)⟩
          intro J302
          refine g_ifge (pc := 257) X r5_253 (off := 6) (tgt := 263) rfl (dl_at t_X25_flow 145 rfl) (fun _ => ?_) (fun _ => ?_)
          · refine g_aload_n (pc := 263) X (j := 0) (i := 0) (q := 2) (x := a0) rfl rfl (dl_at t_X25_flow 147 rfl) ?_
            refine r_getr (pc := 264) X fX25_121 k230 q3933 (dl_at t_X25_flow 148 rfl) ?_
            refine g_iload (pc := 267) X (i := 5) (q := 0) (x := x5_253) rfl (dl_at t_X25_flow 149 rfl) ?_
            refine g_aload_n (pc := 269) X (j := 0) (i := 0) (q := 2) (x := a0) rfl rfl (dl_at t_X25_flow 150 rfl) ?_
            refine r_geti (pc := 270) X fX25_42 k230 q3821 (dl_at t_X25_flow 151 rfl) fun g270 => ?_
            refine g_gd fun k273 => ?_
            refine r_iast (pc := 273) X r5_253 g270 k273 (dl_at t_X25_flow 152 rfl) (fun h273 E273 => ?_)
            refine g_iload_n (pc := 274) X (j := 3) (i := 3) (q := 5) (x := x3_227) rfl rfl (dl_at t_X25_flow 153 rfl) ?_
            refine g_aload_n (pc := 275) X (j := 0) (i := 0) (q := 2) (x := a0) rfl rfl (dl_at t_X25_flow 154 rfl) ?_
            have k276 := kx E273 (by decide) k230
            refine r_getr (pc := 276) X fX25_17 k276 q3786 (dl_at t_X25_flow 155 rfl) ?_
            refine g_iload (pc := 279) X (i := 5) (q := 0) (x := x5_253) rfl (dl_at t_X25_flow 156 rfl) ?_
            refine g_gd fun k281 => ?_
            refine g_iald (pc := 281) X r5_253 k281 (dl_at t_X25_flow 157 rfl) fun g281 => ?_
            refine g_aload_n (pc := 282) X (j := 0) (i := 0) (q := 2) (x := a0) rfl rfl (dl_at t_X25_flow 158 rfl) ?_
            refine r_getr (pc := 283) X fX25_0 k276 q3761 (dl_at t_X25_flow 159 rfl) ?_
            refine g_aload_n (pc := 286) X (j := 0) (i := 0) (q := 2) (x := a0) rfl rfl (dl_at t_X25_flow 160 rfl) ?_
            refine r_getr (pc := 287) X fX25_12 k276 q3779 (dl_at t_X25_flow 161 rfl) ?_
            refine g_iload (pc := 290) X (i := 5) (q := 0) (x := x5_253) rfl (dl_at t_X25_flow 162 rfl) ?_
            refine g_gd fun k292 => ?_
            refine g_iald (pc := 292) X r5_253 k292 (dl_at t_X25_flow 163 rfl) fun g292 => ?_
            refine g_iconst (pc := 293) X (n := 2) (dl_at t_X25_flow 164 rfl) ?_
            refine g_gd fun k294 => ?_
            refine r_callRi (pc := 294) X (fun _ hv => s_X24_of k294 g292 (r32_c rfl) hv) cw_code q4704 q378 (in_Vk X (As := [iv (h273 (h273 a0 12) x5_253), iv 2]) kX24 k294 (Or.inl q4844) q4702 q4703 cw_code q4704 ⟨by decide, by decide⟩ rfl (dl_at t_X25_flow 165 rfl)) (dl_at t_X25_flow 165 rfl) (cat24 (st := [iv (h273 (h273 a0 17) x5_253), iv x3_227]) (Nat.le_of_ble_eq_true rfl)) (Nat.le_of_ble_eq_true rfl) (Nat.le_of_ble_eq_true rfl) fun v294 g294 => ?_
            refine g_imul (pc := 297) X g281 g294 (dl_at t_X25_flow 166 rfl) ?_
            refine g_mmax (pc := 298) X r3_227 (r32_w _) q4858 q4859 q398 q4860 (cat24 (st := []) (Nat.le_of_ble_eq_true rfl)) (Nat.le_of_ble_eq_true rfl) (Nat.le_of_ble_eq_true rfl) (dl_at t_X25_flow 167 rfl) ?_
            refine g_lti (r32_max r3_227 (r32_w _)) fun x3_301 r3_301 => ?_
            refine g_istore_nN (pc := 301) X (j := 3) (i := 3) (x := x3_301) (b := 2) (w := iv x2_213) (rest := [(4, iv x4_227), (0, rv D a0), (1, iv x1_30)]) rfl (Nat.le_of_ble_eq_true rfl) [4, 1, 2, 3] rfl (by decide) rfl rfl (dl_at t_X25_flow 168 rfl) ?_
            refine g_ls (ls2 := [(0, rv D a0), (1, iv x1_30), (2, iv x2_213), (3, iv x3_301), (4, iv x4_227)]) [3, 4, 1, 0, 2] rfl ?_
            exact J302 (x3_301, h273) ⟨r3_301, E273⟩
          refine g_goto (pc := 260) X (off := 42) (tgt := 302) rfl (dl_at t_X25_flow 146 rfl) ?_
          refine g_ls (ls2 := [(0, rv D a0), (1, iv x1_30), (2, iv x2_213), (3, iv x3_227), (4, iv x4_227)]) [2, 3, 4, 5, 1] rfl ?_
          exact J302 (x3_227, h_227) ⟨r3_227, (Ext.refl _)⟩
        · rintro ⟨x3_308, h_308⟩ ⟨r3_308, E_308⟩
          try dsimp only [sE]
          refine g_aload_n (pc := 308) X (j := 0) (i := 0) (q := 0) (x := a0) rfl rfl (dl_at t_X25_flow 171 rfl) ?_
          refine g_iconst (pc := 309) X (n := (-1)) (dl_at t_X25_flow 172 rfl) ?_
          refine g_iconst (pc := 310) X (n := 0) (dl_at t_X25_flow 173 rfl) ?_
          refine g_iload_n (pc := 311) X (j := 2) (i := 2) (q := 2) (x := x2_213) rfl rfl (dl_at t_X25_flow 174 rfl) ?_
          refine g_iload_n (pc := 312) X (j := 3) (i := 3) (q := 3) (x := x3_308) rfl rfl (dl_at t_X25_flow 175 rfl) ?_
          refine g_aload_n (pc := 313) X (j := 0) (i := 0) (q := 0) (x := a0) rfl rfl (dl_at t_X25_flow 176 rfl) ?_
          have k314 := kx E_308 (by decide) k32
          refine r_getr (pc := 314) X fX25_33 k314 q3809 (dl_at t_X25_flow 177 rfl) ?_
          refine g_iload_n (pc := 317) X (j := 1) (i := 1) (q := 1) (x := x1_30) rfl rfl (dl_at t_X25_flow 178 rfl) ?_
          refine g_gd fun k318 => ?_
          refine g_iald (pc := 318) X r1_30 k318 (dl_at t_X25_flow 179 rfl) fun g318 => ?_
          refine g_aload_n (pc := 319) X (j := 0) (i := 0) (q := 0) (x := a0) rfl rfl (dl_at t_X25_flow 180 rfl) ?_
          refine r_getr (pc := 320) X fX25_0 k314 q3761 (dl_at t_X25_flow 181 rfl) ?_
          refine g_aload_n (pc := 323) X (j := 0) (i := 0) (q := 0) (x := a0) rfl rfl (dl_at t_X25_flow 182 rfl) ?_
          refine r_getr (pc := 324) X fX25_1 k314 q3763 (dl_at t_X25_flow 183 rfl) ?_
          refine g_gd fun k327 => ?_
          refine r_getr (pc := 327) X fX23_11 k327 q3548 (dl_at t_X25_flow 184 rfl) ?_
          refine g_iload_n (pc := 330) X (j := 2) (i := 2) (q := 2) (x := x2_213) rfl rfl (dl_at t_X25_flow 185 rfl) ?_
          refine g_gd fun k331 => ?_
          refine g_iald (pc := 331) X r2_213 k331 (dl_at t_X25_flow 186 rfl) fun g331 => ?_
          refine g_bipush (pc := 332) X (n := 13) rfl (dl_at t_X25_flow 187 rfl) ?_
          refine g_gd fun k334 => ?_
          refine r_callRi (pc := 334) X (fun _ hv => s_X24_of k334 g331 (r32_c rfl) hv) cw_code q4704 q378 (in_Vk X (As := [iv (h_308 (h_308 (h_308 a0 1) 11) x2_213), iv 13]) kX24 k334 (Or.inl q4844) q4702 q4703 cw_code q4704 ⟨by decide, by decide⟩ rfl (dl_at t_X25_flow 188 rfl)) (dl_at t_X25_flow 188 rfl) (cat24 (st := [iv (h_308 (h_308 a0 33) x1_30), iv x3_308, iv x2_213, iv 0, iv (-1), rv D a0]) (Nat.le_of_ble_eq_true rfl)) (Nat.le_of_ble_eq_true rfl) (Nat.le_of_ble_eq_true rfl) fun v334 g334 => ?_
          refine g_join (γ := Int × Int × Int × Int) (fun q => r32 q.1 ∧ (q.2.1 = 0 ∨ q.2.1 = 1) ∧ r32 q.2.2.1 ∧ (q.2.2.2 = 0 ∨ q.2.2.2 = 1)) 345 (fun q => [(0, rv D a0), (1, iv x1_30)]) (fun q => [iv q.2.2.2, iv q.2.2.1, iv x3_308, iv x2_213, iv q.2.1, iv q.1, rv D a0]) (fun q => h_308) (fun q => m_X25_flow_j345 a0 x1_30 x2_213 x3_308 q.1 q.2.1 q.2.2.1 q.2.2.2 h_308) ?_ ?_
          · rintro ⟨s1_345, s2_345, s5_345, s6_345⟩ ⟨rs1_345, rs2_345, rs5_345, rs6_345⟩
            try dsimp only
            unfold m_X25_flow_j345
            refine r_callTv (pc := 345) X (fun _ hv => s_X25_addLine k314 rs1_345 (r32_z rs2_345) r2_213 r3_308 rs5_345 rs6_345 hv) cw_code q5055 q379 (in_Vk X (As := [iv s1_345, iv s2_345, iv x2_213, iv x3_308, iv s5_345, iv s6_345]) kX25 k314 (Or.inl q5052) q5054 qs332 cw_code q5055 ⟨by decide, by decide⟩ rfl (dl_at t_X25_flow 193 rfl)) (dl_at t_X25_flow 193 rfl) (cat24 (st := []) (Nat.le_of_ble_eq_true rfl)) (Nat.le_of_ble_eq_true rfl) (Nat.le_of_ble_eq_true rfl) (fun v345 h345 E345 => ?_) (fun _ _ ha _ => gt_at fun Q hQ => gt_out (Q := Q) X rfl ha (hno _) _ Q rfl hQ)
            exact J348 h345 (E_308.trans E345)
          intro J345
          refine g_ifne (pc := 337) X g334 (off := 7) (tgt := 344) rfl (dl_at t_X25_flow 189 rfl) (fun _ => ?_) (fun _ => ?_)
          · refine g_iconst (pc := 344) X (n := 0) (dl_at t_X25_flow 192 rfl) ?_
            refine g_ls (ls2 := [(0, rv D a0), (1, iv x1_30)]) [0, 1] rfl ?_
            exact J345 ((-1), 0, (h_308 (h_308 a0 33) x1_30), 0) ⟨(r32_c rfl), (Or.inl rfl), g318, (Or.inl rfl)⟩
          refine g_iconst (pc := 340) X (n := 1) (dl_at t_X25_flow 190 rfl) ?_
          refine g_goto (pc := 341) X (off := 4) (tgt := 345) rfl (dl_at t_X25_flow 191 rfl) ?_
          refine g_ls (ls2 := [(0, rv D a0), (1, iv x1_30)]) [0, 1] rfl ?_
          exact J345 ((-1), 0, (h_308 (h_308 a0 33) x1_30), 1) ⟨(r32_c rfl), (Or.inl rfl), g318, (Or.inr rfl)⟩
      refine g_aload_n (pc := 47) X (j := 0) (i := 0) (q := 0) (x := a0) rfl rfl (dl_at t_X25_flow 27 rfl) ?_
      refine r_getr (pc := 48) X fX25_32 k32 q3808 (dl_at t_X25_flow 28 rfl) ?_
      refine g_iload_n (pc := 51) X (j := 1) (i := 1) (q := 1) (x := x1_30) rfl rfl (dl_at t_X25_flow 29 rfl) ?_
      refine g_gd fun k52 => ?_
      refine g_iald (pc := 52) X r1_30 k52 (dl_at t_X25_flow 30 rfl) fun g52 => ?_
      refine g_lti g52 fun x2_53 r2_53 => ?_
      refine g_istore_nN (pc := 53) X (j := 2) (i := 2) (x := x2_53) (b := 1) (w := iv x1_30) (rest := [(0, rv D a0)]) rfl (Nat.le_of_ble_eq_true rfl) [1, 0] rfl (by decide) rfl rfl (dl_at t_X25_flow 31 rfl) ?_
      refine g_aload_n (pc := 54) X (j := 0) (i := 0) (q := 2) (x := a0) rfl rfl (dl_at t_X25_flow 32 rfl) ?_
      refine r_getr (pc := 55) X fX25_12 k32 q3779 (dl_at t_X25_flow 33 rfl) ?_
      refine g_iload_n (pc := 58) X (j := 2) (i := 2) (q := 0) (x := x2_53) rfl rfl (dl_at t_X25_flow 34 rfl) ?_
      refine g_gd fun k59 => ?_
      refine g_iald (pc := 59) X r2_53 k59 (dl_at t_X25_flow 35 rfl) fun g59 => ?_
      refine g_lti g59 fun x3_60 r3_60 => ?_
      refine g_istore_nN (pc := 60) X (j := 3) (i := 3) (x := x3_60) (b := 2) (w := iv x2_53) (rest := [(1, iv x1_30), (0, rv D a0)]) rfl (Nat.le_of_ble_eq_true rfl) [0, 1, 2] rfl (by decide) rfl rfl (dl_at t_X25_flow 36 rfl) ?_
      refine g_aload_n (pc := 61) X (j := 0) (i := 0) (q := 3) (x := a0) rfl rfl (dl_at t_X25_flow 37 rfl) ?_
      refine r_getr (pc := 62) X fX25_121 k32 q3933 (dl_at t_X25_flow 38 rfl) ?_
      refine g_iload_n (pc := 65) X (j := 2) (i := 2) (q := 1) (x := x2_53) rfl rfl (dl_at t_X25_flow 39 rfl) ?_
      refine g_aload_n (pc := 66) X (j := 0) (i := 0) (q := 3) (x := a0) rfl rfl (dl_at t_X25_flow 40 rfl) ?_
      refine r_geti (pc := 67) X fX25_42 k32 q3821 (dl_at t_X25_flow 41 rfl) fun g67 => ?_
      refine g_gd fun k70 => ?_
      refine r_iast (pc := 70) X r2_53 g67 k70 (dl_at t_X25_flow 42 rfl) (fun h70 E70 => ?_)
      refine g_iconst (pc := 71) X (n := 1) (dl_at t_X25_flow 43 rfl) ?_
      refine g_ltz (Or.inr rfl) fun x4_72 r4_72 => ?_
      refine g_istoreN (pc := 72) X (i := 4) (x := x4_72) (b := 3) (w := iv x3_60) (rest := [(2, iv x2_53), (1, iv x1_30), (0, rv D a0)]) (Nat.le_of_ble_eq_true rfl) [0, 1, 2, 3] rfl (by decide) rfl rfl (dl_at t_X25_flow 44 rfl) ?_
      refine g_ls (ls2 := [(0, rv D a0), (1, iv x1_30), (2, iv x2_53), (3, iv x3_60), (4, iv x4_72)]) [4, 3, 2, 1, 0] rfl ?_
      refine g_loop1F (fun (q : Int × Hp) => [(0, rv D a0), (1, iv x1_30), (2, iv x2_53), (3, iv x3_60), (4, iv q.1)]) (fun (q : Int × Hp) => q.2) (fun (q : Int × Hp) => r32 q.1 ∧ Ext h70 q.2) 348 (fun (y348 : Hp) => [(0, rv D a0), (1, iv x1_30)]) (fun (y348 : Hp) => y348) (fun (y348 : Hp) => Ext h70 y348) (x4_72, h70) ⟨(r32_z r4_72), (Ext.refl _)⟩ ?_ ?_ (fun _ => rfl)
      · rintro ⟨x4_74, h_74⟩ ⟨r4_74, E_74⟩
        try dsimp only
        unfold m_X25_flow_l74
        refine g_iload (pc := 74) X (i := 4) (q := 4) (x := x4_74) rfl (dl_at t_X25_flow 45 rfl) ?_
        refine g_aload_n (pc := 76) X (j := 0) (i := 0) (q := 0) (x := a0) rfl rfl (dl_at t_X25_flow 46 rfl) ?_
        have k77 := kx (E70.trans E_74) (by decide) k32
        refine r_getr (pc := 77) X fX25_17 k77 q3786 (dl_at t_X25_flow 47 rfl) ?_
        refine g_iload_n (pc := 80) X (j := 2) (i := 2) (q := 2) (x := x2_53) rfl rfl (dl_at t_X25_flow 48 rfl) ?_
        refine g_gd fun k81 => ?_
        refine g_iald (pc := 81) X r2_53 k81 (dl_at t_X25_flow 49 rfl) fun g81 => ?_
        refine g_icmpgt (pc := 82) X r4_74 g81 (off := 122) (tgt := 204) rfl (dl_at t_X25_flow 50 rfl) (fun _ => ?_) (fun _ => ?_)
        · refine g_goto (pc := 204) X (off := 144) (tgt := 348) rfl (dl_at t_X25_flow 114 rfl) ?_
          refine g_ls (ls2 := [(0, rv D a0), (1, iv x1_30)]) [0, 1] rfl ?_
          exact g_at fun Q hQ => hQ E_74
        refine g_iload (pc := 85) X (i := 4) (q := 4) (x := x4_74) rfl (dl_at t_X25_flow 51 rfl) ?_
        refine g_aload_n (pc := 87) X (j := 0) (i := 0) (q := 0) (x := a0) rfl rfl (dl_at t_X25_flow 52 rfl) ?_
        refine r_getr (pc := 88) X fX25_17 k77 q3786 (dl_at t_X25_flow 53 rfl) ?_
        refine g_iload_n (pc := 91) X (j := 2) (i := 2) (q := 2) (x := x2_53) rfl rfl (dl_at t_X25_flow 54 rfl) ?_
        refine g_iald (pc := 92) X r2_53 k81 (dl_at t_X25_flow 55 rfl) fun g92 => ?_
        refine g_join (γ := Int) (fun q => (q = 0 ∨ q = 1)) 159 (fun q => [(0, rv D a0), (1, iv x1_30), (2, iv x2_53), (3, iv x3_60), (4, iv x4_74)]) (fun q => [iv q]) (fun q => h_74) (fun q => m_X25_flow_j159 a0 x1_30 x2_53 x3_60 x4_74 q h_74) ?_ ?_
        · rintro s0_159 rs0_159
          try dsimp only
          unfold m_X25_flow_j159
          refine g_istoreN (pc := 159) X (i := 5) (x := s0_159) (b := 4) (w := iv x4_74) (rest := [(0, rv D a0), (1, iv x1_30), (2, iv x2_53), (3, iv x3_60)]) (Nat.le_of_ble_eq_true rfl) [4, 0, 1, 2, 3] rfl (by decide) rfl rfl (dl_at t_X25_flow 89 rfl) ?_
          refine g_aload_n (pc := 161) X (j := 0) (i := 0) (q := 2) (x := a0) rfl rfl (dl_at t_X25_flow 90 rfl) ?_
          refine g_iload_n (pc := 162) X (j := 2) (i := 2) (q := 4) (x := x2_53) rfl rfl (dl_at t_X25_flow 91 rfl) ?_
          refine g_iload (pc := 163) X (i := 4) (q := 1) (x := x4_74) rfl (dl_at t_X25_flow 92 rfl) ?_
          refine g_iconst (pc := 165) X (n := 1) (dl_at t_X25_flow 93 rfl) ?_
          refine g_isub (pc := 166) X r4_74 (r32_c rfl) (dl_at t_X25_flow 94 rfl) ?_
          refine g_iconst (pc := 167) X (n := (-1)) (dl_at t_X25_flow 95 rfl) ?_
          refine g_aload_n (pc := 168) X (j := 0) (i := 0) (q := 2) (x := a0) rfl rfl (dl_at t_X25_flow 96 rfl) ?_
          refine r_getr (pc := 169) X fX25_0 k77 q3761 (dl_at t_X25_flow 97 rfl) ?_
          refine g_iload_n (pc := 172) X (j := 3) (i := 3) (q := 5) (x := x3_60) rfl rfl (dl_at t_X25_flow 98 rfl) ?_
          refine g_iconst (pc := 173) X (n := 2) (dl_at t_X25_flow 99 rfl) ?_
          refine g_gd fun k174 => ?_
          refine r_callRi (pc := 174) X (fun _ hv => s_X24_of k174 r3_60 (r32_c rfl) hv) cw_code q4704 q378 (in_Vk X (As := [iv x3_60, iv 2]) kX24 k174 (Or.inl q4844) q4702 q4703 cw_code q4704 ⟨by decide, by decide⟩ rfl (dl_at t_X25_flow 100 rfl)) (dl_at t_X25_flow 100 rfl) (cat24 (st := [iv (-1), iv (w32 (x4_74 - 1)), iv x2_53, rv D a0]) (Nat.le_of_ble_eq_true rfl)) (Nat.le_of_ble_eq_true rfl) (Nat.le_of_ble_eq_true rfl) fun v174 g174 => ?_
          refine g_iload (pc := 177) X (i := 4) (q := 1) (x := x4_74) rfl (dl_at t_X25_flow 101 rfl) ?_
          refine g_iconst (pc := 179) X (n := 1) (dl_at t_X25_flow 102 rfl) ?_
          refine g_join (γ := Int × Int × Int) (fun q => r32 q.1 ∧ r32 q.2.1 ∧ r32 q.2.2) 193 (fun q => [(0, rv D a0), (1, iv x1_30), (2, iv x2_53), (3, iv x3_60), (4, iv x4_74), (5, iv s0_159)]) (fun q => [iv q.2.2, iv v174, iv q.2.1, iv q.1, iv x2_53, rv D a0]) (fun q => h_74) (fun q => m_X25_flow_j193 s0_159 x4_74 a0 x2_53 v174 q.1 q.2.1 q.2.2 h_74) ?_ ?_
          · rintro ⟨s2_193, s3_193, s5_193⟩ ⟨rs2_193, rs3_193, rs5_193⟩
            try dsimp only
            unfold m_X25_flow_j193
            refine g_iload (pc := 193) X (i := 5) (q := 5) (x := s0_159) rfl (dl_at t_X25_flow 110 rfl) ?_
            refine r_callTv (pc := 195) X (fun _ hv => s_X25_addLine k77 r2_53 rs2_193 rs3_193 g174 rs5_193 rs0_159 hv) cw_code q5055 q379 (in_Vk X (As := [iv x2_53, iv s2_193, iv s3_193, iv v174, iv s5_193, iv s0_159]) kX25 k77 (Or.inl q5052) q5054 qs332 cw_code q5055 ⟨by decide, by decide⟩ rfl (dl_at t_X25_flow 111 rfl)) (dl_at t_X25_flow 111 rfl) (cat24 (st := []) (Nat.le_of_ble_eq_true rfl)) (Nat.le_of_ble_eq_true rfl) (Nat.le_of_ble_eq_true rfl) (fun v195 h195 E195 => ?_) (fun _ _ ha _ => gt_at fun Q hQ => gt_out (Q := Q) X rfl ha (hno _) _ Q rfl hQ)
            refine r_iincN (pc := 198) X (i := 4) (q := 4) (n := 1) (x := x4_74) (b := 3) (w := iv x3_60) (rest := [(0, rv D a0), (1, iv x1_30), (2, iv x2_53)]) rfl r4_74 (r32_c rfl) (Nat.le_of_ble_eq_true rfl) [3, 0, 1, 2] rfl (by decide) rfl rfl (dl_at t_X25_flow 112 rfl) fun x4_198 r4_198 => ?_
            refine g_goto (pc := 201) X (off := (-127)) (tgt := 74) rfl (dl_at t_X25_flow 113 rfl) ?_
            refine g_ls (ls2 := [(0, rv D a0), (1, iv x1_30), (2, iv x2_53), (3, iv x3_60), (4, iv x4_198)]) [2, 3, 4, 1, 0] rfl ?_
            exact g_at fun Q hQ => hQ ⟨r4_198, (E_74.trans E195)⟩
          intro J193
          refine g_icmpne (pc := 180) X r4_74 (r32_c rfl) (off := 12) (tgt := 192) rfl (dl_at t_X25_flow 103 rfl) (fun _ => ?_) (fun _ => ?_)
          · refine g_iconst (pc := 192) X (n := 0) (dl_at t_X25_flow 109 rfl) ?_
            refine g_ls (ls2 := [(0, rv D a0), (1, iv x1_30), (2, iv x2_53), (3, iv x3_60), (4, iv x4_74), (5, iv s0_159)]) [2, 3, 4, 5, 1, 0] rfl ?_
            exact J193 ((w32 (x4_74 - 1)), (-1), 0) ⟨(r32_w _), (r32_c rfl), (r32_c rfl)⟩
          refine g_aload_n (pc := 183) X (j := 0) (i := 0) (q := 2) (x := a0) rfl rfl (dl_at t_X25_flow 104 rfl) ?_
          refine r_getr (pc := 184) X fX25_33 k77 q3809 (dl_at t_X25_flow 105 rfl) ?_
          refine g_iload_n (pc := 187) X (j := 1) (i := 1) (q := 3) (x := x1_30) rfl rfl (dl_at t_X25_flow 106 rfl) ?_
          refine g_gd fun k188 => ?_
          refine g_iald (pc := 188) X r1_30 k188 (dl_at t_X25_flow 107 rfl) fun g188 => ?_
          refine g_goto (pc := 189) X (off := 4) (tgt := 193) rfl (dl_at t_X25_flow 108 rfl) ?_
          refine g_ls (ls2 := [(0, rv D a0), (1, iv x1_30), (2, iv x2_53), (3, iv x3_60), (4, iv x4_74), (5, iv s0_159)]) [2, 3, 4, 5, 1, 0] rfl ?_
          exact J193 ((w32 (x4_74 - 1)), (-1), (h_74 (h_74 a0 33) x1_30)) ⟨(r32_w _), (r32_c rfl), g188⟩
        intro J159
        refine g_icmpne (pc := 93) X r4_74 g92 (off := 24) (tgt := 117) rfl (dl_at t_X25_flow 56 rfl) (fun _ => ?_) (fun _ => ?_)
        · refine g_iload (pc := 117) X (i := 4) (q := 4) (x := x4_74) rfl (dl_at t_X25_flow 67 rfl) ?_
          refine g_aload_n (pc := 119) X (j := 0) (i := 0) (q := 0) (x := a0) rfl rfl (dl_at t_X25_flow 68 rfl) ?_
          refine r_getr (pc := 120) X fX25_0 k77 q3761 (dl_at t_X25_flow 69 rfl) ?_
          refine g_iload_n (pc := 123) X (j := 3) (i := 3) (q := 3) (x := x3_60) rfl rfl (dl_at t_X25_flow 70 rfl) ?_
          refine g_bipush (pc := 124) X (n := 11) rfl (dl_at t_X25_flow 71 rfl) ?_
          refine g_gd fun k126 => ?_
          refine r_callRi (pc := 126) X (fun _ hv => s_X24_of k126 r3_60 (r32_c rfl) hv) cw_code q4704 q378 (in_Vk X (As := [iv x3_60, iv 11]) kX24 k126 (Or.inl q4844) q4702 q4703 cw_code q4704 ⟨by decide, by decide⟩ rfl (dl_at t_X25_flow 72 rfl)) (dl_at t_X25_flow 72 rfl) (cat24 (st := [iv x4_74]) (Nat.le_of_ble_eq_true rfl)) (Nat.le_of_ble_eq_true rfl) (Nat.le_of_ble_eq_true rfl) fun v126 g126 => ?_
          refine g_join (γ := Unit) (fun q => True) 158 (fun q => [(0, rv D a0), (1, iv x1_30), (2, iv x2_53), (3, iv x3_60), (4, iv x4_74)]) (fun q => []) (fun q => h_74) (fun q => m_X25_flow_j158 a0 x1_30 x2_53 x3_60 x4_74 h_74) ?_ ?_
          · rintro _ _
            try dsimp only
            unfold m_X25_flow_j158
            refine g_iconst (pc := 158) X (n := 0) (dl_at t_X25_flow 88 rfl) ?_
            exact J159 0 (Or.inl rfl)
          intro J158
          refine g_icmplt (pc := 129) X r4_74 g126 (off := 29) (tgt := 158) rfl (dl_at t_X25_flow 73 rfl) (fun _ => ?_) (fun _ => ?_)
          · exact J158 () trivial
          refine g_aload_n (pc := 132) X (j := 0) (i := 0) (q := 0) (x := a0) rfl rfl (dl_at t_X25_flow 74 rfl) ?_
          refine r_getr (pc := 133) X fX25_17 k77 q3786 (dl_at t_X25_flow 75 rfl) ?_
          refine g_iload_n (pc := 136) X (j := 2) (i := 2) (q := 2) (x := x2_53) rfl rfl (dl_at t_X25_flow 76 rfl) ?_
          refine g_iald (pc := 137) X r2_53 k81 (dl_at t_X25_flow 77 rfl) fun g137 => ?_
          refine g_iload (pc := 138) X (i := 4) (q := 4) (x := x4_74) rfl (dl_at t_X25_flow 78 rfl) ?_
          refine g_isub (pc := 140) X g137 r4_74 (dl_at t_X25_flow 79 rfl) ?_
          refine g_aload_n (pc := 141) X (j := 0) (i := 0) (q := 0) (x := a0) rfl rfl (dl_at t_X25_flow 80 rfl) ?_
          refine r_getr (pc := 142) X fX25_0 k77 q3761 (dl_at t_X25_flow 81 rfl) ?_
          refine g_iload_n (pc := 145) X (j := 3) (i := 3) (q := 3) (x := x3_60) rfl rfl (dl_at t_X25_flow 82 rfl) ?_
          refine g_bipush (pc := 146) X (n := 12) rfl (dl_at t_X25_flow 83 rfl) ?_
          refine r_callRi (pc := 148) X (fun _ hv => s_X24_of k126 r3_60 (r32_c rfl) hv) cw_code q4704 q378 (in_Vk X (As := [iv x3_60, iv 12]) kX24 k126 (Or.inl q4844) q4702 q4703 cw_code q4704 ⟨by decide, by decide⟩ rfl (dl_at t_X25_flow 84 rfl)) (dl_at t_X25_flow 84 rfl) (cat24 (st := [iv (w32 ((h_74 (h_74 a0 17) x2_53) - x4_74))]) (Nat.le_of_ble_eq_true rfl)) (Nat.le_of_ble_eq_true rfl) (Nat.le_of_ble_eq_true rfl) fun v148 g148 => ?_
          refine g_icmplt (pc := 151) X (r32_w _) g148 (off := 7) (tgt := 158) rfl (dl_at t_X25_flow 85 rfl) (fun _ => ?_) (fun _ => ?_)
          · exact J158 () trivial
          refine g_iconst (pc := 154) X (n := 1) (dl_at t_X25_flow 86 rfl) ?_
          refine g_goto (pc := 155) X (off := 4) (tgt := 159) rfl (dl_at t_X25_flow 87 rfl) ?_
          exact J159 1 (Or.inr rfl)
        refine g_aload_n (pc := 96) X (j := 0) (i := 0) (q := 0) (x := a0) rfl rfl (dl_at t_X25_flow 57 rfl) ?_
        refine r_getr (pc := 97) X fX25_0 k77 q3761 (dl_at t_X25_flow 58 rfl) ?_
        refine g_iload_n (pc := 100) X (j := 3) (i := 3) (q := 3) (x := x3_60) rfl rfl (dl_at t_X25_flow 59 rfl) ?_
        refine g_bipush (pc := 101) X (n := 13) rfl (dl_at t_X25_flow 60 rfl) ?_
        refine g_gd fun k103 => ?_
        refine r_callRi (pc := 103) X (fun _ hv => s_X24_of k103 r3_60 (r32_c rfl) hv) cw_code q4704 q378 (in_Vk X (As := [iv x3_60, iv 13]) kX24 k103 (Or.inl q4844) q4702 q4703 cw_code q4704 ⟨by decide, by decide⟩ rfl (dl_at t_X25_flow 61 rfl)) (dl_at t_X25_flow 61 rfl) (cat24 (st := []) (Nat.le_of_ble_eq_true rfl)) (Nat.le_of_ble_eq_true rfl) (Nat.le_of_ble_eq_true rfl) fun v103 g103 => ?_
        refine g_ifne (pc := 106) X g103 (off := 7) (tgt := 113) rfl (dl_at t_X25_flow 62 rfl) (fun _ => ?_) (fun _ => ?_)
        · refine g_iconst (pc := 113) X (n := 0) (dl_at t_X25_flow 65 rfl) ?_
          refine g_goto (pc := 114) X (off := 45) (tgt := 159) rfl (dl_at t_X25_flow 66 rfl) ?_
          exact J159 0 (Or.inl rfl)
        refine g_iconst (pc := 109) X (n := 1) (dl_at t_X25_flow 63 rfl) ?_
        refine g_goto (pc := 110) X (off := 49) (tgt := 159) rfl (dl_at t_X25_flow 64 rfl) ?_
        exact J159 1 (Or.inr rfl)
      · rintro h_348_1 E_348_1
        try dsimp only [sE]
        exact J348 h_348_1 (E70.trans E_348_1)
    · rintro h_354 E_354
      try dsimp only [sE]
      refine g_aload_n (pc := 354) X (j := 0) (i := 0) (q := 0) (x := a0) rfl rfl (dl_at t_X25_flow 196 rfl) ?_
      have k355 := kx (E2.trans (E_28.trans E_354)) (by decide) hk
      refine r_geti (pc := 355) X fX25_42 k355 q3821 (dl_at t_X25_flow 197 rfl) fun g355 => ?_
      refine g_ifle (pc := 358) X g355 (off := 15) (tgt := 373) rfl (dl_at t_X25_flow 198 rfl) (fun _ => ?_) (fun _ => ?_)
      · exact g_vret (pc := 373) X (v := 0) rfl rfl (dl_at t_X25_flow 207 rfl)
      refine g_aload_n (pc := 361) X (j := 0) (i := 0) (q := 0) (x := a0) rfl rfl (dl_at t_X25_flow 199 rfl) ?_
      refine r_getr (pc := 362) X fX25_51 k355 q3835 (dl_at t_X25_flow 200 rfl) ?_
      refine g_aload_n (pc := 365) X (j := 0) (i := 0) (q := 0) (x := a0) rfl rfl (dl_at t_X25_flow 201 rfl) ?_
      refine r_geti (pc := 366) X fX25_42 k355 q3821 (dl_at t_X25_flow 202 rfl) fun g366 => ?_
      refine g_iconst (pc := 369) X (n := 1) (dl_at t_X25_flow 203 rfl) ?_
      refine g_isub (pc := 370) X g366 (r32_c rfl) (dl_at t_X25_flow 204 rfl) ?_
      refine g_iconst (pc := 371) X (n := 1) (dl_at t_X25_flow 205 rfl) ?_
      refine g_gd fun k372 => ?_
      refine r_zast (pc := 372) X (r32_w _) (Or.inr rfl) k372 (dl_at t_X25_flow 206 rfl) (fun h372 E372 => ?_)
      exact g_vret (pc := 373) X (v := 0) rfl rfl (dl_at t_X25_flow 207 rfl)
def k_X25_byteTo : List (Nat × Instr × Nat) := [(0, .aload_n 0, 1), (1, .getfield 72, 3), (4, .aload_n 0, 1), (5, .getfield 47, 3), (8, .iload_n 1, 1), (9, .iaload, 1), (10, .aload_n 0, 1), (11, .getfield 84, 3), (14, .aload_n 0, 1), (15, .getfield 53, 3), (18, .iload_n 1, 1), (19, .iaload, 1), (20, .iload_n 2, 1), (21, .iadd, 1), (22, .iaload, 1), (23, .iadd, 1), (24, .iconst 1, 1), (25, .isub, 1), (26, .iaload, 1), (27, .ireturn, 1)]
theorem t_X25_byteTo : ∀ q ∈ k_X25_byteTo, decode cX25_byteTo q.1 = .ok q.2 := dl_all (by decide +kernel)
noncomputable def m_X25_byteTo (a0 a1 a2 : Int) (h : Hp) : Option (Int) :=
  gd (h (h a0 16) (-2) % 16 = 1 ∧ (0 : Int) ≤ a1 ∧ a1 < h (h a0 16) (-1)) (gd (h (h a0 18) (-2) % 16 = 1 ∧ (0 : Int) ≤ a1 ∧ a1 < h (h a0 18) (-1)) (gd (h (h a0 28) (-2) % 16 = 1 ∧ (0 : Int) ≤ (w32 ((h (h a0 18) a1) + a2)) ∧ (w32 ((h (h a0 18) a1) + a2)) < h (h a0 28) (-1)) (gd (h (h a0 24) (-2) % 16 = 1 ∧ (0 : Int) ≤ (w32 ((w32 ((h (h a0 16) a1) + (h (h a0 28) (w32 ((h (h a0 18) a1) + a2))))) - 1)) ∧ (w32 ((w32 ((h (h a0 16) a1) + (h (h a0 28) (w32 ((h (h a0 18) a1) + a2))))) - 1)) < h (h a0 24) (-1)) (some (h (h a0 24) (w32 ((w32 ((h (h a0 16) a1) + (h (h a0 28) (w32 ((h (h a0 18) a1) + a2))))) - 1)))))))
theorem s_X25_byteTo {l : Launch} [NoTr l] {D : SD} {a0 a1 a2 : Int} {h : Hp} (hk : h a0 (-2) = 416) (r1 : r32 a1) (r2 : r32 a2) {r : Int} (hm : m_X25_byteTo a0 a1 a2 h = some r) : Sim l D yX25_byteTo (Cond.code yX25_byteTo cX25_byteTo 3 (Option.some Jvm.ClassFile.FieldType.int)) 0 0 [rv D a0, iv a1, iv a2] h 1 ((0, r), h) := by
  refine Sim.of (fin := fun (v : Int) => ((0, v), h)) (lsE := [(0, rv D a0), (1, iv a1), (2, iv a2)]) hm rfl cwS_code (la_r (la_i (la_i la_n))) (ll_r (ll_i (ll_i ll_n))) ?_
  intro p e s m below meth c X hcw hmm hcc hnm hname
  unfold m_X25_byteTo
  refine g_aload_n (pc := 0) X (j := 0) (i := 0) (q := 0) (x := a0) rfl rfl (dl_at t_X25_byteTo 0 rfl) ?_
  refine r_getr (pc := 1) X fX25_24 hk q3798 (dl_at t_X25_byteTo 1 rfl) ?_
  refine g_aload_n (pc := 4) X (j := 0) (i := 0) (q := 0) (x := a0) rfl rfl (dl_at t_X25_byteTo 2 rfl) ?_
  refine r_getr (pc := 5) X fX25_16 hk q3785 (dl_at t_X25_byteTo 3 rfl) ?_
  refine g_iload_n (pc := 8) X (j := 1) (i := 1) (q := 1) (x := a1) rfl rfl (dl_at t_X25_byteTo 4 rfl) ?_
  refine g_gd fun k9 => ?_
  refine g_iald (pc := 9) X r1 k9 (dl_at t_X25_byteTo 5 rfl) fun g9 => ?_
  refine g_aload_n (pc := 10) X (j := 0) (i := 0) (q := 0) (x := a0) rfl rfl (dl_at t_X25_byteTo 6 rfl) ?_
  refine r_getr (pc := 11) X fX25_28 hk q3802 (dl_at t_X25_byteTo 7 rfl) ?_
  refine g_aload_n (pc := 14) X (j := 0) (i := 0) (q := 0) (x := a0) rfl rfl (dl_at t_X25_byteTo 8 rfl) ?_
  refine r_getr (pc := 15) X fX25_18 hk q3788 (dl_at t_X25_byteTo 9 rfl) ?_
  refine g_iload_n (pc := 18) X (j := 1) (i := 1) (q := 1) (x := a1) rfl rfl (dl_at t_X25_byteTo 10 rfl) ?_
  refine g_gd fun k19 => ?_
  refine g_iald (pc := 19) X r1 k19 (dl_at t_X25_byteTo 11 rfl) fun g19 => ?_
  refine g_iload_n (pc := 20) X (j := 2) (i := 2) (q := 2) (x := a2) rfl rfl (dl_at t_X25_byteTo 12 rfl) ?_
  refine g_iadd (pc := 21) X g19 r2 (dl_at t_X25_byteTo 13 rfl) ?_
  refine g_gd fun k22 => ?_
  refine g_iald (pc := 22) X (r32_w _) k22 (dl_at t_X25_byteTo 14 rfl) fun g22 => ?_
  refine g_iadd (pc := 23) X g9 g22 (dl_at t_X25_byteTo 15 rfl) ?_
  refine g_iconst (pc := 24) X (n := 1) (dl_at t_X25_byteTo 16 rfl) ?_
  refine g_isub (pc := 25) X (r32_w _) (r32_c rfl) (dl_at t_X25_byteTo 17 rfl) ?_
  refine g_gd fun k26 => ?_
  refine g_iald (pc := 26) X (r32_w _) k26 (dl_at t_X25_byteTo 18 rfl) fun g26 => ?_
  exact g_iret (pc := 27) X g26 rfl rfl (dl_at t_X25_byteTo 19 rfl)
def k_X25_findLines : List (Nat × Instr × Nat) := [(0, .iconst 0, 1), (1, .istore_n 1, 1), (2, .iload_n 1, 1), (3, .aload_n 0, 1), (4, .getfield 372, 3), (7, .if_icmp .ge 112, 3), (10, .aload_n 0, 1), (11, .getfield 38, 3), (14, .iload_n 1, 1), (15, .iaload, 1), (16, .iconst 2, 1), (17, .if_icmp .ne 6, 3), (20, .goto 93, 3), (23, .iconst 0, 1), (24, .istore_n 2, 1), (25, .aload_n 0, 1), (26, .getfield 29, 3), (29, .iload_n 1, 1), (30, .iaload, 1), (31, .istore_n 3, 1), (32, .iload_n 3, 1), (33, .aload_n 0, 1), (34, .getfield 32, 3), (37, .iload_n 1, 1), (38, .iaload, 1), (39, .if_icmp .ge 74, 3), (42, .aload_n 0, 1), (43, .getfield 38, 3), (46, .iload_n 1, 1), (47, .iaload, 1), (48, .ifCond .ne 31, 3), (51, .iload_n 3, 1), (52, .aload_n 0, 1), (53, .iload_n 1, 1), (54, .iload_n 2, 1), (55, .invokevirtual 790, 3), (58, .if_icmp .lt 21, 3), (61, .iload_n 2, 1), (62, .iconst 1, 1), (63, .iadd, 1), (64, .aload_n 0, 1), (65, .getfield 50, 3), (68, .iload_n 1, 1), (69, .iaload, 1), (70, .if_icmp .ge 9, 3), (73, .iinc 2 1, 3), (76, .goto (-34), 3), (79, .aload_n 0, 1), (80, .getfield 26, 3), (83, .iload_n 3, 1), (84, .iaload, 1), (85, .ifCond .lt 22, 3), (88, .aload_n 0, 1), (89, .getfield 220, 3), (92, .aload_n 0, 1), (93, .getfield 26, 3), (96, .iload_n 3, 1), (97, .iaload, 1), (98, .aload_n 0, 1), (99, .getfield 292, 3), (102, .iload_n 1, 1), (103, .iaload, 1), (104, .iload_n 2, 1), (105, .iadd, 1), (106, .iastore, 1), (107, .iinc 3 1, 3), (110, .goto (-78), 3), (113, .iinc 1 1, 3), (116, .goto (-114), 3), (119, .iconst 0, 1), (120, .istore_n 1, 1), (121, .iload_n 1, 1), (122, .aload_n 0, 1), (123, .getfield 342, 3), (126, .getfield 351, 3), (129, .if_icmp .ge 127, 3), (132, .aload_n 0, 1), (133, .getfield 214, 3), (136, .iload_n 1, 1), (137, .iconst (-1), 1), (138, .iastore, 1), (139, .aload_n 0, 1), (140, .getfield 217, 3), (143, .iload_n 1, 1), (144, .iconst (-1), 1), (145, .iastore, 1), (146, .aload_n 0, 1), (147, .getfield 14, 3), (150, .getfield 423, 3), (153, .iload_n 1, 1), (154, .baload, 1), (155, .ifCond .eq 95, 3), (158, .aload_n 0, 1), (159, .getfield 783, 3), (162, .ifCond .ne 6, 3), (165, .goto 85, 3), (168, .aload_n 0, 1), (169, .getfield 214, 3), (172, .iload_n 1, 1), (173, .aload_n 0, 1), (174, .getfield 208, 3), (177, .iload_n 1, 1), (178, .iaload, 1), (179, .aload_n 0, 1), (180, .getfield 474, 3), (183, .if_icmp .ge 17, 3), (186, .aload_n 0, 1), (187, .getfield 220, 3), (190, .aload_n 0, 1), (191, .getfield 208, 3), (194, .iload_n 1, 1), (195, .iaload, 1), (196, .iaload, 1), (197, .goto 9, 3), (200, .aload_n 0, 1), (201, .getfield 783, 3), (204, .iconst 1, 1), (205, .isub, 1), (206, .iastore, 1), (207, .aload_n 0, 1), (208, .getfield 217, 3), (211, .iload_n 1, 1), (212, .aload_n 0, 1), (213, .getfield 211, 3), (216, .iload_n 1, 1), (217, .iaload, 1), (218, .aload_n 0, 1), (219, .getfield 208, 3), (222, .iload_n 1, 1), (223, .iaload, 1), (224, .if_icmp .le 19, 3), (227, .aload_n 0, 1), (228, .getfield 220, 3), (231, .aload_n 0, 1), (232, .getfield 211, 3), (235, .iload_n 1, 1), (236, .iaload, 1), (237, .iconst 1, 1), (238, .isub, 1), (239, .iaload, 1), (240, .goto 9, 3), (243, .aload_n 0, 1), (244, .getfield 214, 3), (247, .iload_n 1, 1), (248, .iaload, 1), (249, .iastore, 1), (250, .iinc 1 1, 3), (253, .goto (-132), 3), (256, .iconst 0, 1), (257, .istore_n 1, 1), (258, .iload_n 1, 1), (259, .aload_n 0, 1), (260, .getfield 592, 3), (263, .if_icmp .ge 26, 3), (266, .aload_n 0, 1), (267, .getfield 157, 3), (270, .iload_n 1, 1), (271, .aload_n 0, 1), (272, .getfield 214, 3), (275, .aload_n 0, 1), (276, .getfield 154, 3), (279, .iload_n 1, 1), (280, .iaload, 1), (281, .iaload, 1), (282, .iastore, 1), (283, .iinc 1 1, 3), (286, .goto (-28), 3), (289, .iconst 0, 1), (290, .istore_n 1, 1), (291, .iload_n 1, 1), (292, .aload_n 0, 1), (293, .getfield 595, 3), (296, .if_icmp .ge 26, 3), (299, .aload_n 0, 1), (300, .getfield 172, 3), (303, .iload_n 1, 1), (304, .aload_n 0, 1), (305, .getfield 214, 3), (308, .aload_n 0, 1), (309, .getfield 169, 3), (312, .iload_n 1, 1), (313, .iaload, 1), (314, .iaload, 1), (315, .iastore, 1), (316, .iinc 1 1, 3), (319, .goto (-28), 3), (322, .return_, 1)]
theorem t_X25_findLines : ∀ q ∈ k_X25_findLines, decode cX25_findLines q.1 = .ok q.2 := dl_all (by decide +kernel)
noncomputable def m_X25_findLines_j113 (x1_2 : Int) (h_113 : Hp) : Option ((Int × Hp) ⊕ ((Hp))) :=
  lt_ (w32 (x1_2 + 1)) fun x1_113 =>
  some (.inl (x1_113, h_113))
noncomputable def m_X25_findLines_l42 (a0 x1_2 x3_32 x2_42 : Int) (h_32 : Hp) : Option ((Int) ⊕ ((Int))) :=
  gd (h_32 (h_32 a0 13) (-2) % 16 = 1 ∧ (0 : Int) ≤ x1_2 ∧ x1_2 < h_32 (h_32 a0 13) (-1)) (if (h_32 (h_32 a0 13) x1_2) ≠ 0 then (some (.inr x2_42))
  else ((m_X25_byteTo a0 x1_2 x2_42 h_32).bind fun v55 =>
  if x3_32 < v55 then (some (.inr x2_42))
  else (gd (h_32 (h_32 a0 17) (-2) % 16 = 1 ∧ (0 : Int) ≤ x1_2 ∧ x1_2 < h_32 (h_32 a0 17) (-1)) (if (h_32 (h_32 a0 17) x1_2) ≤ (w32 (x2_42 + 1)) then (some (.inr x2_42))
  else (lt_ (w32 (x2_42 + 1)) fun x2_73 =>
  some (.inl x2_73))))))
noncomputable def m_X25_findLines_j107 (x2_79 x3_32 : Int) (h_107 : Hp) : Option ((Int × Int × Hp) ⊕ ((Hp))) :=
  lt_ (w32 (x3_32 + 1)) fun x3_107 =>
  some (.inl (x2_79, x3_107, h_107))
noncomputable def m_X25_findLines_l32 (a0 x1_2 x2_32 x3_32 : Int) (h_32 : Hp) : Option ((Int × Int × Hp) ⊕ ((Hp))) :=
  gd (h_32 (h_32 a0 11) (-2) % 16 = 1 ∧ (0 : Int) ≤ x1_2 ∧ x1_2 < h_32 (h_32 a0 11) (-1)) (if (h_32 (h_32 a0 11) x1_2) ≤ x3_32 then (some (.inr h_32))
  else ((lp (fun (q : Int) => m_X25_findLines_l42 a0 x1_2 x3_32 q h_32) x2_32).bind (fun (y79 : Int) => gd (h_32 (h_32 a0 7) (-2) % 16 = 1 ∧ (0 : Int) ≤ x3_32 ∧ x3_32 < h_32 (h_32 a0 7) (-1)) (if (h_32 (h_32 a0 7) x3_32) < 0 then (m_X25_findLines_j107 y79 x3_32 h_32)
  else (gd (h_32 (h_32 a0 121) (-2) % 16 = 1 ∧ (0 : Int) ≤ x1_2 ∧ x1_2 < h_32 (h_32 a0 121) (-1)) (gd (h_32 (h_32 a0 79) (-2) % 16 = 1 ∧ (0 : Int) ≤ (h_32 (h_32 a0 7) x3_32) ∧ (h_32 (h_32 a0 7) x3_32) < h_32 (h_32 a0 79) (-1)) (pt h_32 (h_32 a0 79) (h_32 (h_32 a0 7) x3_32) (w32 ((h_32 (h_32 a0 121) x1_2) + y79)) fun h106 =>
  m_X25_findLines_j107 y79 x3_32 h106)))))))
noncomputable def m_X25_findLines_l2 (a0 x1_2 : Int) (h_2 : Hp) : Option ((Int × Hp) ⊕ ((Hp))) :=
  if (h_2 a0 9) ≤ x1_2 then (some (.inr h_2))
  else (gd (h_2 (h_2 a0 13) (-2) % 16 = 1 ∧ (0 : Int) ≤ x1_2 ∧ x1_2 < h_2 (h_2 a0 13) (-1)) (if (h_2 (h_2 a0 13) x1_2) ≠ 2 then (lt_ 0 fun x2_24 =>
  gd (h_2 (h_2 a0 10) (-2) % 16 = 1 ∧ (0 : Int) ≤ x1_2 ∧ x1_2 < h_2 (h_2 a0 10) (-1)) (lt_ (h_2 (h_2 a0 10) x1_2) fun x3_31 =>
  (lp (fun (q : Int × Int × Hp) => m_X25_findLines_l32 a0 x1_2 q.1 q.2.1 q.2.2) (x2_24, x3_31, h_2)).bind (fun (y113 : Hp) => m_X25_findLines_j113 x1_2 y113)))
  else (m_X25_findLines_j113 x1_2 h_2)))
noncomputable def m_X25_findLines_j250 (x1_121 : Int) (h_250 : Hp) : Option ((Int × Hp) ⊕ ((Hp))) :=
  lt_ (w32 (x1_121 + 1)) fun x1_250 =>
  some (.inl (x1_250, h_250))
noncomputable def m_X25_findLines_j249 (x1_121 s0_249 s2_249 : Int) (h206 : Hp) : Option ((Int × Hp) ⊕ ((Hp))) :=
  gd (h206 s0_249 (-2) % 16 = 1 ∧ (0 : Int) ≤ x1_121 ∧ x1_121 < h206 s0_249 (-1)) (pt h206 s0_249 x1_121 s2_249 fun h249 =>
  m_X25_findLines_j250 x1_121 h249)
noncomputable def m_X25_findLines_j206 (a0 x1_121 s0_206 s2_206 : Int) (h145 : Hp) : Option ((Int × Hp) ⊕ ((Hp))) :=
  gd (h145 s0_206 (-2) % 16 = 1 ∧ (0 : Int) ≤ x1_121 ∧ x1_121 < h145 s0_206 (-1)) (pt h145 s0_206 x1_121 s2_206 fun h206 =>
  gd (h206 (h206 a0 76) (-2) % 16 = 1 ∧ (0 : Int) ≤ x1_121 ∧ x1_121 < h206 (h206 a0 76) (-1)) (gd (h206 (h206 a0 75) (-2) % 16 = 1 ∧ (0 : Int) ≤ x1_121 ∧ x1_121 < h206 (h206 a0 75) (-1)) (if (h206 (h206 a0 76) x1_121) ≤ (h206 (h206 a0 75) x1_121) then (gd (h206 (h206 a0 77) (-2) % 16 = 1 ∧ (0 : Int) ≤ x1_121 ∧ x1_121 < h206 (h206 a0 77) (-1)) (m_X25_findLines_j249 x1_121 (h206 a0 78) (h206 (h206 a0 77) x1_121) h206))
  else (gd (h206 (h206 a0 79) (-2) % 16 = 1 ∧ (0 : Int) ≤ (w32 ((h206 (h206 a0 76) x1_121) - 1)) ∧ (w32 ((h206 (h206 a0 76) x1_121) - 1)) < h206 (h206 a0 79) (-1)) (m_X25_findLines_j249 x1_121 (h206 a0 78) (h206 (h206 a0 79) (w32 ((h206 (h206 a0 76) x1_121) - 1))) h206)))))
noncomputable def m_X25_findLines_l121 (a0 x1_121 : Int) (h_121 : Hp) : Option ((Int × Hp) ⊕ ((Hp))) :=
  gd (h_121 (h_121 a0 1) (-2) = 384) (if (h_121 (h_121 a0 1) 3) ≤ x1_121 then (some (.inr h_121))
  else (gd (h_121 (h_121 a0 77) (-2) % 16 = 1 ∧ (0 : Int) ≤ x1_121 ∧ x1_121 < h_121 (h_121 a0 77) (-1)) (pt h_121 (h_121 a0 77) x1_121 (-1) fun h138 =>
  gd (h138 (h138 a0 78) (-2) % 16 = 1 ∧ (0 : Int) ≤ x1_121 ∧ x1_121 < h138 (h138 a0 78) (-1)) (pt h138 (h138 a0 78) x1_121 (-1) fun h145 =>
  gd (h145 (h145 a0 0) (-2) = 400) (gd (h145 (h145 (h145 a0 0) 10) (-2) % 16 = 3 ∧ (0 : Int) ≤ x1_121 ∧ x1_121 < h145 (h145 (h145 a0 0) 10) (-1)) (if (h145 (h145 (h145 a0 0) 10) x1_121) = 0 then (m_X25_findLines_j250 x1_121 h145)
  else (if (h145 a0 42) ≠ 0 then (gd (h145 (h145 a0 75) (-2) % 16 = 1 ∧ (0 : Int) ≤ x1_121 ∧ x1_121 < h145 (h145 a0 75) (-1)) (if (h145 a0 8) ≤ (h145 (h145 a0 75) x1_121) then (m_X25_findLines_j206 a0 x1_121 (h145 a0 77) (w32 ((h145 a0 42) - 1)) h145)
  else (gd (h145 (h145 a0 79) (-2) % 16 = 1 ∧ (0 : Int) ≤ (h145 (h145 a0 75) x1_121) ∧ (h145 (h145 a0 75) x1_121) < h145 (h145 a0 79) (-1)) (m_X25_findLines_j206 a0 x1_121 (h145 a0 77) (h145 (h145 a0 79) (h145 (h145 a0 75) x1_121)) h145))))
  else (m_X25_findLines_j250 x1_121 h145))))))))
noncomputable def m_X25_findLines_l258 (a0 x1_258 : Int) (h_258 : Hp) : Option ((Int × Hp) ⊕ ((Hp))) :=
  if (h_258 a0 53) ≤ x1_258 then (some (.inr h_258))
  else (gd (h_258 (h_258 a0 55) (-2) % 16 = 1 ∧ (0 : Int) ≤ x1_258 ∧ x1_258 < h_258 (h_258 a0 55) (-1)) (gd (h_258 (h_258 a0 77) (-2) % 16 = 1 ∧ (0 : Int) ≤ (h_258 (h_258 a0 55) x1_258) ∧ (h_258 (h_258 a0 55) x1_258) < h_258 (h_258 a0 77) (-1)) (gd (h_258 (h_258 a0 56) (-2) % 16 = 1 ∧ (0 : Int) ≤ x1_258 ∧ x1_258 < h_258 (h_258 a0 56) (-1)) (pt h_258 (h_258 a0 56) x1_258 (h_258 (h_258 a0 77) (h_258 (h_258 a0 55) x1_258)) fun h282 =>
  lt_ (w32 (x1_258 + 1)) fun x1_283 =>
  some (.inl (x1_283, h282))))))
noncomputable def m_X25_findLines_l291 (a0 x1_291 : Int) (h_291 : Hp) : Option ((Int × Hp) ⊕ ((Hp))) :=
  if (h_291 a0 54) ≤ x1_291 then (some (.inr h_291))
  else (gd (h_291 (h_291 a0 60) (-2) % 16 = 1 ∧ (0 : Int) ≤ x1_291 ∧ x1_291 < h_291 (h_291 a0 60) (-1)) (gd (h_291 (h_291 a0 77) (-2) % 16 = 1 ∧ (0 : Int) ≤ (h_291 (h_291 a0 60) x1_291) ∧ (h_291 (h_291 a0 60) x1_291) < h_291 (h_291 a0 77) (-1)) (gd (h_291 (h_291 a0 61) (-2) % 16 = 1 ∧ (0 : Int) ≤ x1_291 ∧ x1_291 < h_291 (h_291 a0 61) (-1)) (pt h_291 (h_291 a0 61) x1_291 (h_291 (h_291 a0 77) (h_291 (h_291 a0 60) x1_291)) fun h315 =>
  lt_ (w32 (x1_291 + 1)) fun x1_316 =>
  some (.inl (x1_316, h315))))))
noncomputable def m_X25_findLines (a0 : Int) (h : Hp) : Option (Hp) :=
  lt_ 0 fun x1_1 =>
  (lp (fun (q : Int × Hp) => m_X25_findLines_l2 a0 q.1 q.2) (x1_1, h)).bind (fun (y119 : Hp) => lt_ 0 fun x1_120 =>
  (lp (fun (q : Int × Hp) => m_X25_findLines_l121 a0 q.1 q.2) (x1_120, y119)).bind (fun (y256 : Hp) => lt_ 0 fun x1_257 =>
  (lp (fun (q : Int × Hp) => m_X25_findLines_l258 a0 q.1 q.2) (x1_257, y256)).bind (fun (y289 : Hp) => lt_ 0 fun x1_290 =>
  (lp (fun (q : Int × Hp) => m_X25_findLines_l291 a0 q.1 q.2) (x1_290, y289)).bind (fun (x : Hp) => some x))))
theorem s_X25_findLines {l : Launch} [NoTr l] {D : SD} {a0 : Int} {h : Hp} (hk : h a0 (-2) = 416) {r : Hp} (hm : m_X25_findLines a0 h = some r) : Sim l D yX25_findLines (Cond.code yX25_findLines cX25_findLines 4 (Option.none : Option Jvm.ClassFile.FieldType)) 1 38 [rv D a0] h 0 ((0, 0), r) := by
  refine Sim.of (fin := fun (v : Hp) => ((0, 0), v)) (lsE := [(0, rv D a0)]) hm rfl cwS_code (la_r la_n) (ll_r ll_n) ?_
  intro p e s m below meth c X hcw hmm hcc hnm hname
  unfold m_X25_findLines
  refine g_iconst (pc := 0) X (n := 0) (dl_at t_X25_findLines 0 rfl) ?_
  refine g_ltz (Or.inl rfl) fun x1_1 r1_1 => ?_
  refine g_istore_nN (pc := 1) X (j := 1) (i := 1) (x := x1_1) (b := 0) (w := rv D a0) (rest := []) rfl (Nat.le_of_ble_eq_true rfl) [0] rfl (by decide) rv_cat rfl (dl_at t_X25_findLines 1 rfl) ?_
  refine g_ls (ls2 := [(0, rv D a0), (1, iv x1_1)]) [1, 0] rfl ?_
  refine g_loop1 (fun (q : Int × Hp) => [(0, rv D a0), (1, iv q.1)]) (fun (q : Int × Hp) => q.2) (fun (q : Int × Hp) => r32 q.1 ∧ Ext h q.2) 119 (fun (y119 : Hp) => [(0, rv D a0)]) (fun (y119 : Hp) => y119) (fun (y119 : Hp) => Ext h y119) (x1_1, h) ⟨(r32_z r1_1), (Ext.refl _)⟩ ?_ ?_
  · rintro ⟨x1_2, h_2⟩ ⟨r1_2, E_2⟩
    try dsimp only
    unfold m_X25_findLines_l2
    refine g_iload_n (pc := 2) X (j := 1) (i := 1) (q := 1) (x := x1_2) rfl rfl (dl_at t_X25_findLines 2 rfl) ?_
    refine g_aload_n (pc := 3) X (j := 0) (i := 0) (q := 0) (x := a0) rfl rfl (dl_at t_X25_findLines 3 rfl) ?_
    have k4 := kx E_2 (by decide) hk
    refine r_geti (pc := 4) X fX25_9 k4 q3773 (dl_at t_X25_findLines 4 rfl) fun g4 => ?_
    refine g_icmpge (pc := 7) X r1_2 g4 (off := 112) (tgt := 119) rfl (dl_at t_X25_findLines 5 rfl) (fun _ => ?_) (fun _ => ?_)
    · refine g_ls (ls2 := [(0, rv D a0)]) [0] rfl ?_
      exact g_at fun Q hQ => hQ E_2
    refine g_aload_n (pc := 10) X (j := 0) (i := 0) (q := 0) (x := a0) rfl rfl (dl_at t_X25_findLines 6 rfl) ?_
    refine r_getr (pc := 11) X fX25_13 k4 q3781 (dl_at t_X25_findLines 7 rfl) ?_
    refine g_iload_n (pc := 14) X (j := 1) (i := 1) (q := 1) (x := x1_2) rfl rfl (dl_at t_X25_findLines 8 rfl) ?_
    refine g_gd fun k15 => ?_
    refine g_iald (pc := 15) X r1_2 k15 (dl_at t_X25_findLines 9 rfl) fun g15 => ?_
    refine g_iconst (pc := 16) X (n := 2) (dl_at t_X25_findLines 10 rfl) ?_
    refine g_join (γ := Hp) (fun q => Ext h_2 q) 113 (fun q => [(0, rv D a0), (1, iv x1_2)]) (fun q => []) (fun q => q) (fun q => m_X25_findLines_j113 x1_2 q) ?_ ?_
    · rintro h_113 E_113
      try dsimp only
      unfold m_X25_findLines_j113
      refine r_iincN (pc := 113) X (i := 1) (q := 1) (n := 1) (x := x1_2) (b := 0) (w := rv D a0) (rest := []) rfl r1_2 (r32_c rfl) (Nat.le_of_ble_eq_true rfl) [0] rfl (by decide) rv_cat rfl (dl_at t_X25_findLines 67 rfl) fun x1_113 r1_113 => ?_
      refine g_goto (pc := 116) X (off := (-114)) (tgt := 2) rfl (dl_at t_X25_findLines 68 rfl) ?_
      refine g_ls (ls2 := [(0, rv D a0), (1, iv x1_113)]) [1, 0] rfl ?_
      exact g_at fun Q hQ => hQ ⟨r1_113, (E_2.trans E_113)⟩
    intro J113
    refine g_icmpne (pc := 17) X g15 (r32_c rfl) (off := 6) (tgt := 23) rfl (dl_at t_X25_findLines 11 rfl) (fun _ => ?_) (fun _ => ?_)
    · refine g_iconst (pc := 23) X (n := 0) (dl_at t_X25_findLines 13 rfl) ?_
      refine g_ltz (Or.inl rfl) fun x2_24 r2_24 => ?_
      refine g_istore_nN (pc := 24) X (j := 2) (i := 2) (x := x2_24) (b := 1) (w := iv x1_2) (rest := [(0, rv D a0)]) rfl (Nat.le_of_ble_eq_true rfl) [1, 0] rfl (by decide) rfl rfl (dl_at t_X25_findLines 14 rfl) ?_
      refine g_aload_n (pc := 25) X (j := 0) (i := 0) (q := 2) (x := a0) rfl rfl (dl_at t_X25_findLines 15 rfl) ?_
      refine r_getr (pc := 26) X fX25_10 k4 q3775 (dl_at t_X25_findLines 16 rfl) ?_
      refine g_iload_n (pc := 29) X (j := 1) (i := 1) (q := 1) (x := x1_2) rfl rfl (dl_at t_X25_findLines 17 rfl) ?_
      refine g_gd fun k30 => ?_
      refine g_iald (pc := 30) X r1_2 k30 (dl_at t_X25_findLines 18 rfl) fun g30 => ?_
      refine g_lti g30 fun x3_31 r3_31 => ?_
      refine g_istore_nN (pc := 31) X (j := 3) (i := 3) (x := x3_31) (b := 2) (w := iv x2_24) (rest := [(1, iv x1_2), (0, rv D a0)]) rfl (Nat.le_of_ble_eq_true rfl) [0, 1, 2] rfl (by decide) rfl rfl (dl_at t_X25_findLines 19 rfl) ?_
      refine g_ls (ls2 := [(0, rv D a0), (1, iv x1_2), (2, iv x2_24), (3, iv x3_31)]) [3, 2, 1, 0] rfl ?_
      refine g_loop1 (fun (q : Int × Int × Hp) => [(0, rv D a0), (1, iv x1_2), (2, iv q.1), (3, iv q.2.1)]) (fun (q : Int × Int × Hp) => q.2.2) (fun (q : Int × Int × Hp) => r32 q.1 ∧ r32 q.2.1 ∧ Ext h_2 q.2.2) 113 (fun (y113 : Hp) => [(0, rv D a0), (1, iv x1_2)]) (fun (y113 : Hp) => y113) (fun (y113 : Hp) => Ext h_2 y113) (x2_24, x3_31, h_2) ⟨(r32_z r2_24), r3_31, (Ext.refl _)⟩ ?_ ?_
      · rintro ⟨x2_32, x3_32, h_32⟩ ⟨r2_32, r3_32, E_32⟩
        try dsimp only
        unfold m_X25_findLines_l32
        refine g_iload_n (pc := 32) X (j := 3) (i := 3) (q := 3) (x := x3_32) rfl rfl (dl_at t_X25_findLines 20 rfl) ?_
        refine g_aload_n (pc := 33) X (j := 0) (i := 0) (q := 0) (x := a0) rfl rfl (dl_at t_X25_findLines 21 rfl) ?_
        have k34 := kx E_32 (by decide) k4
        refine r_getr (pc := 34) X fX25_11 k34 q3777 (dl_at t_X25_findLines 22 rfl) ?_
        refine g_iload_n (pc := 37) X (j := 1) (i := 1) (q := 1) (x := x1_2) rfl rfl (dl_at t_X25_findLines 23 rfl) ?_
        refine g_gd fun k38 => ?_
        refine g_iald (pc := 38) X r1_2 k38 (dl_at t_X25_findLines 24 rfl) fun g38 => ?_
        refine g_icmpge (pc := 39) X r3_32 g38 (off := 74) (tgt := 113) rfl (dl_at t_X25_findLines 25 rfl) (fun _ => ?_) (fun _ => ?_)
        · refine g_ls (ls2 := [(0, rv D a0), (1, iv x1_2)]) [0, 1] rfl ?_
          exact g_at fun Q hQ => hQ E_32
        refine g_loop1 (fun (q : Int) => [(0, rv D a0), (1, iv x1_2), (2, iv q), (3, iv x3_32)]) (fun (q : Int) => h_32) (fun (q : Int) => r32 q) 79 (fun (y79 : Int) => [(0, rv D a0), (1, iv x1_2), (2, iv y79), (3, iv x3_32)]) (fun (y79 : Int) => h_32) (fun (y79 : Int) => r32 y79) x2_32 r2_32 ?_ ?_
        · rintro x2_42 r2_42
          try dsimp only
          unfold m_X25_findLines_l42
          refine g_aload_n (pc := 42) X (j := 0) (i := 0) (q := 0) (x := a0) rfl rfl (dl_at t_X25_findLines 26 rfl) ?_
          refine r_getr (pc := 43) X fX25_13 k34 q3781 (dl_at t_X25_findLines 27 rfl) ?_
          refine g_iload_n (pc := 46) X (j := 1) (i := 1) (q := 1) (x := x1_2) rfl rfl (dl_at t_X25_findLines 28 rfl) ?_
          refine g_gd fun k47 => ?_
          refine g_iald (pc := 47) X r1_2 k47 (dl_at t_X25_findLines 29 rfl) fun g47 => ?_
          refine g_ifne (pc := 48) X g47 (off := 31) (tgt := 79) rfl (dl_at t_X25_findLines 30 rfl) (fun _ => ?_) (fun _ => ?_)
          · exact g_at fun Q hQ => hQ r2_42
          refine g_iload_n (pc := 51) X (j := 3) (i := 3) (q := 3) (x := x3_32) rfl rfl (dl_at t_X25_findLines 31 rfl) ?_
          refine g_aload_n (pc := 52) X (j := 0) (i := 0) (q := 0) (x := a0) rfl rfl (dl_at t_X25_findLines 32 rfl) ?_
          refine g_iload_n (pc := 53) X (j := 1) (i := 1) (q := 1) (x := x1_2) rfl rfl (dl_at t_X25_findLines 33 rfl) ?_
          refine g_iload_n (pc := 54) X (j := 2) (i := 2) (q := 2) (x := x2_42) rfl rfl (dl_at t_X25_findLines 34 rfl) ?_
          refine r_callRi (pc := 55) X (fun _ hv => s_X25_byteTo k34 r1_2 r2_42 hv) cw_code q5063 q379 (in_Vk X (As := [iv x1_2, iv x2_42]) kX25 k34 (Or.inl q5060) q5061 q5062 cw_code q5063 ⟨by decide, by decide⟩ rfl (dl_at t_X25_findLines 35 rfl)) (dl_at t_X25_findLines 35 rfl) (cat24 (st := [iv x3_32]) (Nat.le_of_ble_eq_true rfl)) (Nat.le_of_ble_eq_true rfl) (Nat.le_of_ble_eq_true rfl) fun v55 g55 => ?_
          refine g_icmplt (pc := 58) X r3_32 g55 (off := 21) (tgt := 79) rfl (dl_at t_X25_findLines 36 rfl) (fun _ => ?_) (fun _ => ?_)
          · exact g_at fun Q hQ => hQ r2_42
          refine g_iload_n (pc := 61) X (j := 2) (i := 2) (q := 2) (x := x2_42) rfl rfl (dl_at t_X25_findLines 37 rfl) ?_
          refine g_iconst (pc := 62) X (n := 1) (dl_at t_X25_findLines 38 rfl) ?_
          refine g_iadd (pc := 63) X r2_42 (r32_c rfl) (dl_at t_X25_findLines 39 rfl) ?_
          refine g_aload_n (pc := 64) X (j := 0) (i := 0) (q := 0) (x := a0) rfl rfl (dl_at t_X25_findLines 40 rfl) ?_
          refine r_getr (pc := 65) X fX25_17 k34 q3786 (dl_at t_X25_findLines 41 rfl) ?_
          refine g_iload_n (pc := 68) X (j := 1) (i := 1) (q := 1) (x := x1_2) rfl rfl (dl_at t_X25_findLines 42 rfl) ?_
          refine g_gd fun k69 => ?_
          refine g_iald (pc := 69) X r1_2 k69 (dl_at t_X25_findLines 43 rfl) fun g69 => ?_
          refine g_icmpge (pc := 70) X (r32_w _) g69 (off := 9) (tgt := 79) rfl (dl_at t_X25_findLines 44 rfl) (fun _ => ?_) (fun _ => ?_)
          · exact g_at fun Q hQ => hQ r2_42
          refine r_iincN (pc := 73) X (i := 2) (q := 2) (n := 1) (x := x2_42) (b := 1) (w := iv x1_2) (rest := [(0, rv D a0), (3, iv x3_32)]) rfl r2_42 (r32_c rfl) (Nat.le_of_ble_eq_true rfl) [1, 0, 3] rfl (by decide) rfl rfl (dl_at t_X25_findLines 45 rfl) fun x2_73 r2_73 => ?_
          refine g_goto (pc := 76) X (off := (-34)) (tgt := 42) rfl (dl_at t_X25_findLines 46 rfl) ?_
          refine g_ls (ls2 := [(0, rv D a0), (1, iv x1_2), (2, iv x2_73), (3, iv x3_32)]) [2, 1, 0, 3] rfl ?_
          exact g_at fun Q hQ => hQ r2_73
        · rintro x2_79 r2_79
          try dsimp only [sE]
          refine g_aload_n (pc := 79) X (j := 0) (i := 0) (q := 0) (x := a0) rfl rfl (dl_at t_X25_findLines 47 rfl) ?_
          refine r_getr (pc := 80) X fX25_7 k34 q3771 (dl_at t_X25_findLines 48 rfl) ?_
          refine g_iload_n (pc := 83) X (j := 3) (i := 3) (q := 3) (x := x3_32) rfl rfl (dl_at t_X25_findLines 49 rfl) ?_
          refine g_gd fun k84 => ?_
          refine g_iald (pc := 84) X r3_32 k84 (dl_at t_X25_findLines 50 rfl) fun g84 => ?_
          refine g_join (γ := Hp) (fun q => Ext h_32 q) 107 (fun q => [(0, rv D a0), (1, iv x1_2), (2, iv x2_79), (3, iv x3_32)]) (fun q => []) (fun q => q) (fun q => m_X25_findLines_j107 x2_79 x3_32 q) ?_ ?_
          · rintro h_107 E_107
            try dsimp only
            unfold m_X25_findLines_j107
            refine r_iincN (pc := 107) X (i := 3) (q := 3) (n := 1) (x := x3_32) (b := 2) (w := iv x2_79) (rest := [(0, rv D a0), (1, iv x1_2)]) rfl r3_32 (r32_c rfl) (Nat.le_of_ble_eq_true rfl) [2, 0, 1] rfl (by decide) rfl rfl (dl_at t_X25_findLines 65 rfl) fun x3_107 r3_107 => ?_
            refine g_goto (pc := 110) X (off := (-78)) (tgt := 32) rfl (dl_at t_X25_findLines 66 rfl) ?_
            refine g_ls (ls2 := [(0, rv D a0), (1, iv x1_2), (2, iv x2_79), (3, iv x3_107)]) [2, 3, 1, 0] rfl ?_
            exact g_at fun Q hQ => hQ ⟨r2_79, r3_107, (E_32.trans E_107)⟩
          intro J107
          refine g_iflt (pc := 85) X g84 (off := 22) (tgt := 107) rfl (dl_at t_X25_findLines 51 rfl) (fun _ => ?_) (fun _ => ?_)
          · exact J107 h_32 (Ext.refl _)
          refine g_aload_n (pc := 88) X (j := 0) (i := 0) (q := 0) (x := a0) rfl rfl (dl_at t_X25_findLines 52 rfl) ?_
          refine r_getr (pc := 89) X fX25_79 k34 q3879 (dl_at t_X25_findLines 53 rfl) ?_
          refine g_aload_n (pc := 92) X (j := 0) (i := 0) (q := 0) (x := a0) rfl rfl (dl_at t_X25_findLines 54 rfl) ?_
          refine r_getr (pc := 93) X fX25_7 k34 q3771 (dl_at t_X25_findLines 55 rfl) ?_
          refine g_iload_n (pc := 96) X (j := 3) (i := 3) (q := 3) (x := x3_32) rfl rfl (dl_at t_X25_findLines 56 rfl) ?_
          refine g_iald (pc := 97) X r3_32 k84 (dl_at t_X25_findLines 57 rfl) fun g97 => ?_
          refine g_aload_n (pc := 98) X (j := 0) (i := 0) (q := 0) (x := a0) rfl rfl (dl_at t_X25_findLines 58 rfl) ?_
          refine r_getr (pc := 99) X fX25_121 k34 q3933 (dl_at t_X25_findLines 59 rfl) ?_
          refine g_iload_n (pc := 102) X (j := 1) (i := 1) (q := 1) (x := x1_2) rfl rfl (dl_at t_X25_findLines 60 rfl) ?_
          refine g_gd fun k103 => ?_
          refine g_iald (pc := 103) X r1_2 k103 (dl_at t_X25_findLines 61 rfl) fun g103 => ?_
          refine g_iload_n (pc := 104) X (j := 2) (i := 2) (q := 2) (x := x2_79) rfl rfl (dl_at t_X25_findLines 62 rfl) ?_
          refine g_iadd (pc := 105) X g103 r2_79 (dl_at t_X25_findLines 63 rfl) ?_
          refine g_gd fun k106 => ?_
          refine r_iast (pc := 106) X g97 (r32_w _) k106 (dl_at t_X25_findLines 64 rfl) (fun h106 E106 => ?_)
          exact J107 h106 E106
      · rintro h_113_1 E_113_1
        try dsimp only [sE]
        exact J113 h_113_1 E_113_1
    refine g_goto (pc := 20) X (off := 93) (tgt := 113) rfl (dl_at t_X25_findLines 12 rfl) ?_
    exact J113 h_2 (Ext.refl _)
  · rintro h_119 E_119
    try dsimp only [sE]
    refine g_iconst (pc := 119) X (n := 0) (dl_at t_X25_findLines 69 rfl) ?_
    refine g_ltz (Or.inl rfl) fun x1_120 r1_120 => ?_
    refine g_istore_nN (pc := 120) X (j := 1) (i := 1) (x := x1_120) (b := 0) (w := rv D a0) (rest := []) rfl (Nat.le_of_ble_eq_true rfl) [0] rfl (by decide) rv_cat rfl (dl_at t_X25_findLines 70 rfl) ?_
    refine g_ls (ls2 := [(0, rv D a0), (1, iv x1_120)]) [1, 0] rfl ?_
    refine g_loop1 (fun (q : Int × Hp) => [(0, rv D a0), (1, iv q.1)]) (fun (q : Int × Hp) => q.2) (fun (q : Int × Hp) => r32 q.1 ∧ Ext h_119 q.2) 256 (fun (y256 : Hp) => [(0, rv D a0)]) (fun (y256 : Hp) => y256) (fun (y256 : Hp) => Ext h_119 y256) (x1_120, h_119) ⟨(r32_z r1_120), (Ext.refl _)⟩ ?_ ?_
    · rintro ⟨x1_121, h_121⟩ ⟨r1_121, E_121⟩
      try dsimp only
      unfold m_X25_findLines_l121
      refine g_iload_n (pc := 121) X (j := 1) (i := 1) (q := 1) (x := x1_121) rfl rfl (dl_at t_X25_findLines 71 rfl) ?_
      refine g_aload_n (pc := 122) X (j := 0) (i := 0) (q := 0) (x := a0) rfl rfl (dl_at t_X25_findLines 72 rfl) ?_
      have k123 := kx (E_119.trans E_121) (by decide) hk
      refine r_getr (pc := 123) X fX25_1 k123 q3763 (dl_at t_X25_findLines 73 rfl) ?_
      refine g_gd fun k126 => ?_
      refine r_geti (pc := 126) X fX23_3 k126 q3526 (dl_at t_X25_findLines 74 rfl) fun g126 => ?_
      refine g_icmpge (pc := 129) X r1_121 g126 (off := 127) (tgt := 256) rfl (dl_at t_X25_findLines 75 rfl) (fun _ => ?_) (fun _ => ?_)
      · refine g_ls (ls2 := [(0, rv D a0)]) [0] rfl ?_
        exact g_at fun Q hQ => hQ E_121
      refine g_aload_n (pc := 132) X (j := 0) (i := 0) (q := 0) (x := a0) rfl rfl (dl_at t_X25_findLines 76 rfl) ?_
      refine r_getr (pc := 133) X fX25_77 k123 q3875 (dl_at t_X25_findLines 77 rfl) ?_
      refine g_iload_n (pc := 136) X (j := 1) (i := 1) (q := 1) (x := x1_121) rfl rfl (dl_at t_X25_findLines 78 rfl) ?_
      refine g_iconst (pc := 137) X (n := (-1)) (dl_at t_X25_findLines 79 rfl) ?_
      refine g_gd fun k138 => ?_
      refine r_iast (pc := 138) X r1_121 (r32_c rfl) k138 (dl_at t_X25_findLines 80 rfl) (fun h138 E138 => ?_)
      refine g_aload_n (pc := 139) X (j := 0) (i := 0) (q := 0) (x := a0) rfl rfl (dl_at t_X25_findLines 81 rfl) ?_
      have k140 := kx E138 (by decide) k123
      refine r_getr (pc := 140) X fX25_78 k140 q3877 (dl_at t_X25_findLines 82 rfl) ?_
      refine g_iload_n (pc := 143) X (j := 1) (i := 1) (q := 1) (x := x1_121) rfl rfl (dl_at t_X25_findLines 83 rfl) ?_
      refine g_iconst (pc := 144) X (n := (-1)) (dl_at t_X25_findLines 84 rfl) ?_
      refine g_gd fun k145 => ?_
      refine r_iast (pc := 145) X r1_121 (r32_c rfl) k145 (dl_at t_X25_findLines 85 rfl) (fun h145 E145 => ?_)
      refine g_aload_n (pc := 146) X (j := 0) (i := 0) (q := 0) (x := a0) rfl rfl (dl_at t_X25_findLines 86 rfl) ?_
      have k147 := kx E145 (by decide) k140
      refine r_getr (pc := 147) X fX25_0 k147 q3761 (dl_at t_X25_findLines 87 rfl) ?_
      refine g_gd fun k150 => ?_
      refine r_getr (pc := 150) X fX24_10 k150 q3666 (dl_at t_X25_findLines 88 rfl) ?_
      refine g_iload_n (pc := 153) X (j := 1) (i := 1) (q := 1) (x := x1_121) rfl rfl (dl_at t_X25_findLines 89 rfl) ?_
      refine g_gd fun k154 => ?_
      refine g_zald (pc := 154) X r1_121 k154 (dl_at t_X25_findLines 90 rfl) fun g154 => ?_
      refine g_join (γ := Hp) (fun q => Ext h145 q) 250 (fun q => [(0, rv D a0), (1, iv x1_121)]) (fun q => []) (fun q => q) (fun q => m_X25_findLines_j250 x1_121 q) ?_ ?_
      · rintro h_250 E_250
        try dsimp only
        unfold m_X25_findLines_j250
        refine r_iincN (pc := 250) X (i := 1) (q := 1) (n := 1) (x := x1_121) (b := 0) (w := rv D a0) (rest := []) rfl r1_121 (r32_c rfl) (Nat.le_of_ble_eq_true rfl) [0] rfl (by decide) rv_cat rfl (dl_at t_X25_findLines 146 rfl) fun x1_250 r1_250 => ?_
        refine g_goto (pc := 253) X (off := (-132)) (tgt := 121) rfl (dl_at t_X25_findLines 147 rfl) ?_
        refine g_ls (ls2 := [(0, rv D a0), (1, iv x1_250)]) [1, 0] rfl ?_
        exact g_at fun Q hQ => hQ ⟨r1_250, (E_121.trans (E138.trans (E145.trans E_250)))⟩
      intro J250
      refine g_ifeq (pc := 155) X (r32_z g154) (off := 95) (tgt := 250) rfl (dl_at t_X25_findLines 91 rfl) (fun _ => ?_) (fun _ => ?_)
      · exact J250 h145 (Ext.refl _)
      refine g_aload_n (pc := 158) X (j := 0) (i := 0) (q := 0) (x := a0) rfl rfl (dl_at t_X25_findLines 92 rfl) ?_
      refine r_geti (pc := 159) X fX25_42 k147 q3821 (dl_at t_X25_findLines 93 rfl) fun g159 => ?_
      refine g_ifne (pc := 162) X g159 (off := 6) (tgt := 168) rfl (dl_at t_X25_findLines 94 rfl) (fun _ => ?_) (fun _ => ?_)
      · refine g_aload_n (pc := 168) X (j := 0) (i := 0) (q := 0) (x := a0) rfl rfl (dl_at t_X25_findLines 96 rfl) ?_
        refine r_getr (pc := 169) X fX25_77 k147 q3875 (dl_at t_X25_findLines 97 rfl) ?_
        refine g_iload_n (pc := 172) X (j := 1) (i := 1) (q := 1) (x := x1_121) rfl rfl (dl_at t_X25_findLines 98 rfl) ?_
        refine g_aload_n (pc := 173) X (j := 0) (i := 0) (q := 0) (x := a0) rfl rfl (dl_at t_X25_findLines 99 rfl) ?_
        refine r_getr (pc := 174) X fX25_75 k147 q3873 (dl_at t_X25_findLines 100 rfl) ?_
        refine g_iload_n (pc := 177) X (j := 1) (i := 1) (q := 1) (x := x1_121) rfl rfl (dl_at t_X25_findLines 101 rfl) ?_
        refine g_gd fun k178 => ?_
        refine g_iald (pc := 178) X r1_121 k178 (dl_at t_X25_findLines 102 rfl) fun g178 => ?_
        refine g_aload_n (pc := 179) X (j := 0) (i := 0) (q := 0) (x := a0) rfl rfl (dl_at t_X25_findLines 103 rfl) ?_
        refine r_geti (pc := 180) X fX25_8 k147 q3772 (dl_at t_X25_findLines 104 rfl) fun g180 => ?_
        refine g_join (γ := Int × Int) (fun q => r32 q.2) 206 (fun q => [(0, rv D a0), (1, iv x1_121)]) (fun q => [iv q.2, iv x1_121, rv D q.1]) (fun q => h145) (fun q => m_X25_findLines_j206 a0 x1_121 q.1 q.2 h145) ?_ ?_
        · rintro ⟨s0_206, s2_206⟩ rs2_206
          try dsimp only
          unfold m_X25_findLines_j206
          refine g_gd fun k206 => ?_
          refine r_iast (pc := 206) X r1_121 rs2_206 k206 (dl_at t_X25_findLines 118 rfl) (fun h206 E206 => ?_)
          refine g_aload_n (pc := 207) X (j := 0) (i := 0) (q := 0) (x := a0) rfl rfl (dl_at t_X25_findLines 119 rfl) ?_
          have k208 := kx E206 (by decide) k147
          refine r_getr (pc := 208) X fX25_78 k208 q3877 (dl_at t_X25_findLines 120 rfl) ?_
          refine g_iload_n (pc := 211) X (j := 1) (i := 1) (q := 1) (x := x1_121) rfl rfl (dl_at t_X25_findLines 121 rfl) ?_
          refine g_aload_n (pc := 212) X (j := 0) (i := 0) (q := 0) (x := a0) rfl rfl (dl_at t_X25_findLines 122 rfl) ?_
          refine r_getr (pc := 213) X fX25_76 k208 q3874 (dl_at t_X25_findLines 123 rfl) ?_
          refine g_iload_n (pc := 216) X (j := 1) (i := 1) (q := 1) (x := x1_121) rfl rfl (dl_at t_X25_findLines 124 rfl) ?_
          refine g_gd fun k217 => ?_
          refine g_iald (pc := 217) X r1_121 k217 (dl_at t_X25_findLines 125 rfl) fun g217 => ?_
          refine g_aload_n (pc := 218) X (j := 0) (i := 0) (q := 0) (x := a0) rfl rfl (dl_at t_X25_findLines 126 rfl) ?_
          refine r_getr (pc := 219) X fX25_75 k208 q3873 (dl_at t_X25_findLines 127 rfl) ?_
          refine g_iload_n (pc := 222) X (j := 1) (i := 1) (q := 1) (x := x1_121) rfl rfl (dl_at t_X25_findLines 128 rfl) ?_
          refine g_gd fun k223 => ?_
          refine g_iald (pc := 223) X r1_121 k223 (dl_at t_X25_findLines 129 rfl) fun g223 => ?_
          refine g_join (γ := Int × Int) (fun q => r32 q.2) 249 (fun q => [(0, rv D a0), (1, iv x1_121)]) (fun q => [iv q.2, iv x1_121, rv D q.1]) (fun q => h206) (fun q => m_X25_findLines_j249 x1_121 q.1 q.2 h206) ?_ ?_
          · rintro ⟨s0_249, s2_249⟩ rs2_249
            try dsimp only
            unfold m_X25_findLines_j249
            refine g_gd fun k249 => ?_
            refine r_iast (pc := 249) X r1_121 rs2_249 k249 (dl_at t_X25_findLines 145 rfl) (fun h249 E249 => ?_)
            exact J250 h249 (E206.trans E249)
          intro J249
          refine g_icmple (pc := 224) X g217 g223 (off := 19) (tgt := 243) rfl (dl_at t_X25_findLines 130 rfl) (fun _ => ?_) (fun _ => ?_)
          · refine g_aload_n (pc := 243) X (j := 0) (i := 0) (q := 0) (x := a0) rfl rfl (dl_at t_X25_findLines 141 rfl) ?_
            refine r_getr (pc := 244) X fX25_77 k208 q3875 (dl_at t_X25_findLines 142 rfl) ?_
            refine g_iload_n (pc := 247) X (j := 1) (i := 1) (q := 1) (x := x1_121) rfl rfl (dl_at t_X25_findLines 143 rfl) ?_
            refine g_gd fun k248 => ?_
            refine g_iald (pc := 248) X r1_121 k248 (dl_at t_X25_findLines 144 rfl) fun g248 => ?_
            exact J249 ((h206 a0 78), (h206 (h206 a0 77) x1_121)) g248
          refine g_aload_n (pc := 227) X (j := 0) (i := 0) (q := 0) (x := a0) rfl rfl (dl_at t_X25_findLines 131 rfl) ?_
          refine r_getr (pc := 228) X fX25_79 k208 q3879 (dl_at t_X25_findLines 132 rfl) ?_
          refine g_aload_n (pc := 231) X (j := 0) (i := 0) (q := 0) (x := a0) rfl rfl (dl_at t_X25_findLines 133 rfl) ?_
          refine r_getr (pc := 232) X fX25_76 k208 q3874 (dl_at t_X25_findLines 134 rfl) ?_
          refine g_iload_n (pc := 235) X (j := 1) (i := 1) (q := 1) (x := x1_121) rfl rfl (dl_at t_X25_findLines 135 rfl) ?_
          refine g_iald (pc := 236) X r1_121 k217 (dl_at t_X25_findLines 136 rfl) fun g236 => ?_
          refine g_iconst (pc := 237) X (n := 1) (dl_at t_X25_findLines 137 rfl) ?_
          refine g_isub (pc := 238) X g236 (r32_c rfl) (dl_at t_X25_findLines 138 rfl) ?_
          refine g_gd fun k239 => ?_
          refine g_iald (pc := 239) X (r32_w _) k239 (dl_at t_X25_findLines 139 rfl) fun g239 => ?_
          refine g_goto (pc := 240) X (off := 9) (tgt := 249) rfl (dl_at t_X25_findLines 140 rfl) ?_
          exact J249 ((h206 a0 78), (h206 (h206 a0 79) (w32 ((h206 (h206 a0 76) x1_121) - 1)))) g239
        intro J206
        refine g_icmpge (pc := 183) X g178 g180 (off := 17) (tgt := 200) rfl (dl_at t_X25_findLines 105 rfl) (fun _ => ?_) (fun _ => ?_)
        · refine g_aload_n (pc := 200) X (j := 0) (i := 0) (q := 0) (x := a0) rfl rfl (dl_at t_X25_findLines 114 rfl) ?_
          refine r_geti (pc := 201) X fX25_42 k147 q3821 (dl_at t_X25_findLines 115 rfl) fun g201 => ?_
          refine g_iconst (pc := 204) X (n := 1) (dl_at t_X25_findLines 116 rfl) ?_
          refine g_isub (pc := 205) X g201 (r32_c rfl) (dl_at t_X25_findLines 117 rfl) ?_
          exact J206 ((h145 a0 77), (w32 ((h145 a0 42) - 1))) (r32_w _)
        refine g_aload_n (pc := 186) X (j := 0) (i := 0) (q := 0) (x := a0) rfl rfl (dl_at t_X25_findLines 106 rfl) ?_
        refine r_getr (pc := 187) X fX25_79 k147 q3879 (dl_at t_X25_findLines 107 rfl) ?_
        refine g_aload_n (pc := 190) X (j := 0) (i := 0) (q := 0) (x := a0) rfl rfl (dl_at t_X25_findLines 108 rfl) ?_
        refine r_getr (pc := 191) X fX25_75 k147 q3873 (dl_at t_X25_findLines 109 rfl) ?_
        refine g_iload_n (pc := 194) X (j := 1) (i := 1) (q := 1) (x := x1_121) rfl rfl (dl_at t_X25_findLines 110 rfl) ?_
        refine g_iald (pc := 195) X r1_121 k178 (dl_at t_X25_findLines 111 rfl) fun g195 => ?_
        refine g_gd fun k196 => ?_
        refine g_iald (pc := 196) X g195 k196 (dl_at t_X25_findLines 112 rfl) fun g196 => ?_
        refine g_goto (pc := 197) X (off := 9) (tgt := 206) rfl (dl_at t_X25_findLines 113 rfl) ?_
        exact J206 ((h145 a0 77), (h145 (h145 a0 79) (h145 (h145 a0 75) x1_121))) g196
      refine g_goto (pc := 165) X (off := 85) (tgt := 250) rfl (dl_at t_X25_findLines 95 rfl) ?_
      exact J250 h145 (Ext.refl _)
    · rintro h_256 E_256
      try dsimp only [sE]
      refine g_iconst (pc := 256) X (n := 0) (dl_at t_X25_findLines 148 rfl) ?_
      refine g_ltz (Or.inl rfl) fun x1_257 r1_257 => ?_
      refine g_istore_nN (pc := 257) X (j := 1) (i := 1) (x := x1_257) (b := 0) (w := rv D a0) (rest := []) rfl (Nat.le_of_ble_eq_true rfl) [0] rfl (by decide) rv_cat rfl (dl_at t_X25_findLines 149 rfl) ?_
      refine g_ls (ls2 := [(0, rv D a0), (1, iv x1_257)]) [1, 0] rfl ?_
      refine g_loop1 (fun (q : Int × Hp) => [(0, rv D a0), (1, iv q.1)]) (fun (q : Int × Hp) => q.2) (fun (q : Int × Hp) => r32 q.1 ∧ Ext h_256 q.2) 289 (fun (y289 : Hp) => [(0, rv D a0)]) (fun (y289 : Hp) => y289) (fun (y289 : Hp) => Ext h_256 y289) (x1_257, h_256) ⟨(r32_z r1_257), (Ext.refl _)⟩ ?_ ?_
      · rintro ⟨x1_258, h_258⟩ ⟨r1_258, E_258⟩
        try dsimp only
        unfold m_X25_findLines_l258
        refine g_iload_n (pc := 258) X (j := 1) (i := 1) (q := 1) (x := x1_258) rfl rfl (dl_at t_X25_findLines 150 rfl) ?_
        refine g_aload_n (pc := 259) X (j := 0) (i := 0) (q := 0) (x := a0) rfl rfl (dl_at t_X25_findLines 151 rfl) ?_
        have k260 := kx (E_119.trans (E_256.trans E_258)) (by decide) hk
        refine r_geti (pc := 260) X fX25_53 k260 q3838 (dl_at t_X25_findLines 152 rfl) fun g260 => ?_
        refine g_icmpge (pc := 263) X r1_258 g260 (off := 26) (tgt := 289) rfl (dl_at t_X25_findLines 153 rfl) (fun _ => ?_) (fun _ => ?_)
        · refine g_ls (ls2 := [(0, rv D a0)]) [0] rfl ?_
          exact g_at fun Q hQ => hQ E_258
        refine g_aload_n (pc := 266) X (j := 0) (i := 0) (q := 0) (x := a0) rfl rfl (dl_at t_X25_findLines 154 rfl) ?_
        refine r_getr (pc := 267) X fX25_56 k260 q3844 (dl_at t_X25_findLines 155 rfl) ?_
        refine g_iload_n (pc := 270) X (j := 1) (i := 1) (q := 1) (x := x1_258) rfl rfl (dl_at t_X25_findLines 156 rfl) ?_
        refine g_aload_n (pc := 271) X (j := 0) (i := 0) (q := 0) (x := a0) rfl rfl (dl_at t_X25_findLines 157 rfl) ?_
        refine r_getr (pc := 272) X fX25_77 k260 q3875 (dl_at t_X25_findLines 158 rfl) ?_
        refine g_aload_n (pc := 275) X (j := 0) (i := 0) (q := 0) (x := a0) rfl rfl (dl_at t_X25_findLines 159 rfl) ?_
        refine r_getr (pc := 276) X fX25_55 k260 q3842 (dl_at t_X25_findLines 160 rfl) ?_
        refine g_iload_n (pc := 279) X (j := 1) (i := 1) (q := 1) (x := x1_258) rfl rfl (dl_at t_X25_findLines 161 rfl) ?_
        refine g_gd fun k280 => ?_
        refine g_iald (pc := 280) X r1_258 k280 (dl_at t_X25_findLines 162 rfl) fun g280 => ?_
        refine g_gd fun k281 => ?_
        refine g_iald (pc := 281) X g280 k281 (dl_at t_X25_findLines 163 rfl) fun g281 => ?_
        refine g_gd fun k282 => ?_
        refine r_iast (pc := 282) X r1_258 g281 k282 (dl_at t_X25_findLines 164 rfl) (fun h282 E282 => ?_)
        refine r_iincN (pc := 283) X (i := 1) (q := 1) (n := 1) (x := x1_258) (b := 0) (w := rv D a0) (rest := []) rfl r1_258 (r32_c rfl) (Nat.le_of_ble_eq_true rfl) [0] rfl (by decide) rv_cat rfl (dl_at t_X25_findLines 165 rfl) fun x1_283 r1_283 => ?_
        refine g_goto (pc := 286) X (off := (-28)) (tgt := 258) rfl (dl_at t_X25_findLines 166 rfl) ?_
        refine g_ls (ls2 := [(0, rv D a0), (1, iv x1_283)]) [1, 0] rfl ?_
        exact g_at fun Q hQ => hQ ⟨r1_283, (E_258.trans E282)⟩
      · rintro h_289 E_289
        try dsimp only [sE]
        refine g_iconst (pc := 289) X (n := 0) (dl_at t_X25_findLines 167 rfl) ?_
        refine g_ltz (Or.inl rfl) fun x1_290 r1_290 => ?_
        refine g_istore_nN (pc := 290) X (j := 1) (i := 1) (x := x1_290) (b := 0) (w := rv D a0) (rest := []) rfl (Nat.le_of_ble_eq_true rfl) [0] rfl (by decide) rv_cat rfl (dl_at t_X25_findLines 168 rfl) ?_
        refine g_ls (ls2 := [(0, rv D a0), (1, iv x1_290)]) [1, 0] rfl ?_
        refine g_loop0F (fun (q : Int × Hp) => [(0, rv D a0), (1, iv q.1)]) (fun (q : Int × Hp) => q.2) (fun (q : Int × Hp) => r32 q.1 ∧ Ext h_289 q.2) (x1_290, h_289) ⟨(r32_z r1_290), (Ext.refl _)⟩ ?_ (fun _ => rfl)
        · rintro ⟨x1_291, h_291⟩ ⟨r1_291, E_291⟩
          try dsimp only
          unfold m_X25_findLines_l291
          refine g_iload_n (pc := 291) X (j := 1) (i := 1) (q := 1) (x := x1_291) rfl rfl (dl_at t_X25_findLines 169 rfl) ?_
          refine g_aload_n (pc := 292) X (j := 0) (i := 0) (q := 0) (x := a0) rfl rfl (dl_at t_X25_findLines 170 rfl) ?_
          have k293 := kx (E_119.trans (E_256.trans (E_289.trans E_291))) (by decide) hk
          refine r_geti (pc := 293) X fX25_54 k293 q3840 (dl_at t_X25_findLines 171 rfl) fun g293 => ?_
          refine g_icmpge (pc := 296) X r1_291 g293 (off := 26) (tgt := 322) rfl (dl_at t_X25_findLines 172 rfl) (fun _ => ?_) (fun _ => ?_)
          · exact g_at fun Q hQ => (g_vret (pc := 322) X (v := 0) rfl rfl (dl_at t_X25_findLines 186 rfl)) _ Q rfl hQ
          refine g_aload_n (pc := 299) X (j := 0) (i := 0) (q := 0) (x := a0) rfl rfl (dl_at t_X25_findLines 173 rfl) ?_
          refine r_getr (pc := 300) X fX25_61 k293 q3854 (dl_at t_X25_findLines 174 rfl) ?_
          refine g_iload_n (pc := 303) X (j := 1) (i := 1) (q := 1) (x := x1_291) rfl rfl (dl_at t_X25_findLines 175 rfl) ?_
          refine g_aload_n (pc := 304) X (j := 0) (i := 0) (q := 0) (x := a0) rfl rfl (dl_at t_X25_findLines 176 rfl) ?_
          refine r_getr (pc := 305) X fX25_77 k293 q3875 (dl_at t_X25_findLines 177 rfl) ?_
          refine g_aload_n (pc := 308) X (j := 0) (i := 0) (q := 0) (x := a0) rfl rfl (dl_at t_X25_findLines 178 rfl) ?_
          refine r_getr (pc := 309) X fX25_60 k293 q3852 (dl_at t_X25_findLines 179 rfl) ?_
          refine g_iload_n (pc := 312) X (j := 1) (i := 1) (q := 1) (x := x1_291) rfl rfl (dl_at t_X25_findLines 180 rfl) ?_
          refine g_gd fun k313 => ?_
          refine g_iald (pc := 313) X r1_291 k313 (dl_at t_X25_findLines 181 rfl) fun g313 => ?_
          refine g_gd fun k314 => ?_
          refine g_iald (pc := 314) X g313 k314 (dl_at t_X25_findLines 182 rfl) fun g314 => ?_
          refine g_gd fun k315 => ?_
          refine r_iast (pc := 315) X r1_291 g314 k315 (dl_at t_X25_findLines 183 rfl) (fun h315 E315 => ?_)
          refine r_iincN (pc := 316) X (i := 1) (q := 1) (n := 1) (x := x1_291) (b := 0) (w := rv D a0) (rest := []) rfl r1_291 (r32_c rfl) (Nat.le_of_ble_eq_true rfl) [0] rfl (by decide) rv_cat rfl (dl_at t_X25_findLines 184 rfl) fun x1_316 r1_316 => ?_
          refine g_goto (pc := 319) X (off := (-28)) (tgt := 291) rfl (dl_at t_X25_findLines 185 rfl) ?_
          refine g_ls (ls2 := [(0, rv D a0), (1, iv x1_316)]) [1, 0] rfl ?_
          exact g_at fun Q hQ => hQ ⟨r1_316, (E_291.trans E315)⟩
def k_X25_longer : List (Nat × Instr × Nat) := [(0, .iconst 2, 1), (1, .aload_n 0, 1), (2, .arraylength, 1), (3, .imul, 1), (4, .newarray .int, 2), (6, .astore_n 1, 1), (7, .iconst 0, 1), (8, .istore_n 2, 1), (9, .iload_n 2, 1), (10, .aload_n 0, 1), (11, .arraylength, 1), (12, .if_icmp .ge 15, 3), (15, .aload_n 1, 1), (16, .iload_n 2, 1), (17, .aload_n 0, 1), (18, .iload_n 2, 1), (19, .iaload, 1), (20, .iastore, 1), (21, .iinc 2 1, 3), (24, .goto (-15), 3), (27, .aload_n 1, 1), (28, .areturn, 1)]
theorem t_X25_longer : ∀ q ∈ k_X25_longer, decode cX25_longer q.1 = .ok q.2 := dl_all (by decide +kernel)
noncomputable def m_X25_longer_l9 (a0 a4 x2_9 : Int) (h_9 : Hp) : Option ((Int × Hp) ⊕ ((Int × Hp))) :=
  gd (1 ≤ h_9 a0 (-2) % 16 ∧ h_9 a0 (-2) % 16 ≤ 9) (if (h_9 a0 (-1)) ≤ x2_9 then (some (.inr (a4, h_9)))
  else (gd (h_9 a0 (-2) % 16 = 1 ∧ (0 : Int) ≤ x2_9 ∧ x2_9 < h_9 a0 (-1)) (gd (h_9 a4 (-2) % 16 = 1 ∧ (0 : Int) ≤ x2_9 ∧ x2_9 < h_9 a4 (-1)) (pt h_9 a4 x2_9 (h_9 a0 x2_9) fun h20 =>
  lt_ (w32 (x2_9 + 1)) fun x2_21 =>
  some (.inl (x2_21, h20))))))
noncomputable def m_X25_longer (a0 : Int) (h : Hp) : Option (Int × Hp) :=
  gd (1 ≤ h a0 (-2) % 16 ∧ h a0 (-2) % 16 ≤ 9) (al h 5649 (w32 (2 * (h a0 (-1)))) fun a4 h4 =>
  lt_ 0 fun x2_8 =>
  (lp (fun (q : Int × Hp) => m_X25_longer_l9 a0 a4 q.1 q.2) (x2_8, h4)).bind (fun (x : Int × Hp) => some x))
theorem s_X25_longer {l : Launch} [NoTr l] {D : SD} {a0 : Int} {h : Hp}  {r : Int × Hp} (hm : m_X25_longer a0 h = some r) : Sim l D yX25_longer (Cond.code yX25_longer cX25_longer 3 (Option.some (Jvm.ClassFile.FieldType.array Jvm.ClassFile.FieldType.int))) 0 0 [rv D a0] h 5 ((0, r.1), r.2) := by
  refine Sim.of (fin := fun (v : Int × Hp) => ((0, v.1), v.2)) (lsE := [(0, rv D a0)]) hm rfl cwS_code (la_r la_n) (ll_r ll_n) ?_
  intro p e s m below meth c X hcw hmm hcc hnm hname
  unfold m_X25_longer
  refine g_iconst (pc := 0) X (n := 2) (dl_at t_X25_longer 0 rfl) ?_
  refine g_aload_n (pc := 1) X (j := 0) (i := 0) (q := 0) (x := a0) rfl rfl (dl_at t_X25_longer 1 rfl) ?_
  refine g_gd fun k2 => ?_
  refine g_alen (pc := 2) X k2 (dl_at t_X25_longer 2 rfl) fun g2 => ?_
  refine g_imul (pc := 3) X (r32_c rfl) g2 (dl_at t_X25_longer 3 rfl) ?_
  refine r_newa (pc := 4) X 1 353 (Nat.le_of_ble_eq_true rfl) (Nat.le_of_ble_eq_true rfl) rfl q492 (r32_w _) rfl (dl_at t_X25_longer 4 rfl) fun a4 h4 p4 k4 l4 E4 => ?_
  refine g_astore_nN (pc := 6) X (j := 1) (i := 1) (x := a4) (b := 0) (w := rv D a0) (rest := []) rfl (Nat.le_of_ble_eq_true rfl) [0] rfl (by decide) rv_cat rfl (dl_at t_X25_longer 5 rfl) ?_
  refine g_iconst (pc := 7) X (n := 0) (dl_at t_X25_longer 6 rfl) ?_
  refine g_ltz (Or.inl rfl) fun x2_8 r2_8 => ?_
  refine g_istore_nN (pc := 8) X (j := 2) (i := 2) (x := x2_8) (b := 1) (w := rv D a4) (rest := [(0, rv D a0)]) rfl (Nat.le_of_ble_eq_true rfl) [0, 1] rfl (by decide) rv_cat rfl (dl_at t_X25_longer 7 rfl) ?_
  refine g_ls (ls2 := [(0, rv D a0), (1, rv D a4), (2, iv x2_8)]) [2, 1, 0] rfl ?_
  refine g_loop0F (fun (q : Int × Hp) => [(0, rv D a0), (1, rv D a4), (2, iv q.1)]) (fun (q : Int × Hp) => q.2) (fun (q : Int × Hp) => r32 q.1 ∧ Ext h4 q.2) (x2_8, h4) ⟨(r32_z r2_8), (Ext.refl _)⟩ ?_ (fun _ => rfl)
  · rintro ⟨x2_9, h_9⟩ ⟨r2_9, E_9⟩
    try dsimp only
    unfold m_X25_longer_l9
    refine g_iload_n (pc := 9) X (j := 2) (i := 2) (q := 2) (x := x2_9) rfl rfl (dl_at t_X25_longer 8 rfl) ?_
    refine g_aload_n (pc := 10) X (j := 0) (i := 0) (q := 0) (x := a0) rfl rfl (dl_at t_X25_longer 9 rfl) ?_
    refine g_gd fun k11 => ?_
    refine g_alen (pc := 11) X k11 (dl_at t_X25_longer 10 rfl) fun g11 => ?_
    refine g_icmpge (pc := 12) X r2_9 g11 (off := 15) (tgt := 27) rfl (dl_at t_X25_longer 11 rfl) (fun _ => ?_) (fun _ => ?_)
    · refine g_aload_n (pc := 27) X (j := 1) (i := 1) (q := 1) (x := a4) rfl rfl (dl_at t_X25_longer 20 rfl) ?_
      exact g_at fun Q hQ => (g_aret (pc := 28) X (Or.inr ⟨_, rfl⟩) rfl rfl (dl_at t_X25_longer 21 rfl)) _ Q rfl hQ
    refine g_aload_n (pc := 15) X (j := 1) (i := 1) (q := 1) (x := a4) rfl rfl (dl_at t_X25_longer 12 rfl) ?_
    refine g_iload_n (pc := 16) X (j := 2) (i := 2) (q := 2) (x := x2_9) rfl rfl (dl_at t_X25_longer 13 rfl) ?_
    refine g_aload_n (pc := 17) X (j := 0) (i := 0) (q := 0) (x := a0) rfl rfl (dl_at t_X25_longer 14 rfl) ?_
    refine g_iload_n (pc := 18) X (j := 2) (i := 2) (q := 2) (x := x2_9) rfl rfl (dl_at t_X25_longer 15 rfl) ?_
    refine g_gd fun k19 => ?_
    refine g_iald (pc := 19) X r2_9 k19 (dl_at t_X25_longer 16 rfl) fun g19 => ?_
    refine g_gd fun k20 => ?_
    refine r_iast (pc := 20) X r2_9 g19 k20 (dl_at t_X25_longer 17 rfl) (fun h20 E20 => ?_)
    refine r_iincN (pc := 21) X (i := 2) (q := 2) (n := 1) (x := x2_9) (b := 1) (w := rv D a4) (rest := [(0, rv D a0)]) rfl r2_9 (r32_c rfl) (Nat.le_of_ble_eq_true rfl) [1, 0] rfl (by decide) rv_cat rfl (dl_at t_X25_longer 18 rfl) fun x2_21 r2_21 => ?_
    refine g_goto (pc := 24) X (off := (-15)) (tgt := 9) rfl (dl_at t_X25_longer 19 rfl) ?_
    refine g_ls (ls2 := [(0, rv D a0), (1, rv D a4), (2, iv x2_21)]) [2, 1, 0] rfl ?_
    exact g_at fun Q hQ => hQ ⟨r2_21, (E_9.trans E20)⟩
def k_X25_state : List (Nat × Instr × Nat) := [(0, .aload_n 0, 1), (1, .getfield 793, 3), (4, .sipush 20000, 3), (7, .if_icmp .ne 11, 3), (10, .new 451, 3), (13, .dup, 1), (14, .invokespecial 453, 3), (17, .athrow, 1), (18, .aload_n 0, 1), (19, .getfield 793, 3), (22, .aload_n 0, 1), (23, .getfield 307, 3), (26, .arraylength, 1), (27, .if_icmp .ne 106, 3), (30, .aload_n 0, 1), (31, .aload_n 0, 1), (32, .getfield 307, 3), (35, .invokestatic 796, 3), (38, .putfield 307, 3), (41, .aload_n 0, 1), (42, .aload_n 0, 1), (43, .getfield 310, 3), (46, .invokestatic 796, 3), (49, .putfield 310, 3), (52, .aload_n 0, 1), (53, .aload_n 0, 1), (54, .getfield 313, 3), (57, .invokestatic 796, 3), (60, .putfield 313, 3), (63, .aload_n 0, 1), (64, .aload_n 0, 1), (65, .getfield 316, 3), (68, .invokestatic 796, 3), (71, .putfield 316, 3), (74, .aload_n 0, 1), (75, .aload_n 0, 1), (76, .getfield 319, 3), (79, .invokestatic 796, 3), (82, .putfield 319, 3), (85, .iconst 2, 1), (86, .aload_n 0, 1), (87, .getfield 322, 3), (90, .arraylength, 1), (91, .imul, 1), (92, .newarray .long, 2), (94, .astore 7, 2), (96, .iconst 0, 1), (97, .istore 8, 2), (99, .iload 8, 2), (101, .aload_n 0, 1), (102, .getfield 322, 3), (105, .arraylength, 1), (106, .if_icmp .ge 21, 3), (109, .aload 7, 2), (111, .iload 8, 2), (113, .aload_n 0, 1), (114, .getfield 322, 3), (117, .iload 8, 2), (119, .laload, 1), (120, .lastore, 1), (121, .iinc 8 1, 3), (124, .goto (-25), 3), (127, .aload_n 0, 1), (128, .aload 7, 2), (130, .putfield 322, 3), (133, .aload_n 0, 1), (134, .getfield 307, 3), (137, .aload_n 0, 1), (138, .getfield 793, 3), (141, .iload_n 1, 1), (142, .iastore, 1), (143, .aload_n 0, 1), (144, .getfield 310, 3), (147, .aload_n 0, 1), (148, .getfield 793, 3), (151, .iload_n 2, 1), (152, .iastore, 1), (153, .aload_n 0, 1), (154, .getfield 313, 3), (157, .aload_n 0, 1), (158, .getfield 793, 3), (161, .iload_n 3, 1), (162, .iastore, 1), (163, .aload_n 0, 1), (164, .getfield 322, 3), (167, .aload_n 0, 1), (168, .getfield 793, 3), (171, .lload 4, 2), (173, .lastore, 1), (174, .aload_n 0, 1), (175, .getfield 316, 3), (178, .aload_n 0, 1), (179, .getfield 793, 3), (182, .iload 6, 2), (184, .iastore, 1), (185, .aload_n 0, 1), (186, .getfield 319, 3), (189, .aload_n 0, 1), (190, .getfield 793, 3), (193, .aload_n 0, 1), (194, .getfield 304, 3), (197, .iload_n 1, 1), (198, .iaload, 1), (199, .iastore, 1), (200, .aload_n 0, 1), (201, .getfield 304, 3), (204, .iload_n 1, 1), (205, .aload_n 0, 1), (206, .getfield 793, 3), (209, .iastore, 1), (210, .aload_n 0, 1), (211, .dup, 1), (212, .getfield 793, 3), (215, .iconst 1, 1), (216, .iadd, 1), (217, .putfield 793, 3), (220, .aload_n 0, 1), (221, .getfield 793, 3), (224, .iconst 1, 1), (225, .isub, 1), (226, .ireturn, 1)]
theorem t_X25_state : ∀ q ∈ k_X25_state, decode cX25_state q.1 = .ok q.2 := dl_all (by decide +kernel)
noncomputable def m_X25_state_j133 (a0 a1 a2 a3 a4 a6 : Int) (h_133 : Hp) : Option ((Int × Int) × Hp) :=
  gd (h_133 (h_133 a0 127) (-2) % 16 = 1 ∧ (0 : Int) ≤ (h_133 a0 126) ∧ (h_133 a0 126) < h_133 (h_133 a0 127) (-1)) (pt h_133 (h_133 a0 127) (h_133 a0 126) a1 fun h142 =>
  gd (h142 (h142 a0 128) (-2) % 16 = 1 ∧ (0 : Int) ≤ (h142 a0 126) ∧ (h142 a0 126) < h142 (h142 a0 128) (-1)) (pt h142 (h142 a0 128) (h142 a0 126) a2 fun h152 =>
  gd (h152 (h152 a0 129) (-2) % 16 = 1 ∧ (0 : Int) ≤ (h152 a0 126) ∧ (h152 a0 126) < h152 (h152 a0 129) (-1)) (pt h152 (h152 a0 129) (h152 a0 126) a3 fun h162 =>
  gd (h162 (h162 a0 132) (-2) % 16 = 4 ∧ (0 : Int) ≤ (h162 a0 126) ∧ (h162 a0 126) < h162 (h162 a0 132) (-1)) (pt h162 (h162 a0 132) (h162 a0 126) a4 fun h173 =>
  gd (h173 (h173 a0 130) (-2) % 16 = 1 ∧ (0 : Int) ≤ (h173 a0 126) ∧ (h173 a0 126) < h173 (h173 a0 130) (-1)) (pt h173 (h173 a0 130) (h173 a0 126) a6 fun h184 =>
  gd (h184 (h184 a0 125) (-2) % 16 = 1 ∧ (0 : Int) ≤ a1 ∧ a1 < h184 (h184 a0 125) (-1)) (gd (h184 (h184 a0 131) (-2) % 16 = 1 ∧ (0 : Int) ≤ (h184 a0 126) ∧ (h184 a0 126) < h184 (h184 a0 131) (-1)) (pt h184 (h184 a0 131) (h184 a0 126) (h184 (h184 a0 125) a1) fun h199 =>
  gd (h199 (h199 a0 125) (-2) % 16 = 1 ∧ (0 : Int) ≤ a1 ∧ a1 < h199 (h199 a0 125) (-1)) (pt h199 (h199 a0 125) a1 (h199 a0 126) fun h209 =>
  pt h209 a0 126 (w32 ((h209 a0 126) + 1)) fun h217 =>
  some ((0, (w32 ((h217 a0 126) - 1))), h217)))))))))
noncomputable def m_X25_state_l99 (a0 a92 x8_99 : Int) (h_99 : Hp) : Option ((Int × Hp) ⊕ ((Hp))) :=
  gd (1 ≤ h_99 (h_99 a0 132) (-2) % 16 ∧ h_99 (h_99 a0 132) (-2) % 16 ≤ 9) (if (h_99 (h_99 a0 132) (-1)) ≤ x8_99 then (some (.inr h_99))
  else (gd (h_99 (h_99 a0 132) (-2) % 16 = 4 ∧ (0 : Int) ≤ x8_99 ∧ x8_99 < h_99 (h_99 a0 132) (-1)) (gd (h_99 a92 (-2) % 16 = 4 ∧ (0 : Int) ≤ x8_99 ∧ x8_99 < h_99 a92 (-1)) (pt h_99 a92 x8_99 (h_99 (h_99 a0 132) x8_99) fun h120 =>
  lt_ (w32 (x8_99 + 1)) fun x8_121 =>
  some (.inl (x8_121, h120))))))
noncomputable def m_X25_state (a0 a1 a2 a3 a4 a6 : Int) (h : Hp) : Option ((Int × Int) × Hp) :=
  if (h a0 126) ≠ 20000 then (gd (1 ≤ h (h a0 127) (-2) % 16 ∧ h (h a0 127) (-2) % 16 ≤ 9) (if (h a0 126) ≠ (h (h a0 127) (-1)) then (m_X25_state_j133 a0 a1 a2 a3 a4 a6 h)
  else (bW (m_X25_longer (h a0 127) h) fun v35 h35 =>
  pt h35 a0 127 v35 fun h38 =>
  bW (m_X25_longer (h38 a0 128) h38) fun v46 h46 =>
  pt h46 a0 128 v46 fun h49 =>
  bW (m_X25_longer (h49 a0 129) h49) fun v57 h57 =>
  pt h57 a0 129 v57 fun h60 =>
  bW (m_X25_longer (h60 a0 130) h60) fun v68 h68 =>
  pt h68 a0 130 v68 fun h71 =>
  bW (m_X25_longer (h71 a0 131) h71) fun v79 h79 =>
  pt h79 a0 131 v79 fun h82 =>
  gd (1 ≤ h82 (h82 a0 132) (-2) % 16 ∧ h82 (h82 a0 132) (-2) % 16 ≤ 9) (al h82 5668 (w32 (2 * (h82 (h82 a0 132) (-1)))) fun a92 h92 =>
  lt_ 0 fun x8_97 =>
  (lp (fun (q : Int × Hp) => m_X25_state_l99 a0 a92 q.1 q.2) (x8_97, h92)).bind (fun (y127 : Hp) => pt y127 a0 132 a92 fun h130 =>
  m_X25_state_j133 a0 a1 a2 a3 a4 a6 h130)))))
  else (al h 464 6 fun a10 h10 =>
  (x_init0 a10 h10).bind fun h14 =>
  some ((1, a10), h14))
theorem s_X25_state {l : Launch} [NoTr l] {D : SD} {a0 a1 a2 a3 a4 a6 : Int} {h : Hp} (hk : h a0 (-2) = 416) (r1 : r32 a1) (r2 : r32 a2) (r3 : r32 a3) (r4 : r64 a4) (r6 : r32 a6) {r : (Int × Int) × Hp} (hm : m_X25_state a0 a1 a2 a3 a4 a6 h = some r) : Sim l D yX25_state (Cond.code yX25_state cX25_state 9 (Option.some Jvm.ClassFile.FieldType.int)) 9 336 [rv D a0, iv a1, iv a2, iv a3, jv a4, iv a6] h 1 r := by
  refine Sim.of (fin := fun (v : (Int × Int) × Hp) => v) (lsE := [(0, rv D a0), (1, iv a1), (2, iv a2), (3, iv a3), (4, jv a4), (6, iv a6)]) hm rfl cwS_code (la_r (la_i (la_i (la_i (la_j (la_i la_n)))))) (ll_r (ll_i (ll_i (ll_i (ll_j (ll_i ll_n)))))) ?_
  intro p e s m below meth c X hcw hmm hcc hnm hname
  have hno := noh hcw hnm hmm hcc
  unfold m_X25_state
  refine g_aload_n (pc := 0) X (j := 0) (i := 0) (q := 0) (x := a0) rfl rfl (dl_at t_X25_state 0 rfl) ?_
  refine r_geti (pc := 1) X fX25_126 hk q3938 (dl_at t_X25_state 1 rfl) fun g1 => ?_
  refine g_sipush (pc := 4) X (n := 20000) rfl (dl_at t_X25_state 2 rfl) ?_
  refine g_icmpne (pc := 7) X g1 (r32_c rfl) (off := 11) (tgt := 18) rfl (dl_at t_X25_state 3 rfl) (fun _ => ?_) (fun _ => ?_)
  · refine g_aload_n (pc := 18) X (j := 0) (i := 0) (q := 0) (x := a0) rfl rfl (dl_at t_X25_state 8 rfl) ?_
    refine r_geti (pc := 19) X fX25_126 hk q3938 (dl_at t_X25_state 9 rfl) fun g19 => ?_
    refine g_aload_n (pc := 22) X (j := 0) (i := 0) (q := 0) (x := a0) rfl rfl (dl_at t_X25_state 10 rfl) ?_
    refine r_getr (pc := 23) X fX25_127 hk q3939 (dl_at t_X25_state 11 rfl) ?_
    refine g_gd fun k26 => ?_
    refine g_alen (pc := 26) X k26 (dl_at t_X25_state 12 rfl) fun g26 => ?_
    refine g_join (γ := Hp) (fun q => Ext h q) 133 (fun q => [(0, rv D a0), (1, iv a1), (2, iv a2), (3, iv a3), (4, jv a4), (6, iv a6)]) (fun q => []) (fun q => q) (fun q => m_X25_state_j133 a0 a1 a2 a3 a4 a6 q) ?_ ?_
    · rintro h_133 E_133
      try dsimp only
      unfold m_X25_state_j133
      refine g_aload_n (pc := 133) X (j := 0) (i := 0) (q := 0) (x := a0) rfl rfl (dl_at t_X25_state 65 rfl) ?_
      have k134 := kx E_133 (by decide) hk
      refine r_getr (pc := 134) X fX25_127 k134 q3939 (dl_at t_X25_state 66 rfl) ?_
      refine g_aload_n (pc := 137) X (j := 0) (i := 0) (q := 0) (x := a0) rfl rfl (dl_at t_X25_state 67 rfl) ?_
      refine r_geti (pc := 138) X fX25_126 k134 q3938 (dl_at t_X25_state 68 rfl) fun g138 => ?_
      refine g_iload_n (pc := 141) X (j := 1) (i := 1) (q := 1) (x := a1) rfl rfl (dl_at t_X25_state 69 rfl) ?_
      refine g_gd fun k142 => ?_
      refine r_iast (pc := 142) X g138 r1 k142 (dl_at t_X25_state 70 rfl) (fun h142 E142 => ?_)
      refine g_aload_n (pc := 143) X (j := 0) (i := 0) (q := 0) (x := a0) rfl rfl (dl_at t_X25_state 71 rfl) ?_
      have k144 := kx E142 (by decide) k134
      refine r_getr (pc := 144) X fX25_128 k144 q3940 (dl_at t_X25_state 72 rfl) ?_
      refine g_aload_n (pc := 147) X (j := 0) (i := 0) (q := 0) (x := a0) rfl rfl (dl_at t_X25_state 73 rfl) ?_
      refine r_geti (pc := 148) X fX25_126 k144 q3938 (dl_at t_X25_state 74 rfl) fun g148 => ?_
      refine g_iload_n (pc := 151) X (j := 2) (i := 2) (q := 2) (x := a2) rfl rfl (dl_at t_X25_state 75 rfl) ?_
      refine g_gd fun k152 => ?_
      refine r_iast (pc := 152) X g148 r2 k152 (dl_at t_X25_state 76 rfl) (fun h152 E152 => ?_)
      refine g_aload_n (pc := 153) X (j := 0) (i := 0) (q := 0) (x := a0) rfl rfl (dl_at t_X25_state 77 rfl) ?_
      have k154 := kx E152 (by decide) k144
      refine r_getr (pc := 154) X fX25_129 k154 q3941 (dl_at t_X25_state 78 rfl) ?_
      refine g_aload_n (pc := 157) X (j := 0) (i := 0) (q := 0) (x := a0) rfl rfl (dl_at t_X25_state 79 rfl) ?_
      refine r_geti (pc := 158) X fX25_126 k154 q3938 (dl_at t_X25_state 80 rfl) fun g158 => ?_
      refine g_iload_n (pc := 161) X (j := 3) (i := 3) (q := 3) (x := a3) rfl rfl (dl_at t_X25_state 81 rfl) ?_
      refine g_gd fun k162 => ?_
      refine r_iast (pc := 162) X g158 r3 k162 (dl_at t_X25_state 82 rfl) (fun h162 E162 => ?_)
      refine g_aload_n (pc := 163) X (j := 0) (i := 0) (q := 0) (x := a0) rfl rfl (dl_at t_X25_state 83 rfl) ?_
      have k164 := kx E162 (by decide) k154
      refine r_getr (pc := 164) X fX25_132 k164 q3944 (dl_at t_X25_state 84 rfl) ?_
      refine g_aload_n (pc := 167) X (j := 0) (i := 0) (q := 0) (x := a0) rfl rfl (dl_at t_X25_state 85 rfl) ?_
      refine r_geti (pc := 168) X fX25_126 k164 q3938 (dl_at t_X25_state 86 rfl) fun g168 => ?_
      refine g_lload (pc := 171) X (i := 4) (q := 4) (x := a4) rfl (dl_at t_X25_state 87 rfl) ?_
      refine g_gd fun k173 => ?_
      refine r_last (pc := 173) X g168 r4 k173 (dl_at t_X25_state 88 rfl) (fun h173 E173 => ?_)
      refine g_aload_n (pc := 174) X (j := 0) (i := 0) (q := 0) (x := a0) rfl rfl (dl_at t_X25_state 89 rfl) ?_
      have k175 := kx E173 (by decide) k164
      refine r_getr (pc := 175) X fX25_130 k175 q3942 (dl_at t_X25_state 90 rfl) ?_
      refine g_aload_n (pc := 178) X (j := 0) (i := 0) (q := 0) (x := a0) rfl rfl (dl_at t_X25_state 91 rfl) ?_
      refine r_geti (pc := 179) X fX25_126 k175 q3938 (dl_at t_X25_state 92 rfl) fun g179 => ?_
      refine g_iload (pc := 182) X (i := 6) (q := 5) (x := a6) rfl (dl_at t_X25_state 93 rfl) ?_
      refine g_gd fun k184 => ?_
      refine r_iast (pc := 184) X g179 r6 k184 (dl_at t_X25_state 94 rfl) (fun h184 E184 => ?_)
      refine g_aload_n (pc := 185) X (j := 0) (i := 0) (q := 0) (x := a0) rfl rfl (dl_at t_X25_state 95 rfl) ?_
      have k186 := kx E184 (by decide) k175
      refine r_getr (pc := 186) X fX25_131 k186 q3943 (dl_at t_X25_state 96 rfl) ?_
      refine g_aload_n (pc := 189) X (j := 0) (i := 0) (q := 0) (x := a0) rfl rfl (dl_at t_X25_state 97 rfl) ?_
      refine r_geti (pc := 190) X fX25_126 k186 q3938 (dl_at t_X25_state 98 rfl) fun g190 => ?_
      refine g_aload_n (pc := 193) X (j := 0) (i := 0) (q := 0) (x := a0) rfl rfl (dl_at t_X25_state 99 rfl) ?_
      refine r_getr (pc := 194) X fX25_125 k186 q3937 (dl_at t_X25_state 100 rfl) ?_
      refine g_iload_n (pc := 197) X (j := 1) (i := 1) (q := 1) (x := a1) rfl rfl (dl_at t_X25_state 101 rfl) ?_
      refine g_gd fun k198 => ?_
      refine g_iald (pc := 198) X r1 k198 (dl_at t_X25_state 102 rfl) fun g198 => ?_
      refine g_gd fun k199 => ?_
      refine r_iast (pc := 199) X g190 g198 k199 (dl_at t_X25_state 103 rfl) (fun h199 E199 => ?_)
      refine g_aload_n (pc := 200) X (j := 0) (i := 0) (q := 0) (x := a0) rfl rfl (dl_at t_X25_state 104 rfl) ?_
      have k201 := kx E199 (by decide) k186
      refine r_getr (pc := 201) X fX25_125 k201 q3937 (dl_at t_X25_state 105 rfl) ?_
      refine g_iload_n (pc := 204) X (j := 1) (i := 1) (q := 1) (x := a1) rfl rfl (dl_at t_X25_state 106 rfl) ?_
      refine g_aload_n (pc := 205) X (j := 0) (i := 0) (q := 0) (x := a0) rfl rfl (dl_at t_X25_state 107 rfl) ?_
      refine r_geti (pc := 206) X fX25_126 k201 q3938 (dl_at t_X25_state 108 rfl) fun g206 => ?_
      refine g_gd fun k209 => ?_
      refine r_iast (pc := 209) X r1 g206 k209 (dl_at t_X25_state 109 rfl) (fun h209 E209 => ?_)
      refine g_aload_n (pc := 210) X (j := 0) (i := 0) (q := 0) (x := a0) rfl rfl (dl_at t_X25_state 110 rfl) ?_
      refine g_dup (pc := 211) X rv_cat (dl_at t_X25_state 111 rfl) ?_
      have k212 := kx E209 (by decide) k201
      refine r_geti (pc := 212) X fX25_126 k212 q3938 (dl_at t_X25_state 112 rfl) fun g212 => ?_
      refine g_iconst (pc := 215) X (n := 1) (dl_at t_X25_state 113 rfl) ?_
      refine g_iadd (pc := 216) X g212 (r32_c rfl) (dl_at t_X25_state 114 rfl) ?_
      refine r_puti (pc := 217) X fX25_126 k212 q3938 rfl (dl_at t_X25_state 115 rfl) (r32_w _) (fun h217 E217 => ?_)
      refine g_aload_n (pc := 220) X (j := 0) (i := 0) (q := 0) (x := a0) rfl rfl (dl_at t_X25_state 116 rfl) ?_
      have k221 := kx E217 (by decide) k212
      refine r_geti (pc := 221) X fX25_126 k221 q3938 (dl_at t_X25_state 117 rfl) fun g221 => ?_
      refine g_iconst (pc := 224) X (n := 1) (dl_at t_X25_state 118 rfl) ?_
      refine g_isub (pc := 225) X g221 (r32_c rfl) (dl_at t_X25_state 119 rfl) ?_
      exact g_iret (pc := 226) X (r32_w _) rfl rfl (dl_at t_X25_state 120 rfl)
    intro J133
    refine g_icmpne (pc := 27) X g19 g26 (off := 106) (tgt := 133) rfl (dl_at t_X25_state 13 rfl) (fun _ => ?_) (fun _ => ?_)
    · exact J133 h (Ext.refl _)
    refine g_aload_n (pc := 30) X (j := 0) (i := 0) (q := 0) (x := a0) rfl rfl (dl_at t_X25_state 14 rfl) ?_
    refine g_aload_n (pc := 31) X (j := 0) (i := 0) (q := 0) (x := a0) rfl rfl (dl_at t_X25_state 15 rfl) ?_
    refine r_getr (pc := 32) X fX25_127 hk q3939 (dl_at t_X25_state 16 rfl) ?_
    refine r_callWr (pc := 35) X (fun _ hv => s_X25_longer hv) cw_code q5074 q379 (in_Sc X (As := [rv D (h a0 127)]) (Or.inl q5072) q5073 q379 q5074 ⟨by decide, by decide⟩ rfl (dl_at t_X25_state 17 rfl)) (dl_at t_X25_state 17 rfl) (cat24 (st := [rv D a0]) (Nat.le_of_ble_eq_true rfl)) (Nat.le_of_ble_eq_true rfl) (Nat.le_of_ble_eq_true rfl) fun v35 h35 E35 => ?_
    have k38 := kx E35 (by decide) hk
    refine r_putr (pc := 38) X fX25_127 k38 q3939 rfl (dl_at t_X25_state 18 rfl)  (fun h38 E38 => ?_)
    refine g_aload_n (pc := 41) X (j := 0) (i := 0) (q := 0) (x := a0) rfl rfl (dl_at t_X25_state 19 rfl) ?_
    refine g_aload_n (pc := 42) X (j := 0) (i := 0) (q := 0) (x := a0) rfl rfl (dl_at t_X25_state 20 rfl) ?_
    have k43 := kx E38 (by decide) k38
    refine r_getr (pc := 43) X fX25_128 k43 q3940 (dl_at t_X25_state 21 rfl) ?_
    refine r_callWr (pc := 46) X (fun _ hv => s_X25_longer hv) cw_code q5074 q379 (in_Sc X (As := [rv D (h38 a0 128)]) (Or.inl q5072) q5073 q379 q5074 ⟨by decide, by decide⟩ rfl (dl_at t_X25_state 22 rfl)) (dl_at t_X25_state 22 rfl) (cat24 (st := [rv D a0]) (Nat.le_of_ble_eq_true rfl)) (Nat.le_of_ble_eq_true rfl) (Nat.le_of_ble_eq_true rfl) fun v46 h46 E46 => ?_
    have k49 := kx E46 (by decide) k43
    refine r_putr (pc := 49) X fX25_128 k49 q3940 rfl (dl_at t_X25_state 23 rfl)  (fun h49 E49 => ?_)
    refine g_aload_n (pc := 52) X (j := 0) (i := 0) (q := 0) (x := a0) rfl rfl (dl_at t_X25_state 24 rfl) ?_
    refine g_aload_n (pc := 53) X (j := 0) (i := 0) (q := 0) (x := a0) rfl rfl (dl_at t_X25_state 25 rfl) ?_
    have k54 := kx E49 (by decide) k49
    refine r_getr (pc := 54) X fX25_129 k54 q3941 (dl_at t_X25_state 26 rfl) ?_
    refine r_callWr (pc := 57) X (fun _ hv => s_X25_longer hv) cw_code q5074 q379 (in_Sc X (As := [rv D (h49 a0 129)]) (Or.inl q5072) q5073 q379 q5074 ⟨by decide, by decide⟩ rfl (dl_at t_X25_state 27 rfl)) (dl_at t_X25_state 27 rfl) (cat24 (st := [rv D a0]) (Nat.le_of_ble_eq_true rfl)) (Nat.le_of_ble_eq_true rfl) (Nat.le_of_ble_eq_true rfl) fun v57 h57 E57 => ?_
    have k60 := kx E57 (by decide) k54
    refine r_putr (pc := 60) X fX25_129 k60 q3941 rfl (dl_at t_X25_state 28 rfl)  (fun h60 E60 => ?_)
    refine g_aload_n (pc := 63) X (j := 0) (i := 0) (q := 0) (x := a0) rfl rfl (dl_at t_X25_state 29 rfl) ?_
    refine g_aload_n (pc := 64) X (j := 0) (i := 0) (q := 0) (x := a0) rfl rfl (dl_at t_X25_state 30 rfl) ?_
    have k65 := kx E60 (by decide) k60
    refine r_getr (pc := 65) X fX25_130 k65 q3942 (dl_at t_X25_state 31 rfl) ?_
    refine r_callWr (pc := 68) X (fun _ hv => s_X25_longer hv) cw_code q5074 q379 (in_Sc X (As := [rv D (h60 a0 130)]) (Or.inl q5072) q5073 q379 q5074 ⟨by decide, by decide⟩ rfl (dl_at t_X25_state 32 rfl)) (dl_at t_X25_state 32 rfl) (cat24 (st := [rv D a0]) (Nat.le_of_ble_eq_true rfl)) (Nat.le_of_ble_eq_true rfl) (Nat.le_of_ble_eq_true rfl) fun v68 h68 E68 => ?_
    have k71 := kx E68 (by decide) k65
    refine r_putr (pc := 71) X fX25_130 k71 q3942 rfl (dl_at t_X25_state 33 rfl)  (fun h71 E71 => ?_)
    refine g_aload_n (pc := 74) X (j := 0) (i := 0) (q := 0) (x := a0) rfl rfl (dl_at t_X25_state 34 rfl) ?_
    refine g_aload_n (pc := 75) X (j := 0) (i := 0) (q := 0) (x := a0) rfl rfl (dl_at t_X25_state 35 rfl) ?_
    have k76 := kx E71 (by decide) k71
    refine r_getr (pc := 76) X fX25_131 k76 q3943 (dl_at t_X25_state 36 rfl) ?_
    refine r_callWr (pc := 79) X (fun _ hv => s_X25_longer hv) cw_code q5074 q379 (in_Sc X (As := [rv D (h71 a0 131)]) (Or.inl q5072) q5073 q379 q5074 ⟨by decide, by decide⟩ rfl (dl_at t_X25_state 37 rfl)) (dl_at t_X25_state 37 rfl) (cat24 (st := [rv D a0]) (Nat.le_of_ble_eq_true rfl)) (Nat.le_of_ble_eq_true rfl) (Nat.le_of_ble_eq_true rfl) fun v79 h79 E79 => ?_
    have k82 := kx E79 (by decide) k76
    refine r_putr (pc := 82) X fX25_131 k82 q3943 rfl (dl_at t_X25_state 38 rfl)  (fun h82 E82 => ?_)
    refine g_iconst (pc := 85) X (n := 2) (dl_at t_X25_state 39 rfl) ?_
    refine g_aload_n (pc := 86) X (j := 0) (i := 0) (q := 0) (x := a0) rfl rfl (dl_at t_X25_state 40 rfl) ?_
    have k87 := kx E82 (by decide) k82
    refine r_getr (pc := 87) X fX25_132 k87 q3944 (dl_at t_X25_state 41 rfl) ?_
    refine g_gd fun k90 => ?_
    refine g_alen (pc := 90) X k90 (dl_at t_X25_state 42 rfl) fun g90 => ?_
    refine g_imul (pc := 91) X (r32_c rfl) g90 (dl_at t_X25_state 43 rfl) ?_
    refine r_newa (pc := 92) X 4 354 (Nat.le_of_ble_eq_true rfl) (Nat.le_of_ble_eq_true rfl) rfl q978 (r32_w _) rfl (dl_at t_X25_state 44 rfl) fun a92 h92 p92 k92 l92 E92 => ?_
    refine g_astoreN (pc := 94) X (i := 7) (x := a92) (b := 6) (w := iv a6) (rest := [(0, rv D a0), (1, iv a1), (2, iv a2), (3, iv a3), (4, jv a4)]) (Nat.le_of_ble_eq_true rfl) [5, 0, 1, 2, 3, 4] rfl (by decide) rfl rfl (dl_at t_X25_state 45 rfl) ?_
    refine g_iconst (pc := 96) X (n := 0) (dl_at t_X25_state 46 rfl) ?_
    refine g_ltz (Or.inl rfl) fun x8_97 r8_97 => ?_
    refine g_istoreN (pc := 97) X (i := 8) (x := x8_97) (b := 7) (w := rv D a92) (rest := [(6, iv a6), (0, rv D a0), (1, iv a1), (2, iv a2), (3, iv a3), (4, jv a4)]) (Nat.le_of_ble_eq_true rfl) [0, 1, 2, 3, 4, 5, 6] rfl (by decide) rv_cat rfl (dl_at t_X25_state 47 rfl) ?_
    refine g_ls (ls2 := [(0, rv D a0), (1, iv a1), (2, iv a2), (3, iv a3), (4, jv a4), (6, iv a6), (7, rv D a92), (8, iv x8_97)]) [3, 4, 5, 6, 7, 2, 1, 0] rfl ?_
    refine g_loop1 (fun (q : Int × Hp) => [(0, rv D a0), (1, iv a1), (2, iv a2), (3, iv a3), (4, jv a4), (6, iv a6), (7, rv D a92), (8, iv q.1)]) (fun (q : Int × Hp) => q.2) (fun (q : Int × Hp) => r32 q.1 ∧ Ext h92 q.2) 127 (fun (y127 : Hp) => [(0, rv D a0), (1, iv a1), (2, iv a2), (3, iv a3), (4, jv a4), (6, iv a6), (7, rv D a92)]) (fun (y127 : Hp) => y127) (fun (y127 : Hp) => Ext h92 y127) (x8_97, h92) ⟨(r32_z r8_97), (Ext.refl _)⟩ ?_ ?_
    · rintro ⟨x8_99, h_99⟩ ⟨r8_99, E_99⟩
      try dsimp only
      unfold m_X25_state_l99
      refine g_iload (pc := 99) X (i := 8) (q := 7) (x := x8_99) rfl (dl_at t_X25_state 48 rfl) ?_
      refine g_aload_n (pc := 101) X (j := 0) (i := 0) (q := 0) (x := a0) rfl rfl (dl_at t_X25_state 49 rfl) ?_
      have k102 := kx (E92.trans E_99) (by decide) k87
      refine r_getr (pc := 102) X fX25_132 k102 q3944 (dl_at t_X25_state 50 rfl) ?_
      refine g_gd fun k105 => ?_
      refine g_alen (pc := 105) X k105 (dl_at t_X25_state 51 rfl) fun g105 => ?_
      refine g_icmpge (pc := 106) X r8_99 g105 (off := 21) (tgt := 127) rfl (dl_at t_X25_state 52 rfl) (fun _ => ?_) (fun _ => ?_)
      · refine g_ls (ls2 := [(0, rv D a0), (1, iv a1), (2, iv a2), (3, iv a3), (4, jv a4), (6, iv a6), (7, rv D a92)]) [0, 1, 2, 3, 4, 5, 6] rfl ?_
        exact g_at fun Q hQ => hQ E_99
      refine g_aload (pc := 109) X (i := 7) (q := 6) (x := a92) rfl (dl_at t_X25_state 53 rfl) ?_
      refine g_iload (pc := 111) X (i := 8) (q := 7) (x := x8_99) rfl (dl_at t_X25_state 54 rfl) ?_
      refine g_aload_n (pc := 113) X (j := 0) (i := 0) (q := 0) (x := a0) rfl rfl (dl_at t_X25_state 55 rfl) ?_
      refine r_getr (pc := 114) X fX25_132 k102 q3944 (dl_at t_X25_state 56 rfl) ?_
      refine g_iload (pc := 117) X (i := 8) (q := 7) (x := x8_99) rfl (dl_at t_X25_state 57 rfl) ?_
      refine g_gd fun k119 => ?_
      refine g_lald (pc := 119) X r8_99 k119 (dl_at t_X25_state 58 rfl) fun g119 => ?_
      refine g_gd fun k120 => ?_
      refine r_last (pc := 120) X r8_99 g119 k120 (dl_at t_X25_state 59 rfl) (fun h120 E120 => ?_)
      refine r_iincN (pc := 121) X (i := 8) (q := 7) (n := 1) (x := x8_99) (b := 7) (w := rv D a92) (rest := [(0, rv D a0), (1, iv a1), (2, iv a2), (3, iv a3), (4, jv a4), (6, iv a6)]) rfl r8_99 (r32_c rfl) (Nat.le_of_ble_eq_true rfl) [6, 0, 1, 2, 3, 4, 5] rfl (by decide) rv_cat rfl (dl_at t_X25_state 60 rfl) fun x8_121 r8_121 => ?_
      refine g_goto (pc := 124) X (off := (-25)) (tgt := 99) rfl (dl_at t_X25_state 61 rfl) ?_
      refine g_ls (ls2 := [(0, rv D a0), (1, iv a1), (2, iv a2), (3, iv a3), (4, jv a4), (6, iv a6), (7, rv D a92), (8, iv x8_121)]) [2, 3, 4, 5, 6, 7, 1, 0] rfl ?_
      exact g_at fun Q hQ => hQ ⟨r8_121, (E_99.trans E120)⟩
    · rintro h_127 E_127
      try dsimp only [sE]
      refine g_aload_n (pc := 127) X (j := 0) (i := 0) (q := 0) (x := a0) rfl rfl (dl_at t_X25_state 62 rfl) ?_
      refine g_aload (pc := 128) X (i := 7) (q := 6) (x := a92) rfl (dl_at t_X25_state 63 rfl) ?_
      have k130 := kx (E92.trans E_127) (by decide) k87
      refine r_putr (pc := 130) X fX25_132 k130 q3944 rfl (dl_at t_X25_state 64 rfl)  (fun h130 E130 => ?_)
      refine g_ls (ls2 := [(0, rv D a0), (1, iv a1), (2, iv a2), (3, iv a3), (4, jv a4), (6, iv a6)]) [0, 1, 2, 3, 4, 5] rfl ?_
      exact J133 h130 (E35.trans (E38.trans (E46.trans (E49.trans (E57.trans (E60.trans (E68.trans (E71.trans (E79.trans (E82.trans (E92.trans (E_127.trans E130))))))))))))
  refine r_new (pc := 10) X kX29 q4791 (dl_at t_X25_state 4 rfl) fun a10 h10 p10 k10 E10 => ?_
  refine g_dup (pc := 13) X rv_cat (dl_at t_X25_state 5 rfl) ?_
  refine r_callV (pc := 14) X (fun _ hv => sx_ScholarsPressModel_Beyond_init__V k10 hv) cw_code q4802 q397 (in_I X (As := []) (Int.ne_of_gt p10) rfl (Or.inr ⟨_, nw_in q4800 rfl⟩) q4801 q4802 ⟨by decide, by decide⟩ rfl (dl_at t_X25_state 6 rfl)) (dl_at t_X25_state 6 rfl) (cat24 (st := [rv D a10]) (Nat.le_of_ble_eq_true rfl)) (Nat.le_of_ble_eq_true rfl) (Nat.le_of_ble_eq_true rfl) fun h14 E14 => ?_
  refine g_athrow (pc := 17) X (Int.ne_of_gt p10) (dl_at t_X25_state 7 rfl) ?_
  exact gt_at fun Q hQ => gt_out (Q := Q) X rfl p10 (hno _) _ Q rfl hQ
def k_X25_leadOf : List (Nat × Instr × Nat) := [(0, .aload_n 0, 1), (1, .getfield 14, 3), (4, .aload_n 0, 1), (5, .getfield 154, 3), (8, .iload_n 1, 1), (9, .iaload, 1), (10, .iconst 2, 1), (11, .invokevirtual 477, 3), (14, .ireturn, 1)]
theorem t_X25_leadOf : ∀ q ∈ k_X25_leadOf, decode cX25_leadOf q.1 = .ok q.2 := dl_all (by decide +kernel)
noncomputable def m_X25_leadOf (a0 a1 : Int) (h : Hp) : Option (Int) :=
  gd (h (h a0 55) (-2) % 16 = 1 ∧ (0 : Int) ≤ a1 ∧ a1 < h (h a0 55) (-1)) (gd (h (h a0 0) (-2) = 400) ((m_X24_of (h a0 0) (h (h a0 55) a1) 2 h).bind fun v11 =>
  some v11))
theorem s_X25_leadOf {l : Launch} [NoTr l] {D : SD} {a0 a1 : Int} {h : Hp} (hk : h a0 (-2) = 416) (r1 : r32 a1) {r : Int} (hm : m_X25_leadOf a0 a1 h = some r) : Sim l D yX25_leadOf (Cond.code yX25_leadOf cX25_leadOf 2 (Option.some Jvm.ClassFile.FieldType.int)) 2 74 [rv D a0, iv a1] h 1 ((0, r), h) := by
  refine Sim.of (fin := fun (v : Int) => ((0, v), h)) (lsE := [(0, rv D a0), (1, iv a1)]) hm rfl cwS_code (la_r (la_i la_n)) (ll_r (ll_i ll_n)) ?_
  intro p e s m below meth c X hcw hmm hcc hnm hname
  unfold m_X25_leadOf
  refine g_aload_n (pc := 0) X (j := 0) (i := 0) (q := 0) (x := a0) rfl rfl (dl_at t_X25_leadOf 0 rfl) ?_
  refine r_getr (pc := 1) X fX25_0 hk q3761 (dl_at t_X25_leadOf 1 rfl) ?_
  refine g_aload_n (pc := 4) X (j := 0) (i := 0) (q := 0) (x := a0) rfl rfl (dl_at t_X25_leadOf 2 rfl) ?_
  refine r_getr (pc := 5) X fX25_55 hk q3842 (dl_at t_X25_leadOf 3 rfl) ?_
  refine g_iload_n (pc := 8) X (j := 1) (i := 1) (q := 1) (x := a1) rfl rfl (dl_at t_X25_leadOf 4 rfl) ?_
  refine g_gd fun k9 => ?_
  refine g_iald (pc := 9) X r1 k9 (dl_at t_X25_leadOf 5 rfl) fun g9 => ?_
  refine g_iconst (pc := 10) X (n := 2) (dl_at t_X25_leadOf 6 rfl) ?_
  refine g_gd fun k11 => ?_
  refine r_callRi (pc := 11) X (fun _ hv => s_X24_of k11 g9 (r32_c rfl) hv) cw_code q4704 q378 (in_Vk X (As := [iv (h (h a0 55) a1), iv 2]) kX24 k11 (Or.inl q4844) q4702 q4703 cw_code q4704 ⟨by decide, by decide⟩ rfl (dl_at t_X25_leadOf 7 rfl)) (dl_at t_X25_leadOf 7 rfl) (cat24 (st := []) (Nat.le_of_ble_eq_true rfl)) (Nat.le_of_ble_eq_true rfl) (Nat.le_of_ble_eq_true rfl) fun v11 g11 => ?_
  exact g_iret (pc := 14) X g11 rfl rfl (dl_at t_X25_leadOf 8 rfl)
def k_X25_linesOf : List (Nat × Instr × Nat) := [(0, .aload_n 0, 1), (1, .getfield 50, 3), (4, .aload_n 0, 1), (5, .getfield 160, 3), (8, .iload_n 1, 1), (9, .iaload, 1), (10, .iaload, 1), (11, .ireturn, 1)]
theorem t_X25_linesOf : ∀ q ∈ k_X25_linesOf, decode cX25_linesOf q.1 = .ok q.2 := dl_all (by decide +kernel)
noncomputable def m_X25_linesOf (a0 a1 : Int) (h : Hp) : Option (Int) :=
  gd (h (h a0 57) (-2) % 16 = 1 ∧ (0 : Int) ≤ a1 ∧ a1 < h (h a0 57) (-1)) (gd (h (h a0 17) (-2) % 16 = 1 ∧ (0 : Int) ≤ (h (h a0 57) a1) ∧ (h (h a0 57) a1) < h (h a0 17) (-1)) (some (h (h a0 17) (h (h a0 57) a1))))
theorem s_X25_linesOf {l : Launch} [NoTr l] {D : SD} {a0 a1 : Int} {h : Hp} (hk : h a0 (-2) = 416) (r1 : r32 a1) {r : Int} (hm : m_X25_linesOf a0 a1 h = some r) : Sim l D yX25_linesOf (Cond.code yX25_linesOf cX25_linesOf 2 (Option.some Jvm.ClassFile.FieldType.int)) 0 0 [rv D a0, iv a1] h 1 ((0, r), h) := by
  refine Sim.of (fin := fun (v : Int) => ((0, v), h)) (lsE := [(0, rv D a0), (1, iv a1)]) hm rfl cwS_code (la_r (la_i la_n)) (ll_r (ll_i ll_n)) ?_
  intro p e s m below meth c X hcw hmm hcc hnm hname
  unfold m_X25_linesOf
  refine g_aload_n (pc := 0) X (j := 0) (i := 0) (q := 0) (x := a0) rfl rfl (dl_at t_X25_linesOf 0 rfl) ?_
  refine r_getr (pc := 1) X fX25_17 hk q3786 (dl_at t_X25_linesOf 1 rfl) ?_
  refine g_aload_n (pc := 4) X (j := 0) (i := 0) (q := 0) (x := a0) rfl rfl (dl_at t_X25_linesOf 2 rfl) ?_
  refine r_getr (pc := 5) X fX25_57 hk q3846 (dl_at t_X25_linesOf 3 rfl) ?_
  refine g_iload_n (pc := 8) X (j := 1) (i := 1) (q := 1) (x := a1) rfl rfl (dl_at t_X25_linesOf 4 rfl) ?_
  refine g_gd fun k9 => ?_
  refine g_iald (pc := 9) X r1 k9 (dl_at t_X25_linesOf 5 rfl) fun g9 => ?_
  refine g_gd fun k10 => ?_
  refine g_iald (pc := 10) X g9 k10 (dl_at t_X25_linesOf 6 rfl) fun g10 => ?_
  exact g_iret (pc := 11) X g10 rfl rfl (dl_at t_X25_linesOf 7 rfl)
def k_X25_floatHigh : List (Nat × Instr × Nat) := [(0, .aload_n 0, 1), (1, .getfield 14, 3), (4, .getfield 489, 3), (7, .iconst 1, 1), (8, .iaload, 1), (9, .aload_n 0, 1), (10, .getfield 14, 3), (13, .aload_n 0, 1), (14, .getfield 169, 3), (17, .iload_n 1, 1), (18, .iaload, 1), (19, .bipush 21, 2), (21, .invokevirtual 477, 3), (24, .invokestatic 409, 3), (27, .i2l, 1), (28, .lreturn, 1)]
theorem t_X25_floatHigh : ∀ q ∈ k_X25_floatHigh, decode cX25_floatHigh q.1 = .ok q.2 := dl_all (by decide +kernel)
noncomputable def m_X25_floatHigh (a0 a1 : Int) (h : Hp) : Option (Int) :=
  gd (h (h a0 0) (-2) = 400) (gd (h (h (h a0 0) 2) (-2) % 16 = 1 ∧ (0 : Int) ≤ 1 ∧ 1 < h (h (h a0 0) 2) (-1)) (gd (h (h a0 60) (-2) % 16 = 1 ∧ (0 : Int) ≤ a1 ∧ a1 < h (h a0 60) (-1)) ((m_X24_of (h a0 0) (h (h a0 60) a1) 21 h).bind fun v21 =>
  some (min_ (h (h (h a0 0) 2) 1) v21))))
theorem s_X25_floatHigh {l : Launch} [NoTr l] {D : SD} {a0 a1 : Int} {h : Hp} (hk : h a0 (-2) = 416) (r1 : r32 a1) {r : Int} (hm : m_X25_floatHigh a0 a1 h = some r) : Sim l D yX25_floatHigh (Cond.code yX25_floatHigh cX25_floatHigh 2 (Option.some Jvm.ClassFile.FieldType.long)) 2 74 [rv D a0, iv a1] h 4 ((0, r), h) := by
  refine Sim.of (fin := fun (v : Int) => ((0, v), h)) (lsE := [(0, rv D a0), (1, iv a1)]) hm rfl cwS_code (la_r (la_i la_n)) (ll_r (ll_i ll_n)) ?_
  intro p e s m below meth c X hcw hmm hcc hnm hname
  unfold m_X25_floatHigh
  refine g_aload_n (pc := 0) X (j := 0) (i := 0) (q := 0) (x := a0) rfl rfl (dl_at t_X25_floatHigh 0 rfl) ?_
  refine r_getr (pc := 1) X fX25_0 hk q3761 (dl_at t_X25_floatHigh 1 rfl) ?_
  refine g_gd fun k4 => ?_
  refine r_getr (pc := 4) X fX24_2 k4 q3647 (dl_at t_X25_floatHigh 2 rfl) ?_
  refine g_iconst (pc := 7) X (n := 1) (dl_at t_X25_floatHigh 3 rfl) ?_
  refine g_gd fun k8 => ?_
  refine g_iald (pc := 8) X (r32_c rfl) k8 (dl_at t_X25_floatHigh 4 rfl) fun g8 => ?_
  refine g_aload_n (pc := 9) X (j := 0) (i := 0) (q := 0) (x := a0) rfl rfl (dl_at t_X25_floatHigh 5 rfl) ?_
  refine r_getr (pc := 10) X fX25_0 hk q3761 (dl_at t_X25_floatHigh 6 rfl) ?_
  refine g_aload_n (pc := 13) X (j := 0) (i := 0) (q := 0) (x := a0) rfl rfl (dl_at t_X25_floatHigh 7 rfl) ?_
  refine r_getr (pc := 14) X fX25_60 hk q3852 (dl_at t_X25_floatHigh 8 rfl) ?_
  refine g_iload_n (pc := 17) X (j := 1) (i := 1) (q := 1) (x := a1) rfl rfl (dl_at t_X25_floatHigh 9 rfl) ?_
  refine g_gd fun k18 => ?_
  refine g_iald (pc := 18) X r1 k18 (dl_at t_X25_floatHigh 10 rfl) fun g18 => ?_
  refine g_bipush (pc := 19) X (n := 21) rfl (dl_at t_X25_floatHigh 11 rfl) ?_
  refine r_callRi (pc := 21) X (fun _ hv => s_X24_of k4 g18 (r32_c rfl) hv) cw_code q4704 q378 (in_Vk X (As := [iv (h (h a0 60) a1), iv 21]) kX24 k4 (Or.inl q4844) q4702 q4703 cw_code q4704 ⟨by decide, by decide⟩ rfl (dl_at t_X25_floatHigh 12 rfl)) (dl_at t_X25_floatHigh 12 rfl) (cat24 (st := [iv (h (h (h a0 0) 2) 1)]) (Nat.le_of_ble_eq_true rfl)) (Nat.le_of_ble_eq_true rfl) (Nat.le_of_ble_eq_true rfl) fun v21 g21 => ?_
  refine g_mmin (pc := 24) X g8 g21 q4810 q4811 q398 q4812 (cat24 (st := []) (Nat.le_of_ble_eq_true rfl)) (Nat.le_of_ble_eq_true rfl) (Nat.le_of_ble_eq_true rfl) (dl_at t_X25_floatHigh 13 rfl) ?_
  refine g_i2l (pc := 27) X (r32_min g8 g21) (dl_at t_X25_floatHigh 14 rfl) ?_
  exact g_lret (pc := 28) X (r64_of (r32_min g8 g21)) rfl rfl (dl_at t_X25_floatHigh 15 rfl)
def k_X25_fits : List (Nat × Instr × Nat) := [(0, .aload_n 0, 1), (1, .getfield 307, 3), (4, .iload_n 1, 1), (5, .iaload, 1), (6, .istore_n 3, 1), (7, .aload_n 0, 1), (8, .getfield 313, 3), (11, .iload_n 1, 1), (12, .iaload, 1), (13, .istore 4, 2), (15, .aload_n 0, 1), (16, .getfield 14, 3), (19, .getfield 489, 3), (22, .iconst 1, 1), (23, .iaload, 1), (24, .i2l, 1), (25, .lstore 5, 2), (27, .aload_n 0, 1), (28, .getfield 295, 3), (31, .iload_n 2, 1), (32, .iconst 1, 1), (33, .iadd, 1), (34, .laload, 1), (35, .aload_n 0, 1), (36, .getfield 295, 3), (39, .iload_n 3, 1), (40, .laload, 1), (41, .lsub, 1), (42, .aload_n 0, 1), (43, .getfield 136, 3), (46, .iload_n 3, 1), (47, .iaload, 1), (48, .i2l, 1), (49, .lsub, 1), (50, .lstore 7, 2), (52, .iload_n 3, 1), (53, .ifCond .ne 7, 3), (56, .iconst 0, 1), (57, .goto 11, 3), (60, .aload_n 0, 1), (61, .getfield 298, 3), (64, .iload_n 3, 1), (65, .iconst 1, 1), (66, .isub, 1), (67, .iaload, 1), (68, .istore 9, 2), (70, .aload_n 0, 1), (71, .getfield 298, 3), (74, .iload_n 2, 1), (75, .iaload, 1), (76, .istore 10, 2), (78, .iload 4, 2), (80, .ifCond .gt 10, 3), (83, .iload 10, 2), (85, .iload 9, 2), (87, .if_icmp .le 18, 3), (90, .lload 7, 2), (92, .aload_n 0, 1), (93, .getfield 14, 3), (96, .getfield 489, 3), (99, .iconst 4, 1), (100, .iaload, 1), (101, .i2l, 1), (102, .ladd, 1), (103, .lstore 7, 2), (105, .aload_n 0, 1), (106, .iconst 0, 1), (107, .putfield 800, 3), (110, .aload_n 0, 1), (111, .iconst 0, 1), (112, .putfield 803, 3), (115, .iload 10, 2), (117, .iload 9, 2), (119, .if_icmp .le 110, 3), (122, .iload 4, 2), (124, .ifCond .le 21, 3), (127, .lload 7, 2), (129, .iload 4, 2), (131, .i2l, 1), (132, .aload_n 0, 1), (133, .iload 9, 2), (135, .iconst 1, 1), (136, .isub, 1), (137, .invokevirtual 806, 3), (140, .i2l, 1), (141, .lmul, 1), (142, .ladd, 1), (143, .lstore 7, 2), (145, .aload_n 0, 1), (146, .iload 4, 2), (148, .putfield 800, 3), (151, .iload 9, 2), (153, .istore 11, 2), (155, .iload 11, 2), (157, .iload 10, 2), (159, .iconst 1, 1), (160, .isub, 1), (161, .if_icmp .ge 29, 3), (164, .lload 7, 2), (166, .aload_n 0, 1), (167, .iload 11, 2), (169, .invokevirtual 809, 3), (172, .i2l, 1), (173, .aload_n 0, 1), (174, .iload 11, 2), (176, .invokevirtual 806, 3), (179, .i2l, 1), (180, .lmul, 1), (181, .ladd, 1), (182, .lstore 7, 2), (184, .iinc 11 1, 3), (187, .goto (-32), 3), (190, .aload_n 0, 1), (191, .iconst 2, 1), (192, .aload_n 0, 1), (193, .iload 10, 2), (195, .iconst 1, 1), (196, .isub, 1), (197, .invokevirtual 809, 3), (200, .invokestatic 409, 3), (203, .putfield 803, 3), (206, .lload 7, 2), (208, .aload_n 0, 1), (209, .getfield 803, 3), (212, .i2l, 1), (213, .aload_n 0, 1), (214, .iload 10, 2), (216, .iconst 1, 1), (217, .isub, 1), (218, .invokevirtual 806, 3), (221, .i2l, 1), (222, .lmul, 1), (223, .ladd, 1), (224, .lstore 7, 2), (226, .goto 27, 3), (229, .iload 4, 2), (231, .ifCond .le 22, 3), (234, .aload_n 0, 1), (235, .iconst 1, 1), (236, .putfield 800, 3), (239, .lload 7, 2), (241, .aload_n 0, 1), (242, .iload 9, 2), (244, .iconst 1, 1), (245, .isub, 1), (246, .invokevirtual 806, 3), (249, .i2l, 1), (250, .ladd, 1), (251, .lstore 7, 2), (253, .lload 7, 2), (255, .lload 5, 2), (257, .lcmp, 1), (258, .ifCond .le 5, 3), (261, .iconst 0, 1), (262, .ireturn, 1), (263, .aload_n 0, 1), (264, .aload_n 0, 1), (265, .getfield 310, 3), (268, .iload_n 1, 1), (269, .iaload, 1), (270, .putfield 812, 3), (273, .aload_n 0, 1), (274, .getfield 812, 3), (277, .aload_n 0, 1), (278, .getfield 301, 3), (281, .iload_n 2, 1), (282, .iaload, 1), (283, .if_icmp .ge 46, 3), (286, .lload 7, 2), (288, .aload_n 0, 1), (289, .aload_n 0, 1), (290, .getfield 812, 3), (293, .invokevirtual 815, 3), (296, .ladd, 1), (297, .lload 5, 2), (299, .lcmp, 1), (300, .ifCond .gt 29, 3), (303, .lload 7, 2), (305, .aload_n 0, 1), (306, .aload_n 0, 1), (307, .getfield 812, 3), (310, .invokevirtual 815, 3), (313, .ladd, 1), (314, .lstore 7, 2), (316, .aload_n 0, 1), (317, .dup, 1), (318, .getfield 812, 3), (321, .iconst 1, 1), (322, .iadd, 1), (323, .putfield 812, 3), (326, .goto (-53), 3), (329, .aload_n 0, 1), (330, .iconst 0, 1), (331, .putfield 819, 3), (334, .iload 10, 2), (336, .iload 9, 2), (338, .if_icmp .le 83, 3), (341, .aload_n 0, 1), (342, .getfield 803, 3), (345, .aload_n 0, 1), (346, .iload 10, 2), (348, .iconst 1, 1), (349, .isub, 1), (350, .invokevirtual 809, 3), (353, .if_icmp .ge 48, 3), (356, .lload 7, 2), (358, .aload_n 0, 1), (359, .iload 10, 2), (361, .iconst 1, 1), (362, .isub, 1), (363, .invokevirtual 806, 3), (366, .i2l, 1), (367, .ladd, 1), (368, .lload 5, 2), (370, .lcmp, 1), (371, .ifCond .gt 30, 3), (374, .aload_n 0, 1), (375, .dup, 1), (376, .getfield 803, 3), (379, .iconst 1, 1), (380, .iadd, 1), (381, .putfield 803, 3), (384, .lload 7, 2), (386, .aload_n 0, 1), (387, .iload 10, 2), (389, .iconst 1, 1), (390, .isub, 1), (391, .invokevirtual 806, 3), (394, .i2l, 1), (395, .ladd, 1), (396, .lstore 7, 2), (398, .goto (-57), 3), (401, .aload_n 0, 1), (402, .aload_n 0, 1), (403, .iload 10, 2), (405, .iconst 1, 1), (406, .isub, 1), (407, .invokevirtual 809, 3), (410, .aload_n 0, 1), (411, .getfield 803, 3), (414, .isub, 1), (415, .putfield 819, 3), (418, .goto 73, 3), (421, .iload 4, 2), (423, .ifCond .le 68, 3), (426, .aload_n 0, 1), (427, .getfield 800, 3), (430, .iload 4, 2), (432, .if_icmp .ge 48, 3), (435, .lload 7, 2), (437, .aload_n 0, 1), (438, .iload 9, 2), (440, .iconst 1, 1), (441, .isub, 1), (442, .invokevirtual 806, 3), (445, .i2l, 1), (446, .ladd, 1), (447, .lload 5, 2), (449, .lcmp, 1), (450, .ifCond .gt 30, 3), (453, .aload_n 0, 1), (454, .dup, 1), (455, .getfield 800, 3), (458, .iconst 1, 1), (459, .iadd, 1), (460, .putfield 800, 3), (463, .lload 7, 2), (465, .aload_n 0, 1), (466, .iload 9, 2), (468, .iconst 1, 1), (469, .isub, 1), (470, .invokevirtual 806, 3), (473, .i2l, 1), (474, .ladd, 1), (475, .lstore 7, 2), (477, .goto (-51), 3), (480, .aload_n 0, 1), (481, .iload 4, 2), (483, .aload_n 0, 1), (484, .getfield 800, 3), (487, .isub, 1), (488, .putfield 819, 3), (491, .aload_n 0, 1), (492, .lload 7, 2), (494, .putfield 822, 3), (497, .iconst 1, 1), (498, .ireturn, 1)]
theorem t_X25_fits : ∀ q ∈ k_X25_fits, decode cX25_fits q.1 = .ok q.2 := dl_all (by decide +kernel)
noncomputable def m_X25_fits_l273 (a0 a2 x5_25 x7_273 : Int) (h_273 : Hp) : Option ((Int × Hp) ⊕ ((Int × Hp))) :=
  gd (h_273 (h_273 a0 124) (-2) % 16 = 1 ∧ (0 : Int) ≤ a2 ∧ a2 < h_273 (h_273 a0 124) (-1)) (if (h_273 (h_273 a0 124) a2) ≤ (h_273 a0 133) then (some (.inr (x7_273, h_273)))
  else ((m_X25_floatHigh a0 (h_273 a0 133) h_273).bind fun v293 =>
  if 0 < (lcmp_ (w64 (x7_273 + v293)) x5_25) then (some (.inr (x7_273, h_273)))
  else ((m_X25_floatHigh a0 (h_273 a0 133) h_273).bind fun v310 =>
  lt_ (w64 (x7_273 + v310)) fun x7_314 =>
  pt h_273 a0 133 (w32 ((h_273 a0 133) + 1)) fun h323 =>
  some (.inl (x7_314, h323)))))
noncomputable def m_X25_fits_l426 (a0 x4_13 x5_25 s0_68 x7_426 : Int) (h_426 : Hp) : Option ((Int × Hp) ⊕ ((Int × Hp))) :=
  if x4_13 ≤ (h_426 a0 135) then (some (.inr (x7_426, h_426)))
  else ((m_X25_leadOf a0 (w32 (s0_68 - 1)) h_426).bind fun v442 =>
  if 0 < (lcmp_ (w64 (x7_426 + v442)) x5_25) then (some (.inr (x7_426, h_426)))
  else (pt h_426 a0 135 (w32 ((h_426 a0 135) + 1)) fun h460 =>
  (m_X25_leadOf a0 (w32 (s0_68 - 1)) h460).bind fun v470 =>
  lt_ (w64 (x7_426 + v470)) fun x7_475 =>
  some (.inl (x7_475, h460))))
noncomputable def m_X25_fits_l341 (a0 x5_25 x10_76 x7_341 : Int) (h_341 : Hp) : Option ((Int × Hp) ⊕ ((Int × Hp))) :=
  (m_X25_linesOf a0 (w32 (x10_76 - 1)) h_341).bind fun v350 =>
  if v350 ≤ (h_341 a0 136) then (some (.inr (x7_341, h_341)))
  else ((m_X25_leadOf a0 (w32 (x10_76 - 1)) h_341).bind fun v363 =>
  if 0 < (lcmp_ (w64 (x7_341 + v363)) x5_25) then (some (.inr (x7_341, h_341)))
  else (pt h_341 a0 136 (w32 ((h_341 a0 136) + 1)) fun h381 =>
  (m_X25_leadOf a0 (w32 (x10_76 - 1)) h381).bind fun v391 =>
  lt_ (w64 (x7_341 + v391)) fun x7_396 =>
  some (.inl (x7_396, h381))))
noncomputable def m_X25_fits_j253 (a0 a1 a2 x4_13 x5_25 s0_68 x10_76 x7_253 : Int) (h_253 : Hp) : Option (Int × Hp) :=
  if (lcmp_ x7_253 x5_25) ≤ 0 then (gd (h_253 (h_253 a0 128) (-2) % 16 = 1 ∧ (0 : Int) ≤ a1 ∧ a1 < h_253 (h_253 a0 128) (-1)) (pt h_253 a0 133 (h_253 (h_253 a0 128) a1) fun h270 =>
  (lp (fun (q : Int × Hp) => m_X25_fits_l273 a0 a2 x5_25 q.1 q.2) (x7_253, h270)).bind (fun (y329 : Int × Hp) => pt y329.2 a0 134 0 fun h331 =>
  if x10_76 ≤ s0_68 then (if x4_13 ≤ 0 then (pt h331 a0 137 y329.1 fun h494 =>
  some (1, h494))
  else ((lp (fun (q : Int × Hp) => m_X25_fits_l426 a0 x4_13 x5_25 s0_68 q.1 q.2) (y329.1, h331)).bind (fun (y480 : Int × Hp) => pt y480.2 a0 134 (w32 (x4_13 - (y480.2 a0 135))) fun h488 =>
  pt h488 a0 137 y480.1 fun h494_1 =>
  some (1, h494_1))))
  else ((lp (fun (q : Int × Hp) => m_X25_fits_l341 a0 x5_25 x10_76 q.1 q.2) (y329.1, h331)).bind (fun (y401 : Int × Hp) => (m_X25_linesOf a0 (w32 (x10_76 - 1)) y401.2).bind fun v407 =>
  pt y401.2 a0 134 (w32 (v407 - (y401.2 a0 136))) fun h415 =>
  pt h415 a0 137 y401.1 fun h494_2 =>
  some (1, h494_2))))))
  else (some (0, h_253))
noncomputable def m_X25_fits_l155 (a0 x10_76 x7_155 x11_155 : Int) (h148 : Hp) : Option ((Int × Int) ⊕ ((Int))) :=
  if (w32 (x10_76 - 1)) ≤ x11_155 then (some (.inr x7_155))
  else ((m_X25_linesOf a0 x11_155 h148).bind fun v169 =>
  (m_X25_leadOf a0 x11_155 h148).bind fun v176 =>
  lt_ (w64 (x7_155 + (w64 (v169 * v176)))) fun x7_182 =>
  lt_ (w32 (x11_155 + 1)) fun x11_184 =>
  some (.inl (x7_182, x11_184)))
noncomputable def m_X25_fits_j145 (a0 a1 a2 x4_13 x5_25 s0_68 x10_76 x7_145 : Int) (h112 : Hp) : Option (Int × Hp) :=
  pt h112 a0 135 x4_13 fun h148 =>
  (lp (fun (q : Int × Int) => m_X25_fits_l155 a0 x10_76 q.1 q.2 h148) (x7_145, s0_68)).bind (fun (y190 : Int) => (m_X25_linesOf a0 (w32 (x10_76 - 1)) h148).bind fun v197 =>
  pt h148 a0 136 (min_ 2 v197) fun h203 =>
  (m_X25_leadOf a0 (w32 (x10_76 - 1)) h203).bind fun v218 =>
  lt_ (w64 (y190 + (w64 ((h203 a0 136) * v218)))) fun x7_224 =>
  m_X25_fits_j253 a0 a1 a2 x4_13 x5_25 s0_68 x10_76 x7_224 h203)
noncomputable def m_X25_fits_j105 (x10_76 s0_68 a0 a1 a2 x4_13 x5_25 x7_105 : Int) (h : Hp) : Option (Int × Hp) :=
  pt h a0 135 0 fun h107 =>
  pt h107 a0 136 0 fun h112 =>
  if x10_76 ≤ s0_68 then (if x4_13 ≤ 0 then (m_X25_fits_j253 a0 a1 a2 x4_13 x5_25 s0_68 x10_76 x7_105 h112)
  else (pt h112 a0 135 1 fun h236 =>
  (m_X25_leadOf a0 (w32 (s0_68 - 1)) h236).bind fun v246 =>
  lt_ (w64 (x7_105 + v246)) fun x7_251 =>
  m_X25_fits_j253 a0 a1 a2 x4_13 x5_25 s0_68 x10_76 x7_251 h236))
  else (if x4_13 ≤ 0 then (m_X25_fits_j145 a0 a1 a2 x4_13 x5_25 s0_68 x10_76 x7_105 h112)
  else ((m_X25_leadOf a0 (w32 (s0_68 - 1)) h112).bind fun v137 =>
  lt_ (w64 (x7_105 + (w64 (x4_13 * v137)))) fun x7_143 =>
  m_X25_fits_j145 a0 a1 a2 x4_13 x5_25 s0_68 x10_76 x7_143 h112))
noncomputable def m_X25_fits_j90 (x10_76 s0_68 a0 a1 a2 x4_13 x5_25 x7_50 : Int) (h : Hp) : Option (Int × Hp) :=
  gd (h (h (h a0 0) 2) (-2) % 16 = 1 ∧ (0 : Int) ≤ 4 ∧ 4 < h (h (h a0 0) 2) (-1)) (lt_ (w64 (x7_50 + (h (h (h a0 0) 2) 4))) fun x7_103 =>
  m_X25_fits_j105 x10_76 s0_68 a0 a1 a2 x4_13 x5_25 x7_103 h)
noncomputable def m_X25_fits_j68 (x7_50 x5_25 x4_13 a2 a0 a1 s0_68 : Int) (h : Hp) : Option (Int × Hp) :=
  gd (h (h a0 123) (-2) % 16 = 1 ∧ (0 : Int) ≤ a2 ∧ a2 < h (h a0 123) (-1)) (lt_ (h (h a0 123) a2) fun x10_76 =>
  if 0 < x4_13 then (m_X25_fits_j90 x10_76 s0_68 a0 a1 a2 x4_13 x5_25 x7_50 h)
  else (if x10_76 ≤ s0_68 then (m_X25_fits_j105 x10_76 s0_68 a0 a1 a2 x4_13 x5_25 x7_50 h)
  else (m_X25_fits_j90 x10_76 s0_68 a0 a1 a2 x4_13 x5_25 x7_50 h)))
noncomputable def m_X25_fits (a0 a1 a2 : Int) (h : Hp) : Option (Int × Hp) :=
  gd (h (h a0 127) (-2) % 16 = 1 ∧ (0 : Int) ≤ a1 ∧ a1 < h (h a0 127) (-1)) (lt_ (h (h a0 127) a1) fun x3_6 =>
  gd (h (h a0 129) (-2) % 16 = 1 ∧ (0 : Int) ≤ a1 ∧ a1 < h (h a0 129) (-1)) (lt_ (h (h a0 129) a1) fun x4_13 =>
  gd (h (h a0 0) (-2) = 400) (gd (h (h (h a0 0) 2) (-2) % 16 = 1 ∧ (0 : Int) ≤ 1 ∧ 1 < h (h (h a0 0) 2) (-1)) (lt_ (h (h (h a0 0) 2) 1) fun x5_25 =>
  gd (h (h a0 122) (-2) % 16 = 4 ∧ (0 : Int) ≤ (w32 (a2 + 1)) ∧ (w32 (a2 + 1)) < h (h a0 122) (-1)) (gd (h (h a0 122) (-2) % 16 = 4 ∧ (0 : Int) ≤ x3_6 ∧ x3_6 < h (h a0 122) (-1)) (gd (h (h a0 47) (-2) % 16 = 1 ∧ (0 : Int) ≤ x3_6 ∧ x3_6 < h (h a0 47) (-1)) (lt_ (w64 ((w64 ((h (h a0 122) (w32 (a2 + 1))) - (h (h a0 122) x3_6))) - (h (h a0 47) x3_6))) fun x7_50 =>
  if x3_6 ≠ 0 then (gd (h (h a0 123) (-2) % 16 = 1 ∧ (0 : Int) ≤ (w32 (x3_6 - 1)) ∧ (w32 (x3_6 - 1)) < h (h a0 123) (-1)) (m_X25_fits_j68 x7_50 x5_25 x4_13 a2 a0 a1 (h (h a0 123) (w32 (x3_6 - 1))) h))
  else (m_X25_fits_j68 x7_50 x5_25 x4_13 a2 a0 a1 0 h))))))))
theorem s_X25_fits {l : Launch} [NoTr l] {D : SD} {a0 a1 a2 : Int} {h : Hp} (hk : h a0 (-2) = 416) (r1 : r32 a1) (r2 : r32 a2) {r : Int × Hp} (hm : m_X25_fits a0 a1 a2 h = some r) : Sim l D yX25_fits (Cond.code yX25_fits cX25_fits 12 (Option.some Jvm.ClassFile.FieldType.boolean)) 3 111 [rv D a0, iv a1, iv a2] h 3 ((0, r.1), r.2) := by
  refine Sim.of (fin := fun (v : Int × Hp) => ((0, v.1), v.2)) (lsE := [(0, rv D a0), (1, iv a1), (2, iv a2)]) hm rfl cwS_code (la_r (la_i (la_i la_n))) (ll_r (ll_i (ll_i ll_n))) ?_
  intro p e s m below meth c X hcw hmm hcc hnm hname
  unfold m_X25_fits
  refine g_aload_n (pc := 0) X (j := 0) (i := 0) (q := 0) (x := a0) rfl rfl (dl_at t_X25_fits 0 rfl) ?_
  refine r_getr (pc := 1) X fX25_127 hk q3939 (dl_at t_X25_fits 1 rfl) ?_
  refine g_iload_n (pc := 4) X (j := 1) (i := 1) (q := 1) (x := a1) rfl rfl (dl_at t_X25_fits 2 rfl) ?_
  refine g_gd fun k5 => ?_
  refine g_iald (pc := 5) X r1 k5 (dl_at t_X25_fits 3 rfl) fun g5 => ?_
  refine g_lti g5 fun x3_6 r3_6 => ?_
  refine g_istore_nN (pc := 6) X (j := 3) (i := 3) (x := x3_6) (b := 2) (w := iv a2) (rest := [(0, rv D a0), (1, iv a1)]) rfl (Nat.le_of_ble_eq_true rfl) [2, 0, 1] rfl (by decide) rfl rfl (dl_at t_X25_fits 4 rfl) ?_
  refine g_aload_n (pc := 7) X (j := 0) (i := 0) (q := 2) (x := a0) rfl rfl (dl_at t_X25_fits 5 rfl) ?_
  refine r_getr (pc := 8) X fX25_129 hk q3941 (dl_at t_X25_fits 6 rfl) ?_
  refine g_iload_n (pc := 11) X (j := 1) (i := 1) (q := 3) (x := a1) rfl rfl (dl_at t_X25_fits 7 rfl) ?_
  refine g_gd fun k12 => ?_
  refine g_iald (pc := 12) X r1 k12 (dl_at t_X25_fits 8 rfl) fun g12 => ?_
  refine g_lti g12 fun x4_13 r4_13 => ?_
  refine g_istoreN (pc := 13) X (i := 4) (x := x4_13) (b := 3) (w := iv x3_6) (rest := [(2, iv a2), (0, rv D a0), (1, iv a1)]) (Nat.le_of_ble_eq_true rfl) [0, 1, 2, 3] rfl (by decide) rfl rfl (dl_at t_X25_fits 9 rfl) ?_
  refine g_aload_n (pc := 15) X (j := 0) (i := 0) (q := 3) (x := a0) rfl rfl (dl_at t_X25_fits 10 rfl) ?_
  refine r_getr (pc := 16) X fX25_0 hk q3761 (dl_at t_X25_fits 11 rfl) ?_
  refine g_gd fun k19 => ?_
  refine r_getr (pc := 19) X fX24_2 k19 q3647 (dl_at t_X25_fits 12 rfl) ?_
  refine g_iconst (pc := 22) X (n := 1) (dl_at t_X25_fits 13 rfl) ?_
  refine g_gd fun k23 => ?_
  refine g_iald (pc := 23) X (r32_c rfl) k23 (dl_at t_X25_fits 14 rfl) fun g23 => ?_
  refine g_i2l (pc := 24) X g23 (dl_at t_X25_fits 15 rfl) ?_
  refine g_ltl (r64_of g23) fun x5_25 r5_25 => ?_
  refine g_lstoreN (pc := 25) X (i := 5) (x := x5_25) (b := 4) (w := iv x4_13) (rest := [(3, iv x3_6), (2, iv a2), (0, rv D a0), (1, iv a1)]) (Nat.le_of_ble_eq_true rfl) [0, 1, 2, 3, 4] rfl (by decide) (by decide) rfl rfl (dl_at t_X25_fits 16 rfl) ?_
  refine g_aload_n (pc := 27) X (j := 0) (i := 0) (q := 4) (x := a0) rfl rfl (dl_at t_X25_fits 17 rfl) ?_
  refine r_getr (pc := 28) X fX25_122 hk q3934 (dl_at t_X25_fits 18 rfl) ?_
  refine g_iload_n (pc := 31) X (j := 2) (i := 2) (q := 3) (x := a2) rfl rfl (dl_at t_X25_fits 19 rfl) ?_
  refine g_iconst (pc := 32) X (n := 1) (dl_at t_X25_fits 20 rfl) ?_
  refine g_iadd (pc := 33) X r2 (r32_c rfl) (dl_at t_X25_fits 21 rfl) ?_
  refine g_gd fun k34 => ?_
  refine g_lald (pc := 34) X (r32_w _) k34 (dl_at t_X25_fits 22 rfl) fun g34 => ?_
  refine g_aload_n (pc := 35) X (j := 0) (i := 0) (q := 4) (x := a0) rfl rfl (dl_at t_X25_fits 23 rfl) ?_
  refine r_getr (pc := 36) X fX25_122 hk q3934 (dl_at t_X25_fits 24 rfl) ?_
  refine g_iload_n (pc := 39) X (j := 3) (i := 3) (q := 2) (x := x3_6) rfl rfl (dl_at t_X25_fits 25 rfl) ?_
  refine g_gd fun k40 => ?_
  refine g_lald (pc := 40) X r3_6 k40 (dl_at t_X25_fits 26 rfl) fun g40 => ?_
  refine g_lsub (pc := 41) X g34 g40 (dl_at t_X25_fits 27 rfl) ?_
  refine g_aload_n (pc := 42) X (j := 0) (i := 0) (q := 4) (x := a0) rfl rfl (dl_at t_X25_fits 28 rfl) ?_
  refine r_getr (pc := 43) X fX25_47 hk q3829 (dl_at t_X25_fits 29 rfl) ?_
  refine g_iload_n (pc := 46) X (j := 3) (i := 3) (q := 2) (x := x3_6) rfl rfl (dl_at t_X25_fits 30 rfl) ?_
  refine g_gd fun k47 => ?_
  refine g_iald (pc := 47) X r3_6 k47 (dl_at t_X25_fits 31 rfl) fun g47 => ?_
  refine g_i2l (pc := 48) X g47 (dl_at t_X25_fits 32 rfl) ?_
  refine g_lsub (pc := 49) X (r64_w _) (r64_of g47) (dl_at t_X25_fits 33 rfl) ?_
  refine g_ltl (r64_w _) fun x7_50 r7_50 => ?_
  refine g_lstore (pc := 50) X (i := 7) (x := x7_50) (rest := [(5, jv x5_25), (4, iv x4_13), (3, iv x3_6), (2, iv a2), (0, rv D a0), (1, iv a1)]) (Nat.le_of_ble_eq_true rfl) [0, 1, 2, 3, 4, 5] rfl rfl (dl_at t_X25_fits 34 rfl) ?_
  refine g_iload_n (pc := 52) X (j := 3) (i := 3) (q := 3) (x := x3_6) rfl rfl (dl_at t_X25_fits 35 rfl) ?_
  refine g_join (γ := Int) (fun q => r32 q) 68 (fun q => [(0, rv D a0), (1, iv a1), (2, iv a2), (4, iv x4_13), (5, jv x5_25), (7, jv x7_50)]) (fun q => [iv q]) (fun q => h) (fun q => m_X25_fits_j68 x7_50 x5_25 x4_13 a2 a0 a1 q h) ?_ ?_
  · rintro s0_68 rs0_68
    try dsimp only
    unfold m_X25_fits_j68
    refine g_istore (pc := 68) X (i := 9) (x := s0_68) (rest := [(0, rv D a0), (1, iv a1), (2, iv a2), (4, iv x4_13), (5, jv x5_25), (7, jv x7_50)]) (Nat.le_of_ble_eq_true rfl) [0, 1, 2, 3, 4, 5] rfl rfl (dl_at t_X25_fits 45 rfl) ?_
    refine g_aload_n (pc := 70) X (j := 0) (i := 0) (q := 1) (x := a0) rfl rfl (dl_at t_X25_fits 46 rfl) ?_
    refine r_getr (pc := 71) X fX25_123 hk q3935 (dl_at t_X25_fits 47 rfl) ?_
    refine g_iload_n (pc := 74) X (j := 2) (i := 2) (q := 3) (x := a2) rfl rfl (dl_at t_X25_fits 48 rfl) ?_
    refine g_gd fun k75 => ?_
    refine g_iald (pc := 75) X r2 k75 (dl_at t_X25_fits 49 rfl) fun g75 => ?_
    refine g_lti g75 fun x10_76 r10_76 => ?_
    refine g_istoreN (pc := 76) X (i := 10) (x := x10_76) (b := 9) (w := iv s0_68) (rest := [(0, rv D a0), (1, iv a1), (2, iv a2), (4, iv x4_13), (5, jv x5_25), (7, jv x7_50)]) (Nat.le_of_ble_eq_true rfl) [0, 1, 2, 3, 4, 5, 6] rfl (by decide) rfl rfl (dl_at t_X25_fits 50 rfl) ?_
    refine g_iload (pc := 78) X (i := 4) (q := 5) (x := x4_13) rfl (dl_at t_X25_fits 51 rfl) ?_
    refine g_join (γ := Int) (fun q => r64 q) 105 (fun q => [(0, rv D a0), (1, iv a1), (2, iv a2), (4, iv x4_13), (5, jv x5_25), (7, jv q), (9, iv s0_68), (10, iv x10_76)]) (fun q => []) (fun q => h) (fun q => m_X25_fits_j105 x10_76 s0_68 a0 a1 a2 x4_13 x5_25 q h) ?_ ?_
    · rintro x7_105 r7_105
      try dsimp only
      unfold m_X25_fits_j105
      refine g_aload_n (pc := 105) X (j := 0) (i := 0) (q := 0) (x := a0) rfl rfl (dl_at t_X25_fits 65 rfl) ?_
      refine g_iconst (pc := 106) X (n := 0) (dl_at t_X25_fits 66 rfl) ?_
      refine r_puti (pc := 107) X fX25_135 hk q3947 rfl (dl_at t_X25_fits 67 rfl) (r32_c rfl) (fun h107 E107 => ?_)
      refine g_aload_n (pc := 110) X (j := 0) (i := 0) (q := 0) (x := a0) rfl rfl (dl_at t_X25_fits 68 rfl) ?_
      refine g_iconst (pc := 111) X (n := 0) (dl_at t_X25_fits 69 rfl) ?_
      have k112 := kx E107 (by decide) hk
      refine r_puti (pc := 112) X fX25_136 k112 q3948 rfl (dl_at t_X25_fits 70 rfl) (r32_c rfl) (fun h112 E112 => ?_)
      refine g_iload (pc := 115) X (i := 10) (q := 7) (x := x10_76) rfl (dl_at t_X25_fits 71 rfl) ?_
      refine g_iload (pc := 117) X (i := 9) (q := 6) (x := s0_68) rfl (dl_at t_X25_fits 72 rfl) ?_
      refine g_join (γ := Int × Hp) (fun q => r64 q.1 ∧ Ext h112 q.2) 253 (fun q => [(0, rv D a0), (1, iv a1), (2, iv a2), (4, iv x4_13), (5, jv x5_25), (7, jv q.1), (9, iv s0_68), (10, iv x10_76)]) (fun q => []) (fun q => q.2) (fun q => m_X25_fits_j253 a0 a1 a2 x4_13 x5_25 s0_68 x10_76 q.1 q.2) ?_ ?_
      · rintro ⟨x7_253, h_253⟩ ⟨r7_253, E_253⟩
        try dsimp only
        unfold m_X25_fits_j253
        refine g_lload (pc := 253) X (i := 7) (q := 5) (x := x7_253) rfl (dl_at t_X25_fits 149 rfl) ?_
        refine g_lload (pc := 255) X (i := 5) (q := 4) (x := x5_25) rfl (dl_at t_X25_fits 150 rfl) ?_
        refine g_lcmp (pc := 257) X r7_253 r5_25 (dl_at t_X25_fits 151 rfl) ?_
        refine g_ifle (pc := 258) X (r32_lcmp _ _) (off := 5) (tgt := 263) rfl (dl_at t_X25_fits 152 rfl) (fun _ => ?_) (fun _ => ?_)
        · refine g_aload_n (pc := 263) X (j := 0) (i := 0) (q := 0) (x := a0) rfl rfl (dl_at t_X25_fits 155 rfl) ?_
          refine g_aload_n (pc := 264) X (j := 0) (i := 0) (q := 0) (x := a0) rfl rfl (dl_at t_X25_fits 156 rfl) ?_
          have k265 := kx (E112.trans E_253) (by decide) k112
          refine r_getr (pc := 265) X fX25_128 k265 q3940 (dl_at t_X25_fits 157 rfl) ?_
          refine g_iload_n (pc := 268) X (j := 1) (i := 1) (q := 1) (x := a1) rfl rfl (dl_at t_X25_fits 158 rfl) ?_
          refine g_gd fun k269 => ?_
          refine g_iald (pc := 269) X r1 k269 (dl_at t_X25_fits 159 rfl) fun g269 => ?_
          refine r_puti (pc := 270) X fX25_133 k265 q3945 rfl (dl_at t_X25_fits 160 rfl) g269 (fun h270 E270 => ?_)
          refine g_ls (ls2 := [(0, rv D a0), (2, iv a2), (4, iv x4_13), (5, jv x5_25), (7, jv x7_253), (9, iv s0_68), (10, iv x10_76)]) [0, 2, 3, 4, 5, 6, 7] rfl ?_
          refine g_loop1 (fun (q : Int × Hp) => [(0, rv D a0), (2, iv a2), (4, iv x4_13), (5, jv x5_25), (7, jv q.1), (9, iv s0_68), (10, iv x10_76)]) (fun (q : Int × Hp) => q.2) (fun (q : Int × Hp) => r64 q.1 ∧ Ext h270 q.2) 329 (fun (y329 : Int × Hp) => [(0, rv D a0), (4, iv x4_13), (5, jv x5_25), (7, jv y329.1), (9, iv s0_68), (10, iv x10_76)]) (fun (y329 : Int × Hp) => y329.2) (fun (y329 : Int × Hp) => r64 y329.1 ∧ Ext h270 y329.2) (x7_253, h270) ⟨r7_253, (Ext.refl _)⟩ ?_ ?_
          · rintro ⟨x7_273, h_273⟩ ⟨r7_273, E_273⟩
            try dsimp only
            unfold m_X25_fits_l273
            refine g_aload_n (pc := 273) X (j := 0) (i := 0) (q := 0) (x := a0) rfl rfl (dl_at t_X25_fits 161 rfl) ?_
            have k274 := kx (E270.trans E_273) (by decide) k265
            refine r_geti (pc := 274) X fX25_133 k274 q3945 (dl_at t_X25_fits 162 rfl) fun g274 => ?_
            refine g_aload_n (pc := 277) X (j := 0) (i := 0) (q := 0) (x := a0) rfl rfl (dl_at t_X25_fits 163 rfl) ?_
            refine r_getr (pc := 278) X fX25_124 k274 q3936 (dl_at t_X25_fits 164 rfl) ?_
            refine g_iload_n (pc := 281) X (j := 2) (i := 2) (q := 1) (x := a2) rfl rfl (dl_at t_X25_fits 165 rfl) ?_
            refine g_gd fun k282 => ?_
            refine g_iald (pc := 282) X r2 k282 (dl_at t_X25_fits 166 rfl) fun g282 => ?_
            refine g_icmpge (pc := 283) X g274 g282 (off := 46) (tgt := 329) rfl (dl_at t_X25_fits 167 rfl) (fun _ => ?_) (fun _ => ?_)
            · refine g_ls (ls2 := [(0, rv D a0), (4, iv x4_13), (5, jv x5_25), (7, jv x7_273), (9, iv s0_68), (10, iv x10_76)]) [0, 2, 3, 4, 5, 6] rfl ?_
              exact g_at fun Q hQ => hQ ⟨r7_273, E_273⟩
            refine g_lload (pc := 286) X (i := 7) (q := 4) (x := x7_273) rfl (dl_at t_X25_fits 168 rfl) ?_
            refine g_aload_n (pc := 288) X (j := 0) (i := 0) (q := 0) (x := a0) rfl rfl (dl_at t_X25_fits 169 rfl) ?_
            refine g_aload_n (pc := 289) X (j := 0) (i := 0) (q := 0) (x := a0) rfl rfl (dl_at t_X25_fits 170 rfl) ?_
            refine r_geti (pc := 290) X fX25_133 k274 q3945 (dl_at t_X25_fits 171 rfl) fun g290 => ?_
            refine r_callRl (pc := 293) X (fun _ hv => s_X25_floatHigh k274 g290 hv) cw_code q5090 q379 (in_Vk X (As := [iv (h_273 a0 133)]) kX25 k274 (Or.inl q5087) q5089 qs339 cw_code q5090 ⟨by decide, by decide⟩ rfl (dl_at t_X25_fits 172 rfl)) (dl_at t_X25_fits 172 rfl) (cat24 (st := [jv x7_273]) (Nat.le_of_ble_eq_true rfl)) (Nat.le_of_ble_eq_true rfl) (Nat.le_of_ble_eq_true rfl) fun v293 g293 => ?_
            refine g_ladd (pc := 296) X r7_273 g293 (dl_at t_X25_fits 173 rfl) ?_
            refine g_lload (pc := 297) X (i := 5) (q := 3) (x := x5_25) rfl (dl_at t_X25_fits 174 rfl) ?_
            refine g_lcmp (pc := 299) X (r64_w _) r5_25 (dl_at t_X25_fits 175 rfl) ?_
            refine g_ifgt (pc := 300) X (r32_lcmp _ _) (off := 29) (tgt := 329) rfl (dl_at t_X25_fits 176 rfl) (fun _ => ?_) (fun _ => ?_)
            · refine g_ls (ls2 := [(0, rv D a0), (4, iv x4_13), (5, jv x5_25), (7, jv x7_273), (9, iv s0_68), (10, iv x10_76)]) [0, 2, 3, 4, 5, 6] rfl ?_
              exact g_at fun Q hQ => hQ ⟨r7_273, E_273⟩
            refine g_lload (pc := 303) X (i := 7) (q := 4) (x := x7_273) rfl (dl_at t_X25_fits 177 rfl) ?_
            refine g_aload_n (pc := 305) X (j := 0) (i := 0) (q := 0) (x := a0) rfl rfl (dl_at t_X25_fits 178 rfl) ?_
            refine g_aload_n (pc := 306) X (j := 0) (i := 0) (q := 0) (x := a0) rfl rfl (dl_at t_X25_fits 179 rfl) ?_
            refine r_geti (pc := 307) X fX25_133 k274 q3945 (dl_at t_X25_fits 180 rfl) fun g307 => ?_
            refine r_callRl (pc := 310) X (fun _ hv => s_X25_floatHigh k274 g307 hv) cw_code q5090 q379 (in_Vk X (As := [iv (h_273 a0 133)]) kX25 k274 (Or.inl q5087) q5089 qs339 cw_code q5090 ⟨by decide, by decide⟩ rfl (dl_at t_X25_fits 181 rfl)) (dl_at t_X25_fits 181 rfl) (cat24 (st := [jv x7_273]) (Nat.le_of_ble_eq_true rfl)) (Nat.le_of_ble_eq_true rfl) (Nat.le_of_ble_eq_true rfl) fun v310 g310 => ?_
            refine g_ladd (pc := 313) X r7_273 g310 (dl_at t_X25_fits 182 rfl) ?_
            refine g_ltl (r64_w _) fun x7_314 r7_314 => ?_
            refine g_lstore (pc := 314) X (i := 7) (x := x7_314) (rest := [(0, rv D a0), (2, iv a2), (4, iv x4_13), (5, jv x5_25), (9, iv s0_68), (10, iv x10_76)]) (Nat.le_of_ble_eq_true rfl) [0, 1, 2, 3, 5, 6] rfl rfl (dl_at t_X25_fits 183 rfl) ?_
            refine g_aload_n (pc := 316) X (j := 0) (i := 0) (q := 1) (x := a0) rfl rfl (dl_at t_X25_fits 184 rfl) ?_
            refine g_dup (pc := 317) X rv_cat (dl_at t_X25_fits 185 rfl) ?_
            refine r_geti (pc := 318) X fX25_133 k274 q3945 (dl_at t_X25_fits 186 rfl) fun g318 => ?_
            refine g_iconst (pc := 321) X (n := 1) (dl_at t_X25_fits 187 rfl) ?_
            refine g_iadd (pc := 322) X g318 (r32_c rfl) (dl_at t_X25_fits 188 rfl) ?_
            refine r_puti (pc := 323) X fX25_133 k274 q3945 rfl (dl_at t_X25_fits 189 rfl) (r32_w _) (fun h323 E323 => ?_)
            refine g_goto (pc := 326) X (off := (-53)) (tgt := 273) rfl (dl_at t_X25_fits 190 rfl) ?_
            refine g_ls (ls2 := [(0, rv D a0), (2, iv a2), (4, iv x4_13), (5, jv x5_25), (7, jv x7_314), (9, iv s0_68), (10, iv x10_76)]) [1, 2, 3, 4, 0, 5, 6] rfl ?_
            exact g_at fun Q hQ => hQ ⟨r7_314, (E_273.trans E323)⟩
          · rintro ⟨x7_329, h_329⟩ ⟨r7_329, E_329⟩
            try dsimp only [sE]
            refine g_aload_n (pc := 329) X (j := 0) (i := 0) (q := 0) (x := a0) rfl rfl (dl_at t_X25_fits 191 rfl) ?_
            refine g_iconst (pc := 330) X (n := 0) (dl_at t_X25_fits 192 rfl) ?_
            have k331 := kx (E270.trans E_329) (by decide) k265
            refine r_puti (pc := 331) X fX25_134 k331 q3946 rfl (dl_at t_X25_fits 193 rfl) (r32_c rfl) (fun h331 E331 => ?_)
            refine g_iload (pc := 334) X (i := 10) (q := 5) (x := x10_76) rfl (dl_at t_X25_fits 194 rfl) ?_
            refine g_iload (pc := 336) X (i := 9) (q := 4) (x := s0_68) rfl (dl_at t_X25_fits 195 rfl) ?_
            refine g_icmple (pc := 338) X r10_76 rs0_68 (off := 83) (tgt := 421) rfl (dl_at t_X25_fits 196 rfl) (fun _ => ?_) (fun _ => ?_)
            · refine g_iload (pc := 421) X (i := 4) (q := 1) (x := x4_13) rfl (dl_at t_X25_fits 243 rfl) ?_
              refine g_ifle (pc := 423) X r4_13 (off := 68) (tgt := 491) rfl (dl_at t_X25_fits 244 rfl) (fun _ => ?_) (fun _ => ?_)
              · refine g_aload_n (pc := 491) X (j := 0) (i := 0) (q := 0) (x := a0) rfl rfl (dl_at t_X25_fits 282 rfl) ?_
                refine g_lload (pc := 492) X (i := 7) (q := 3) (x := x7_329) rfl (dl_at t_X25_fits 283 rfl) ?_
                have k494 := kx E331 (by decide) k331
                refine r_putl (pc := 494) X fX25_137 k494 q3949 rfl (dl_at t_X25_fits 284 rfl) r7_329 (fun h494 E494 => ?_)
                refine g_iconst (pc := 497) X (n := 1) (dl_at t_X25_fits 285 rfl) ?_
                exact g_zret (pc := 498) X (Or.inr rfl) rfl rfl (dl_at t_X25_fits 286 rfl)
              refine g_ls (ls2 := [(0, rv D a0), (4, iv x4_13), (5, jv x5_25), (7, jv x7_329), (9, iv s0_68)]) [0, 1, 2, 3, 4] rfl ?_
              refine g_loop1 (fun (q : Int × Hp) => [(0, rv D a0), (4, iv x4_13), (5, jv x5_25), (7, jv q.1), (9, iv s0_68)]) (fun (q : Int × Hp) => q.2) (fun (q : Int × Hp) => r64 q.1 ∧ Ext h331 q.2) 480 (fun (y480 : Int × Hp) => [(0, rv D a0), (4, iv x4_13), (7, jv y480.1)]) (fun (y480 : Int × Hp) => y480.2) (fun (y480 : Int × Hp) => r64 y480.1 ∧ Ext h331 y480.2) (x7_329, h331) ⟨r7_329, (Ext.refl _)⟩ ?_ ?_
              · rintro ⟨x7_426, h_426⟩ ⟨r7_426, E_426⟩
                try dsimp only
                unfold m_X25_fits_l426
                refine g_aload_n (pc := 426) X (j := 0) (i := 0) (q := 0) (x := a0) rfl rfl (dl_at t_X25_fits 245 rfl) ?_
                have k427 := kx (E331.trans E_426) (by decide) k331
                refine r_geti (pc := 427) X fX25_135 k427 q3947 (dl_at t_X25_fits 246 rfl) fun g427 => ?_
                refine g_iload (pc := 430) X (i := 4) (q := 1) (x := x4_13) rfl (dl_at t_X25_fits 247 rfl) ?_
                refine g_icmpge (pc := 432) X g427 r4_13 (off := 48) (tgt := 480) rfl (dl_at t_X25_fits 248 rfl) (fun _ => ?_) (fun _ => ?_)
                · refine g_ls (ls2 := [(0, rv D a0), (4, iv x4_13), (7, jv x7_426)]) [0, 1, 3] rfl ?_
                  exact g_at fun Q hQ => hQ ⟨r7_426, E_426⟩
                refine g_lload (pc := 435) X (i := 7) (q := 3) (x := x7_426) rfl (dl_at t_X25_fits 249 rfl) ?_
                refine g_aload_n (pc := 437) X (j := 0) (i := 0) (q := 0) (x := a0) rfl rfl (dl_at t_X25_fits 250 rfl) ?_
                refine g_iload (pc := 438) X (i := 9) (q := 4) (x := s0_68) rfl (dl_at t_X25_fits 251 rfl) ?_
                refine g_iconst (pc := 440) X (n := 1) (dl_at t_X25_fits 252 rfl) ?_
                refine g_isub (pc := 441) X rs0_68 (r32_c rfl) (dl_at t_X25_fits 253 rfl) ?_
                refine r_callRi (pc := 442) X (fun _ hv => s_X25_leadOf k427 (r32_w _) hv) cw_code q5082 q379 (in_Vk X (As := [iv (w32 (s0_68 - 1))]) kX25 k427 (Or.inl q5079) q5081 qs337 cw_code q5082 ⟨by decide, by decide⟩ rfl (dl_at t_X25_fits 254 rfl)) (dl_at t_X25_fits 254 rfl) (cat24 (st := [jv x7_426]) (Nat.le_of_ble_eq_true rfl)) (Nat.le_of_ble_eq_true rfl) (Nat.le_of_ble_eq_true rfl) fun v442 g442 => ?_
                refine g_i2l (pc := 445) X g442 (dl_at t_X25_fits 255 rfl) ?_
                refine g_ladd (pc := 446) X r7_426 (r64_of g442) (dl_at t_X25_fits 256 rfl) ?_
                refine g_lload (pc := 447) X (i := 5) (q := 2) (x := x5_25) rfl (dl_at t_X25_fits 257 rfl) ?_
                refine g_lcmp (pc := 449) X (r64_w _) r5_25 (dl_at t_X25_fits 258 rfl) ?_
                refine g_ifgt (pc := 450) X (r32_lcmp _ _) (off := 30) (tgt := 480) rfl (dl_at t_X25_fits 259 rfl) (fun _ => ?_) (fun _ => ?_)
                · refine g_ls (ls2 := [(0, rv D a0), (4, iv x4_13), (7, jv x7_426)]) [0, 1, 3] rfl ?_
                  exact g_at fun Q hQ => hQ ⟨r7_426, E_426⟩
                refine g_aload_n (pc := 453) X (j := 0) (i := 0) (q := 0) (x := a0) rfl rfl (dl_at t_X25_fits 260 rfl) ?_
                refine g_dup (pc := 454) X rv_cat (dl_at t_X25_fits 261 rfl) ?_
                refine r_geti (pc := 455) X fX25_135 k427 q3947 (dl_at t_X25_fits 262 rfl) fun g455 => ?_
                refine g_iconst (pc := 458) X (n := 1) (dl_at t_X25_fits 263 rfl) ?_
                refine g_iadd (pc := 459) X g455 (r32_c rfl) (dl_at t_X25_fits 264 rfl) ?_
                refine r_puti (pc := 460) X fX25_135 k427 q3947 rfl (dl_at t_X25_fits 265 rfl) (r32_w _) (fun h460 E460 => ?_)
                refine g_lload (pc := 463) X (i := 7) (q := 3) (x := x7_426) rfl (dl_at t_X25_fits 266 rfl) ?_
                refine g_aload_n (pc := 465) X (j := 0) (i := 0) (q := 0) (x := a0) rfl rfl (dl_at t_X25_fits 267 rfl) ?_
                refine g_iload (pc := 466) X (i := 9) (q := 4) (x := s0_68) rfl (dl_at t_X25_fits 268 rfl) ?_
                refine g_iconst (pc := 468) X (n := 1) (dl_at t_X25_fits 269 rfl) ?_
                refine g_isub (pc := 469) X rs0_68 (r32_c rfl) (dl_at t_X25_fits 270 rfl) ?_
                have k470 := kx E460 (by decide) k427
                refine r_callRi (pc := 470) X (fun _ hv => s_X25_leadOf k470 (r32_w _) hv) cw_code q5082 q379 (in_Vk X (As := [iv (w32 (s0_68 - 1))]) kX25 k470 (Or.inl q5079) q5081 qs337 cw_code q5082 ⟨by decide, by decide⟩ rfl (dl_at t_X25_fits 271 rfl)) (dl_at t_X25_fits 271 rfl) (cat24 (st := [jv x7_426]) (Nat.le_of_ble_eq_true rfl)) (Nat.le_of_ble_eq_true rfl) (Nat.le_of_ble_eq_true rfl) fun v470 g470 => ?_
                refine g_i2l (pc := 473) X g470 (dl_at t_X25_fits 272 rfl) ?_
                refine g_ladd (pc := 474) X r7_426 (r64_of g470) (dl_at t_X25_fits 273 rfl) ?_
                refine g_ltl (r64_w _) fun x7_475 r7_475 => ?_
                refine g_lstore (pc := 475) X (i := 7) (x := x7_475) (rest := [(0, rv D a0), (4, iv x4_13), (5, jv x5_25), (9, iv s0_68)]) (Nat.le_of_ble_eq_true rfl) [0, 1, 2, 4] rfl rfl (dl_at t_X25_fits 274 rfl) ?_
                refine g_goto (pc := 477) X (off := (-51)) (tgt := 426) rfl (dl_at t_X25_fits 275 rfl) ?_
                refine g_ls (ls2 := [(0, rv D a0), (4, iv x4_13), (5, jv x5_25), (7, jv x7_475), (9, iv s0_68)]) [1, 2, 3, 0, 4] rfl ?_
                exact g_at fun Q hQ => hQ ⟨r7_475, (E_426.trans E460)⟩
              · rintro ⟨x7_480, h_480⟩ ⟨r7_480, E_480⟩
                try dsimp only [sE]
                refine g_aload_n (pc := 480) X (j := 0) (i := 0) (q := 0) (x := a0) rfl rfl (dl_at t_X25_fits 276 rfl) ?_
                refine g_iload (pc := 481) X (i := 4) (q := 1) (x := x4_13) rfl (dl_at t_X25_fits 277 rfl) ?_
                refine g_aload_n (pc := 483) X (j := 0) (i := 0) (q := 0) (x := a0) rfl rfl (dl_at t_X25_fits 278 rfl) ?_
                have k484 := kx (E331.trans E_480) (by decide) k331
                refine r_geti (pc := 484) X fX25_135 k484 q3947 (dl_at t_X25_fits 279 rfl) fun g484 => ?_
                refine g_isub (pc := 487) X r4_13 g484 (dl_at t_X25_fits 280 rfl) ?_
                refine r_puti (pc := 488) X fX25_134 k484 q3946 rfl (dl_at t_X25_fits 281 rfl) (r32_w _) (fun h488 E488 => ?_)
                refine g_aload_n (pc := 491) X (j := 0) (i := 0) (q := 0) (x := a0) rfl rfl (dl_at t_X25_fits 282 rfl) ?_
                refine g_lload (pc := 492) X (i := 7) (q := 2) (x := x7_480) rfl (dl_at t_X25_fits 283 rfl) ?_
                have k494_1 := kx E488 (by decide) k484
                refine r_putl (pc := 494) X fX25_137 k494_1 q3949 rfl (dl_at t_X25_fits 284 rfl) r7_480 (fun h494_1 E494_1 => ?_)
                refine g_iconst (pc := 497) X (n := 1) (dl_at t_X25_fits 285 rfl) ?_
                exact g_zret (pc := 498) X (Or.inr rfl) rfl rfl (dl_at t_X25_fits 286 rfl)
            refine g_ls (ls2 := [(0, rv D a0), (5, jv x5_25), (7, jv x7_329), (10, iv x10_76)]) [0, 2, 3, 5] rfl ?_
            refine g_loop1 (fun (q : Int × Hp) => [(0, rv D a0), (5, jv x5_25), (7, jv q.1), (10, iv x10_76)]) (fun (q : Int × Hp) => q.2) (fun (q : Int × Hp) => r64 q.1 ∧ Ext h331 q.2) 401 (fun (y401 : Int × Hp) => [(0, rv D a0), (7, jv y401.1), (10, iv x10_76)]) (fun (y401 : Int × Hp) => y401.2) (fun (y401 : Int × Hp) => r64 y401.1 ∧ Ext h331 y401.2) (x7_329, h331) ⟨r7_329, (Ext.refl _)⟩ ?_ ?_
            · rintro ⟨x7_341, h_341⟩ ⟨r7_341, E_341⟩
              try dsimp only
              unfold m_X25_fits_l341
              refine g_aload_n (pc := 341) X (j := 0) (i := 0) (q := 0) (x := a0) rfl rfl (dl_at t_X25_fits 197 rfl) ?_
              have k342 := kx (E331.trans E_341) (by decide) k331
              refine r_geti (pc := 342) X fX25_136 k342 q3948 (dl_at t_X25_fits 198 rfl) fun g342 => ?_
              refine g_aload_n (pc := 345) X (j := 0) (i := 0) (q := 0) (x := a0) rfl rfl (dl_at t_X25_fits 199 rfl) ?_
              refine g_iload (pc := 346) X (i := 10) (q := 3) (x := x10_76) rfl (dl_at t_X25_fits 200 rfl) ?_
              refine g_iconst (pc := 348) X (n := 1) (dl_at t_X25_fits 201 rfl) ?_
              refine g_isub (pc := 349) X r10_76 (r32_c rfl) (dl_at t_X25_fits 202 rfl) ?_
              refine r_callRi (pc := 350) X (fun _ hv => s_X25_linesOf k342 (r32_w _) hv) cw_code q5086 q379 (in_Vk X (As := [iv (w32 (x10_76 - 1))]) kX25 k342 (Or.inl q5083) q5085 qs338 cw_code q5086 ⟨by decide, by decide⟩ rfl (dl_at t_X25_fits 203 rfl)) (dl_at t_X25_fits 203 rfl) (cat24 (st := [iv (h_341 a0 136)]) (Nat.le_of_ble_eq_true rfl)) (Nat.le_of_ble_eq_true rfl) (Nat.le_of_ble_eq_true rfl) fun v350 g350 => ?_
              refine g_icmpge (pc := 353) X g342 g350 (off := 48) (tgt := 401) rfl (dl_at t_X25_fits 204 rfl) (fun _ => ?_) (fun _ => ?_)
              · refine g_ls (ls2 := [(0, rv D a0), (7, jv x7_341), (10, iv x10_76)]) [0, 2, 3] rfl ?_
                exact g_at fun Q hQ => hQ ⟨r7_341, E_341⟩
              refine g_lload (pc := 356) X (i := 7) (q := 2) (x := x7_341) rfl (dl_at t_X25_fits 205 rfl) ?_
              refine g_aload_n (pc := 358) X (j := 0) (i := 0) (q := 0) (x := a0) rfl rfl (dl_at t_X25_fits 206 rfl) ?_
              refine g_iload (pc := 359) X (i := 10) (q := 3) (x := x10_76) rfl (dl_at t_X25_fits 207 rfl) ?_
              refine g_iconst (pc := 361) X (n := 1) (dl_at t_X25_fits 208 rfl) ?_
              refine g_isub (pc := 362) X r10_76 (r32_c rfl) (dl_at t_X25_fits 209 rfl) ?_
              refine r_callRi (pc := 363) X (fun _ hv => s_X25_leadOf k342 (r32_w _) hv) cw_code q5082 q379 (in_Vk X (As := [iv (w32 (x10_76 - 1))]) kX25 k342 (Or.inl q5079) q5081 qs337 cw_code q5082 ⟨by decide, by decide⟩ rfl (dl_at t_X25_fits 210 rfl)) (dl_at t_X25_fits 210 rfl) (cat24 (st := [jv x7_341]) (Nat.le_of_ble_eq_true rfl)) (Nat.le_of_ble_eq_true rfl) (Nat.le_of_ble_eq_true rfl) fun v363 g363 => ?_
              refine g_i2l (pc := 366) X g363 (dl_at t_X25_fits 211 rfl) ?_
              refine g_ladd (pc := 367) X r7_341 (r64_of g363) (dl_at t_X25_fits 212 rfl) ?_
              refine g_lload (pc := 368) X (i := 5) (q := 1) (x := x5_25) rfl (dl_at t_X25_fits 213 rfl) ?_
              refine g_lcmp (pc := 370) X (r64_w _) r5_25 (dl_at t_X25_fits 214 rfl) ?_
              refine g_ifgt (pc := 371) X (r32_lcmp _ _) (off := 30) (tgt := 401) rfl (dl_at t_X25_fits 215 rfl) (fun _ => ?_) (fun _ => ?_)
              · refine g_ls (ls2 := [(0, rv D a0), (7, jv x7_341), (10, iv x10_76)]) [0, 2, 3] rfl ?_
                exact g_at fun Q hQ => hQ ⟨r7_341, E_341⟩
              refine g_aload_n (pc := 374) X (j := 0) (i := 0) (q := 0) (x := a0) rfl rfl (dl_at t_X25_fits 216 rfl) ?_
              refine g_dup (pc := 375) X rv_cat (dl_at t_X25_fits 217 rfl) ?_
              refine r_geti (pc := 376) X fX25_136 k342 q3948 (dl_at t_X25_fits 218 rfl) fun g376 => ?_
              refine g_iconst (pc := 379) X (n := 1) (dl_at t_X25_fits 219 rfl) ?_
              refine g_iadd (pc := 380) X g376 (r32_c rfl) (dl_at t_X25_fits 220 rfl) ?_
              refine r_puti (pc := 381) X fX25_136 k342 q3948 rfl (dl_at t_X25_fits 221 rfl) (r32_w _) (fun h381 E381 => ?_)
              refine g_lload (pc := 384) X (i := 7) (q := 2) (x := x7_341) rfl (dl_at t_X25_fits 222 rfl) ?_
              refine g_aload_n (pc := 386) X (j := 0) (i := 0) (q := 0) (x := a0) rfl rfl (dl_at t_X25_fits 223 rfl) ?_
              refine g_iload (pc := 387) X (i := 10) (q := 3) (x := x10_76) rfl (dl_at t_X25_fits 224 rfl) ?_
              refine g_iconst (pc := 389) X (n := 1) (dl_at t_X25_fits 225 rfl) ?_
              refine g_isub (pc := 390) X r10_76 (r32_c rfl) (dl_at t_X25_fits 226 rfl) ?_
              have k391 := kx E381 (by decide) k342
              refine r_callRi (pc := 391) X (fun _ hv => s_X25_leadOf k391 (r32_w _) hv) cw_code q5082 q379 (in_Vk X (As := [iv (w32 (x10_76 - 1))]) kX25 k391 (Or.inl q5079) q5081 qs337 cw_code q5082 ⟨by decide, by decide⟩ rfl (dl_at t_X25_fits 227 rfl)) (dl_at t_X25_fits 227 rfl) (cat24 (st := [jv x7_341]) (Nat.le_of_ble_eq_true rfl)) (Nat.le_of_ble_eq_true rfl) (Nat.le_of_ble_eq_true rfl) fun v391 g391 => ?_
              refine g_i2l (pc := 394) X g391 (dl_at t_X25_fits 228 rfl) ?_
              refine g_ladd (pc := 395) X r7_341 (r64_of g391) (dl_at t_X25_fits 229 rfl) ?_
              refine g_ltl (r64_w _) fun x7_396 r7_396 => ?_
              refine g_lstore (pc := 396) X (i := 7) (x := x7_396) (rest := [(0, rv D a0), (5, jv x5_25), (10, iv x10_76)]) (Nat.le_of_ble_eq_true rfl) [0, 1, 3] rfl rfl (dl_at t_X25_fits 230 rfl) ?_
              refine g_goto (pc := 398) X (off := (-57)) (tgt := 341) rfl (dl_at t_X25_fits 231 rfl) ?_
              refine g_ls (ls2 := [(0, rv D a0), (5, jv x5_25), (7, jv x7_396), (10, iv x10_76)]) [1, 2, 0, 3] rfl ?_
              exact g_at fun Q hQ => hQ ⟨r7_396, (E_341.trans E381)⟩
            · rintro ⟨x7_401, h_401⟩ ⟨r7_401, E_401⟩
              try dsimp only [sE]
              refine g_aload_n (pc := 401) X (j := 0) (i := 0) (q := 0) (x := a0) rfl rfl (dl_at t_X25_fits 232 rfl) ?_
              refine g_aload_n (pc := 402) X (j := 0) (i := 0) (q := 0) (x := a0) rfl rfl (dl_at t_X25_fits 233 rfl) ?_
              refine g_iload (pc := 403) X (i := 10) (q := 2) (x := x10_76) rfl (dl_at t_X25_fits 234 rfl) ?_
              refine g_iconst (pc := 405) X (n := 1) (dl_at t_X25_fits 235 rfl) ?_
              refine g_isub (pc := 406) X r10_76 (r32_c rfl) (dl_at t_X25_fits 236 rfl) ?_
              have k407 := kx (E331.trans E_401) (by decide) k331
              refine r_callRi (pc := 407) X (fun _ hv => s_X25_linesOf k407 (r32_w _) hv) cw_code q5086 q379 (in_Vk X (As := [iv (w32 (x10_76 - 1))]) kX25 k407 (Or.inl q5083) q5085 qs338 cw_code q5086 ⟨by decide, by decide⟩ rfl (dl_at t_X25_fits 237 rfl)) (dl_at t_X25_fits 237 rfl) (cat24 (st := [rv D a0]) (Nat.le_of_ble_eq_true rfl)) (Nat.le_of_ble_eq_true rfl) (Nat.le_of_ble_eq_true rfl) fun v407 g407 => ?_
              refine g_aload_n (pc := 410) X (j := 0) (i := 0) (q := 0) (x := a0) rfl rfl (dl_at t_X25_fits 238 rfl) ?_
              refine r_geti (pc := 411) X fX25_136 k407 q3948 (dl_at t_X25_fits 239 rfl) fun g411 => ?_
              refine g_isub (pc := 414) X g407 g411 (dl_at t_X25_fits 240 rfl) ?_
              refine r_puti (pc := 415) X fX25_134 k407 q3946 rfl (dl_at t_X25_fits 241 rfl) (r32_w _) (fun h415 E415 => ?_)
              refine g_goto (pc := 418) X (off := 73) (tgt := 491) rfl (dl_at t_X25_fits 242 rfl) ?_
              refine g_aload_n (pc := 491) X (j := 0) (i := 0) (q := 0) (x := a0) rfl rfl (dl_at t_X25_fits 282 rfl) ?_
              refine g_lload (pc := 492) X (i := 7) (q := 1) (x := x7_401) rfl (dl_at t_X25_fits 283 rfl) ?_
              have k494_2 := kx E415 (by decide) k407
              refine r_putl (pc := 494) X fX25_137 k494_2 q3949 rfl (dl_at t_X25_fits 284 rfl) r7_401 (fun h494_2 E494_2 => ?_)
              refine g_iconst (pc := 497) X (n := 1) (dl_at t_X25_fits 285 rfl) ?_
              exact g_zret (pc := 498) X (Or.inr rfl) rfl rfl (dl_at t_X25_fits 286 rfl)
        refine g_iconst (pc := 261) X (n := 0) (dl_at t_X25_fits 153 rfl) ?_
        exact g_zret (pc := 262) X (Or.inl rfl) rfl rfl (dl_at t_X25_fits 154 rfl)
      intro J253
      refine g_icmple (pc := 119) X r10_76 rs0_68 (off := 110) (tgt := 229) rfl (dl_at t_X25_fits 73 rfl) (fun _ => ?_) (fun _ => ?_)
      · refine g_iload (pc := 229) X (i := 4) (q := 3) (x := x4_13) rfl (dl_at t_X25_fits 135 rfl) ?_
        refine g_ifle (pc := 231) X r4_13 (off := 22) (tgt := 253) rfl (dl_at t_X25_fits 136 rfl) (fun _ => ?_) (fun _ => ?_)
        · exact J253 (x7_105, h112) ⟨r7_105, (Ext.refl _)⟩
        refine g_aload_n (pc := 234) X (j := 0) (i := 0) (q := 0) (x := a0) rfl rfl (dl_at t_X25_fits 137 rfl) ?_
        refine g_iconst (pc := 235) X (n := 1) (dl_at t_X25_fits 138 rfl) ?_
        have k236 := kx E112 (by decide) k112
        refine r_puti (pc := 236) X fX25_135 k236 q3947 rfl (dl_at t_X25_fits 139 rfl) (r32_c rfl) (fun h236 E236 => ?_)
        refine g_lload (pc := 239) X (i := 7) (q := 5) (x := x7_105) rfl (dl_at t_X25_fits 140 rfl) ?_
        refine g_aload_n (pc := 241) X (j := 0) (i := 0) (q := 0) (x := a0) rfl rfl (dl_at t_X25_fits 141 rfl) ?_
        refine g_iload (pc := 242) X (i := 9) (q := 6) (x := s0_68) rfl (dl_at t_X25_fits 142 rfl) ?_
        refine g_iconst (pc := 244) X (n := 1) (dl_at t_X25_fits 143 rfl) ?_
        refine g_isub (pc := 245) X rs0_68 (r32_c rfl) (dl_at t_X25_fits 144 rfl) ?_
        have k246 := kx E236 (by decide) k236
        refine r_callRi (pc := 246) X (fun _ hv => s_X25_leadOf k246 (r32_w _) hv) cw_code q5082 q379 (in_Vk X (As := [iv (w32 (s0_68 - 1))]) kX25 k246 (Or.inl q5079) q5081 qs337 cw_code q5082 ⟨by decide, by decide⟩ rfl (dl_at t_X25_fits 145 rfl)) (dl_at t_X25_fits 145 rfl) (cat24 (st := [jv x7_105]) (Nat.le_of_ble_eq_true rfl)) (Nat.le_of_ble_eq_true rfl) (Nat.le_of_ble_eq_true rfl) fun v246 g246 => ?_
        refine g_i2l (pc := 249) X g246 (dl_at t_X25_fits 146 rfl) ?_
        refine g_ladd (pc := 250) X r7_105 (r64_of g246) (dl_at t_X25_fits 147 rfl) ?_
        refine g_ltl (r64_w _) fun x7_251 r7_251 => ?_
        refine g_lstore (pc := 251) X (i := 7) (x := x7_251) (rest := [(0, rv D a0), (1, iv a1), (2, iv a2), (4, iv x4_13), (5, jv x5_25), (9, iv s0_68), (10, iv x10_76)]) (Nat.le_of_ble_eq_true rfl) [0, 1, 2, 3, 4, 6, 7] rfl rfl (dl_at t_X25_fits 148 rfl) ?_
        refine g_ls (ls2 := [(0, rv D a0), (1, iv a1), (2, iv a2), (4, iv x4_13), (5, jv x5_25), (7, jv x7_251), (9, iv s0_68), (10, iv x10_76)]) [1, 2, 3, 4, 5, 0, 6, 7] rfl ?_
        exact J253 (x7_251, h236) ⟨r7_251, E236⟩
      refine g_iload (pc := 122) X (i := 4) (q := 3) (x := x4_13) rfl (dl_at t_X25_fits 74 rfl) ?_
      refine g_join (γ := Int) (fun q => r64 q) 145 (fun q => [(0, rv D a0), (1, iv a1), (2, iv a2), (4, iv x4_13), (5, jv x5_25), (7, jv q), (9, iv s0_68), (10, iv x10_76)]) (fun q => []) (fun q => h112) (fun q => m_X25_fits_j145 a0 a1 a2 x4_13 x5_25 s0_68 x10_76 q h112) ?_ ?_
      · rintro x7_145 r7_145
        try dsimp only
        unfold m_X25_fits_j145
        refine g_aload_n (pc := 145) X (j := 0) (i := 0) (q := 0) (x := a0) rfl rfl (dl_at t_X25_fits 88 rfl) ?_
        refine g_iload (pc := 146) X (i := 4) (q := 3) (x := x4_13) rfl (dl_at t_X25_fits 89 rfl) ?_
        have k148 := kx E112 (by decide) k112
        refine r_puti (pc := 148) X fX25_135 k148 q3947 rfl (dl_at t_X25_fits 90 rfl) r4_13 (fun h148 E148 => ?_)
        refine g_iload (pc := 151) X (i := 9) (q := 6) (x := s0_68) rfl (dl_at t_X25_fits 91 rfl) ?_
        refine g_istoreN (pc := 153) X (i := 11) (x := s0_68) (b := 10) (w := iv x10_76) (rest := [(0, rv D a0), (1, iv a1), (2, iv a2), (4, iv x4_13), (5, jv x5_25), (7, jv x7_145), (9, iv s0_68)]) (Nat.le_of_ble_eq_true rfl) [7, 0, 1, 2, 3, 4, 5, 6] rfl (by decide) rfl rfl (dl_at t_X25_fits 92 rfl) ?_
        refine g_ls (ls2 := [(0, rv D a0), (1, iv a1), (2, iv a2), (4, iv x4_13), (5, jv x5_25), (7, jv x7_145), (9, iv s0_68), (10, iv x10_76), (11, iv s0_68)]) [2, 3, 4, 5, 6, 7, 8, 1, 0] rfl ?_
        refine g_loop1 (fun (q : Int × Int) => [(0, rv D a0), (1, iv a1), (2, iv a2), (4, iv x4_13), (5, jv x5_25), (7, jv q.1), (9, iv s0_68), (10, iv x10_76), (11, iv q.2)]) (fun (q : Int × Int) => h148) (fun (q : Int × Int) => r64 q.1 ∧ r32 q.2) 190 (fun (y190 : Int) => [(0, rv D a0), (1, iv a1), (2, iv a2), (4, iv x4_13), (5, jv x5_25), (7, jv y190), (9, iv s0_68), (10, iv x10_76)]) (fun (y190 : Int) => h148) (fun (y190 : Int) => r64 y190) (x7_145, s0_68) ⟨r7_145, rs0_68⟩ ?_ ?_
        · rintro ⟨x7_155, x11_155⟩ ⟨r7_155, r11_155⟩
          try dsimp only
          unfold m_X25_fits_l155
          refine g_iload (pc := 155) X (i := 11) (q := 8) (x := x11_155) rfl (dl_at t_X25_fits 93 rfl) ?_
          refine g_iload (pc := 157) X (i := 10) (q := 7) (x := x10_76) rfl (dl_at t_X25_fits 94 rfl) ?_
          refine g_iconst (pc := 159) X (n := 1) (dl_at t_X25_fits 95 rfl) ?_
          refine g_isub (pc := 160) X r10_76 (r32_c rfl) (dl_at t_X25_fits 96 rfl) ?_
          refine g_icmpge (pc := 161) X r11_155 (r32_w _) (off := 29) (tgt := 190) rfl (dl_at t_X25_fits 97 rfl) (fun _ => ?_) (fun _ => ?_)
          · refine g_ls (ls2 := [(0, rv D a0), (1, iv a1), (2, iv a2), (4, iv x4_13), (5, jv x5_25), (7, jv x7_155), (9, iv s0_68), (10, iv x10_76)]) [0, 1, 2, 3, 4, 5, 6, 7] rfl ?_
            exact g_at fun Q hQ => hQ r7_155
          refine g_lload (pc := 164) X (i := 7) (q := 5) (x := x7_155) rfl (dl_at t_X25_fits 98 rfl) ?_
          refine g_aload_n (pc := 166) X (j := 0) (i := 0) (q := 0) (x := a0) rfl rfl (dl_at t_X25_fits 99 rfl) ?_
          refine g_iload (pc := 167) X (i := 11) (q := 8) (x := x11_155) rfl (dl_at t_X25_fits 100 rfl) ?_
          have k169 := kx E148 (by decide) k148
          refine r_callRi (pc := 169) X (fun _ hv => s_X25_linesOf k169 r11_155 hv) cw_code q5086 q379 (in_Vk X (As := [iv x11_155]) kX25 k169 (Or.inl q5083) q5085 qs338 cw_code q5086 ⟨by decide, by decide⟩ rfl (dl_at t_X25_fits 101 rfl)) (dl_at t_X25_fits 101 rfl) (cat24 (st := [jv x7_155]) (Nat.le_of_ble_eq_true rfl)) (Nat.le_of_ble_eq_true rfl) (Nat.le_of_ble_eq_true rfl) fun v169 g169 => ?_
          refine g_i2l (pc := 172) X g169 (dl_at t_X25_fits 102 rfl) ?_
          refine g_aload_n (pc := 173) X (j := 0) (i := 0) (q := 0) (x := a0) rfl rfl (dl_at t_X25_fits 103 rfl) ?_
          refine g_iload (pc := 174) X (i := 11) (q := 8) (x := x11_155) rfl (dl_at t_X25_fits 104 rfl) ?_
          refine r_callRi (pc := 176) X (fun _ hv => s_X25_leadOf k169 r11_155 hv) cw_code q5082 q379 (in_Vk X (As := [iv x11_155]) kX25 k169 (Or.inl q5079) q5081 qs337 cw_code q5082 ⟨by decide, by decide⟩ rfl (dl_at t_X25_fits 105 rfl)) (dl_at t_X25_fits 105 rfl) (cat24 (st := [jv v169, jv x7_155]) (Nat.le_of_ble_eq_true rfl)) (Nat.le_of_ble_eq_true rfl) (Nat.le_of_ble_eq_true rfl) fun v176 g176 => ?_
          refine g_i2l (pc := 179) X g176 (dl_at t_X25_fits 106 rfl) ?_
          refine g_lmul (pc := 180) X (r64_of g169) (r64_of g176) (dl_at t_X25_fits 107 rfl) ?_
          refine g_ladd (pc := 181) X r7_155 (r64_w _) (dl_at t_X25_fits 108 rfl) ?_
          refine g_ltl (r64_w _) fun x7_182 r7_182 => ?_
          refine g_lstore (pc := 182) X (i := 7) (x := x7_182) (rest := [(0, rv D a0), (1, iv a1), (2, iv a2), (4, iv x4_13), (5, jv x5_25), (9, iv s0_68), (10, iv x10_76), (11, iv x11_155)]) (Nat.le_of_ble_eq_true rfl) [0, 1, 2, 3, 4, 6, 7, 8] rfl rfl (dl_at t_X25_fits 109 rfl) ?_
          refine r_iincN (pc := 184) X (i := 11) (q := 8) (n := 1) (x := x11_155) (b := 10) (w := iv x10_76) (rest := [(7, jv x7_182), (0, rv D a0), (1, iv a1), (2, iv a2), (4, iv x4_13), (5, jv x5_25), (9, iv s0_68)]) rfl r11_155 (r32_c rfl) (Nat.le_of_ble_eq_true rfl) [7, 0, 1, 2, 3, 4, 5, 6] rfl (by decide) rfl rfl (dl_at t_X25_fits 110 rfl) fun x11_184 r11_184 => ?_
          refine g_goto (pc := 187) X (off := (-32)) (tgt := 155) rfl (dl_at t_X25_fits 111 rfl) ?_
          refine g_ls (ls2 := [(0, rv D a0), (1, iv a1), (2, iv a2), (4, iv x4_13), (5, jv x5_25), (7, jv x7_182), (9, iv s0_68), (10, iv x10_76), (11, iv x11_184)]) [3, 4, 5, 6, 7, 2, 8, 1, 0] rfl ?_
          exact g_at fun Q hQ => hQ ⟨r7_182, r11_184⟩
        · rintro x7_190 r7_190
          try dsimp only [sE]
          refine g_aload_n (pc := 190) X (j := 0) (i := 0) (q := 0) (x := a0) rfl rfl (dl_at t_X25_fits 112 rfl) ?_
          refine g_iconst (pc := 191) X (n := 2) (dl_at t_X25_fits 113 rfl) ?_
          refine g_aload_n (pc := 192) X (j := 0) (i := 0) (q := 0) (x := a0) rfl rfl (dl_at t_X25_fits 114 rfl) ?_
          refine g_iload (pc := 193) X (i := 10) (q := 7) (x := x10_76) rfl (dl_at t_X25_fits 115 rfl) ?_
          refine g_iconst (pc := 195) X (n := 1) (dl_at t_X25_fits 116 rfl) ?_
          refine g_isub (pc := 196) X r10_76 (r32_c rfl) (dl_at t_X25_fits 117 rfl) ?_
          have k197 := kx E148 (by decide) k148
          refine r_callRi (pc := 197) X (fun _ hv => s_X25_linesOf k197 (r32_w _) hv) cw_code q5086 q379 (in_Vk X (As := [iv (w32 (x10_76 - 1))]) kX25 k197 (Or.inl q5083) q5085 qs338 cw_code q5086 ⟨by decide, by decide⟩ rfl (dl_at t_X25_fits 118 rfl)) (dl_at t_X25_fits 118 rfl) (cat24 (st := [iv 2, rv D a0]) (Nat.le_of_ble_eq_true rfl)) (Nat.le_of_ble_eq_true rfl) (Nat.le_of_ble_eq_true rfl) fun v197 g197 => ?_
          refine g_mmin (pc := 200) X (r32_c rfl) g197 q4810 q4811 q398 q4812 (cat24 (st := [rv D a0]) (Nat.le_of_ble_eq_true rfl)) (Nat.le_of_ble_eq_true rfl) (Nat.le_of_ble_eq_true rfl) (dl_at t_X25_fits 119 rfl) ?_
          refine r_puti (pc := 203) X fX25_136 k197 q3948 rfl (dl_at t_X25_fits 120 rfl) (r32_min (r32_c rfl) g197) (fun h203 E203 => ?_)
          refine g_lload (pc := 206) X (i := 7) (q := 5) (x := x7_190) rfl (dl_at t_X25_fits 121 rfl) ?_
          refine g_aload_n (pc := 208) X (j := 0) (i := 0) (q := 0) (x := a0) rfl rfl (dl_at t_X25_fits 122 rfl) ?_
          have k209 := kx E203 (by decide) k197
          refine r_geti (pc := 209) X fX25_136 k209 q3948 (dl_at t_X25_fits 123 rfl) fun g209 => ?_
          refine g_i2l (pc := 212) X g209 (dl_at t_X25_fits 124 rfl) ?_
          refine g_aload_n (pc := 213) X (j := 0) (i := 0) (q := 0) (x := a0) rfl rfl (dl_at t_X25_fits 125 rfl) ?_
          refine g_iload (pc := 214) X (i := 10) (q := 7) (x := x10_76) rfl (dl_at t_X25_fits 126 rfl) ?_
          refine g_iconst (pc := 216) X (n := 1) (dl_at t_X25_fits 127 rfl) ?_
          refine g_isub (pc := 217) X r10_76 (r32_c rfl) (dl_at t_X25_fits 128 rfl) ?_
          refine r_callRi (pc := 218) X (fun _ hv => s_X25_leadOf k209 (r32_w _) hv) cw_code q5082 q379 (in_Vk X (As := [iv (w32 (x10_76 - 1))]) kX25 k209 (Or.inl q5079) q5081 qs337 cw_code q5082 ⟨by decide, by decide⟩ rfl (dl_at t_X25_fits 129 rfl)) (dl_at t_X25_fits 129 rfl) (cat24 (st := [jv (h203 a0 136), jv x7_190]) (Nat.le_of_ble_eq_true rfl)) (Nat.le_of_ble_eq_true rfl) (Nat.le_of_ble_eq_true rfl) fun v218 g218 => ?_
          refine g_i2l (pc := 221) X g218 (dl_at t_X25_fits 130 rfl) ?_
          refine g_lmul (pc := 222) X (r64_of g209) (r64_of g218) (dl_at t_X25_fits 131 rfl) ?_
          refine g_ladd (pc := 223) X r7_190 (r64_w _) (dl_at t_X25_fits 132 rfl) ?_
          refine g_ltl (r64_w _) fun x7_224 r7_224 => ?_
          refine g_lstore (pc := 224) X (i := 7) (x := x7_224) (rest := [(0, rv D a0), (1, iv a1), (2, iv a2), (4, iv x4_13), (5, jv x5_25), (9, iv s0_68), (10, iv x10_76)]) (Nat.le_of_ble_eq_true rfl) [0, 1, 2, 3, 4, 6, 7] rfl rfl (dl_at t_X25_fits 133 rfl) ?_
          refine g_goto (pc := 226) X (off := 27) (tgt := 253) rfl (dl_at t_X25_fits 134 rfl) ?_
          refine g_ls (ls2 := [(0, rv D a0), (1, iv a1), (2, iv a2), (4, iv x4_13), (5, jv x5_25), (7, jv x7_224), (9, iv s0_68), (10, iv x10_76)]) [1, 2, 3, 4, 5, 0, 6, 7] rfl ?_
          exact J253 (x7_224, h203) ⟨r7_224, (E148.trans E203)⟩
      intro J145
      refine g_ifle (pc := 124) X r4_13 (off := 21) (tgt := 145) rfl (dl_at t_X25_fits 75 rfl) (fun _ => ?_) (fun _ => ?_)
      · exact J145 x7_105 r7_105
      refine g_lload (pc := 127) X (i := 7) (q := 5) (x := x7_105) rfl (dl_at t_X25_fits 76 rfl) ?_
      refine g_iload (pc := 129) X (i := 4) (q := 3) (x := x4_13) rfl (dl_at t_X25_fits 77 rfl) ?_
      refine g_i2l (pc := 131) X r4_13 (dl_at t_X25_fits 78 rfl) ?_
      refine g_aload_n (pc := 132) X (j := 0) (i := 0) (q := 0) (x := a0) rfl rfl (dl_at t_X25_fits 79 rfl) ?_
      refine g_iload (pc := 133) X (i := 9) (q := 6) (x := s0_68) rfl (dl_at t_X25_fits 80 rfl) ?_
      refine g_iconst (pc := 135) X (n := 1) (dl_at t_X25_fits 81 rfl) ?_
      refine g_isub (pc := 136) X rs0_68 (r32_c rfl) (dl_at t_X25_fits 82 rfl) ?_
      have k137 := kx E112 (by decide) k112
      refine r_callRi (pc := 137) X (fun _ hv => s_X25_leadOf k137 (r32_w _) hv) cw_code q5082 q379 (in_Vk X (As := [iv (w32 (s0_68 - 1))]) kX25 k137 (Or.inl q5079) q5081 qs337 cw_code q5082 ⟨by decide, by decide⟩ rfl (dl_at t_X25_fits 83 rfl)) (dl_at t_X25_fits 83 rfl) (cat24 (st := [jv x4_13, jv x7_105]) (Nat.le_of_ble_eq_true rfl)) (Nat.le_of_ble_eq_true rfl) (Nat.le_of_ble_eq_true rfl) fun v137 g137 => ?_
      refine g_i2l (pc := 140) X g137 (dl_at t_X25_fits 84 rfl) ?_
      refine g_lmul (pc := 141) X (r64_of r4_13) (r64_of g137) (dl_at t_X25_fits 85 rfl) ?_
      refine g_ladd (pc := 142) X r7_105 (r64_w _) (dl_at t_X25_fits 86 rfl) ?_
      refine g_ltl (r64_w _) fun x7_143 r7_143 => ?_
      refine g_lstore (pc := 143) X (i := 7) (x := x7_143) (rest := [(0, rv D a0), (1, iv a1), (2, iv a2), (4, iv x4_13), (5, jv x5_25), (9, iv s0_68), (10, iv x10_76)]) (Nat.le_of_ble_eq_true rfl) [0, 1, 2, 3, 4, 6, 7] rfl rfl (dl_at t_X25_fits 87 rfl) ?_
      refine g_ls (ls2 := [(0, rv D a0), (1, iv a1), (2, iv a2), (4, iv x4_13), (5, jv x5_25), (7, jv x7_143), (9, iv s0_68), (10, iv x10_76)]) [1, 2, 3, 4, 5, 0, 6, 7] rfl ?_
      exact J145 x7_143 r7_143
    intro J105
    refine g_join (γ := Unit) (fun q => True) 90 (fun q => [(0, rv D a0), (1, iv a1), (2, iv a2), (4, iv x4_13), (5, jv x5_25), (7, jv x7_50), (9, iv s0_68), (10, iv x10_76)]) (fun q => []) (fun q => h) (fun q => m_X25_fits_j90 x10_76 s0_68 a0 a1 a2 x4_13 x5_25 x7_50 h) ?_ ?_
    · rintro _ _
      try dsimp only
      unfold m_X25_fits_j90
      refine g_lload (pc := 90) X (i := 7) (q := 5) (x := x7_50) rfl (dl_at t_X25_fits 56 rfl) ?_
      refine g_aload_n (pc := 92) X (j := 0) (i := 0) (q := 0) (x := a0) rfl rfl (dl_at t_X25_fits 57 rfl) ?_
      refine r_getr (pc := 93) X fX25_0 hk q3761 (dl_at t_X25_fits 58 rfl) ?_
      refine r_getr (pc := 96) X fX24_2 k19 q3647 (dl_at t_X25_fits 59 rfl) ?_
      refine g_iconst (pc := 99) X (n := 4) (dl_at t_X25_fits 60 rfl) ?_
      refine g_gd fun k100 => ?_
      refine g_iald (pc := 100) X (r32_c rfl) k100 (dl_at t_X25_fits 61 rfl) fun g100 => ?_
      refine g_i2l (pc := 101) X g100 (dl_at t_X25_fits 62 rfl) ?_
      refine g_ladd (pc := 102) X r7_50 (r64_of g100) (dl_at t_X25_fits 63 rfl) ?_
      refine g_ltl (r64_w _) fun x7_103 r7_103 => ?_
      refine g_lstore (pc := 103) X (i := 7) (x := x7_103) (rest := [(0, rv D a0), (1, iv a1), (2, iv a2), (4, iv x4_13), (5, jv x5_25), (9, iv s0_68), (10, iv x10_76)]) (Nat.le_of_ble_eq_true rfl) [0, 1, 2, 3, 4, 6, 7] rfl rfl (dl_at t_X25_fits 64 rfl) ?_
      refine g_ls (ls2 := [(0, rv D a0), (1, iv a1), (2, iv a2), (4, iv x4_13), (5, jv x5_25), (7, jv x7_103), (9, iv s0_68), (10, iv x10_76)]) [1, 2, 3, 4, 5, 0, 6, 7] rfl ?_
      exact J105 x7_103 r7_103
    intro J90
    refine g_ifgt (pc := 80) X r4_13 (off := 10) (tgt := 90) rfl (dl_at t_X25_fits 52 rfl) (fun _ => ?_) (fun _ => ?_)
    · refine g_ls (ls2 := [(0, rv D a0), (1, iv a1), (2, iv a2), (4, iv x4_13), (5, jv x5_25), (7, jv x7_50), (9, iv s0_68), (10, iv x10_76)]) [2, 3, 4, 5, 6, 7, 1, 0] rfl ?_
      exact J90 () trivial
    refine g_iload (pc := 83) X (i := 10) (q := 0) (x := x10_76) rfl (dl_at t_X25_fits 53 rfl) ?_
    refine g_iload (pc := 85) X (i := 9) (q := 1) (x := s0_68) rfl (dl_at t_X25_fits 54 rfl) ?_
    refine g_icmple (pc := 87) X r10_76 rs0_68 (off := 18) (tgt := 105) rfl (dl_at t_X25_fits 55 rfl) (fun _ => ?_) (fun _ => ?_)
    · refine g_ls (ls2 := [(0, rv D a0), (1, iv a1), (2, iv a2), (4, iv x4_13), (5, jv x5_25), (7, jv x7_50), (9, iv s0_68), (10, iv x10_76)]) [2, 3, 4, 5, 6, 7, 1, 0] rfl ?_
      exact J105 x7_50 r7_50
    refine g_ls (ls2 := [(0, rv D a0), (1, iv a1), (2, iv a2), (4, iv x4_13), (5, jv x5_25), (7, jv x7_50), (9, iv s0_68), (10, iv x10_76)]) [2, 3, 4, 5, 6, 7, 1, 0] rfl ?_
    exact J90 () trivial
  intro J68
  refine g_ifne (pc := 53) X r3_6 (off := 7) (tgt := 60) rfl (dl_at t_X25_fits 36 rfl) (fun _ => ?_) (fun _ => ?_)
  · refine g_aload_n (pc := 60) X (j := 0) (i := 0) (q := 5) (x := a0) rfl rfl (dl_at t_X25_fits 39 rfl) ?_
    refine r_getr (pc := 61) X fX25_123 hk q3935 (dl_at t_X25_fits 40 rfl) ?_
    refine g_iload_n (pc := 64) X (j := 3) (i := 3) (q := 3) (x := x3_6) rfl rfl (dl_at t_X25_fits 41 rfl) ?_
    refine g_iconst (pc := 65) X (n := 1) (dl_at t_X25_fits 42 rfl) ?_
    refine g_isub (pc := 66) X r3_6 (r32_c rfl) (dl_at t_X25_fits 43 rfl) ?_
    refine g_gd fun k67 => ?_
    refine g_iald (pc := 67) X (r32_w _) k67 (dl_at t_X25_fits 44 rfl) fun g67 => ?_
    refine g_ls (ls2 := [(0, rv D a0), (1, iv a1), (2, iv a2), (4, iv x4_13), (5, jv x5_25), (7, jv x7_50)]) [5, 6, 4, 2, 1, 0] rfl ?_
    exact J68 (h (h a0 123) (w32 (x3_6 - 1))) g67
  refine g_iconst (pc := 56) X (n := 0) (dl_at t_X25_fits 37 rfl) ?_
  refine g_goto (pc := 57) X (off := 11) (tgt := 68) rfl (dl_at t_X25_fits 38 rfl) ?_
  refine g_ls (ls2 := [(0, rv D a0), (1, iv a1), (2, iv a2), (4, iv x4_13), (5, jv x5_25), (7, jv x7_50)]) [5, 6, 4, 2, 1, 0] rfl ?_
  exact J68 0 (r32_c rfl)
def k_X25_endsHyphen : List (Nat × Instr × Nat) := [(0, .aload_n 0, 1), (1, .iload_n 1, 1), (2, .aload_n 0, 1), (3, .getfield 84, 3), (6, .aload_n 0, 1), (7, .getfield 53, 3), (10, .iload_n 1, 1), (11, .iaload, 1), (12, .iload_n 2, 1), (13, .iadd, 1), (14, .iaload, 1), (15, .invokevirtual 699, 3), (18, .iconst 1, 1), (19, .if_icmp .ne 7, 3), (22, .iconst 1, 1), (23, .goto 4, 3), (26, .iconst 0, 1), (27, .ireturn, 1)]
theorem t_X25_endsHyphen : ∀ q ∈ k_X25_endsHyphen, decode cX25_endsHyphen q.1 = .ok q.2 := dl_all (by decide +kernel)
noncomputable def m_X25_endsHyphen (a0 a1 a2 : Int) (h : Hp) : Option (Int) :=
  gd (h (h a0 18) (-2) % 16 = 1 ∧ (0 : Int) ≤ a1 ∧ a1 < h (h a0 18) (-1)) (gd (h (h a0 28) (-2) % 16 = 1 ∧ (0 : Int) ≤ (w32 ((h (h a0 18) a1) + a2)) ∧ (w32 ((h (h a0 18) a1) + a2)) < h (h a0 28) (-1)) ((m_X25_typeOf a0 a1 (h (h a0 28) (w32 ((h (h a0 18) a1) + a2))) h).bind fun v15 =>
  if v15 ≠ 1 then (some 0)
  else (some 1)))
theorem s_X25_endsHyphen {l : Launch} [NoTr l] {D : SD} {a0 a1 a2 : Int} {h : Hp} (hk : h a0 (-2) = 416) (r1 : r32 a1) (r2 : r32 a2) {r : Int} (hm : m_X25_endsHyphen a0 a1 a2 h = some r) : Sim l D yX25_endsHyphen (Cond.code yX25_endsHyphen cX25_endsHyphen 3 (Option.some Jvm.ClassFile.FieldType.boolean)) 1 38 [rv D a0, iv a1, iv a2] h 3 ((0, r), h) := by
  refine Sim.of (fin := fun (v : Int) => ((0, v), h)) (lsE := [(0, rv D a0), (1, iv a1), (2, iv a2)]) hm rfl cwS_code (la_r (la_i (la_i la_n))) (ll_r (ll_i (ll_i ll_n))) ?_
  intro p e s m below meth c X hcw hmm hcc hnm hname
  unfold m_X25_endsHyphen
  refine g_aload_n (pc := 0) X (j := 0) (i := 0) (q := 0) (x := a0) rfl rfl (dl_at t_X25_endsHyphen 0 rfl) ?_
  refine g_iload_n (pc := 1) X (j := 1) (i := 1) (q := 1) (x := a1) rfl rfl (dl_at t_X25_endsHyphen 1 rfl) ?_
  refine g_aload_n (pc := 2) X (j := 0) (i := 0) (q := 0) (x := a0) rfl rfl (dl_at t_X25_endsHyphen 2 rfl) ?_
  refine r_getr (pc := 3) X fX25_28 hk q3802 (dl_at t_X25_endsHyphen 3 rfl) ?_
  refine g_aload_n (pc := 6) X (j := 0) (i := 0) (q := 0) (x := a0) rfl rfl (dl_at t_X25_endsHyphen 4 rfl) ?_
  refine r_getr (pc := 7) X fX25_18 hk q3788 (dl_at t_X25_endsHyphen 5 rfl) ?_
  refine g_iload_n (pc := 10) X (j := 1) (i := 1) (q := 1) (x := a1) rfl rfl (dl_at t_X25_endsHyphen 6 rfl) ?_
  refine g_gd fun k11 => ?_
  refine g_iald (pc := 11) X r1 k11 (dl_at t_X25_endsHyphen 7 rfl) fun g11 => ?_
  refine g_iload_n (pc := 12) X (j := 2) (i := 2) (q := 2) (x := a2) rfl rfl (dl_at t_X25_endsHyphen 8 rfl) ?_
  refine g_iadd (pc := 13) X g11 r2 (dl_at t_X25_endsHyphen 9 rfl) ?_
  refine g_gd fun k14 => ?_
  refine g_iald (pc := 14) X (r32_w _) k14 (dl_at t_X25_endsHyphen 10 rfl) fun g14 => ?_
  refine r_callRi (pc := 15) X (fun _ hv => s_X25_typeOf hk r1 g14 hv) cw_code q5018 q379 (in_Vk X (As := [iv a1, iv (h (h a0 28) (w32 ((h (h a0 18) a1) + a2)))]) kX25 hk (Or.inl q5015) q5017 qs326 cw_code q5018 ⟨by decide, by decide⟩ rfl (dl_at t_X25_endsHyphen 11 rfl)) (dl_at t_X25_endsHyphen 11 rfl) (cat24 (st := []) (Nat.le_of_ble_eq_true rfl)) (Nat.le_of_ble_eq_true rfl) (Nat.le_of_ble_eq_true rfl) fun v15 g15 => ?_
  refine g_iconst (pc := 18) X (n := 1) (dl_at t_X25_endsHyphen 12 rfl) ?_
  refine g_icmpne (pc := 19) X g15 (r32_c rfl) (off := 7) (tgt := 26) rfl (dl_at t_X25_endsHyphen 13 rfl) (fun _ => ?_) (fun _ => ?_)
  · refine g_iconst (pc := 26) X (n := 0) (dl_at t_X25_endsHyphen 16 rfl) ?_
    exact g_zret (pc := 27) X (Or.inl rfl) rfl rfl (dl_at t_X25_endsHyphen 17 rfl)
  refine g_iconst (pc := 22) X (n := 1) (dl_at t_X25_endsHyphen 14 rfl) ?_
  refine g_goto (pc := 23) X (off := 4) (tgt := 27) rfl (dl_at t_X25_endsHyphen 15 rfl) ?_
  exact g_zret (pc := 27) X (Or.inr rfl) rfl rfl (dl_at t_X25_endsHyphen 17 rfl)
def k_X25_columnsFirst : List (Nat × Instr × Nat) := [(0, .iload_n 1, 1), (1, .istore_n 3, 1), (2, .iload_n 2, 1), (3, .istore 4, 2), (5, .iload_n 3, 1), (6, .iload 4, 2), (8, .if_icmp .eq 88, 3), (11, .aload_n 0, 1), (12, .getfield 316, 3), (15, .iload_n 3, 1), (16, .iaload, 1), (17, .ifCond .lt 79, 3), (20, .aload_n 0, 1), (21, .getfield 316, 3), (24, .iload 4, 2), (26, .iaload, 1), (27, .ifCond .lt 69, 3), (30, .aload_n 0, 1), (31, .getfield 307, 3), (34, .aload_n 0, 1), (35, .getfield 316, 3), (38, .iload_n 3, 1), (39, .iaload, 1), (40, .iaload, 1), (41, .istore 5, 2), (43, .aload_n 0, 1), (44, .getfield 307, 3), (47, .aload_n 0, 1), (48, .getfield 316, 3), (51, .iload 4, 2), (53, .iaload, 1), (54, .iaload, 1), (55, .istore 6, 2), (57, .iload 5, 2), (59, .iload 6, 2), (61, .if_icmp .eq 16, 3), (64, .iload 5, 2), (66, .iload 6, 2), (68, .if_icmp .ge 7, 3), (71, .iconst 1, 1), (72, .goto 4, 3), (75, .iconst 0, 1), (76, .ireturn, 1), (77, .aload_n 0, 1), (78, .getfield 316, 3), (81, .iload_n 3, 1), (82, .iaload, 1), (83, .istore_n 3, 1), (84, .aload_n 0, 1), (85, .getfield 316, 3), (88, .iload 4, 2), (90, .iaload, 1), (91, .istore 4, 2), (93, .goto (-88), 3), (96, .iconst 0, 1), (97, .ireturn, 1)]
theorem t_X25_columnsFirst : ∀ q ∈ k_X25_columnsFirst, decode cX25_columnsFirst q.1 = .ok q.2 := dl_all (by decide +kernel)
noncomputable def m_X25_columnsFirst_l5 (a0 x3_5 x4_5 : Int) (h : Hp) : Option ((Int × Int) ⊕ ((Int × Int) ⊕ ((Int)))) :=
  if x3_5 = x4_5 then (some (.inr (.inr 0)))
  else (gd (h (h a0 130) (-2) % 16 = 1 ∧ (0 : Int) ≤ x3_5 ∧ x3_5 < h (h a0 130) (-1)) (if (h (h a0 130) x3_5) < 0 then (some (.inr (.inr 0)))
  else (gd (h (h a0 130) (-2) % 16 = 1 ∧ (0 : Int) ≤ x4_5 ∧ x4_5 < h (h a0 130) (-1)) (if (h (h a0 130) x4_5) < 0 then (some (.inr (.inr 0)))
  else (gd (h (h a0 127) (-2) % 16 = 1 ∧ (0 : Int) ≤ (h (h a0 130) x3_5) ∧ (h (h a0 130) x3_5) < h (h a0 127) (-1)) (lt_ (h (h a0 127) (h (h a0 130) x3_5)) fun x5_41 =>
  gd (h (h a0 127) (-2) % 16 = 1 ∧ (0 : Int) ≤ (h (h a0 130) x4_5) ∧ (h (h a0 130) x4_5) < h (h a0 127) (-1)) (lt_ (h (h a0 127) (h (h a0 130) x4_5)) fun x6_55 =>
  if x5_41 = x6_55 then (lt_ (h (h a0 130) x3_5) fun x3_83 =>
  lt_ (h (h a0 130) x4_5) fun x4_91 =>
  some (.inl (x3_83, x4_91)))
  else (some (.inr (.inl (x5_41, x6_55)))))))))))
noncomputable def m_X25_columnsFirst (a0 a1 a2 : Int) (h : Hp) : Option (Int) :=
  (lp (fun (q : Int × Int) => m_X25_columnsFirst_l5 a0 q.1 q.2 h) (a1, a2)).bind (sE (fun (y64 : Int × Int) => if y64.2 ≤ y64.1 then (some 0)
  else (some 1)) (fun (x : Int) => some x))
theorem s_X25_columnsFirst {l : Launch} [NoTr l] {D : SD} {a0 a1 a2 : Int} {h : Hp} (hk : h a0 (-2) = 416) (r1 : r32 a1) (r2 : r32 a2) {r : Int} (hm : m_X25_columnsFirst a0 a1 a2 h = some r) : Sim l D yX25_columnsFirst (Cond.code yX25_columnsFirst cX25_columnsFirst 7 (Option.some Jvm.ClassFile.FieldType.boolean)) 0 0 [rv D a0, iv a1, iv a2] h 3 ((0, r), h) := by
  refine Sim.of (fin := fun (v : Int) => ((0, v), h)) (lsE := [(0, rv D a0), (1, iv a1), (2, iv a2)]) hm rfl cwS_code (la_r (la_i (la_i la_n))) (ll_r (ll_i (ll_i ll_n))) ?_
  intro p e s m below meth c X hcw hmm hcc hnm hname
  unfold m_X25_columnsFirst
  refine g_iload_n (pc := 0) X (j := 1) (i := 1) (q := 1) (x := a1) rfl rfl (dl_at t_X25_columnsFirst 0 rfl) ?_
  refine g_istore_nN (pc := 1) X (j := 3) (i := 3) (x := a1) (b := 2) (w := iv a2) (rest := [(0, rv D a0)]) rfl (Nat.le_of_ble_eq_true rfl) [2, 0] rfl (by decide) rfl rfl (dl_at t_X25_columnsFirst 1 rfl) ?_
  refine g_iload_n (pc := 2) X (j := 2) (i := 2) (q := 1) (x := a2) rfl rfl (dl_at t_X25_columnsFirst 2 rfl) ?_
  refine g_istoreN (pc := 3) X (i := 4) (x := a2) (b := 3) (w := iv a1) (rest := [(0, rv D a0)]) (Nat.le_of_ble_eq_true rfl) [0, 2] rfl (by decide) rfl rfl (dl_at t_X25_columnsFirst 3 rfl) ?_
  refine g_ls (ls2 := [(0, rv D a0), (3, iv a1), (4, iv a2)]) [2, 1, 0] rfl ?_
  refine g_loop1F (fun (q : Int × Int) => [(0, rv D a0), (3, iv q.1), (4, iv q.2)]) (fun (q : Int × Int) => h) (fun (q : Int × Int) => r32 q.1 ∧ r32 q.2) 64 (fun (y64 : Int × Int) => [(5, iv y64.1), (6, iv y64.2)]) (fun (y64 : Int × Int) => h) (fun (y64 : Int × Int) => r32 y64.1 ∧ r32 y64.2) (a1, a2) ⟨r1, r2⟩ ?_ ?_ (fun _ => rfl)
  · rintro ⟨x3_5, x4_5⟩ ⟨r3_5, r4_5⟩
    try dsimp only
    unfold m_X25_columnsFirst_l5
    refine g_iload_n (pc := 5) X (j := 3) (i := 3) (q := 1) (x := x3_5) rfl rfl (dl_at t_X25_columnsFirst 4 rfl) ?_
    refine g_iload (pc := 6) X (i := 4) (q := 2) (x := x4_5) rfl (dl_at t_X25_columnsFirst 5 rfl) ?_
    refine g_icmpeq (pc := 8) X r3_5 r4_5 (off := 88) (tgt := 96) rfl (dl_at t_X25_columnsFirst 6 rfl) (fun _ => ?_) (fun _ => ?_)
    · refine g_iconst (pc := 96) X (n := 0) (dl_at t_X25_columnsFirst 54 rfl) ?_
      exact g_at fun Q hQ => (g_zret (pc := 97) X (Or.inl rfl) rfl rfl (dl_at t_X25_columnsFirst 55 rfl)) _ Q rfl hQ
    refine g_aload_n (pc := 11) X (j := 0) (i := 0) (q := 0) (x := a0) rfl rfl (dl_at t_X25_columnsFirst 7 rfl) ?_
    refine r_getr (pc := 12) X fX25_130 hk q3942 (dl_at t_X25_columnsFirst 8 rfl) ?_
    refine g_iload_n (pc := 15) X (j := 3) (i := 3) (q := 1) (x := x3_5) rfl rfl (dl_at t_X25_columnsFirst 9 rfl) ?_
    refine g_gd fun k16 => ?_
    refine g_iald (pc := 16) X r3_5 k16 (dl_at t_X25_columnsFirst 10 rfl) fun g16 => ?_
    refine g_iflt (pc := 17) X g16 (off := 79) (tgt := 96) rfl (dl_at t_X25_columnsFirst 11 rfl) (fun _ => ?_) (fun _ => ?_)
    · refine g_iconst (pc := 96) X (n := 0) (dl_at t_X25_columnsFirst 54 rfl) ?_
      exact g_at fun Q hQ => (g_zret (pc := 97) X (Or.inl rfl) rfl rfl (dl_at t_X25_columnsFirst 55 rfl)) _ Q rfl hQ
    refine g_aload_n (pc := 20) X (j := 0) (i := 0) (q := 0) (x := a0) rfl rfl (dl_at t_X25_columnsFirst 12 rfl) ?_
    refine r_getr (pc := 21) X fX25_130 hk q3942 (dl_at t_X25_columnsFirst 13 rfl) ?_
    refine g_iload (pc := 24) X (i := 4) (q := 2) (x := x4_5) rfl (dl_at t_X25_columnsFirst 14 rfl) ?_
    refine g_gd fun k26 => ?_
    refine g_iald (pc := 26) X r4_5 k26 (dl_at t_X25_columnsFirst 15 rfl) fun g26 => ?_
    refine g_iflt (pc := 27) X g26 (off := 69) (tgt := 96) rfl (dl_at t_X25_columnsFirst 16 rfl) (fun _ => ?_) (fun _ => ?_)
    · refine g_iconst (pc := 96) X (n := 0) (dl_at t_X25_columnsFirst 54 rfl) ?_
      exact g_at fun Q hQ => (g_zret (pc := 97) X (Or.inl rfl) rfl rfl (dl_at t_X25_columnsFirst 55 rfl)) _ Q rfl hQ
    refine g_aload_n (pc := 30) X (j := 0) (i := 0) (q := 0) (x := a0) rfl rfl (dl_at t_X25_columnsFirst 17 rfl) ?_
    refine r_getr (pc := 31) X fX25_127 hk q3939 (dl_at t_X25_columnsFirst 18 rfl) ?_
    refine g_aload_n (pc := 34) X (j := 0) (i := 0) (q := 0) (x := a0) rfl rfl (dl_at t_X25_columnsFirst 19 rfl) ?_
    refine r_getr (pc := 35) X fX25_130 hk q3942 (dl_at t_X25_columnsFirst 20 rfl) ?_
    refine g_iload_n (pc := 38) X (j := 3) (i := 3) (q := 1) (x := x3_5) rfl rfl (dl_at t_X25_columnsFirst 21 rfl) ?_
    refine g_iald (pc := 39) X r3_5 k16 (dl_at t_X25_columnsFirst 22 rfl) fun g39 => ?_
    refine g_gd fun k40 => ?_
    refine g_iald (pc := 40) X g39 k40 (dl_at t_X25_columnsFirst 23 rfl) fun g40 => ?_
    refine g_lti g40 fun x5_41 r5_41 => ?_
    refine g_istoreN (pc := 41) X (i := 5) (x := x5_41) (b := 4) (w := iv x4_5) (rest := [(0, rv D a0), (3, iv x3_5)]) (Nat.le_of_ble_eq_true rfl) [2, 0, 1] rfl (by decide) rfl rfl (dl_at t_X25_columnsFirst 24 rfl) ?_
    refine g_aload_n (pc := 43) X (j := 0) (i := 0) (q := 2) (x := a0) rfl rfl (dl_at t_X25_columnsFirst 25 rfl) ?_
    refine r_getr (pc := 44) X fX25_127 hk q3939 (dl_at t_X25_columnsFirst 26 rfl) ?_
    refine g_aload_n (pc := 47) X (j := 0) (i := 0) (q := 2) (x := a0) rfl rfl (dl_at t_X25_columnsFirst 27 rfl) ?_
    refine r_getr (pc := 48) X fX25_130 hk q3942 (dl_at t_X25_columnsFirst 28 rfl) ?_
    refine g_iload (pc := 51) X (i := 4) (q := 1) (x := x4_5) rfl (dl_at t_X25_columnsFirst 29 rfl) ?_
    refine g_iald (pc := 53) X r4_5 k26 (dl_at t_X25_columnsFirst 30 rfl) fun g53 => ?_
    refine g_gd fun k54 => ?_
    refine g_iald (pc := 54) X g53 k54 (dl_at t_X25_columnsFirst 31 rfl) fun g54 => ?_
    refine g_lti g54 fun x6_55 r6_55 => ?_
    refine g_istoreN (pc := 55) X (i := 6) (x := x6_55) (b := 5) (w := iv x5_41) (rest := [(4, iv x4_5), (0, rv D a0), (3, iv x3_5)]) (Nat.le_of_ble_eq_true rfl) [0, 1, 2, 3] rfl (by decide) rfl rfl (dl_at t_X25_columnsFirst 32 rfl) ?_
    refine g_iload (pc := 57) X (i := 5) (q := 1) (x := x5_41) rfl (dl_at t_X25_columnsFirst 33 rfl) ?_
    refine g_iload (pc := 59) X (i := 6) (q := 0) (x := x6_55) rfl (dl_at t_X25_columnsFirst 34 rfl) ?_
    refine g_icmpeq (pc := 61) X r5_41 r6_55 (off := 16) (tgt := 77) rfl (dl_at t_X25_columnsFirst 35 rfl) (fun _ => ?_) (fun _ => ?_)
    · refine g_aload_n (pc := 77) X (j := 0) (i := 0) (q := 3) (x := a0) rfl rfl (dl_at t_X25_columnsFirst 43 rfl) ?_
      refine r_getr (pc := 78) X fX25_130 hk q3942 (dl_at t_X25_columnsFirst 44 rfl) ?_
      refine g_iload_n (pc := 81) X (j := 3) (i := 3) (q := 4) (x := x3_5) rfl rfl (dl_at t_X25_columnsFirst 45 rfl) ?_
      refine g_iald (pc := 82) X r3_5 k16 (dl_at t_X25_columnsFirst 46 rfl) fun g82 => ?_
      refine g_lti g82 fun x3_83 r3_83 => ?_
      refine g_istore_n (pc := 83) X (j := 3) (i := 3) (x := x3_83) (rest := [(4, iv x4_5), (0, rv D a0)]) rfl (Nat.le_of_ble_eq_true rfl) [2, 3] rfl rfl (dl_at t_X25_columnsFirst 47 rfl) ?_
      refine g_aload_n (pc := 84) X (j := 0) (i := 0) (q := 2) (x := a0) rfl rfl (dl_at t_X25_columnsFirst 48 rfl) ?_
      refine r_getr (pc := 85) X fX25_130 hk q3942 (dl_at t_X25_columnsFirst 49 rfl) ?_
      refine g_iload (pc := 88) X (i := 4) (q := 1) (x := x4_5) rfl (dl_at t_X25_columnsFirst 50 rfl) ?_
      refine g_iald (pc := 90) X r4_5 k26 (dl_at t_X25_columnsFirst 51 rfl) fun g90 => ?_
      refine g_lti g90 fun x4_91 r4_91 => ?_
      refine g_istoreN (pc := 91) X (i := 4) (x := x4_91) (b := 3) (w := iv x3_83) (rest := [(0, rv D a0)]) (Nat.le_of_ble_eq_true rfl) [0, 2] rfl (by decide) rfl rfl (dl_at t_X25_columnsFirst 52 rfl) ?_
      refine g_goto (pc := 93) X (off := (-88)) (tgt := 5) rfl (dl_at t_X25_columnsFirst 53 rfl) ?_
      refine g_ls (ls2 := [(0, rv D a0), (3, iv x3_83), (4, iv x4_91)]) [2, 1, 0] rfl ?_
      exact g_at fun Q hQ => hQ ⟨r3_83, r4_91⟩
    refine g_ls (ls2 := [(5, iv x5_41), (6, iv x6_55)]) [1, 0] rfl ?_
    exact g_at fun Q hQ => hQ ⟨r5_41, r6_55⟩
  · rintro ⟨x5_64, x6_64⟩ ⟨r5_64, r6_64⟩
    try dsimp only [sE]
    refine g_iload (pc := 64) X (i := 5) (q := 0) (x := x5_64) rfl (dl_at t_X25_columnsFirst 36 rfl) ?_
    refine g_iload (pc := 66) X (i := 6) (q := 1) (x := x6_64) rfl (dl_at t_X25_columnsFirst 37 rfl) ?_
    refine g_icmpge (pc := 68) X r5_64 r6_64 (off := 7) (tgt := 75) rfl (dl_at t_X25_columnsFirst 38 rfl) (fun _ => ?_) (fun _ => ?_)
    · refine g_iconst (pc := 75) X (n := 0) (dl_at t_X25_columnsFirst 41 rfl) ?_
      exact g_zret (pc := 76) X (Or.inl rfl) rfl rfl (dl_at t_X25_columnsFirst 42 rfl)
    refine g_iconst (pc := 71) X (n := 1) (dl_at t_X25_columnsFirst 39 rfl) ?_
    refine g_goto (pc := 72) X (off := 4) (tgt := 76) rfl (dl_at t_X25_columnsFirst 40 rfl) ?_
    exact g_zret (pc := 76) X (Or.inr rfl) rfl rfl (dl_at t_X25_columnsFirst 42 rfl)
def k_X25_relax : List (Nat × Instr × Nat) := [(0, .aload_n 0, 1), (1, .getfield 304, 3), (4, .iload_n 2, 1), (5, .iaload, 1), (6, .istore 5, 2), (8, .iload 5, 2), (10, .ifCond .lt 150, 3), (13, .aload_n 0, 1), (14, .getfield 310, 3), (17, .iload 5, 2), (19, .iaload, 1), (20, .aload_n 0, 1), (21, .getfield 812, 3), (24, .if_icmp .ne 124, 3), (27, .aload_n 0, 1), (28, .getfield 313, 3), (31, .iload 5, 2), (33, .iaload, 1), (34, .aload_n 0, 1), (35, .getfield 819, 3), (38, .if_icmp .eq 6, 3), (41, .goto 107, 3), (44, .aload_n 0, 1), (45, .getfield 316, 3), (48, .iload 5, 2), (50, .iaload, 1), (51, .istore 6, 2), (53, .lload_n 3, 1), (54, .aload_n 0, 1), (55, .getfield 322, 3), (58, .iload 5, 2), (60, .laload, 1), (61, .lcmp, 1), (62, .ifCond .lt 57, 3), (65, .lload_n 3, 1), (66, .aload_n 0, 1), (67, .getfield 322, 3), (70, .iload 5, 2), (72, .laload, 1), (73, .lcmp, 1), (74, .ifCond .ne 49, 3), (77, .aload_n 0, 1), (78, .getfield 307, 3), (81, .iload_n 1, 1), (82, .iaload, 1), (83, .aload_n 0, 1), (84, .getfield 307, 3), (87, .iload 6, 2), (89, .iaload, 1), (90, .if_icmp .lt 29, 3), (93, .aload_n 0, 1), (94, .getfield 307, 3), (97, .iload_n 1, 1), (98, .iaload, 1), (99, .aload_n 0, 1), (100, .getfield 307, 3), (103, .iload 6, 2), (105, .iaload, 1), (106, .if_icmp .ne 17, 3), (109, .aload_n 0, 1), (110, .iload_n 1, 1), (111, .iload 6, 2), (113, .invokevirtual 825, 3), (116, .ifCond .eq 7, 3), (119, .iconst 1, 1), (120, .goto 4, 3), (123, .iconst 0, 1), (124, .istore 7, 2), (126, .iload 7, 2), (128, .ifCond .eq 19, 3), (131, .aload_n 0, 1), (132, .getfield 322, 3), (135, .iload 5, 2), (137, .lload_n 3, 1), (138, .lastore, 1), (139, .aload_n 0, 1), (140, .getfield 316, 3), (143, .iload 5, 2), (145, .iload_n 1, 1), (146, .iastore, 1), (147, .return_, 1), (148, .aload_n 0, 1), (149, .getfield 319, 3), (152, .iload 5, 2), (154, .iaload, 1), (155, .istore 5, 2), (157, .goto (-149), 3), (160, .aload_n 0, 1), (161, .iload_n 2, 1), (162, .aload_n 0, 1), (163, .getfield 812, 3), (166, .aload_n 0, 1), (167, .getfield 819, 3), (170, .lload_n 3, 1), (171, .iload_n 1, 1), (172, .invokevirtual 828, 3), (175, .pop, 1), (176, .return_, 1)]
theorem t_X25_relax : ∀ q ∈ k_X25_relax, decode cX25_relax q.1 = .ok q.2 := dl_all (by decide +kernel)
noncomputable def m_X25_relax_j148 (a0 x5_8 : Int) (h : Hp) : Option ((Int) ⊕ ((Unit) ⊕ ((Int)))) :=
  gd (h (h a0 131) (-2) % 16 = 1 ∧ (0 : Int) ≤ x5_8 ∧ x5_8 < h (h a0 131) (-1)) (lt_ (h (h a0 131) x5_8) fun x5_155 =>
  some (.inl x5_155))
noncomputable def m_X25_relax_l8 (a0 x5_8 : Int) (h : Hp) : Option ((Int) ⊕ ((Unit) ⊕ ((Int)))) :=
  if x5_8 < 0 then (some (.inr (.inl ())))
  else (gd (h (h a0 128) (-2) % 16 = 1 ∧ (0 : Int) ≤ x5_8 ∧ x5_8 < h (h a0 128) (-1)) (if (h (h a0 128) x5_8) ≠ (h a0 133) then (m_X25_relax_j148 a0 x5_8 h)
  else (gd (h (h a0 129) (-2) % 16 = 1 ∧ (0 : Int) ≤ x5_8 ∧ x5_8 < h (h a0 129) (-1)) (if (h (h a0 129) x5_8) = (h a0 134) then (some (.inr (.inr x5_8)))
  else (m_X25_relax_j148 a0 x5_8 h)))))
noncomputable def m_X25_relax_j124 (x5_44 a0 a1 a3 s0_124 : Int) (h : Hp) : Option ((Int × Int) × Hp) :=
  if s0_124 = 0 then (some ((0, 0), h))
  else (pt h (h a0 132) x5_44 a3 fun h138 =>
  gd (h138 (h138 a0 130) (-2) % 16 = 1 ∧ (0 : Int) ≤ x5_44 ∧ x5_44 < h138 (h138 a0 130) (-1)) (pt h138 (h138 a0 130) x5_44 a1 fun h146 =>
  some ((0, 0), h146)))
noncomputable def m_X25_relax_j119 (x5_44 a0 a1 a3 : Int) (h : Hp) : Option ((Int × Int) × Hp) :=
  m_X25_relax_j124 x5_44 a0 a1 a3 1 h
noncomputable def m_X25_relax_j123 (x5_44 a0 a1 a3 : Int) (h : Hp) : Option ((Int × Int) × Hp) :=
  m_X25_relax_j124 x5_44 a0 a1 a3 0 h
noncomputable def m_X25_relax (a0 a1 a2 a3 : Int) (h : Hp) : Option ((Int × Int) × Hp) :=
  gd (h (h a0 125) (-2) % 16 = 1 ∧ (0 : Int) ≤ a2 ∧ a2 < h (h a0 125) (-1)) (lt_ (h (h a0 125) a2) fun x5_6 =>
  (lp (fun (q : Int) => m_X25_relax_l8 a0 q h) x5_6).bind (sE (fun (_ : Unit) => bT (m_X25_state a0 a2 (h a0 133) (h a0 134) a3 a1 h) (fun v172 h172 =>
  some ((0, 0), h172)) (fun a_ h_ => some ((1, a_), h_))) (fun (y44 : Int) => gd (h (h a0 130) (-2) % 16 = 1 ∧ (0 : Int) ≤ y44 ∧ y44 < h (h a0 130) (-1)) (lt_ (h (h a0 130) y44) fun x6_51 =>
  gd (h (h a0 132) (-2) % 16 = 4 ∧ (0 : Int) ≤ y44 ∧ y44 < h (h a0 132) (-1)) (if (lcmp_ a3 (h (h a0 132) y44)) < 0 then (m_X25_relax_j119 y44 a0 a1 a3 h)
  else (if (lcmp_ a3 (h (h a0 132) y44)) ≠ 0 then (m_X25_relax_j123 y44 a0 a1 a3 h)
  else (gd (h (h a0 127) (-2) % 16 = 1 ∧ (0 : Int) ≤ a1 ∧ a1 < h (h a0 127) (-1)) (gd (h (h a0 127) (-2) % 16 = 1 ∧ (0 : Int) ≤ x6_51 ∧ x6_51 < h (h a0 127) (-1)) (if (h (h a0 127) a1) < (h (h a0 127) x6_51) then (m_X25_relax_j119 y44 a0 a1 a3 h)
  else (if (h (h a0 127) a1) ≠ (h (h a0 127) x6_51) then (m_X25_relax_j123 y44 a0 a1 a3 h)
  else ((m_X25_columnsFirst a0 a1 x6_51 h).bind fun v113 =>
  if v113 = 0 then (m_X25_relax_j123 y44 a0 a1 a3 h)
  else (m_X25_relax_j119 y44 a0 a1 a3 h))))))))))))
theorem s_X25_relax {l : Launch} [NoTr l] {D : SD} {a0 a1 a2 a3 : Int} {h : Hp} (hk : h a0 (-2) = 416) (r1 : r32 a1) (r2 : r32 a2) (r3 : r64 a3) {r : (Int × Int) × Hp} (hm : m_X25_relax a0 a1 a2 a3 h = some r) : Sim l D yX25_relax (Cond.code yX25_relax cX25_relax 8 (Option.none : Option Jvm.ClassFile.FieldType)) 10 380 [rv D a0, iv a1, iv a2, jv a3] h 0 r := by
  refine Sim.of (fin := fun (v : (Int × Int) × Hp) => v) (lsE := [(0, rv D a0), (1, iv a1), (2, iv a2), (3, jv a3)]) hm rfl cwS_code (la_r (la_i (la_i (la_j la_n)))) (ll_r (ll_i (ll_i (ll_j ll_n)))) ?_
  intro p e s m below meth c X hcw hmm hcc hnm hname
  have hno := noh hcw hnm hmm hcc
  unfold m_X25_relax
  refine g_aload_n (pc := 0) X (j := 0) (i := 0) (q := 0) (x := a0) rfl rfl (dl_at t_X25_relax 0 rfl) ?_
  refine r_getr (pc := 1) X fX25_125 hk q3937 (dl_at t_X25_relax 1 rfl) ?_
  refine g_iload_n (pc := 4) X (j := 2) (i := 2) (q := 2) (x := a2) rfl rfl (dl_at t_X25_relax 2 rfl) ?_
  refine g_gd fun k5 => ?_
  refine g_iald (pc := 5) X r2 k5 (dl_at t_X25_relax 3 rfl) fun g5 => ?_
  refine g_lti g5 fun x5_6 r5_6 => ?_
  refine g_istore (pc := 6) X (i := 5) (x := x5_6) (rest := [(0, rv D a0), (1, iv a1), (2, iv a2), (3, jv a3)]) (Nat.le_of_ble_eq_true rfl) [0, 1, 2, 3] rfl rfl (dl_at t_X25_relax 4 rfl) ?_
  refine g_ls (ls2 := [(0, rv D a0), (1, iv a1), (2, iv a2), (3, jv a3), (5, iv x5_6)]) [1, 2, 3, 4, 0] rfl ?_
  refine g_loop2 (fun (q : Int) => [(0, rv D a0), (1, iv a1), (2, iv a2), (3, jv a3), (5, iv q)]) (fun (q : Int) => h) (fun (q : Int) => r32 q) 160 (fun (y160 : Unit) => [(0, rv D a0), (1, iv a1), (2, iv a2), (3, jv a3)]) (fun (y160 : Unit) => h) (fun (y160 : Unit) => True) 44 (fun (y44 : Int) => [(0, rv D a0), (1, iv a1), (3, jv a3), (5, iv y44)]) (fun (y44 : Int) => h) (fun (y44 : Int) => r32 y44) x5_6 r5_6 ?_ ?_ ?_
  · rintro x5_8 r5_8
    try dsimp only
    unfold m_X25_relax_l8
    refine g_iload (pc := 8) X (i := 5) (q := 4) (x := x5_8) rfl (dl_at t_X25_relax 5 rfl) ?_
    refine g_iflt (pc := 10) X r5_8 (off := 150) (tgt := 160) rfl (dl_at t_X25_relax 6 rfl) (fun _ => ?_) (fun _ => ?_)
    · refine g_ls (ls2 := [(0, rv D a0), (1, iv a1), (2, iv a2), (3, jv a3)]) [0, 1, 2, 3] rfl ?_
      exact g_at fun Q hQ => hQ trivial
    refine g_aload_n (pc := 13) X (j := 0) (i := 0) (q := 0) (x := a0) rfl rfl (dl_at t_X25_relax 7 rfl) ?_
    refine r_getr (pc := 14) X fX25_128 hk q3940 (dl_at t_X25_relax 8 rfl) ?_
    refine g_iload (pc := 17) X (i := 5) (q := 4) (x := x5_8) rfl (dl_at t_X25_relax 9 rfl) ?_
    refine g_gd fun k19 => ?_
    refine g_iald (pc := 19) X r5_8 k19 (dl_at t_X25_relax 10 rfl) fun g19 => ?_
    refine g_aload_n (pc := 20) X (j := 0) (i := 0) (q := 0) (x := a0) rfl rfl (dl_at t_X25_relax 11 rfl) ?_
    refine r_geti (pc := 21) X fX25_133 hk q3945 (dl_at t_X25_relax 12 rfl) fun g21 => ?_
    refine g_join (γ := Unit) (fun q => True) 148 (fun q => [(0, rv D a0), (1, iv a1), (2, iv a2), (3, jv a3), (5, iv x5_8)]) (fun q => []) (fun q => h) (fun q => m_X25_relax_j148 a0 x5_8 h) ?_ ?_
    · rintro _ _
      try dsimp only
      unfold m_X25_relax_j148
      refine g_aload_n (pc := 148) X (j := 0) (i := 0) (q := 0) (x := a0) rfl rfl (dl_at t_X25_relax 81 rfl) ?_
      refine r_getr (pc := 149) X fX25_131 hk q3943 (dl_at t_X25_relax 82 rfl) ?_
      refine g_iload (pc := 152) X (i := 5) (q := 4) (x := x5_8) rfl (dl_at t_X25_relax 83 rfl) ?_
      refine g_gd fun k154 => ?_
      refine g_iald (pc := 154) X r5_8 k154 (dl_at t_X25_relax 84 rfl) fun g154 => ?_
      refine g_lti g154 fun x5_155 r5_155 => ?_
      refine g_istore (pc := 155) X (i := 5) (x := x5_155) (rest := [(0, rv D a0), (1, iv a1), (2, iv a2), (3, jv a3)]) (Nat.le_of_ble_eq_true rfl) [0, 1, 2, 3] rfl rfl (dl_at t_X25_relax 85 rfl) ?_
      refine g_goto (pc := 157) X (off := (-149)) (tgt := 8) rfl (dl_at t_X25_relax 86 rfl) ?_
      refine g_ls (ls2 := [(0, rv D a0), (1, iv a1), (2, iv a2), (3, jv a3), (5, iv x5_155)]) [1, 2, 3, 4, 0] rfl ?_
      exact g_at fun Q hQ => hQ r5_155
    intro J148
    refine g_icmpne (pc := 24) X g19 g21 (off := 124) (tgt := 148) rfl (dl_at t_X25_relax 13 rfl) (fun _ => ?_) (fun _ => ?_)
    · exact J148 () trivial
    refine g_aload_n (pc := 27) X (j := 0) (i := 0) (q := 0) (x := a0) rfl rfl (dl_at t_X25_relax 14 rfl) ?_
    refine r_getr (pc := 28) X fX25_129 hk q3941 (dl_at t_X25_relax 15 rfl) ?_
    refine g_iload (pc := 31) X (i := 5) (q := 4) (x := x5_8) rfl (dl_at t_X25_relax 16 rfl) ?_
    refine g_gd fun k33 => ?_
    refine g_iald (pc := 33) X r5_8 k33 (dl_at t_X25_relax 17 rfl) fun g33 => ?_
    refine g_aload_n (pc := 34) X (j := 0) (i := 0) (q := 0) (x := a0) rfl rfl (dl_at t_X25_relax 18 rfl) ?_
    refine r_geti (pc := 35) X fX25_134 hk q3946 (dl_at t_X25_relax 19 rfl) fun g35 => ?_
    refine g_icmpeq (pc := 38) X g33 g35 (off := 6) (tgt := 44) rfl (dl_at t_X25_relax 20 rfl) (fun _ => ?_) (fun _ => ?_)
    · refine g_ls (ls2 := [(0, rv D a0), (1, iv a1), (3, jv a3), (5, iv x5_8)]) [0, 1, 3, 4] rfl ?_
      exact g_at fun Q hQ => hQ r5_8
    refine g_goto (pc := 41) X (off := 107) (tgt := 148) rfl (dl_at t_X25_relax 21 rfl) ?_
    exact J148 () trivial
  · rintro _ _
    try dsimp only [sE]
    refine g_aload_n (pc := 160) X (j := 0) (i := 0) (q := 0) (x := a0) rfl rfl (dl_at t_X25_relax 87 rfl) ?_
    refine g_iload_n (pc := 161) X (j := 2) (i := 2) (q := 2) (x := a2) rfl rfl (dl_at t_X25_relax 88 rfl) ?_
    refine g_aload_n (pc := 162) X (j := 0) (i := 0) (q := 0) (x := a0) rfl rfl (dl_at t_X25_relax 89 rfl) ?_
    refine r_geti (pc := 163) X fX25_133 hk q3945 (dl_at t_X25_relax 90 rfl) fun g163 => ?_
    refine g_aload_n (pc := 166) X (j := 0) (i := 0) (q := 0) (x := a0) rfl rfl (dl_at t_X25_relax 91 rfl) ?_
    refine r_geti (pc := 167) X fX25_134 hk q3946 (dl_at t_X25_relax 92 rfl) fun g167 => ?_
    refine g_lload_n (pc := 170) X (j := 3) (i := 3) (q := 3) (x := a3) rfl rfl (dl_at t_X25_relax 93 rfl) ?_
    refine g_iload_n (pc := 171) X (j := 1) (i := 1) (q := 1) (x := a1) rfl rfl (dl_at t_X25_relax 94 rfl) ?_
    refine r_callTi (pc := 172) X (fun _ hv => s_X25_state hk r2 g163 g167 r3 r1 hv) cw_code q5071 q379 (in_Vk X (As := [iv a2, iv (h a0 133), iv (h a0 134), jv a3, iv a1]) kX25 hk (Or.inl q5068) q5070 qs335 cw_code q5071 ⟨by decide, by decide⟩ rfl (dl_at t_X25_relax 95 rfl)) (dl_at t_X25_relax 95 rfl) (cat24 (st := []) (Nat.le_of_ble_eq_true rfl)) (Nat.le_of_ble_eq_true rfl) (Nat.le_of_ble_eq_true rfl) (fun v172 h172 g172 E172 => ?_) (fun _ _ ha _ => gt_at fun Q hQ => gt_out (Q := Q) X rfl ha (hno _) _ Q rfl hQ)
    refine g_pop (pc := 175) X rfl (dl_at t_X25_relax 96 rfl) ?_
    exact g_vret (pc := 176) X (v := 0) rfl rfl (dl_at t_X25_relax 97 rfl)
  · rintro x5_44 r5_44
    try dsimp only [sE]
    refine g_aload_n (pc := 44) X (j := 0) (i := 0) (q := 0) (x := a0) rfl rfl (dl_at t_X25_relax 22 rfl) ?_
    refine r_getr (pc := 45) X fX25_130 hk q3942 (dl_at t_X25_relax 23 rfl) ?_
    refine g_iload (pc := 48) X (i := 5) (q := 3) (x := x5_44) rfl (dl_at t_X25_relax 24 rfl) ?_
    refine g_gd fun k50 => ?_
    refine g_iald (pc := 50) X r5_44 k50 (dl_at t_X25_relax 25 rfl) fun g50 => ?_
    refine g_lti g50 fun x6_51 r6_51 => ?_
    refine g_istoreN (pc := 51) X (i := 6) (x := x6_51) (b := 5) (w := iv x5_44) (rest := [(0, rv D a0), (1, iv a1), (3, jv a3)]) (Nat.le_of_ble_eq_true rfl) [3, 0, 1, 2] rfl (by decide) rfl rfl (dl_at t_X25_relax 26 rfl) ?_
    refine g_lload_n (pc := 53) X (j := 3) (i := 3) (q := 4) (x := a3) rfl rfl (dl_at t_X25_relax 27 rfl) ?_
    refine g_aload_n (pc := 54) X (j := 0) (i := 0) (q := 2) (x := a0) rfl rfl (dl_at t_X25_relax 28 rfl) ?_
    refine r_getr (pc := 55) X fX25_132 hk q3944 (dl_at t_X25_relax 29 rfl) ?_
    refine g_iload (pc := 58) X (i := 5) (q := 1) (x := x5_44) rfl (dl_at t_X25_relax 30 rfl) ?_
    refine g_gd fun k60 => ?_
    refine g_lald (pc := 60) X r5_44 k60 (dl_at t_X25_relax 31 rfl) fun g60 => ?_
    refine g_lcmp (pc := 61) X r3 g60 (dl_at t_X25_relax 32 rfl) ?_
    refine g_join (γ := Int) (fun q => (q = 0 ∨ q = 1)) 124 (fun q => [(0, rv D a0), (1, iv a1), (3, jv a3), (5, iv x5_44)]) (fun q => [iv q]) (fun q => h) (fun q => m_X25_relax_j124 x5_44 a0 a1 a3 q h) ?_ ?_
    · rintro s0_124 rs0_124
      try dsimp only
      unfold m_X25_relax_j124
      refine g_istore (pc := 124) X (i := 7) (x := s0_124) (rest := [(0, rv D a0), (1, iv a1), (3, jv a3), (5, iv x5_44)]) (Nat.le_of_ble_eq_true rfl) [0, 1, 2, 3] rfl rfl (dl_at t_X25_relax 67 rfl) ?_
      refine g_iload (pc := 126) X (i := 7) (q := 0) (x := s0_124) rfl (dl_at t_X25_relax 68 rfl) ?_
      refine g_ifeq (pc := 128) X (r32_z rs0_124) (off := 19) (tgt := 147) rfl (dl_at t_X25_relax 69 rfl) (fun _ => ?_) (fun _ => ?_)
      · exact g_vret (pc := 147) X (v := 0) rfl rfl (dl_at t_X25_relax 80 rfl)
      refine g_aload_n (pc := 131) X (j := 0) (i := 0) (q := 1) (x := a0) rfl rfl (dl_at t_X25_relax 70 rfl) ?_
      refine r_getr (pc := 132) X fX25_132 hk q3944 (dl_at t_X25_relax 71 rfl) ?_
      refine g_iload (pc := 135) X (i := 5) (q := 4) (x := x5_44) rfl (dl_at t_X25_relax 72 rfl) ?_
      refine g_lload_n (pc := 137) X (j := 3) (i := 3) (q := 3) (x := a3) rfl rfl (dl_at t_X25_relax 73 rfl) ?_
      refine r_last (pc := 138) X r5_44 r3 k60 (dl_at t_X25_relax 74 rfl) (fun h138 E138 => ?_)
      refine g_aload_n (pc := 139) X (j := 0) (i := 0) (q := 1) (x := a0) rfl rfl (dl_at t_X25_relax 75 rfl) ?_
      have k140 := kx E138 (by decide) hk
      refine r_getr (pc := 140) X fX25_130 k140 q3942 (dl_at t_X25_relax 76 rfl) ?_
      refine g_iload (pc := 143) X (i := 5) (q := 4) (x := x5_44) rfl (dl_at t_X25_relax 77 rfl) ?_
      refine g_iload_n (pc := 145) X (j := 1) (i := 1) (q := 2) (x := a1) rfl rfl (dl_at t_X25_relax 78 rfl) ?_
      refine g_gd fun k146 => ?_
      refine r_iast (pc := 146) X r5_44 r1 k146 (dl_at t_X25_relax 79 rfl) (fun h146 E146 => ?_)
      exact g_vret (pc := 147) X (v := 0) rfl rfl (dl_at t_X25_relax 80 rfl)
    intro J124
    refine g_join (γ := Unit) (fun q => True) 119 (fun q => [(0, rv D a0), (1, iv a1), (3, jv a3), (5, iv x5_44)]) (fun q => []) (fun q => h) (fun q => m_X25_relax_j119 x5_44 a0 a1 a3 h) ?_ ?_
    · rintro _ _
      try dsimp only
      unfold m_X25_relax_j119
      refine g_iconst (pc := 119) X (n := 1) (dl_at t_X25_relax 64 rfl) ?_
      refine g_goto (pc := 120) X (off := 4) (tgt := 124) rfl (dl_at t_X25_relax 65 rfl) ?_
      exact J124 1 (Or.inr rfl)
    intro J119
    refine g_iflt (pc := 62) X (r32_lcmp _ _) (off := 57) (tgt := 119) rfl (dl_at t_X25_relax 33 rfl) (fun _ => ?_) (fun _ => ?_)
    · refine g_ls (ls2 := [(0, rv D a0), (1, iv a1), (3, jv a3), (5, iv x5_44)]) [2, 3, 4, 1] rfl ?_
      exact J119 () trivial
    refine g_lload_n (pc := 65) X (j := 3) (i := 3) (q := 4) (x := a3) rfl rfl (dl_at t_X25_relax 34 rfl) ?_
    refine g_aload_n (pc := 66) X (j := 0) (i := 0) (q := 2) (x := a0) rfl rfl (dl_at t_X25_relax 35 rfl) ?_
    refine r_getr (pc := 67) X fX25_132 hk q3944 (dl_at t_X25_relax 36 rfl) ?_
    refine g_iload (pc := 70) X (i := 5) (q := 1) (x := x5_44) rfl (dl_at t_X25_relax 37 rfl) ?_
    refine g_lald (pc := 72) X r5_44 k60 (dl_at t_X25_relax 38 rfl) fun g72 => ?_
    refine g_lcmp (pc := 73) X r3 g72 (dl_at t_X25_relax 39 rfl) ?_
    refine g_join (γ := Unit) (fun q => True) 123 (fun q => [(0, rv D a0), (1, iv a1), (3, jv a3), (5, iv x5_44)]) (fun q => []) (fun q => h) (fun q => m_X25_relax_j123 x5_44 a0 a1 a3 h) ?_ ?_
    · rintro _ _
      try dsimp only
      unfold m_X25_relax_j123
      refine g_iconst (pc := 123) X (n := 0) (dl_at t_X25_relax 66 rfl) ?_
      exact J124 0 (Or.inl rfl)
    intro J123
    refine g_ifne (pc := 74) X (r32_lcmp _ _) (off := 49) (tgt := 123) rfl (dl_at t_X25_relax 40 rfl) (fun _ => ?_) (fun _ => ?_)
    · refine g_ls (ls2 := [(0, rv D a0), (1, iv a1), (3, jv a3), (5, iv x5_44)]) [2, 3, 4, 1] rfl ?_
      exact J123 () trivial
    refine g_aload_n (pc := 77) X (j := 0) (i := 0) (q := 2) (x := a0) rfl rfl (dl_at t_X25_relax 41 rfl) ?_
    refine r_getr (pc := 78) X fX25_127 hk q3939 (dl_at t_X25_relax 42 rfl) ?_
    refine g_iload_n (pc := 81) X (j := 1) (i := 1) (q := 3) (x := a1) rfl rfl (dl_at t_X25_relax 43 rfl) ?_
    refine g_gd fun k82 => ?_
    refine g_iald (pc := 82) X r1 k82 (dl_at t_X25_relax 44 rfl) fun g82 => ?_
    refine g_aload_n (pc := 83) X (j := 0) (i := 0) (q := 2) (x := a0) rfl rfl (dl_at t_X25_relax 45 rfl) ?_
    refine r_getr (pc := 84) X fX25_127 hk q3939 (dl_at t_X25_relax 46 rfl) ?_
    refine g_iload (pc := 87) X (i := 6) (q := 0) (x := x6_51) rfl (dl_at t_X25_relax 47 rfl) ?_
    refine g_gd fun k89 => ?_
    refine g_iald (pc := 89) X r6_51 k89 (dl_at t_X25_relax 48 rfl) fun g89 => ?_
    refine g_icmplt (pc := 90) X g82 g89 (off := 29) (tgt := 119) rfl (dl_at t_X25_relax 49 rfl) (fun _ => ?_) (fun _ => ?_)
    · refine g_ls (ls2 := [(0, rv D a0), (1, iv a1), (3, jv a3), (5, iv x5_44)]) [2, 3, 4, 1] rfl ?_
      exact J119 () trivial
    refine g_aload_n (pc := 93) X (j := 0) (i := 0) (q := 2) (x := a0) rfl rfl (dl_at t_X25_relax 50 rfl) ?_
    refine r_getr (pc := 94) X fX25_127 hk q3939 (dl_at t_X25_relax 51 rfl) ?_
    refine g_iload_n (pc := 97) X (j := 1) (i := 1) (q := 3) (x := a1) rfl rfl (dl_at t_X25_relax 52 rfl) ?_
    refine g_iald (pc := 98) X r1 k82 (dl_at t_X25_relax 53 rfl) fun g98 => ?_
    refine g_aload_n (pc := 99) X (j := 0) (i := 0) (q := 2) (x := a0) rfl rfl (dl_at t_X25_relax 54 rfl) ?_
    refine r_getr (pc := 100) X fX25_127 hk q3939 (dl_at t_X25_relax 55 rfl) ?_
    refine g_iload (pc := 103) X (i := 6) (q := 0) (x := x6_51) rfl (dl_at t_X25_relax 56 rfl) ?_
    refine g_iald (pc := 105) X r6_51 k89 (dl_at t_X25_relax 57 rfl) fun g105 => ?_
    refine g_icmpne (pc := 106) X g98 g105 (off := 17) (tgt := 123) rfl (dl_at t_X25_relax 58 rfl) (fun _ => ?_) (fun _ => ?_)
    · refine g_ls (ls2 := [(0, rv D a0), (1, iv a1), (3, jv a3), (5, iv x5_44)]) [2, 3, 4, 1] rfl ?_
      exact J123 () trivial
    refine g_aload_n (pc := 109) X (j := 0) (i := 0) (q := 2) (x := a0) rfl rfl (dl_at t_X25_relax 59 rfl) ?_
    refine g_iload_n (pc := 110) X (j := 1) (i := 1) (q := 3) (x := a1) rfl rfl (dl_at t_X25_relax 60 rfl) ?_
    refine g_iload (pc := 111) X (i := 6) (q := 0) (x := x6_51) rfl (dl_at t_X25_relax 61 rfl) ?_
    refine r_callRz (pc := 113) X (fun _ hv => s_X25_columnsFirst hk r1 r6_51 hv) cw_code q5103 q379 (in_Vk X (As := [iv a1, iv x6_51]) kX25 hk (Or.inl q5100) q5102 qs341 cw_code q5103 ⟨by decide, by decide⟩ rfl (dl_at t_X25_relax 62 rfl)) (dl_at t_X25_relax 62 rfl) (cat24 (st := []) (Nat.le_of_ble_eq_true rfl)) (Nat.le_of_ble_eq_true rfl) (Nat.le_of_ble_eq_true rfl) fun v113 g113 => ?_
    refine g_ifeq (pc := 116) X (r32_z g113) (off := 7) (tgt := 123) rfl (dl_at t_X25_relax 63 rfl) (fun _ => ?_) (fun _ => ?_)
    · refine g_ls (ls2 := [(0, rv D a0), (1, iv a1), (3, jv a3), (5, iv x5_44)]) [2, 3, 4, 1] rfl ?_
      exact J123 () trivial
    refine g_ls (ls2 := [(0, rv D a0), (1, iv a1), (3, jv a3), (5, iv x5_44)]) [2, 3, 4, 1] rfl ?_
    exact J119 () trivial
def k_X25_piece : List (Nat × Instr × Nat) := [(0, .iload_n 2, 1), (1, .iload_n 3, 1), (2, .if_icmp .lt 4, 3), (5, .return_, 1), (6, .aload_n 0, 1), (7, .getfield 247, 3), (10, .aload_n 0, 1), (11, .getfield 835, 3), (14, .iload_n 1, 1), (15, .iastore, 1), (16, .aload_n 0, 1), (17, .getfield 250, 3), (20, .aload_n 0, 1), (21, .getfield 835, 3), (24, .iload_n 2, 1), (25, .iastore, 1), (26, .aload_n 0, 1), (27, .getfield 253, 3), (30, .aload_n 0, 1), (31, .getfield 835, 3), (34, .iload_n 3, 1), (35, .iastore, 1), (36, .aload_n 0, 1), (37, .getfield 256, 3), (40, .aload_n 0, 1), (41, .getfield 835, 3), (44, .aload_n 0, 1), (45, .getfield 832, 3), (48, .iastore, 1), (49, .aload_n 0, 1), (50, .dup, 1), (51, .getfield 835, 3), (54, .iconst 1, 1), (55, .iadd, 1), (56, .putfield 835, 3), (59, .return_, 1)]
theorem t_X25_piece : ∀ q ∈ k_X25_piece, decode cX25_piece q.1 = .ok q.2 := dl_all (by decide +kernel)
noncomputable def m_X25_piece (a0 a1 a2 a3 : Int) (h : Hp) : Option (Hp) :=
  if a2 < a3 then (gd (h (h a0 89) (-2) % 16 = 1 ∧ (0 : Int) ≤ (h a0 88) ∧ (h a0 88) < h (h a0 89) (-1)) (pt h (h a0 89) (h a0 88) a1 fun h15 =>
  gd (h15 (h15 a0 90) (-2) % 16 = 1 ∧ (0 : Int) ≤ (h15 a0 88) ∧ (h15 a0 88) < h15 (h15 a0 90) (-1)) (pt h15 (h15 a0 90) (h15 a0 88) a2 fun h25 =>
  gd (h25 (h25 a0 91) (-2) % 16 = 1 ∧ (0 : Int) ≤ (h25 a0 88) ∧ (h25 a0 88) < h25 (h25 a0 91) (-1)) (pt h25 (h25 a0 91) (h25 a0 88) a3 fun h35 =>
  gd (h35 (h35 a0 92) (-2) % 16 = 1 ∧ (0 : Int) ≤ (h35 a0 88) ∧ (h35 a0 88) < h35 (h35 a0 92) (-1)) (pt h35 (h35 a0 92) (h35 a0 88) (h35 a0 94) fun h48 =>
  pt h48 a0 88 (w32 ((h48 a0 88) + 1)) fun h56 =>
  some h56)))))
  else (some h)
theorem s_X25_piece {l : Launch} [NoTr l] {D : SD} {a0 a1 a2 a3 : Int} {h : Hp} (hk : h a0 (-2) = 416) (r1 : r32 a1) (r2 : r32 a2) (r3 : r32 a3) {r : Hp} (hm : m_X25_piece a0 a1 a2 a3 h = some r) : Sim l D yX25_piece (Cond.code yX25_piece cX25_piece 4 (Option.none : Option Jvm.ClassFile.FieldType)) 0 0 [rv D a0, iv a1, iv a2, iv a3] h 0 ((0, 0), r) := by
  refine Sim.of (fin := fun (v : Hp) => ((0, 0), v)) (lsE := [(0, rv D a0), (1, iv a1), (2, iv a2), (3, iv a3)]) hm rfl cwS_code (la_r (la_i (la_i (la_i la_n)))) (ll_r (ll_i (ll_i (ll_i ll_n)))) ?_
  intro p e s m below meth c X hcw hmm hcc hnm hname
  unfold m_X25_piece
  refine g_iload_n (pc := 0) X (j := 2) (i := 2) (q := 2) (x := a2) rfl rfl (dl_at t_X25_piece 0 rfl) ?_
  refine g_iload_n (pc := 1) X (j := 3) (i := 3) (q := 3) (x := a3) rfl rfl (dl_at t_X25_piece 1 rfl) ?_
  refine g_icmplt (pc := 2) X r2 r3 (off := 4) (tgt := 6) rfl (dl_at t_X25_piece 2 rfl) (fun _ => ?_) (fun _ => ?_)
  · refine g_aload_n (pc := 6) X (j := 0) (i := 0) (q := 0) (x := a0) rfl rfl (dl_at t_X25_piece 4 rfl) ?_
    refine r_getr (pc := 7) X fX25_89 hk q3892 (dl_at t_X25_piece 5 rfl) ?_
    refine g_aload_n (pc := 10) X (j := 0) (i := 0) (q := 0) (x := a0) rfl rfl (dl_at t_X25_piece 6 rfl) ?_
    refine r_geti (pc := 11) X fX25_88 hk q3891 (dl_at t_X25_piece 7 rfl) fun g11 => ?_
    refine g_iload_n (pc := 14) X (j := 1) (i := 1) (q := 1) (x := a1) rfl rfl (dl_at t_X25_piece 8 rfl) ?_
    refine g_gd fun k15 => ?_
    refine r_iast (pc := 15) X g11 r1 k15 (dl_at t_X25_piece 9 rfl) (fun h15 E15 => ?_)
    refine g_aload_n (pc := 16) X (j := 0) (i := 0) (q := 0) (x := a0) rfl rfl (dl_at t_X25_piece 10 rfl) ?_
    have k17 := kx E15 (by decide) hk
    refine r_getr (pc := 17) X fX25_90 k17 q3894 (dl_at t_X25_piece 11 rfl) ?_
    refine g_aload_n (pc := 20) X (j := 0) (i := 0) (q := 0) (x := a0) rfl rfl (dl_at t_X25_piece 12 rfl) ?_
    refine r_geti (pc := 21) X fX25_88 k17 q3891 (dl_at t_X25_piece 13 rfl) fun g21 => ?_
    refine g_iload_n (pc := 24) X (j := 2) (i := 2) (q := 2) (x := a2) rfl rfl (dl_at t_X25_piece 14 rfl) ?_
    refine g_gd fun k25 => ?_
    refine r_iast (pc := 25) X g21 r2 k25 (dl_at t_X25_piece 15 rfl) (fun h25 E25 => ?_)
    refine g_aload_n (pc := 26) X (j := 0) (i := 0) (q := 0) (x := a0) rfl rfl (dl_at t_X25_piece 16 rfl) ?_
    have k27 := kx E25 (by decide) k17
    refine r_getr (pc := 27) X fX25_91 k27 q3896 (dl_at t_X25_piece 17 rfl) ?_
    refine g_aload_n (pc := 30) X (j := 0) (i := 0) (q := 0) (x := a0) rfl rfl (dl_at t_X25_piece 18 rfl) ?_
    refine r_geti (pc := 31) X fX25_88 k27 q3891 (dl_at t_X25_piece 19 rfl) fun g31 => ?_
    refine g_iload_n (pc := 34) X (j := 3) (i := 3) (q := 3) (x := a3) rfl rfl (dl_at t_X25_piece 20 rfl) ?_
    refine g_gd fun k35 => ?_
    refine r_iast (pc := 35) X g31 r3 k35 (dl_at t_X25_piece 21 rfl) (fun h35 E35 => ?_)
    refine g_aload_n (pc := 36) X (j := 0) (i := 0) (q := 0) (x := a0) rfl rfl (dl_at t_X25_piece 22 rfl) ?_
    have k37 := kx E35 (by decide) k27
    refine r_getr (pc := 37) X fX25_92 k37 q3898 (dl_at t_X25_piece 23 rfl) ?_
    refine g_aload_n (pc := 40) X (j := 0) (i := 0) (q := 0) (x := a0) rfl rfl (dl_at t_X25_piece 24 rfl) ?_
    refine r_geti (pc := 41) X fX25_88 k37 q3891 (dl_at t_X25_piece 25 rfl) fun g41 => ?_
    refine g_aload_n (pc := 44) X (j := 0) (i := 0) (q := 0) (x := a0) rfl rfl (dl_at t_X25_piece 26 rfl) ?_
    refine r_geti (pc := 45) X fX25_94 k37 q3903 (dl_at t_X25_piece 27 rfl) fun g45 => ?_
    refine g_gd fun k48 => ?_
    refine r_iast (pc := 48) X g41 g45 k48 (dl_at t_X25_piece 28 rfl) (fun h48 E48 => ?_)
    refine g_aload_n (pc := 49) X (j := 0) (i := 0) (q := 0) (x := a0) rfl rfl (dl_at t_X25_piece 29 rfl) ?_
    refine g_dup (pc := 50) X rv_cat (dl_at t_X25_piece 30 rfl) ?_
    have k51 := kx E48 (by decide) k37
    refine r_geti (pc := 51) X fX25_88 k51 q3891 (dl_at t_X25_piece 31 rfl) fun g51 => ?_
    refine g_iconst (pc := 54) X (n := 1) (dl_at t_X25_piece 32 rfl) ?_
    refine g_iadd (pc := 55) X g51 (r32_c rfl) (dl_at t_X25_piece 33 rfl) ?_
    refine r_puti (pc := 56) X fX25_88 k51 q3891 rfl (dl_at t_X25_piece 34 rfl) (r32_w _) (fun h56 E56 => ?_)
    exact g_vret (pc := 59) X (v := 0) rfl rfl (dl_at t_X25_piece 35 rfl)
  exact g_vret (pc := 5) X (v := 0) rfl rfl (dl_at t_X25_piece 3 rfl)
def k_X25_foot : List (Nat × Instr × Nat) := [(0, .lconst 0, 1), (1, .lstore_n 2, 1), (2, .iload_n 1, 1), (3, .istore 4, 2), (5, .iload 4, 2), (7, .aload_n 0, 1), (8, .getfield 835, 3), (11, .if_icmp .ge 41, 3), (14, .lload_n 2, 1), (15, .aload_n 0, 1), (16, .getfield 253, 3), (19, .iload 4, 2), (21, .iaload, 1), (22, .aload_n 0, 1), (23, .getfield 250, 3), (26, .iload 4, 2), (28, .iaload, 1), (29, .isub, 1), (30, .i2l, 1), (31, .aload_n 0, 1), (32, .aload_n 0, 1), (33, .getfield 247, 3), (36, .iload 4, 2), (38, .iaload, 1), (39, .invokevirtual 806, 3), (42, .i2l, 1), (43, .lmul, 1), (44, .ladd, 1), (45, .lstore_n 2, 1), (46, .iinc 4 1, 3), (49, .goto (-44), 3), (52, .aload_n 0, 1), (53, .getfield 14, 3), (56, .getfield 489, 3), (59, .iconst 1, 1), (60, .iaload, 1), (61, .i2l, 1), (62, .lload_n 2, 1), (63, .lsub, 1), (64, .lstore 4, 2), (66, .iload_n 1, 1), (67, .istore 6, 2), (69, .iload 6, 2), (71, .aload_n 0, 1), (72, .getfield 835, 3), (75, .if_icmp .ge 111, 3), (78, .aload_n 0, 1), (79, .getfield 259, 3), (82, .iload 6, 2), (84, .lload 4, 2), (86, .lastore, 1), (87, .aload_n 0, 1), (88, .getfield 250, 3), (91, .iload 6, 2), (93, .iaload, 1), (94, .ifCond .ne 52, 3), (97, .aload_n 0, 1), (98, .getfield 163, 3), (101, .aload_n 0, 1), (102, .getfield 247, 3), (105, .iload 6, 2), (107, .iaload, 1), (108, .aload_n 0, 1), (109, .getfield 832, 3), (112, .iastore, 1), (113, .aload_n 0, 1), (114, .getfield 166, 3), (117, .aload_n 0, 1), (118, .getfield 247, 3), (121, .iload 6, 2), (123, .iaload, 1), (124, .aload_n 0, 1), (125, .getfield 253, 3), (128, .iload 6, 2), (130, .iaload, 1), (131, .iastore, 1), (132, .aload_n 0, 1), (133, .getfield 178, 3), (136, .aload_n 0, 1), (137, .getfield 247, 3), (140, .iload 6, 2), (142, .iaload, 1), (143, .lload 4, 2), (145, .lastore, 1), (146, .lload 4, 2), (148, .aload_n 0, 1), (149, .getfield 253, 3), (152, .iload 6, 2), (154, .iaload, 1), (155, .aload_n 0, 1), (156, .getfield 250, 3), (159, .iload 6, 2), (161, .iaload, 1), (162, .isub, 1), (163, .i2l, 1), (164, .aload_n 0, 1), (165, .aload_n 0, 1), (166, .getfield 247, 3), (169, .iload 6, 2), (171, .iaload, 1), (172, .invokevirtual 806, 3), (175, .i2l, 1), (176, .lmul, 1), (177, .ladd, 1), (178, .lstore 4, 2), (180, .iinc 6 1, 3), (183, .goto (-114), 3), (186, .return_, 1)]
theorem t_X25_foot : ∀ q ∈ k_X25_foot, decode cX25_foot q.1 = .ok q.2 := dl_all (by decide +kernel)
noncomputable def m_X25_foot_l5 (a0 x2_5 x4_5 : Int) (h : Hp) : Option ((Int × Int) ⊕ ((Int))) :=
  if (h a0 88) ≤ x4_5 then (some (.inr x2_5))
  else (gd (h (h a0 91) (-2) % 16 = 1 ∧ (0 : Int) ≤ x4_5 ∧ x4_5 < h (h a0 91) (-1)) (gd (h (h a0 90) (-2) % 16 = 1 ∧ (0 : Int) ≤ x4_5 ∧ x4_5 < h (h a0 90) (-1)) (gd (h (h a0 89) (-2) % 16 = 1 ∧ (0 : Int) ≤ x4_5 ∧ x4_5 < h (h a0 89) (-1)) ((m_X25_leadOf a0 (h (h a0 89) x4_5) h).bind fun v39 =>
  lt_ (w64 (x2_5 + (w64 ((w32 ((h (h a0 91) x4_5) - (h (h a0 90) x4_5))) * v39)))) fun x2_45 =>
  lt_ (w32 (x4_5 + 1)) fun x4_46 =>
  some (.inl (x2_45, x4_46))))))
noncomputable def m_X25_foot_j146 (a0 x4_69 x6_69 : Int) (h_146 : Hp) : Option ((Int × Int × Hp) ⊕ ((Hp))) :=
  gd (h_146 (h_146 a0 91) (-2) % 16 = 1 ∧ (0 : Int) ≤ x6_69 ∧ x6_69 < h_146 (h_146 a0 91) (-1)) (gd (h_146 (h_146 a0 90) (-2) % 16 = 1 ∧ (0 : Int) ≤ x6_69 ∧ x6_69 < h_146 (h_146 a0 90) (-1)) (gd (h_146 (h_146 a0 89) (-2) % 16 = 1 ∧ (0 : Int) ≤ x6_69 ∧ x6_69 < h_146 (h_146 a0 89) (-1)) ((m_X25_leadOf a0 (h_146 (h_146 a0 89) x6_69) h_146).bind fun v172 =>
  lt_ (w64 (x4_69 + (w64 ((w32 ((h_146 (h_146 a0 91) x6_69) - (h_146 (h_146 a0 90) x6_69))) * v172)))) fun x4_178 =>
  lt_ (w32 (x6_69 + 1)) fun x6_180 =>
  some (.inl (x4_178, x6_180, h_146)))))
noncomputable def m_X25_foot_l69 (a0 x4_69 x6_69 : Int) (h_69 : Hp) : Option ((Int × Int × Hp) ⊕ ((Hp))) :=
  if (h_69 a0 88) ≤ x6_69 then (some (.inr h_69))
  else (gd (h_69 (h_69 a0 93) (-2) % 16 = 4 ∧ (0 : Int) ≤ x6_69 ∧ x6_69 < h_69 (h_69 a0 93) (-1)) (pt h_69 (h_69 a0 93) x6_69 x4_69 fun h86 =>
  gd (h86 (h86 a0 90) (-2) % 16 = 1 ∧ (0 : Int) ≤ x6_69 ∧ x6_69 < h86 (h86 a0 90) (-1)) (if (h86 (h86 a0 90) x6_69) ≠ 0 then (m_X25_foot_j146 a0 x4_69 x6_69 h86)
  else (gd (h86 (h86 a0 89) (-2) % 16 = 1 ∧ (0 : Int) ≤ x6_69 ∧ x6_69 < h86 (h86 a0 89) (-1)) (gd (h86 (h86 a0 58) (-2) % 16 = 1 ∧ (0 : Int) ≤ (h86 (h86 a0 89) x6_69) ∧ (h86 (h86 a0 89) x6_69) < h86 (h86 a0 58) (-1)) (pt h86 (h86 a0 58) (h86 (h86 a0 89) x6_69) (h86 a0 94) fun h112 =>
  gd (h112 (h112 a0 89) (-2) % 16 = 1 ∧ (0 : Int) ≤ x6_69 ∧ x6_69 < h112 (h112 a0 89) (-1)) (gd (h112 (h112 a0 91) (-2) % 16 = 1 ∧ (0 : Int) ≤ x6_69 ∧ x6_69 < h112 (h112 a0 91) (-1)) (gd (h112 (h112 a0 59) (-2) % 16 = 1 ∧ (0 : Int) ≤ (h112 (h112 a0 89) x6_69) ∧ (h112 (h112 a0 89) x6_69) < h112 (h112 a0 59) (-1)) (pt h112 (h112 a0 59) (h112 (h112 a0 89) x6_69) (h112 (h112 a0 91) x6_69) fun h131 =>
  gd (h131 (h131 a0 89) (-2) % 16 = 1 ∧ (0 : Int) ≤ x6_69 ∧ x6_69 < h131 (h131 a0 89) (-1)) (gd (h131 (h131 a0 63) (-2) % 16 = 4 ∧ (0 : Int) ≤ (h131 (h131 a0 89) x6_69) ∧ (h131 (h131 a0 89) x6_69) < h131 (h131 a0 63) (-1)) (pt h131 (h131 a0 63) (h131 (h131 a0 89) x6_69) x4_69 fun h145 =>
  m_X25_foot_j146 a0 x4_69 x6_69 h145)))))))))))
noncomputable def m_X25_foot (a0 a1 : Int) (h : Hp) : Option (Hp) :=
  lt_ 0 fun x2_1 =>
  (lp (fun (q : Int × Int) => m_X25_foot_l5 a0 q.1 q.2 h) (x2_1, a1)).bind (fun (y52 : Int) => gd (h (h a0 0) (-2) = 400) (gd (h (h (h a0 0) 2) (-2) % 16 = 1 ∧ (0 : Int) ≤ 1 ∧ 1 < h (h (h a0 0) 2) (-1)) (lt_ (w64 ((h (h (h a0 0) 2) 1) - y52)) fun x4_64 =>
  (lp (fun (q : Int × Int × Hp) => m_X25_foot_l69 a0 q.1 q.2.1 q.2.2) (x4_64, a1, h)).bind (fun (x : Hp) => some x))))
theorem s_X25_foot {l : Launch} [NoTr l] {D : SD} {a0 a1 : Int} {h : Hp} (hk : h a0 (-2) = 416) (r1 : r32 a1) {r : Hp} (hm : m_X25_foot a0 a1 h = some r) : Sim l D yX25_foot (Cond.code yX25_foot cX25_foot 7 (Option.none : Option Jvm.ClassFile.FieldType)) 3 111 [rv D a0, iv a1] h 0 ((0, 0), r) := by
  refine Sim.of (fin := fun (v : Hp) => ((0, 0), v)) (lsE := [(0, rv D a0), (1, iv a1)]) hm rfl cwS_code (la_r (la_i la_n)) (ll_r (ll_i ll_n)) ?_
  intro p e s m below meth c X hcw hmm hcc hnm hname
  unfold m_X25_foot
  refine g_lconst0 (pc := 0) X (dl_at t_X25_foot 0 rfl) ?_
  refine g_ltl (r64_c rfl) fun x2_1 r2_1 => ?_
  refine g_lstore_nN (pc := 1) X (j := 2) (i := 2) (x := x2_1) (b := 1) (w := iv a1) (rest := [(0, rv D a0)]) rfl (Nat.le_of_ble_eq_true rfl) [1, 0] rfl (by decide) (by decide) rfl rfl (dl_at t_X25_foot 1 rfl) ?_
  refine g_iload_n (pc := 2) X (j := 1) (i := 1) (q := 1) (x := a1) rfl rfl (dl_at t_X25_foot 2 rfl) ?_
  refine g_istore (pc := 3) X (i := 4) (x := a1) (rest := [(2, jv x2_1), (1, iv a1), (0, rv D a0)]) (Nat.le_of_ble_eq_true rfl) [0, 1, 2] rfl rfl (dl_at t_X25_foot 3 rfl) ?_
  refine g_ls (ls2 := [(0, rv D a0), (1, iv a1), (2, jv x2_1), (4, iv a1)]) [3, 2, 1, 0] rfl ?_
  refine g_loop1 (fun (q : Int × Int) => [(0, rv D a0), (1, iv a1), (2, jv q.1), (4, iv q.2)]) (fun (q : Int × Int) => h) (fun (q : Int × Int) => r64 q.1 ∧ r32 q.2) 52 (fun (y52 : Int) => [(0, rv D a0), (1, iv a1), (2, jv y52)]) (fun (y52 : Int) => h) (fun (y52 : Int) => r64 y52) (x2_1, a1) ⟨r2_1, r1⟩ ?_ ?_
  · rintro ⟨x2_5, x4_5⟩ ⟨r2_5, r4_5⟩
    try dsimp only
    unfold m_X25_foot_l5
    refine g_iload (pc := 5) X (i := 4) (q := 3) (x := x4_5) rfl (dl_at t_X25_foot 4 rfl) ?_
    refine g_aload_n (pc := 7) X (j := 0) (i := 0) (q := 0) (x := a0) rfl rfl (dl_at t_X25_foot 5 rfl) ?_
    refine r_geti (pc := 8) X fX25_88 hk q3891 (dl_at t_X25_foot 6 rfl) fun g8 => ?_
    refine g_icmpge (pc := 11) X r4_5 g8 (off := 41) (tgt := 52) rfl (dl_at t_X25_foot 7 rfl) (fun _ => ?_) (fun _ => ?_)
    · refine g_ls (ls2 := [(0, rv D a0), (1, iv a1), (2, jv x2_5)]) [0, 1, 2] rfl ?_
      exact g_at fun Q hQ => hQ r2_5
    refine g_lload_n (pc := 14) X (j := 2) (i := 2) (q := 2) (x := x2_5) rfl rfl (dl_at t_X25_foot 8 rfl) ?_
    refine g_aload_n (pc := 15) X (j := 0) (i := 0) (q := 0) (x := a0) rfl rfl (dl_at t_X25_foot 9 rfl) ?_
    refine r_getr (pc := 16) X fX25_91 hk q3896 (dl_at t_X25_foot 10 rfl) ?_
    refine g_iload (pc := 19) X (i := 4) (q := 3) (x := x4_5) rfl (dl_at t_X25_foot 11 rfl) ?_
    refine g_gd fun k21 => ?_
    refine g_iald (pc := 21) X r4_5 k21 (dl_at t_X25_foot 12 rfl) fun g21 => ?_
    refine g_aload_n (pc := 22) X (j := 0) (i := 0) (q := 0) (x := a0) rfl rfl (dl_at t_X25_foot 13 rfl) ?_
    refine r_getr (pc := 23) X fX25_90 hk q3894 (dl_at t_X25_foot 14 rfl) ?_
    refine g_iload (pc := 26) X (i := 4) (q := 3) (x := x4_5) rfl (dl_at t_X25_foot 15 rfl) ?_
    refine g_gd fun k28 => ?_
    refine g_iald (pc := 28) X r4_5 k28 (dl_at t_X25_foot 16 rfl) fun g28 => ?_
    refine g_isub (pc := 29) X g21 g28 (dl_at t_X25_foot 17 rfl) ?_
    refine g_i2l (pc := 30) X (r32_w _) (dl_at t_X25_foot 18 rfl) ?_
    refine g_aload_n (pc := 31) X (j := 0) (i := 0) (q := 0) (x := a0) rfl rfl (dl_at t_X25_foot 19 rfl) ?_
    refine g_aload_n (pc := 32) X (j := 0) (i := 0) (q := 0) (x := a0) rfl rfl (dl_at t_X25_foot 20 rfl) ?_
    refine r_getr (pc := 33) X fX25_89 hk q3892 (dl_at t_X25_foot 21 rfl) ?_
    refine g_iload (pc := 36) X (i := 4) (q := 3) (x := x4_5) rfl (dl_at t_X25_foot 22 rfl) ?_
    refine g_gd fun k38 => ?_
    refine g_iald (pc := 38) X r4_5 k38 (dl_at t_X25_foot 23 rfl) fun g38 => ?_
    refine r_callRi (pc := 39) X (fun _ hv => s_X25_leadOf hk g38 hv) cw_code q5082 q379 (in_Vk X (As := [iv (h (h a0 89) x4_5)]) kX25 hk (Or.inl q5079) q5081 qs337 cw_code q5082 ⟨by decide, by decide⟩ rfl (dl_at t_X25_foot 24 rfl)) (dl_at t_X25_foot 24 rfl) (cat24 (st := [jv (w32 ((h (h a0 91) x4_5) - (h (h a0 90) x4_5))), jv x2_5]) (Nat.le_of_ble_eq_true rfl)) (Nat.le_of_ble_eq_true rfl) (Nat.le_of_ble_eq_true rfl) fun v39 g39 => ?_
    refine g_i2l (pc := 42) X g39 (dl_at t_X25_foot 25 rfl) ?_
    refine g_lmul (pc := 43) X (r64_of (r32_w _)) (r64_of g39) (dl_at t_X25_foot 26 rfl) ?_
    refine g_ladd (pc := 44) X r2_5 (r64_w _) (dl_at t_X25_foot 27 rfl) ?_
    refine g_ltl (r64_w _) fun x2_45 r2_45 => ?_
    refine g_lstore_nN (pc := 45) X (j := 2) (i := 2) (x := x2_45) (b := 1) (w := iv a1) (rest := [(0, rv D a0), (4, iv x4_5)]) rfl (Nat.le_of_ble_eq_true rfl) [1, 0, 3] rfl (by decide) (by decide) rfl rfl (dl_at t_X25_foot 28 rfl) ?_
    refine r_iinc (pc := 46) X (i := 4) (q := 3) (n := 1) (x := x4_5) (rest := [(2, jv x2_45), (1, iv a1), (0, rv D a0)]) rfl r4_5 (r32_c rfl) (Nat.le_of_ble_eq_true rfl) [0, 1, 2] rfl rfl (dl_at t_X25_foot 29 rfl) fun x4_46 r4_46 => ?_
    refine g_goto (pc := 49) X (off := (-44)) (tgt := 5) rfl (dl_at t_X25_foot 30 rfl) ?_
    refine g_ls (ls2 := [(0, rv D a0), (1, iv a1), (2, jv x2_45), (4, iv x4_46)]) [3, 2, 1, 0] rfl ?_
    exact g_at fun Q hQ => hQ ⟨r2_45, r4_46⟩
  · rintro x2_52 r2_52
    try dsimp only [sE]
    refine g_aload_n (pc := 52) X (j := 0) (i := 0) (q := 0) (x := a0) rfl rfl (dl_at t_X25_foot 31 rfl) ?_
    refine r_getr (pc := 53) X fX25_0 hk q3761 (dl_at t_X25_foot 32 rfl) ?_
    refine g_gd fun k56 => ?_
    refine r_getr (pc := 56) X fX24_2 k56 q3647 (dl_at t_X25_foot 33 rfl) ?_
    refine g_iconst (pc := 59) X (n := 1) (dl_at t_X25_foot 34 rfl) ?_
    refine g_gd fun k60 => ?_
    refine g_iald (pc := 60) X (r32_c rfl) k60 (dl_at t_X25_foot 35 rfl) fun g60 => ?_
    refine g_i2l (pc := 61) X g60 (dl_at t_X25_foot 36 rfl) ?_
    refine g_lload_n (pc := 62) X (j := 2) (i := 2) (q := 2) (x := x2_52) rfl rfl (dl_at t_X25_foot 37 rfl) ?_
    refine g_lsub (pc := 63) X (r64_of g60) r2_52 (dl_at t_X25_foot 38 rfl) ?_
    refine g_ltl (r64_w _) fun x4_64 r4_64 => ?_
    refine g_lstore (pc := 64) X (i := 4) (x := x4_64) (rest := [(0, rv D a0), (1, iv a1)]) (Nat.le_of_ble_eq_true rfl) [0, 1] rfl rfl (dl_at t_X25_foot 39 rfl) ?_
    refine g_iload_n (pc := 66) X (j := 1) (i := 1) (q := 2) (x := a1) rfl rfl (dl_at t_X25_foot 40 rfl) ?_
    refine g_istore (pc := 67) X (i := 6) (x := a1) (rest := [(4, jv x4_64), (0, rv D a0)]) (Nat.le_of_ble_eq_true rfl) [0, 1] rfl rfl (dl_at t_X25_foot 41 rfl) ?_
    refine g_ls (ls2 := [(0, rv D a0), (4, jv x4_64), (6, iv a1)]) [2, 1, 0] rfl ?_
    refine g_loop0F (fun (q : Int × Int × Hp) => [(0, rv D a0), (4, jv q.1), (6, iv q.2.1)]) (fun (q : Int × Int × Hp) => q.2.2) (fun (q : Int × Int × Hp) => r64 q.1 ∧ r32 q.2.1 ∧ Ext h q.2.2) (x4_64, a1, h) ⟨r4_64, r1, (Ext.refl _)⟩ ?_ (fun _ => rfl)
    · rintro ⟨x4_69, x6_69, h_69⟩ ⟨r4_69, r6_69, E_69⟩
      try dsimp only
      unfold m_X25_foot_l69
      refine g_iload (pc := 69) X (i := 6) (q := 2) (x := x6_69) rfl (dl_at t_X25_foot 42 rfl) ?_
      refine g_aload_n (pc := 71) X (j := 0) (i := 0) (q := 0) (x := a0) rfl rfl (dl_at t_X25_foot 43 rfl) ?_
      have k72 := kx E_69 (by decide) hk
      refine r_geti (pc := 72) X fX25_88 k72 q3891 (dl_at t_X25_foot 44 rfl) fun g72 => ?_
      refine g_icmpge (pc := 75) X r6_69 g72 (off := 111) (tgt := 186) rfl (dl_at t_X25_foot 45 rfl) (fun _ => ?_) (fun _ => ?_)
      · exact g_at fun Q hQ => (g_vret (pc := 186) X (v := 0) rfl rfl (dl_at t_X25_foot 107 rfl)) _ Q rfl hQ
      refine g_aload_n (pc := 78) X (j := 0) (i := 0) (q := 0) (x := a0) rfl rfl (dl_at t_X25_foot 46 rfl) ?_
      refine r_getr (pc := 79) X fX25_93 k72 q3900 (dl_at t_X25_foot 47 rfl) ?_
      refine g_iload (pc := 82) X (i := 6) (q := 2) (x := x6_69) rfl (dl_at t_X25_foot 48 rfl) ?_
      refine g_lload (pc := 84) X (i := 4) (q := 1) (x := x4_69) rfl (dl_at t_X25_foot 49 rfl) ?_
      refine g_gd fun k86 => ?_
      refine r_last (pc := 86) X r6_69 r4_69 k86 (dl_at t_X25_foot 50 rfl) (fun h86 E86 => ?_)
      refine g_aload_n (pc := 87) X (j := 0) (i := 0) (q := 0) (x := a0) rfl rfl (dl_at t_X25_foot 51 rfl) ?_
      have k88 := kx E86 (by decide) k72
      refine r_getr (pc := 88) X fX25_90 k88 q3894 (dl_at t_X25_foot 52 rfl) ?_
      refine g_iload (pc := 91) X (i := 6) (q := 2) (x := x6_69) rfl (dl_at t_X25_foot 53 rfl) ?_
      refine g_gd fun k93 => ?_
      refine g_iald (pc := 93) X r6_69 k93 (dl_at t_X25_foot 54 rfl) fun g93 => ?_
      refine g_join (γ := Hp) (fun q => Ext h86 q) 146 (fun q => [(0, rv D a0), (4, jv x4_69), (6, iv x6_69)]) (fun q => []) (fun q => q) (fun q => m_X25_foot_j146 a0 x4_69 x6_69 q) ?_ ?_
      · rintro h_146 E_146
        try dsimp only
        unfold m_X25_foot_j146
        refine g_lload (pc := 146) X (i := 4) (q := 1) (x := x4_69) rfl (dl_at t_X25_foot 84 rfl) ?_
        refine g_aload_n (pc := 148) X (j := 0) (i := 0) (q := 0) (x := a0) rfl rfl (dl_at t_X25_foot 85 rfl) ?_
        have k149 := kx E_146 (by decide) k88
        refine r_getr (pc := 149) X fX25_91 k149 q3896 (dl_at t_X25_foot 86 rfl) ?_
        refine g_iload (pc := 152) X (i := 6) (q := 2) (x := x6_69) rfl (dl_at t_X25_foot 87 rfl) ?_
        refine g_gd fun k154 => ?_
        refine g_iald (pc := 154) X r6_69 k154 (dl_at t_X25_foot 88 rfl) fun g154 => ?_
        refine g_aload_n (pc := 155) X (j := 0) (i := 0) (q := 0) (x := a0) rfl rfl (dl_at t_X25_foot 89 rfl) ?_
        refine r_getr (pc := 156) X fX25_90 k149 q3894 (dl_at t_X25_foot 90 rfl) ?_
        refine g_iload (pc := 159) X (i := 6) (q := 2) (x := x6_69) rfl (dl_at t_X25_foot 91 rfl) ?_
        refine g_gd fun k161 => ?_
        refine g_iald (pc := 161) X r6_69 k161 (dl_at t_X25_foot 92 rfl) fun g161 => ?_
        refine g_isub (pc := 162) X g154 g161 (dl_at t_X25_foot 93 rfl) ?_
        refine g_i2l (pc := 163) X (r32_w _) (dl_at t_X25_foot 94 rfl) ?_
        refine g_aload_n (pc := 164) X (j := 0) (i := 0) (q := 0) (x := a0) rfl rfl (dl_at t_X25_foot 95 rfl) ?_
        refine g_aload_n (pc := 165) X (j := 0) (i := 0) (q := 0) (x := a0) rfl rfl (dl_at t_X25_foot 96 rfl) ?_
        refine r_getr (pc := 166) X fX25_89 k149 q3892 (dl_at t_X25_foot 97 rfl) ?_
        refine g_iload (pc := 169) X (i := 6) (q := 2) (x := x6_69) rfl (dl_at t_X25_foot 98 rfl) ?_
        refine g_gd fun k171 => ?_
        refine g_iald (pc := 171) X r6_69 k171 (dl_at t_X25_foot 99 rfl) fun g171 => ?_
        refine r_callRi (pc := 172) X (fun _ hv => s_X25_leadOf k149 g171 hv) cw_code q5082 q379 (in_Vk X (As := [iv (h_146 (h_146 a0 89) x6_69)]) kX25 k149 (Or.inl q5079) q5081 qs337 cw_code q5082 ⟨by decide, by decide⟩ rfl (dl_at t_X25_foot 100 rfl)) (dl_at t_X25_foot 100 rfl) (cat24 (st := [jv (w32 ((h_146 (h_146 a0 91) x6_69) - (h_146 (h_146 a0 90) x6_69))), jv x4_69]) (Nat.le_of_ble_eq_true rfl)) (Nat.le_of_ble_eq_true rfl) (Nat.le_of_ble_eq_true rfl) fun v172 g172 => ?_
        refine g_i2l (pc := 175) X g172 (dl_at t_X25_foot 101 rfl) ?_
        refine g_lmul (pc := 176) X (r64_of (r32_w _)) (r64_of g172) (dl_at t_X25_foot 102 rfl) ?_
        refine g_ladd (pc := 177) X r4_69 (r64_w _) (dl_at t_X25_foot 103 rfl) ?_
        refine g_ltl (r64_w _) fun x4_178 r4_178 => ?_
        refine g_lstore (pc := 178) X (i := 4) (x := x4_178) (rest := [(0, rv D a0), (6, iv x6_69)]) (Nat.le_of_ble_eq_true rfl) [0, 2] rfl rfl (dl_at t_X25_foot 104 rfl) ?_
        refine r_iinc (pc := 180) X (i := 6) (q := 2) (n := 1) (x := x6_69) (rest := [(4, jv x4_178), (0, rv D a0)]) rfl r6_69 (r32_c rfl) (Nat.le_of_ble_eq_true rfl) [0, 1] rfl rfl (dl_at t_X25_foot 105 rfl) fun x6_180 r6_180 => ?_
        refine g_goto (pc := 183) X (off := (-114)) (tgt := 69) rfl (dl_at t_X25_foot 106 rfl) ?_
        refine g_ls (ls2 := [(0, rv D a0), (4, jv x4_178), (6, iv x6_180)]) [2, 1, 0] rfl ?_
        exact g_at fun Q hQ => hQ ⟨r4_178, r6_180, (E_69.trans (E86.trans E_146))⟩
      intro J146
      refine g_ifne (pc := 94) X g93 (off := 52) (tgt := 146) rfl (dl_at t_X25_foot 55 rfl) (fun _ => ?_) (fun _ => ?_)
      · exact J146 h86 (Ext.refl _)
      refine g_aload_n (pc := 97) X (j := 0) (i := 0) (q := 0) (x := a0) rfl rfl (dl_at t_X25_foot 56 rfl) ?_
      refine r_getr (pc := 98) X fX25_58 k88 q3848 (dl_at t_X25_foot 57 rfl) ?_
      refine g_aload_n (pc := 101) X (j := 0) (i := 0) (q := 0) (x := a0) rfl rfl (dl_at t_X25_foot 58 rfl) ?_
      refine r_getr (pc := 102) X fX25_89 k88 q3892 (dl_at t_X25_foot 59 rfl) ?_
      refine g_iload (pc := 105) X (i := 6) (q := 2) (x := x6_69) rfl (dl_at t_X25_foot 60 rfl) ?_
      refine g_gd fun k107 => ?_
      refine g_iald (pc := 107) X r6_69 k107 (dl_at t_X25_foot 61 rfl) fun g107 => ?_
      refine g_aload_n (pc := 108) X (j := 0) (i := 0) (q := 0) (x := a0) rfl rfl (dl_at t_X25_foot 62 rfl) ?_
      refine r_geti (pc := 109) X fX25_94 k88 q3903 (dl_at t_X25_foot 63 rfl) fun g109 => ?_
      refine g_gd fun k112 => ?_
      refine r_iast (pc := 112) X g107 g109 k112 (dl_at t_X25_foot 64 rfl) (fun h112 E112 => ?_)
      refine g_aload_n (pc := 113) X (j := 0) (i := 0) (q := 0) (x := a0) rfl rfl (dl_at t_X25_foot 65 rfl) ?_
      have k114 := kx E112 (by decide) k88
      refine r_getr (pc := 114) X fX25_59 k114 q3850 (dl_at t_X25_foot 66 rfl) ?_
      refine g_aload_n (pc := 117) X (j := 0) (i := 0) (q := 0) (x := a0) rfl rfl (dl_at t_X25_foot 67 rfl) ?_
      refine r_getr (pc := 118) X fX25_89 k114 q3892 (dl_at t_X25_foot 68 rfl) ?_
      refine g_iload (pc := 121) X (i := 6) (q := 2) (x := x6_69) rfl (dl_at t_X25_foot 69 rfl) ?_
      refine g_gd fun k123 => ?_
      refine g_iald (pc := 123) X r6_69 k123 (dl_at t_X25_foot 70 rfl) fun g123 => ?_
      refine g_aload_n (pc := 124) X (j := 0) (i := 0) (q := 0) (x := a0) rfl rfl (dl_at t_X25_foot 71 rfl) ?_
      refine r_getr (pc := 125) X fX25_91 k114 q3896 (dl_at t_X25_foot 72 rfl) ?_
      refine g_iload (pc := 128) X (i := 6) (q := 2) (x := x6_69) rfl (dl_at t_X25_foot 73 rfl) ?_
      refine g_gd fun k130 => ?_
      refine g_iald (pc := 130) X r6_69 k130 (dl_at t_X25_foot 74 rfl) fun g130 => ?_
      refine g_gd fun k131 => ?_
      refine r_iast (pc := 131) X g123 g130 k131 (dl_at t_X25_foot 75 rfl) (fun h131 E131 => ?_)
      refine g_aload_n (pc := 132) X (j := 0) (i := 0) (q := 0) (x := a0) rfl rfl (dl_at t_X25_foot 76 rfl) ?_
      have k133 := kx E131 (by decide) k114
      refine r_getr (pc := 133) X fX25_63 k133 q3858 (dl_at t_X25_foot 77 rfl) ?_
      refine g_aload_n (pc := 136) X (j := 0) (i := 0) (q := 0) (x := a0) rfl rfl (dl_at t_X25_foot 78 rfl) ?_
      refine r_getr (pc := 137) X fX25_89 k133 q3892 (dl_at t_X25_foot 79 rfl) ?_
      refine g_iload (pc := 140) X (i := 6) (q := 2) (x := x6_69) rfl (dl_at t_X25_foot 80 rfl) ?_
      refine g_gd fun k142 => ?_
      refine g_iald (pc := 142) X r6_69 k142 (dl_at t_X25_foot 81 rfl) fun g142 => ?_
      refine g_lload (pc := 143) X (i := 4) (q := 1) (x := x4_69) rfl (dl_at t_X25_foot 82 rfl) ?_
      refine g_gd fun k145 => ?_
      refine r_last (pc := 145) X g142 r4_69 k145 (dl_at t_X25_foot 83 rfl) (fun h145 E145 => ?_)
      exact J146 h145 (E112.trans (E131.trans E145))
def k_X25_next : List (Nat × Instr × Nat) := [(0, .aload_n 0, 1), (1, .dup, 1), (2, .getfield 832, 3), (5, .iconst 1, 1), (6, .iadd, 1), (7, .putfield 832, 3), (10, .aload_n 0, 1), (11, .getfield 832, 3), (14, .sipush 1500, 3), (17, .if_icmp .le 11, 3), (20, .new 451, 3), (23, .dup, 1), (24, .invokespecial 453, 3), (27, .athrow, 1), (28, .return_, 1)]
theorem t_X25_next : ∀ q ∈ k_X25_next, decode cX25_next q.1 = .ok q.2 := dl_all (by decide +kernel)
noncomputable def m_X25_next (a0 : Int) (h : Hp) : Option ((Int × Int) × Hp) :=
  pt h a0 94 (w32 ((h a0 94) + 1)) fun h7 =>
  if (h7 a0 94) ≤ 1500 then (some ((0, 0), h7))
  else (al h7 464 6 fun a20 h20 =>
  (x_init0 a20 h20).bind fun h24 =>
  some ((1, a20), h24))
theorem s_X25_next {l : Launch} [NoTr l] {D : SD} {a0 : Int} {h : Hp} (hk : h a0 (-2) = 416) {r : (Int × Int) × Hp} (hm : m_X25_next a0 h = some r) : Sim l D yX25_next (Cond.code yX25_next cX25_next 1 (Option.none : Option Jvm.ClassFile.FieldType)) 9 336 [rv D a0] h 0 r := by
  refine Sim.of (fin := fun (v : (Int × Int) × Hp) => v) (lsE := [(0, rv D a0)]) hm rfl cwS_code (la_r la_n) (ll_r ll_n) ?_
  intro p e s m below meth c X hcw hmm hcc hnm hname
  have hno := noh hcw hnm hmm hcc
  unfold m_X25_next
  refine g_aload_n (pc := 0) X (j := 0) (i := 0) (q := 0) (x := a0) rfl rfl (dl_at t_X25_next 0 rfl) ?_
  refine g_dup (pc := 1) X rv_cat (dl_at t_X25_next 1 rfl) ?_
  refine r_geti (pc := 2) X fX25_94 hk q3903 (dl_at t_X25_next 2 rfl) fun g2 => ?_
  refine g_iconst (pc := 5) X (n := 1) (dl_at t_X25_next 3 rfl) ?_
  refine g_iadd (pc := 6) X g2 (r32_c rfl) (dl_at t_X25_next 4 rfl) ?_
  refine r_puti (pc := 7) X fX25_94 hk q3903 rfl (dl_at t_X25_next 5 rfl) (r32_w _) (fun h7 E7 => ?_)
  refine g_aload_n (pc := 10) X (j := 0) (i := 0) (q := 0) (x := a0) rfl rfl (dl_at t_X25_next 6 rfl) ?_
  have k11 := kx E7 (by decide) hk
  refine r_geti (pc := 11) X fX25_94 k11 q3903 (dl_at t_X25_next 7 rfl) fun g11 => ?_
  refine g_sipush (pc := 14) X (n := 1500) rfl (dl_at t_X25_next 8 rfl) ?_
  refine g_icmple (pc := 17) X g11 (r32_c rfl) (off := 11) (tgt := 28) rfl (dl_at t_X25_next 9 rfl) (fun _ => ?_) (fun _ => ?_)
  · exact g_vret (pc := 28) X (v := 0) rfl rfl (dl_at t_X25_next 14 rfl)
  refine r_new (pc := 20) X kX29 q4791 (dl_at t_X25_next 10 rfl) fun a20 h20 p20 k20 E20 => ?_
  refine g_dup (pc := 23) X rv_cat (dl_at t_X25_next 11 rfl) ?_
  refine r_callV (pc := 24) X (fun _ hv => sx_ScholarsPressModel_Beyond_init__V k20 hv) cw_code q4802 q397 (in_I X (As := []) (Int.ne_of_gt p20) rfl (Or.inr ⟨_, nw_in q4800 rfl⟩) q4801 q4802 ⟨by decide, by decide⟩ rfl (dl_at t_X25_next 12 rfl)) (dl_at t_X25_next 12 rfl) (cat24 (st := [rv D a20]) (Nat.le_of_ble_eq_true rfl)) (Nat.le_of_ble_eq_true rfl) (Nat.le_of_ble_eq_true rfl) fun h24 E24 => ?_
  refine g_athrow (pc := 27) X (Int.ne_of_gt p20) (dl_at t_X25_next 13 rfl) ?_
  exact gt_at fun Q hQ => gt_out (Q := Q) X rfl p20 (hno _) _ Q rfl hQ
def k_X25_place : List (Nat × Instr × Nat) := [(0, .iconst 0, 1), (1, .istore_n 2, 1), (2, .iload_n 1, 1), (3, .istore_n 3, 1), (4, .iload_n 3, 1), (5, .ifCond .lt 23, 3), (8, .aload_n 0, 1), (9, .getfield 325, 3), (12, .iload_n 2, 1), (13, .iload_n 3, 1), (14, .iastore, 1), (15, .iinc 2 1, 3), (18, .aload_n 0, 1), (19, .getfield 316, 3), (22, .iload_n 3, 1), (23, .iaload, 1), (24, .istore_n 3, 1), (25, .goto (-21), 3), (28, .iconst 0, 1), (29, .istore_n 3, 1), (30, .iconst 0, 1), (31, .istore 4, 2), (33, .iload_n 2, 1), (34, .iconst 1, 1), (35, .isub, 1), (36, .istore 5, 2), (38, .iload 5, 2), (40, .ifCond .le 319, 3), (43, .aload_n 0, 1), (44, .getfield 325, 3), (47, .iload 5, 2), (49, .iaload, 1), (50, .istore 6, 2), (52, .aload_n 0, 1), (53, .getfield 307, 3), (56, .iload 6, 2), (58, .iaload, 1), (59, .istore 7, 2), (61, .aload_n 0, 1), (62, .getfield 307, 3), (65, .aload_n 0, 1), (66, .getfield 325, 3), (69, .iload 5, 2), (71, .iconst 1, 1), (72, .isub, 1), (73, .iaload, 1), (74, .iaload, 1), (75, .iconst 1, 1), (76, .isub, 1), (77, .istore 8, 2), (79, .aload_n 0, 1), (80, .iload 6, 2), (82, .iload 8, 2), (84, .invokevirtual 838, 3), (87, .pop, 1), (88, .lconst 0, 1), (89, .lstore 9, 2), (91, .iload_n 3, 1), (92, .istore 11, 2), (94, .iload 11, 2), (96, .aload_n 0, 1), (97, .getfield 812, 3), (100, .if_icmp .ge 40, 3), (103, .aload_n 0, 1), (104, .getfield 175, 3), (107, .iload 11, 2), (109, .aload_n 0, 1), (110, .getfield 832, 3), (113, .iastore, 1), (114, .aload_n 0, 1), (115, .getfield 181, 3), (118, .iload 11, 2), (120, .lload 9, 2), (122, .lastore, 1), (123, .lload 9, 2), (125, .aload_n 0, 1), (126, .iload 11, 2), (128, .invokevirtual 815, 3), (131, .ladd, 1), (132, .lstore 9, 2), (134, .iinc 11 1, 3), (137, .goto (-43), 3), (140, .iload 7, 2), (142, .istore 11, 2), (144, .iload 11, 2), (146, .iload 8, 2), (148, .if_icmp .gt 63, 3), (151, .aload_n 0, 1), (152, .getfield 142, 3), (155, .iload 11, 2), (157, .aload_n 0, 1), (158, .getfield 832, 3), (161, .iastore, 1), (162, .aload_n 0, 1), (163, .getfield 151, 3), (166, .iload 11, 2), (168, .lload 9, 2), (170, .aload_n 0, 1), (171, .getfield 295, 3), (174, .iload 11, 2), (176, .laload, 1), (177, .ladd, 1), (178, .aload_n 0, 1), (179, .getfield 136, 3), (182, .iload 11, 2), (184, .iaload, 1), (185, .i2l, 1), (186, .ladd, 1), (187, .aload_n 0, 1), (188, .getfield 295, 3), (191, .iload 7, 2), (193, .laload, 1), (194, .lsub, 1), (195, .aload_n 0, 1), (196, .getfield 136, 3), (199, .iload 7, 2), (201, .iaload, 1), (202, .i2l, 1), (203, .lsub, 1), (204, .lastore, 1), (205, .iinc 11 1, 3), (208, .goto (-64), 3), (211, .iload 7, 2), (213, .ifCond .ne 7, 3), (216, .iconst 0, 1), (217, .goto 12, 3), (220, .aload_n 0, 1), (221, .getfield 298, 3), (224, .iload 7, 2), (226, .iconst 1, 1), (227, .isub, 1), (228, .iaload, 1), (229, .istore 11, 2), (231, .aload_n 0, 1), (232, .getfield 298, 3), (235, .iload 8, 2), (237, .iaload, 1), (238, .istore 12, 2), (240, .aload_n 0, 1), (241, .getfield 835, 3), (244, .istore 13, 2), (246, .iload 4, 2), (248, .ifCond .le 38, 3), (251, .aload_n 0, 1), (252, .iload 11, 2), (254, .iconst 1, 1), (255, .isub, 1), (256, .aload_n 0, 1), (257, .iload 11, 2), (259, .iconst 1, 1), (260, .isub, 1), (261, .invokevirtual 809, 3), (264, .iload 4, 2), (266, .isub, 1), (267, .aload_n 0, 1), (268, .iload 11, 2), (270, .iconst 1, 1), (271, .isub, 1), (272, .invokevirtual 809, 3), (275, .iload 4, 2), (277, .isub, 1), (278, .aload_n 0, 1), (279, .getfield 800, 3), (282, .iadd, 1), (283, .invokevirtual 856, 3), (286, .iload 11, 2), (288, .istore 14, 2), (290, .iload 14, 2), (292, .iload 12, 2), (294, .if_icmp .ge 38, 3), (297, .aload_n 0, 1), (298, .iload 14, 2), (300, .iconst 0, 1), (301, .iload 14, 2), (303, .iload 12, 2), (305, .iconst 1, 1), (306, .isub, 1), (307, .if_icmp .ne 10, 3), (310, .aload_n 0, 1), (311, .getfield 803, 3), (314, .goto 9, 3), (317, .aload_n 0, 1), (318, .iload 14, 2), (320, .invokevirtual 809, 3), (323, .invokevirtual 856, 3), (326, .iinc 14 1, 3), (329, .goto (-39), 3), (332, .aload_n 0, 1), (333, .iload 13, 2), (335, .invokevirtual 859, 3), (338, .aload_n 0, 1), (339, .getfield 812, 3), (342, .istore_n 3, 1), (343, .aload_n 0, 1), (344, .getfield 819, 3), (347, .istore 4, 2), (349, .aload_n 0, 1), (350, .invokevirtual 862, 3), (353, .iinc 5 (-1), 3), (356, .goto (-318), 3), (359, .aload_n 0, 1), (360, .getfield 298, 3), (363, .aload_n 0, 1), (364, .getfield 783, 3), (367, .iconst 1, 1), (368, .isub, 1), (369, .iaload, 1), (370, .iconst 1, 1), (371, .isub, 1), (372, .istore 5, 2), (374, .iload 4, 2), (376, .ifCond .gt 11, 3), (379, .iload_n 3, 1), (380, .aload_n 0, 1), (381, .getfield 595, 3), (384, .if_icmp .ge 212, 3), (387, .aload_n 0, 1), (388, .getfield 835, 3), (391, .istore 6, 2), (393, .lconst 0, 1), (394, .lstore 7, 2), (396, .iload 4, 2), (398, .ifCond .le 108, 3), (401, .aload_n 0, 1), (402, .getfield 14, 3), (405, .getfield 489, 3), (408, .iconst 4, 1), (409, .iaload, 1), (410, .aload_n 0, 1), (411, .iload 5, 2), (413, .invokevirtual 806, 3), (416, .iadd, 1), (417, .i2l, 1), (418, .lstore 7, 2), (420, .iconst 1, 1), (421, .istore 9, 2), (423, .iload 9, 2), (425, .iload 4, 2), (427, .if_icmp .ge 45, 3), (430, .lload 7, 2), (432, .aload_n 0, 1), (433, .iload 5, 2), (435, .invokevirtual 806, 3), (438, .i2l, 1), (439, .ladd, 1), (440, .aload_n 0, 1), (441, .getfield 14, 3), (444, .getfield 489, 3), (447, .iconst 1, 1), (448, .iaload, 1), (449, .i2l, 1), (450, .lcmp, 1), (451, .ifCond .gt 21, 3), (454, .iinc 9 1, 3), (457, .lload 7, 2), (459, .aload_n 0, 1), (460, .iload 5, 2), (462, .invokevirtual 806, 3), (465, .i2l, 1), (466, .ladd, 1), (467, .lstore 7, 2), (469, .goto (-46), 3), (472, .aload_n 0, 1), (473, .iload 5, 2), (475, .aload_n 0, 1), (476, .iload 5, 2), (478, .invokevirtual 809, 3), (481, .iload 4, 2), (483, .isub, 1), (484, .aload_n 0, 1), (485, .iload 5, 2), (487, .invokevirtual 809, 3), (490, .iload 4, 2), (492, .isub, 1), (493, .iload 9, 2), (495, .iadd, 1), (496, .invokevirtual 856, 3), (499, .iload 4, 2), (501, .iload 9, 2), (503, .isub, 1), (504, .istore 4, 2), (506, .aload_n 0, 1), (507, .iload 6, 2), (509, .invokevirtual 859, 3), (512, .lconst 0, 1), (513, .lstore 9, 2), (515, .iload_n 3, 1), (516, .aload_n 0, 1), (517, .getfield 595, 3), (520, .if_icmp .ge 69, 3), (523, .lload 7, 2), (525, .aload_n 0, 1), (526, .iload_n 3, 1), (527, .invokevirtual 815, 3), (530, .ladd, 1), (531, .aload_n 0, 1), (532, .getfield 14, 3), (535, .getfield 489, 3), (538, .iconst 1, 1), (539, .iaload, 1), (540, .i2l, 1), (541, .lcmp, 1), (542, .ifCond .gt 47, 3), (545, .aload_n 0, 1), (546, .getfield 175, 3), (549, .iload_n 3, 1), (550, .aload_n 0, 1), (551, .getfield 832, 3), (554, .iastore, 1), (555, .aload_n 0, 1), (556, .getfield 181, 3), (559, .iload_n 3, 1), (560, .lload 9, 2), (562, .lastore, 1), (563, .lload 9, 2), (565, .aload_n 0, 1), (566, .iload_n 3, 1), (567, .invokevirtual 815, 3), (570, .ladd, 1), (571, .lstore 9, 2), (573, .lload 7, 2), (575, .aload_n 0, 1), (576, .iload_n 3, 1), (577, .invokevirtual 815, 3), (580, .ladd, 1), (581, .lstore 7, 2), (583, .iinc 3 1, 3), (586, .goto (-71), 3), (589, .aload_n 0, 1), (590, .invokevirtual 862, 3), (593, .goto (-219), 3), (596, .return_, 1)]
theorem t_X25_place : ∀ q ∈ k_X25_place, decode cX25_place q.1 = .ok q.2 := dl_all (by decide +kernel)
noncomputable def m_X25_place_l4 (a0 x2_4 x3_4 : Int) (h_4 : Hp) : Option ((Int × Int × Hp) ⊕ ((Int × Hp))) :=
  if x3_4 < 0 then (some (.inr (x2_4, h_4)))
  else (gd (h_4 (h_4 a0 138) (-2) % 16 = 1 ∧ (0 : Int) ≤ x2_4 ∧ x2_4 < h_4 (h_4 a0 138) (-1)) (pt h_4 (h_4 a0 138) x2_4 x3_4 fun h14 =>
  lt_ (w32 (x2_4 + 1)) fun x2_15 =>
  gd (h14 (h14 a0 130) (-2) % 16 = 1 ∧ (0 : Int) ≤ x3_4 ∧ x3_4 < h14 (h14 a0 130) (-1)) (lt_ (h14 (h14 a0 130) x3_4) fun x3_24 =>
  some (.inl (x2_15, x3_24, h14)))))
noncomputable def m_X25_place_l94 (a0 x9_94 x11_94 : Int) (h_94 : Hp) : Option ((Int × Int × Hp) ⊕ ((Int × Hp))) :=
  if (h_94 a0 133) ≤ x11_94 then (some (.inr (x9_94, h_94)))
  else (gd (h_94 (h_94 a0 62) (-2) % 16 = 1 ∧ (0 : Int) ≤ x11_94 ∧ x11_94 < h_94 (h_94 a0 62) (-1)) (pt h_94 (h_94 a0 62) x11_94 (h_94 a0 94) fun h113 =>
  gd (h113 (h113 a0 64) (-2) % 16 = 4 ∧ (0 : Int) ≤ x11_94 ∧ x11_94 < h113 (h113 a0 64) (-1)) (pt h113 (h113 a0 64) x11_94 x9_94 fun h122 =>
  (m_X25_floatHigh a0 x11_94 h122).bind fun v128 =>
  lt_ (w64 (x9_94 + v128)) fun x9_132 =>
  lt_ (w32 (x11_94 + 1)) fun x11_134 =>
  some (.inl (x9_132, x11_134, h122)))))
noncomputable def m_X25_place_l144 (a0 x7_59 x8_77 x9_140 x11_144 : Int) (h_144 : Hp) : Option ((Int × Hp) ⊕ ((Hp))) :=
  if x8_77 < x11_144 then (some (.inr h_144))
  else (gd (h_144 (h_144 a0 49) (-2) % 16 = 1 ∧ (0 : Int) ≤ x11_144 ∧ x11_144 < h_144 (h_144 a0 49) (-1)) (pt h_144 (h_144 a0 49) x11_144 (h_144 a0 94) fun h161 =>
  gd (h161 (h161 a0 122) (-2) % 16 = 4 ∧ (0 : Int) ≤ x11_144 ∧ x11_144 < h161 (h161 a0 122) (-1)) (gd (h161 (h161 a0 47) (-2) % 16 = 1 ∧ (0 : Int) ≤ x11_144 ∧ x11_144 < h161 (h161 a0 47) (-1)) (gd (h161 (h161 a0 122) (-2) % 16 = 4 ∧ (0 : Int) ≤ x7_59 ∧ x7_59 < h161 (h161 a0 122) (-1)) (gd (h161 (h161 a0 47) (-2) % 16 = 1 ∧ (0 : Int) ≤ x7_59 ∧ x7_59 < h161 (h161 a0 47) (-1)) (gd (h161 (h161 a0 52) (-2) % 16 = 4 ∧ (0 : Int) ≤ x11_144 ∧ x11_144 < h161 (h161 a0 52) (-1)) (pt h161 (h161 a0 52) x11_144 (w64 ((w64 ((w64 ((w64 (x9_140 + (h161 (h161 a0 122) x11_144))) + (h161 (h161 a0 47) x11_144))) - (h161 (h161 a0 122) x7_59))) - (h161 (h161 a0 47) x7_59))) fun h204 =>
  lt_ (w32 (x11_144 + 1)) fun x11_205 =>
  some (.inl (x11_205, h204)))))))))
noncomputable def m_X25_place_j323 (a0 x14_290 s2_323 s3_323 : Int) (h_290 : Hp) : Option ((Int × Hp) ⊕ ((Hp))) :=
  (m_X25_piece a0 x14_290 s2_323 s3_323 h_290).bind fun h323 =>
  lt_ (w32 (x14_290 + 1)) fun x14_326 =>
  some (.inl (x14_326, h323))
noncomputable def m_X25_place_l290 (a0 x12_238 x14_290 : Int) (h_290 : Hp) : Option ((Int × Hp) ⊕ ((Hp))) :=
  if x12_238 ≤ x14_290 then (some (.inr h_290))
  else (if x14_290 ≠ (w32 (x12_238 - 1)) then ((m_X25_linesOf a0 x14_290 h_290).bind fun v320 =>
  m_X25_place_j323 a0 x14_290 0 v320 h_290)
  else (m_X25_place_j323 a0 x14_290 0 (h_290 a0 136) h_290))
noncomputable def m_X25_place_j286 (x13_244 x12_238 s0_229 a0 x5_38 : Int) (h_286 : Hp) : Option ((Int × Int × Int × Hp) ⊕ ((Int × Int × Hp) ⊕ (((Int × Int) × Hp)))) :=
  (lp (fun (q : Int × Hp) => m_X25_place_l290 a0 x12_238 q.1 q.2) (s0_229, h_286)).bind (fun (y332 : Hp) => (m_X25_foot a0 x13_244 y332).bind fun h335 =>
  lt_ (h335 a0 133) fun x3_342 =>
  lt_ (h335 a0 134) fun x4_347 =>
  bT (m_X25_next a0 h335) (fun _ h350 =>
  lt_ (w32 (x5_38 + (-1))) fun x5_353 =>
  some (.inl (x3_342, x4_347, x5_353, h350))) (fun a_ h_ => some (.inr (.inr ((1, a_), h_)))))
noncomputable def m_X25_place_j229 (a0 x4_38 x5_38 x8_77 s0_229 : Int) (h_211 : Hp) : Option ((Int × Int × Int × Hp) ⊕ ((Int × Int × Hp) ⊕ (((Int × Int) × Hp)))) :=
  gd (h_211 (h_211 a0 123) (-2) % 16 = 1 ∧ (0 : Int) ≤ x8_77 ∧ x8_77 < h_211 (h_211 a0 123) (-1)) (lt_ (h_211 (h_211 a0 123) x8_77) fun x12_238 =>
  lt_ (h_211 a0 88) fun x13_244 =>
  if x4_38 ≤ 0 then (m_X25_place_j286 x13_244 x12_238 s0_229 a0 x5_38 h_211)
  else ((m_X25_linesOf a0 (w32 (s0_229 - 1)) h_211).bind fun v261 =>
  (m_X25_linesOf a0 (w32 (s0_229 - 1)) h_211).bind fun v272 =>
  (m_X25_piece a0 (w32 (s0_229 - 1)) (w32 (v261 - x4_38)) (w32 ((w32 (v272 - x4_38)) + (h_211 a0 135))) h_211).bind fun h283 =>
  m_X25_place_j286 x13_244 x12_238 s0_229 a0 x5_38 h283))
noncomputable def m_X25_place_l38 (a0 x3_38 x4_38 x5_38 : Int) (h_38 : Hp) : Option ((Int × Int × Int × Hp) ⊕ ((Int × Int × Hp) ⊕ (((Int × Int) × Hp)))) :=
  if x5_38 ≤ 0 then (some (.inr (.inl (x3_38, x4_38, h_38))))
  else (gd (h_38 (h_38 a0 138) (-2) % 16 = 1 ∧ (0 : Int) ≤ x5_38 ∧ x5_38 < h_38 (h_38 a0 138) (-1)) (lt_ (h_38 (h_38 a0 138) x5_38) fun x6_50 =>
  gd (h_38 (h_38 a0 127) (-2) % 16 = 1 ∧ (0 : Int) ≤ x6_50 ∧ x6_50 < h_38 (h_38 a0 127) (-1)) (lt_ (h_38 (h_38 a0 127) x6_50) fun x7_59 =>
  gd (h_38 (h_38 a0 138) (-2) % 16 = 1 ∧ (0 : Int) ≤ (w32 (x5_38 - 1)) ∧ (w32 (x5_38 - 1)) < h_38 (h_38 a0 138) (-1)) (gd (h_38 (h_38 a0 127) (-2) % 16 = 1 ∧ (0 : Int) ≤ (h_38 (h_38 a0 138) (w32 (x5_38 - 1))) ∧ (h_38 (h_38 a0 138) (w32 (x5_38 - 1))) < h_38 (h_38 a0 127) (-1)) (lt_ (w32 ((h_38 (h_38 a0 127) (h_38 (h_38 a0 138) (w32 (x5_38 - 1)))) - 1)) fun x8_77 =>
  bW (m_X25_fits a0 x6_50 x8_77 h_38) fun v84 h84 =>
  lt_ 0 fun x9_89 =>
  (lp (fun (q : Int × Int × Hp) => m_X25_place_l94 a0 q.1 q.2.1 q.2.2) (x9_89, x3_38, h84)).bind (fun (y140 : Int × Hp) => (lp (fun (q : Int × Hp) => m_X25_place_l144 a0 x7_59 x8_77 y140.1 q.1 q.2) (x7_59, y140.2)).bind (fun (y211 : Hp) => if x7_59 ≠ 0 then (gd (y211 (y211 a0 123) (-2) % 16 = 1 ∧ (0 : Int) ≤ (w32 (x7_59 - 1)) ∧ (w32 (x7_59 - 1)) < y211 (y211 a0 123) (-1)) (m_X25_place_j229 a0 x4_38 x5_38 x8_77 (y211 (y211 a0 123) (w32 (x7_59 - 1))) y211))
  else (m_X25_place_j229 a0 x4_38 x5_38 x8_77 0 y211))))))))
noncomputable def m_X25_place_l515 (a0 x3_515 x7_515 x9_515 : Int) (h_515 : Hp) : Option ((Int × Int × Int × Hp) ⊕ ((Int × Hp))) :=
  if (h_515 a0 54) ≤ x3_515 then (some (.inr (x3_515, h_515)))
  else ((m_X25_floatHigh a0 x3_515 h_515).bind fun v527 =>
  gd (h_515 (h_515 a0 0) (-2) = 400) (gd (h_515 (h_515 (h_515 a0 0) 2) (-2) % 16 = 1 ∧ (0 : Int) ≤ 1 ∧ 1 < h_515 (h_515 (h_515 a0 0) 2) (-1)) (if 0 < (lcmp_ (w64 (x7_515 + v527)) (h_515 (h_515 (h_515 a0 0) 2) 1)) then (some (.inr (x3_515, h_515)))
  else (gd (h_515 (h_515 a0 62) (-2) % 16 = 1 ∧ (0 : Int) ≤ x3_515 ∧ x3_515 < h_515 (h_515 a0 62) (-1)) (pt h_515 (h_515 a0 62) x3_515 (h_515 a0 94) fun h554 =>
  gd (h554 (h554 a0 64) (-2) % 16 = 4 ∧ (0 : Int) ≤ x3_515 ∧ x3_515 < h554 (h554 a0 64) (-1)) (pt h554 (h554 a0 64) x3_515 x9_515 fun h562 =>
  (m_X25_floatHigh a0 x3_515 h562).bind fun v567 =>
  lt_ (w64 (x9_515 + v567)) fun x9_571 =>
  (m_X25_floatHigh a0 x3_515 h562).bind fun v577 =>
  lt_ (w64 (x7_515 + v577)) fun x7_581 =>
  lt_ (w32 (x3_515 + 1)) fun x3_583 =>
  some (.inl (x3_583, x7_581, x9_571, h562))))))))
noncomputable def m_X25_place_j506 (x6_391 a0 x3_374 x4_506 x7_506 : Int) (h_506 : Hp) : Option ((Int × Int × Hp) ⊕ (((Int × Int) × Hp))) :=
  (m_X25_foot a0 x6_391 h_506).bind fun h509 =>
  lt_ 0 fun x9_513 =>
  (lp (fun (q : Int × Int × Int × Hp) => m_X25_place_l515 a0 q.1 q.2.1 q.2.2.1 q.2.2.2) (x3_374, x7_506, x9_513, h509)).bind (fun (y589 : Int × Hp) => bT (m_X25_next a0 y589.2) (fun _ h590 =>
  some (.inl (y589.1, x4_506, h590))) (fun a_ h_ => some (.inr ((1, a_), h_))))
noncomputable def m_X25_place_l423 (a0 x4_374 x5_372 x7_423 x9_423 : Int) (h_374 : Hp) : Option ((Int × Int) ⊕ ((Int × Int))) :=
  if x4_374 ≤ x9_423 then (some (.inr (x7_423, x9_423)))
  else ((m_X25_leadOf a0 x5_372 h_374).bind fun v435 =>
  gd (h_374 (h_374 (h_374 a0 0) 2) (-2) % 16 = 1 ∧ (0 : Int) ≤ 1 ∧ 1 < h_374 (h_374 (h_374 a0 0) 2) (-1)) (if 0 < (lcmp_ (w64 (x7_423 + v435)) (h_374 (h_374 (h_374 a0 0) 2) 1)) then (some (.inr (x7_423, x9_423)))
  else (lt_ (w32 (x9_423 + 1)) fun x9_454 =>
  (m_X25_leadOf a0 x5_372 h_374).bind fun v462 =>
  lt_ (w64 (x7_423 + v462)) fun x7_467 =>
  some (.inl (x7_467, x9_454)))))
noncomputable def m_X25_place_j387 (a0 x3_374 x4_374 x5_372 : Int) (h_374 : Hp) : Option ((Int × Int × Hp) ⊕ (((Int × Int) × Hp))) :=
  lt_ (h_374 a0 88) fun x6_391 =>
  lt_ 0 fun x7_394 =>
  if x4_374 ≤ 0 then (m_X25_place_j506 x6_391 a0 x3_374 x4_374 x7_394 h_374)
  else (gd (h_374 (h_374 a0 0) (-2) = 400) (gd (h_374 (h_374 (h_374 a0 0) 2) (-2) % 16 = 1 ∧ (0 : Int) ≤ 4 ∧ 4 < h_374 (h_374 (h_374 a0 0) 2) (-1)) ((m_X25_leadOf a0 x5_372 h_374).bind fun v413 =>
  lt_ (w32 ((h_374 (h_374 (h_374 a0 0) 2) 4) + v413)) fun x7_418 =>
  lt_ 1 fun x9_421 =>
  (lp (fun (q : Int × Int) => m_X25_place_l423 a0 x4_374 x5_372 q.1 q.2 h_374) (x7_418, x9_421)).bind (fun (y472 : Int × Int) => (m_X25_linesOf a0 x5_372 h_374).bind fun v478 =>
  (m_X25_linesOf a0 x5_372 h_374).bind fun v487 =>
  (m_X25_piece a0 x5_372 (w32 (v478 - x4_374)) (w32 ((w32 (v487 - x4_374)) + y472.2)) h_374).bind fun h496 =>
  lt_ (w32 (x4_374 - y472.2)) fun x4_504 =>
  m_X25_place_j506 x6_391 a0 x3_374 x4_504 y472.1 h496))))
noncomputable def m_X25_place_l374 (a0 x5_372 x3_374 x4_374 : Int) (h_374 : Hp) : Option ((Int × Int × Hp) ⊕ (((Int × Int) × Hp))) :=
  if 0 < x4_374 then (m_X25_place_j387 a0 x3_374 x4_374 x5_372 h_374)
  else (if (h_374 a0 54) ≤ x3_374 then (some (.inr ((0, 0), h_374)))
  else (m_X25_place_j387 a0 x3_374 x4_374 x5_372 h_374))
noncomputable def m_X25_place (a0 a1 : Int) (h : Hp) : Option ((Int × Int) × Hp) :=
  lt_ 0 fun x2_1 =>
  (lp (fun (q : Int × Int × Hp) => m_X25_place_l4 a0 q.1 q.2.1 q.2.2) (x2_1, a1, h)).bind (fun (y28 : Int × Hp) => lt_ 0 fun x3_29 =>
  lt_ 0 fun x4_31 =>
  lt_ (w32 (y28.1 - 1)) fun x5_36 =>
  (lp (fun (q : Int × Int × Int × Hp) => m_X25_place_l38 a0 q.1 q.2.1 q.2.2.1 q.2.2.2) (x3_29, x4_31, x5_36, y28.2)).bind (sE (fun (y359 : Int × Int × Hp) => gd (y359.2.2 (y359.2.2 a0 123) (-2) % 16 = 1 ∧ (0 : Int) ≤ (w32 ((y359.2.2 a0 42) - 1)) ∧ (w32 ((y359.2.2 a0 42) - 1)) < y359.2.2 (y359.2.2 a0 123) (-1)) (lt_ (w32 ((y359.2.2 (y359.2.2 a0 123) (w32 ((y359.2.2 a0 42) - 1))) - 1)) fun x5_372 =>
  (lp (fun (q : Int × Int × Hp) => m_X25_place_l374 a0 x5_372 q.1 q.2.1 q.2.2) (y359.1, y359.2.1, y359.2.2)).bind (fun (x : (Int × Int) × Hp) => some x))) (fun (x : (Int × Int) × Hp) => some x)))
theorem s_X25_place {l : Launch} [NoTr l] {D : SD} {a0 a1 : Int} {h : Hp} (hk : h a0 (-2) = 416) (r1 : r32 a1) {r : (Int × Int) × Hp} (hm : m_X25_place a0 a1 h = some r) : Sim l D yX25_place (Cond.code yX25_place cX25_place 15 (Option.none : Option Jvm.ClassFile.FieldType)) 10 372 [rv D a0, iv a1] h 0 r := by
  refine Sim.of (fin := fun (v : (Int × Int) × Hp) => v) (lsE := [(0, rv D a0), (1, iv a1)]) hm rfl cwS_code (la_r (la_i la_n)) (ll_r (ll_i ll_n)) ?_
  intro p e s m below meth c X hcw hmm hcc hnm hname
  have hno := noh hcw hnm hmm hcc
  unfold m_X25_place
  refine g_iconst (pc := 0) X (n := 0) (dl_at t_X25_place 0 rfl) ?_
  refine g_ltz (Or.inl rfl) fun x2_1 r2_1 => ?_
  refine g_istore_nN (pc := 1) X (j := 2) (i := 2) (x := x2_1) (b := 1) (w := iv a1) (rest := [(0, rv D a0)]) rfl (Nat.le_of_ble_eq_true rfl) [1, 0] rfl (by decide) rfl rfl (dl_at t_X25_place 1 rfl) ?_
  refine g_iload_n (pc := 2) X (j := 1) (i := 1) (q := 1) (x := a1) rfl rfl (dl_at t_X25_place 2 rfl) ?_
  refine g_istore_nN (pc := 3) X (j := 3) (i := 3) (x := a1) (b := 2) (w := iv x2_1) (rest := [(0, rv D a0)]) rfl (Nat.le_of_ble_eq_true rfl) [0, 2] rfl (by decide) rfl rfl (dl_at t_X25_place 3 rfl) ?_
  refine g_ls (ls2 := [(0, rv D a0), (2, iv x2_1), (3, iv a1)]) [2, 1, 0] rfl ?_
  refine g_loop1 (fun (q : Int × Int × Hp) => [(0, rv D a0), (2, iv q.1), (3, iv q.2.1)]) (fun (q : Int × Int × Hp) => q.2.2) (fun (q : Int × Int × Hp) => r32 q.1 ∧ r32 q.2.1 ∧ Ext h q.2.2) 28 (fun (y28 : Int × Hp) => [(0, rv D a0), (2, iv y28.1)]) (fun (y28 : Int × Hp) => y28.2) (fun (y28 : Int × Hp) => r32 y28.1 ∧ Ext h y28.2) (x2_1, a1, h) ⟨(r32_z r2_1), r1, (Ext.refl _)⟩ ?_ ?_
  · rintro ⟨x2_4, x3_4, h_4⟩ ⟨r2_4, r3_4, E_4⟩
    try dsimp only
    unfold m_X25_place_l4
    refine g_iload_n (pc := 4) X (j := 3) (i := 3) (q := 2) (x := x3_4) rfl rfl (dl_at t_X25_place 4 rfl) ?_
    refine g_iflt (pc := 5) X r3_4 (off := 23) (tgt := 28) rfl (dl_at t_X25_place 5 rfl) (fun _ => ?_) (fun _ => ?_)
    · refine g_ls (ls2 := [(0, rv D a0), (2, iv x2_4)]) [0, 1] rfl ?_
      exact g_at fun Q hQ => hQ ⟨r2_4, E_4⟩
    refine g_aload_n (pc := 8) X (j := 0) (i := 0) (q := 0) (x := a0) rfl rfl (dl_at t_X25_place 6 rfl) ?_
    have k9 := kx E_4 (by decide) hk
    refine r_getr (pc := 9) X fX25_138 k9 q3950 (dl_at t_X25_place 7 rfl) ?_
    refine g_iload_n (pc := 12) X (j := 2) (i := 2) (q := 1) (x := x2_4) rfl rfl (dl_at t_X25_place 8 rfl) ?_
    refine g_iload_n (pc := 13) X (j := 3) (i := 3) (q := 2) (x := x3_4) rfl rfl (dl_at t_X25_place 9 rfl) ?_
    refine g_gd fun k14 => ?_
    refine r_iast (pc := 14) X r2_4 r3_4 k14 (dl_at t_X25_place 10 rfl) (fun h14 E14 => ?_)
    refine r_iinc (pc := 15) X (i := 2) (q := 1) (n := 1) (x := x2_4) (rest := [(0, rv D a0), (3, iv x3_4)]) rfl r2_4 (r32_c rfl) (Nat.le_of_ble_eq_true rfl) [0, 2] rfl rfl (dl_at t_X25_place 11 rfl) fun x2_15 r2_15 => ?_
    refine g_aload_n (pc := 18) X (j := 0) (i := 0) (q := 1) (x := a0) rfl rfl (dl_at t_X25_place 12 rfl) ?_
    have k19 := kx E14 (by decide) k9
    refine r_getr (pc := 19) X fX25_130 k19 q3942 (dl_at t_X25_place 13 rfl) ?_
    refine g_iload_n (pc := 22) X (j := 3) (i := 3) (q := 2) (x := x3_4) rfl rfl (dl_at t_X25_place 14 rfl) ?_
    refine g_gd fun k23 => ?_
    refine g_iald (pc := 23) X r3_4 k23 (dl_at t_X25_place 15 rfl) fun g23 => ?_
    refine g_lti g23 fun x3_24 r3_24 => ?_
    refine g_istore_nN (pc := 24) X (j := 3) (i := 3) (x := x3_24) (b := 2) (w := iv x2_15) (rest := [(0, rv D a0)]) rfl (Nat.le_of_ble_eq_true rfl) [0, 1] rfl (by decide) rfl rfl (dl_at t_X25_place 16 rfl) ?_
    refine g_goto (pc := 25) X (off := (-21)) (tgt := 4) rfl (dl_at t_X25_place 17 rfl) ?_
    refine g_ls (ls2 := [(0, rv D a0), (2, iv x2_15), (3, iv x3_24)]) [2, 1, 0] rfl ?_
    exact g_at fun Q hQ => hQ ⟨r2_15, r3_24, (E_4.trans E14)⟩
  · rintro ⟨x2_28, h_28⟩ ⟨r2_28, E_28⟩
    try dsimp only [sE]
    refine g_iconst (pc := 28) X (n := 0) (dl_at t_X25_place 18 rfl) ?_
    refine g_ltz (Or.inl rfl) fun x3_29 r3_29 => ?_
    refine g_istore_nN (pc := 29) X (j := 3) (i := 3) (x := x3_29) (b := 2) (w := iv x2_28) (rest := [(0, rv D a0)]) rfl (Nat.le_of_ble_eq_true rfl) [1, 0] rfl (by decide) rfl rfl (dl_at t_X25_place 19 rfl) ?_
    refine g_iconst (pc := 30) X (n := 0) (dl_at t_X25_place 20 rfl) ?_
    refine g_ltz (Or.inl rfl) fun x4_31 r4_31 => ?_
    refine g_istoreN (pc := 31) X (i := 4) (x := x4_31) (b := 3) (w := iv x3_29) (rest := [(2, iv x2_28), (0, rv D a0)]) (Nat.le_of_ble_eq_true rfl) [0, 1, 2] rfl (by decide) rfl rfl (dl_at t_X25_place 21 rfl) ?_
    refine g_iload_n (pc := 33) X (j := 2) (i := 2) (q := 2) (x := x2_28) rfl rfl (dl_at t_X25_place 22 rfl) ?_
    refine g_iconst (pc := 34) X (n := 1) (dl_at t_X25_place 23 rfl) ?_
    refine g_isub (pc := 35) X r2_28 (r32_c rfl) (dl_at t_X25_place 24 rfl) ?_
    refine g_lti (r32_w _) fun x5_36 r5_36 => ?_
    refine g_istoreN (pc := 36) X (i := 5) (x := x5_36) (b := 4) (w := iv x4_31) (rest := [(3, iv x3_29), (0, rv D a0)]) (Nat.le_of_ble_eq_true rfl) [0, 1, 3] rfl (by decide) rfl rfl (dl_at t_X25_place 25 rfl) ?_
    refine g_ls (ls2 := [(0, rv D a0), (3, iv x3_29), (4, iv x4_31), (5, iv x5_36)]) [3, 2, 1, 0] rfl ?_
    refine g_loop1F (fun (q : Int × Int × Int × Hp) => [(0, rv D a0), (3, iv q.1), (4, iv q.2.1), (5, iv q.2.2.1)]) (fun (q : Int × Int × Int × Hp) => q.2.2.2) (fun (q : Int × Int × Int × Hp) => r32 q.1 ∧ r32 q.2.1 ∧ r32 q.2.2.1 ∧ Ext h_28 q.2.2.2) 359 (fun (y359 : Int × Int × Hp) => [(0, rv D a0), (3, iv y359.1), (4, iv y359.2.1)]) (fun (y359 : Int × Int × Hp) => y359.2.2) (fun (y359 : Int × Int × Hp) => r32 y359.1 ∧ r32 y359.2.1 ∧ Ext h_28 y359.2.2) (x3_29, x4_31, x5_36, h_28) ⟨(r32_z r3_29), (r32_z r4_31), r5_36, (Ext.refl _)⟩ ?_ ?_ (fun _ => rfl)
    · rintro ⟨x3_38, x4_38, x5_38, h_38⟩ ⟨r3_38, r4_38, r5_38, E_38⟩
      try dsimp only
      unfold m_X25_place_l38
      refine g_iload (pc := 38) X (i := 5) (q := 3) (x := x5_38) rfl (dl_at t_X25_place 26 rfl) ?_
      refine g_ifle (pc := 40) X r5_38 (off := 319) (tgt := 359) rfl (dl_at t_X25_place 27 rfl) (fun _ => ?_) (fun _ => ?_)
      · refine g_ls (ls2 := [(0, rv D a0), (3, iv x3_38), (4, iv x4_38)]) [0, 1, 2] rfl ?_
        exact g_at fun Q hQ => hQ ⟨r3_38, r4_38, E_38⟩
      refine g_aload_n (pc := 43) X (j := 0) (i := 0) (q := 0) (x := a0) rfl rfl (dl_at t_X25_place 28 rfl) ?_
      have k44 := kx (E_28.trans E_38) (by decide) hk
      refine r_getr (pc := 44) X fX25_138 k44 q3950 (dl_at t_X25_place 29 rfl) ?_
      refine g_iload (pc := 47) X (i := 5) (q := 3) (x := x5_38) rfl (dl_at t_X25_place 30 rfl) ?_
      refine g_gd fun k49 => ?_
      refine g_iald (pc := 49) X r5_38 k49 (dl_at t_X25_place 31 rfl) fun g49 => ?_
      refine g_lti g49 fun x6_50 r6_50 => ?_
      refine g_istoreN (pc := 50) X (i := 6) (x := x6_50) (b := 5) (w := iv x5_38) (rest := [(0, rv D a0), (3, iv x3_38), (4, iv x4_38)]) (Nat.le_of_ble_eq_true rfl) [3, 0, 1, 2] rfl (by decide) rfl rfl (dl_at t_X25_place 32 rfl) ?_
      refine g_aload_n (pc := 52) X (j := 0) (i := 0) (q := 2) (x := a0) rfl rfl (dl_at t_X25_place 33 rfl) ?_
      refine r_getr (pc := 53) X fX25_127 k44 q3939 (dl_at t_X25_place 34 rfl) ?_
      refine g_iload (pc := 56) X (i := 6) (q := 0) (x := x6_50) rfl (dl_at t_X25_place 35 rfl) ?_
      refine g_gd fun k58 => ?_
      refine g_iald (pc := 58) X r6_50 k58 (dl_at t_X25_place 36 rfl) fun g58 => ?_
      refine g_lti g58 fun x7_59 r7_59 => ?_
      refine g_istoreN (pc := 59) X (i := 7) (x := x7_59) (b := 6) (w := iv x6_50) (rest := [(5, iv x5_38), (0, rv D a0), (3, iv x3_38), (4, iv x4_38)]) (Nat.le_of_ble_eq_true rfl) [0, 1, 2, 3, 4] rfl (by decide) rfl rfl (dl_at t_X25_place 37 rfl) ?_
      refine g_aload_n (pc := 61) X (j := 0) (i := 0) (q := 3) (x := a0) rfl rfl (dl_at t_X25_place 38 rfl) ?_
      refine r_getr (pc := 62) X fX25_127 k44 q3939 (dl_at t_X25_place 39 rfl) ?_
      refine g_aload_n (pc := 65) X (j := 0) (i := 0) (q := 3) (x := a0) rfl rfl (dl_at t_X25_place 40 rfl) ?_
      refine r_getr (pc := 66) X fX25_138 k44 q3950 (dl_at t_X25_place 41 rfl) ?_
      refine g_iload (pc := 69) X (i := 5) (q := 2) (x := x5_38) rfl (dl_at t_X25_place 42 rfl) ?_
      refine g_iconst (pc := 71) X (n := 1) (dl_at t_X25_place 43 rfl) ?_
      refine g_isub (pc := 72) X r5_38 (r32_c rfl) (dl_at t_X25_place 44 rfl) ?_
      refine g_gd fun k73 => ?_
      refine g_iald (pc := 73) X (r32_w _) k73 (dl_at t_X25_place 45 rfl) fun g73 => ?_
      refine g_gd fun k74 => ?_
      refine g_iald (pc := 74) X g73 k74 (dl_at t_X25_place 46 rfl) fun g74 => ?_
      refine g_iconst (pc := 75) X (n := 1) (dl_at t_X25_place 47 rfl) ?_
      refine g_isub (pc := 76) X g74 (r32_c rfl) (dl_at t_X25_place 48 rfl) ?_
      refine g_lti (r32_w _) fun x8_77 r8_77 => ?_
      refine g_istoreN (pc := 77) X (i := 8) (x := x8_77) (b := 7) (w := iv x7_59) (rest := [(6, iv x6_50), (5, iv x5_38), (0, rv D a0), (3, iv x3_38), (4, iv x4_38)]) (Nat.le_of_ble_eq_true rfl) [0, 1, 2, 3, 4, 5] rfl (by decide) rfl rfl (dl_at t_X25_place 49 rfl) ?_
      refine g_aload_n (pc := 79) X (j := 0) (i := 0) (q := 4) (x := a0) rfl rfl (dl_at t_X25_place 50 rfl) ?_
      refine g_iload (pc := 80) X (i := 6) (q := 2) (x := x6_50) rfl (dl_at t_X25_place 51 rfl) ?_
      refine g_iload (pc := 82) X (i := 8) (q := 0) (x := x8_77) rfl (dl_at t_X25_place 52 rfl) ?_
      refine r_callWz (pc := 84) X (fun _ hv => s_X25_fits k44 r6_50 r8_77 hv) cw_code q5078 q379 (in_Vk X (As := [iv x6_50, iv x8_77]) kX25 k44 (Or.inl q5075) q5077 qs336 cw_code q5078 ⟨by decide, by decide⟩ rfl (dl_at t_X25_place 53 rfl)) (dl_at t_X25_place 53 rfl) (cat24 (st := []) (Nat.le_of_ble_eq_true rfl)) (Nat.le_of_ble_eq_true rfl) (Nat.le_of_ble_eq_true rfl) fun v84 h84 g84 E84 => ?_
      refine g_pop (pc := 87) X rfl (dl_at t_X25_place 54 rfl) ?_
      refine g_lconst0 (pc := 88) X (dl_at t_X25_place 55 rfl) ?_
      refine g_ltl (r64_c rfl) fun x9_89 r9_89 => ?_
      refine g_lstoreN (pc := 89) X (i := 9) (x := x9_89) (b := 8) (w := iv x8_77) (rest := [(7, iv x7_59), (5, iv x5_38), (0, rv D a0), (3, iv x3_38), (4, iv x4_38)]) (Nat.le_of_ble_eq_true rfl) [0, 1, 3, 4, 5, 6] rfl (by decide) (by decide) rfl rfl (dl_at t_X25_place 56 rfl) ?_
      refine g_iload_n (pc := 91) X (j := 3) (i := 3) (q := 5) (x := x3_38) rfl rfl (dl_at t_X25_place 57 rfl) ?_
      refine g_istore (pc := 92) X (i := 11) (x := x3_38) (rest := [(9, jv x9_89), (8, iv x8_77), (7, iv x7_59), (5, iv x5_38), (0, rv D a0), (4, iv x4_38)]) (Nat.le_of_ble_eq_true rfl) [0, 1, 2, 3, 4, 6] rfl rfl (dl_at t_X25_place 58 rfl) ?_
      refine g_ls (ls2 := [(0, rv D a0), (4, iv x4_38), (5, iv x5_38), (7, iv x7_59), (8, iv x8_77), (9, jv x9_89), (11, iv x3_38)]) [5, 6, 4, 3, 2, 1, 0] rfl ?_
      refine g_loop1 (fun (q : Int × Int × Hp) => [(0, rv D a0), (4, iv x4_38), (5, iv x5_38), (7, iv x7_59), (8, iv x8_77), (9, jv q.1), (11, iv q.2.1)]) (fun (q : Int × Int × Hp) => q.2.2) (fun (q : Int × Int × Hp) => r64 q.1 ∧ r32 q.2.1 ∧ Ext h84 q.2.2) 140 (fun (y140 : Int × Hp) => [(0, rv D a0), (4, iv x4_38), (5, iv x5_38), (7, iv x7_59), (8, iv x8_77), (9, jv y140.1)]) (fun (y140 : Int × Hp) => y140.2) (fun (y140 : Int × Hp) => r64 y140.1 ∧ Ext h84 y140.2) (x9_89, x3_38, h84) ⟨r9_89, r3_38, (Ext.refl _)⟩ ?_ ?_
      · rintro ⟨x9_94, x11_94, h_94⟩ ⟨r9_94, r11_94, E_94⟩
        try dsimp only
        unfold m_X25_place_l94
        refine g_iload (pc := 94) X (i := 11) (q := 6) (x := x11_94) rfl (dl_at t_X25_place 59 rfl) ?_
        refine g_aload_n (pc := 96) X (j := 0) (i := 0) (q := 0) (x := a0) rfl rfl (dl_at t_X25_place 60 rfl) ?_
        have k97 := kx (E84.trans E_94) (by decide) k44
        refine r_geti (pc := 97) X fX25_133 k97 q3945 (dl_at t_X25_place 61 rfl) fun g97 => ?_
        refine g_icmpge (pc := 100) X r11_94 g97 (off := 40) (tgt := 140) rfl (dl_at t_X25_place 62 rfl) (fun _ => ?_) (fun _ => ?_)
        · refine g_ls (ls2 := [(0, rv D a0), (4, iv x4_38), (5, iv x5_38), (7, iv x7_59), (8, iv x8_77), (9, jv x9_94)]) [0, 1, 2, 3, 4, 5] rfl ?_
          exact g_at fun Q hQ => hQ ⟨r9_94, E_94⟩
        refine g_aload_n (pc := 103) X (j := 0) (i := 0) (q := 0) (x := a0) rfl rfl (dl_at t_X25_place 63 rfl) ?_
        refine r_getr (pc := 104) X fX25_62 k97 q3856 (dl_at t_X25_place 64 rfl) ?_
        refine g_iload (pc := 107) X (i := 11) (q := 6) (x := x11_94) rfl (dl_at t_X25_place 65 rfl) ?_
        refine g_aload_n (pc := 109) X (j := 0) (i := 0) (q := 0) (x := a0) rfl rfl (dl_at t_X25_place 66 rfl) ?_
        refine r_geti (pc := 110) X fX25_94 k97 q3903 (dl_at t_X25_place 67 rfl) fun g110 => ?_
        refine g_gd fun k113 => ?_
        refine r_iast (pc := 113) X r11_94 g110 k113 (dl_at t_X25_place 68 rfl) (fun h113 E113 => ?_)
        refine g_aload_n (pc := 114) X (j := 0) (i := 0) (q := 0) (x := a0) rfl rfl (dl_at t_X25_place 69 rfl) ?_
        have k115 := kx E113 (by decide) k97
        refine r_getr (pc := 115) X fX25_64 k115 q3860 (dl_at t_X25_place 70 rfl) ?_
        refine g_iload (pc := 118) X (i := 11) (q := 6) (x := x11_94) rfl (dl_at t_X25_place 71 rfl) ?_
        refine g_lload (pc := 120) X (i := 9) (q := 5) (x := x9_94) rfl (dl_at t_X25_place 72 rfl) ?_
        refine g_gd fun k122 => ?_
        refine r_last (pc := 122) X r11_94 r9_94 k122 (dl_at t_X25_place 73 rfl) (fun h122 E122 => ?_)
        refine g_lload (pc := 123) X (i := 9) (q := 5) (x := x9_94) rfl (dl_at t_X25_place 74 rfl) ?_
        refine g_aload_n (pc := 125) X (j := 0) (i := 0) (q := 0) (x := a0) rfl rfl (dl_at t_X25_place 75 rfl) ?_
        refine g_iload (pc := 126) X (i := 11) (q := 6) (x := x11_94) rfl (dl_at t_X25_place 76 rfl) ?_
        have k128 := kx E122 (by decide) k115
        refine r_callRl (pc := 128) X (fun _ hv => s_X25_floatHigh k128 r11_94 hv) cw_code q5090 q379 (in_Vk X (As := [iv x11_94]) kX25 k128 (Or.inl q5087) q5089 qs339 cw_code q5090 ⟨by decide, by decide⟩ rfl (dl_at t_X25_place 77 rfl)) (dl_at t_X25_place 77 rfl) (cat24 (st := [jv x9_94]) (Nat.le_of_ble_eq_true rfl)) (Nat.le_of_ble_eq_true rfl) (Nat.le_of_ble_eq_true rfl) fun v128 g128 => ?_
        refine g_ladd (pc := 131) X r9_94 g128 (dl_at t_X25_place 78 rfl) ?_
        refine g_ltl (r64_w _) fun x9_132 r9_132 => ?_
        refine g_lstoreN (pc := 132) X (i := 9) (x := x9_132) (b := 8) (w := iv x8_77) (rest := [(0, rv D a0), (4, iv x4_38), (5, iv x5_38), (7, iv x7_59), (11, iv x11_94)]) (Nat.le_of_ble_eq_true rfl) [4, 0, 1, 2, 3, 6] rfl (by decide) (by decide) rfl rfl (dl_at t_X25_place 79 rfl) ?_
        refine r_iinc (pc := 134) X (i := 11) (q := 6) (n := 1) (x := x11_94) (rest := [(9, jv x9_132), (8, iv x8_77), (0, rv D a0), (4, iv x4_38), (5, iv x5_38), (7, iv x7_59)]) rfl r11_94 (r32_c rfl) (Nat.le_of_ble_eq_true rfl) [0, 1, 2, 3, 4, 5] rfl rfl (dl_at t_X25_place 80 rfl) fun x11_134 r11_134 => ?_
        refine g_goto (pc := 137) X (off := (-43)) (tgt := 94) rfl (dl_at t_X25_place 81 rfl) ?_
        refine g_ls (ls2 := [(0, rv D a0), (4, iv x4_38), (5, iv x5_38), (7, iv x7_59), (8, iv x8_77), (9, jv x9_132), (11, iv x11_134)]) [3, 4, 5, 6, 2, 1, 0] rfl ?_
        exact g_at fun Q hQ => hQ ⟨r9_132, r11_134, (E_94.trans (E113.trans E122))⟩
      · rintro ⟨x9_140, h_140⟩ ⟨r9_140, E_140⟩
        try dsimp only [sE]
        refine g_iload (pc := 140) X (i := 7) (q := 3) (x := x7_59) rfl (dl_at t_X25_place 82 rfl) ?_
        refine g_istore (pc := 142) X (i := 11) (x := x7_59) (rest := [(0, rv D a0), (4, iv x4_38), (5, iv x5_38), (7, iv x7_59), (8, iv x8_77), (9, jv x9_140)]) (Nat.le_of_ble_eq_true rfl) [0, 1, 2, 3, 4, 5] rfl rfl (dl_at t_X25_place 83 rfl) ?_
        refine g_ls (ls2 := [(0, rv D a0), (4, iv x4_38), (5, iv x5_38), (7, iv x7_59), (8, iv x8_77), (9, jv x9_140), (11, iv x7_59)]) [1, 2, 3, 4, 5, 6, 0] rfl ?_
        refine g_loop1 (fun (q : Int × Hp) => [(0, rv D a0), (4, iv x4_38), (5, iv x5_38), (7, iv x7_59), (8, iv x8_77), (9, jv x9_140), (11, iv q.1)]) (fun (q : Int × Hp) => q.2) (fun (q : Int × Hp) => r32 q.1 ∧ Ext h_140 q.2) 211 (fun (y211 : Hp) => [(0, rv D a0), (4, iv x4_38), (5, iv x5_38), (7, iv x7_59), (8, iv x8_77)]) (fun (y211 : Hp) => y211) (fun (y211 : Hp) => Ext h_140 y211) (x7_59, h_140) ⟨r7_59, (Ext.refl _)⟩ ?_ ?_
        · rintro ⟨x11_144, h_144⟩ ⟨r11_144, E_144⟩
          try dsimp only
          unfold m_X25_place_l144
          refine g_iload (pc := 144) X (i := 11) (q := 6) (x := x11_144) rfl (dl_at t_X25_place 84 rfl) ?_
          refine g_iload (pc := 146) X (i := 8) (q := 4) (x := x8_77) rfl (dl_at t_X25_place 85 rfl) ?_
          refine g_icmpgt (pc := 148) X r11_144 r8_77 (off := 63) (tgt := 211) rfl (dl_at t_X25_place 86 rfl) (fun _ => ?_) (fun _ => ?_)
          · refine g_ls (ls2 := [(0, rv D a0), (4, iv x4_38), (5, iv x5_38), (7, iv x7_59), (8, iv x8_77)]) [0, 1, 2, 3, 4] rfl ?_
            exact g_at fun Q hQ => hQ E_144
          refine g_aload_n (pc := 151) X (j := 0) (i := 0) (q := 0) (x := a0) rfl rfl (dl_at t_X25_place 87 rfl) ?_
          have k152 := kx (E84.trans (E_140.trans E_144)) (by decide) k44
          refine r_getr (pc := 152) X fX25_49 k152 q3832 (dl_at t_X25_place 88 rfl) ?_
          refine g_iload (pc := 155) X (i := 11) (q := 6) (x := x11_144) rfl (dl_at t_X25_place 89 rfl) ?_
          refine g_aload_n (pc := 157) X (j := 0) (i := 0) (q := 0) (x := a0) rfl rfl (dl_at t_X25_place 90 rfl) ?_
          refine r_geti (pc := 158) X fX25_94 k152 q3903 (dl_at t_X25_place 91 rfl) fun g158 => ?_
          refine g_gd fun k161 => ?_
          refine r_iast (pc := 161) X r11_144 g158 k161 (dl_at t_X25_place 92 rfl) (fun h161 E161 => ?_)
          refine g_aload_n (pc := 162) X (j := 0) (i := 0) (q := 0) (x := a0) rfl rfl (dl_at t_X25_place 93 rfl) ?_
          have k163 := kx E161 (by decide) k152
          refine r_getr (pc := 163) X fX25_52 k163 q3836 (dl_at t_X25_place 94 rfl) ?_
          refine g_iload (pc := 166) X (i := 11) (q := 6) (x := x11_144) rfl (dl_at t_X25_place 95 rfl) ?_
          refine g_lload (pc := 168) X (i := 9) (q := 5) (x := x9_140) rfl (dl_at t_X25_place 96 rfl) ?_
          refine g_aload_n (pc := 170) X (j := 0) (i := 0) (q := 0) (x := a0) rfl rfl (dl_at t_X25_place 97 rfl) ?_
          refine r_getr (pc := 171) X fX25_122 k163 q3934 (dl_at t_X25_place 98 rfl) ?_
          refine g_iload (pc := 174) X (i := 11) (q := 6) (x := x11_144) rfl (dl_at t_X25_place 99 rfl) ?_
          refine g_gd fun k176 => ?_
          refine g_lald (pc := 176) X r11_144 k176 (dl_at t_X25_place 100 rfl) fun g176 => ?_
          refine g_ladd (pc := 177) X r9_140 g176 (dl_at t_X25_place 101 rfl) ?_
          refine g_aload_n (pc := 178) X (j := 0) (i := 0) (q := 0) (x := a0) rfl rfl (dl_at t_X25_place 102 rfl) ?_
          refine r_getr (pc := 179) X fX25_47 k163 q3829 (dl_at t_X25_place 103 rfl) ?_
          refine g_iload (pc := 182) X (i := 11) (q := 6) (x := x11_144) rfl (dl_at t_X25_place 104 rfl) ?_
          refine g_gd fun k184 => ?_
          refine g_iald (pc := 184) X r11_144 k184 (dl_at t_X25_place 105 rfl) fun g184 => ?_
          refine g_i2l (pc := 185) X g184 (dl_at t_X25_place 106 rfl) ?_
          refine g_ladd (pc := 186) X (r64_w _) (r64_of g184) (dl_at t_X25_place 107 rfl) ?_
          refine g_aload_n (pc := 187) X (j := 0) (i := 0) (q := 0) (x := a0) rfl rfl (dl_at t_X25_place 108 rfl) ?_
          refine r_getr (pc := 188) X fX25_122 k163 q3934 (dl_at t_X25_place 109 rfl) ?_
          refine g_iload (pc := 191) X (i := 7) (q := 3) (x := x7_59) rfl (dl_at t_X25_place 110 rfl) ?_
          refine g_gd fun k193 => ?_
          refine g_lald (pc := 193) X r7_59 k193 (dl_at t_X25_place 111 rfl) fun g193 => ?_
          refine g_lsub (pc := 194) X (r64_w _) g193 (dl_at t_X25_place 112 rfl) ?_
          refine g_aload_n (pc := 195) X (j := 0) (i := 0) (q := 0) (x := a0) rfl rfl (dl_at t_X25_place 113 rfl) ?_
          refine r_getr (pc := 196) X fX25_47 k163 q3829 (dl_at t_X25_place 114 rfl) ?_
          refine g_iload (pc := 199) X (i := 7) (q := 3) (x := x7_59) rfl (dl_at t_X25_place 115 rfl) ?_
          refine g_gd fun k201 => ?_
          refine g_iald (pc := 201) X r7_59 k201 (dl_at t_X25_place 116 rfl) fun g201 => ?_
          refine g_i2l (pc := 202) X g201 (dl_at t_X25_place 117 rfl) ?_
          refine g_lsub (pc := 203) X (r64_w _) (r64_of g201) (dl_at t_X25_place 118 rfl) ?_
          refine g_gd fun k204 => ?_
          refine r_last (pc := 204) X r11_144 (r64_w _) k204 (dl_at t_X25_place 119 rfl) (fun h204 E204 => ?_)
          refine r_iinc (pc := 205) X (i := 11) (q := 6) (n := 1) (x := x11_144) (rest := [(0, rv D a0), (4, iv x4_38), (5, iv x5_38), (7, iv x7_59), (8, iv x8_77), (9, jv x9_140)]) rfl r11_144 (r32_c rfl) (Nat.le_of_ble_eq_true rfl) [0, 1, 2, 3, 4, 5] rfl rfl (dl_at t_X25_place 120 rfl) fun x11_205 r11_205 => ?_
          refine g_goto (pc := 208) X (off := (-64)) (tgt := 144) rfl (dl_at t_X25_place 121 rfl) ?_
          refine g_ls (ls2 := [(0, rv D a0), (4, iv x4_38), (5, iv x5_38), (7, iv x7_59), (8, iv x8_77), (9, jv x9_140), (11, iv x11_205)]) [1, 2, 3, 4, 5, 6, 0] rfl ?_
          exact g_at fun Q hQ => hQ ⟨r11_205, (E_144.trans (E161.trans E204))⟩
        · rintro h_211 E_211
          try dsimp only [sE]
          refine g_iload (pc := 211) X (i := 7) (q := 3) (x := x7_59) rfl (dl_at t_X25_place 122 rfl) ?_
          refine g_join (γ := Int) (fun q => r32 q) 229 (fun q => [(0, rv D a0), (4, iv x4_38), (5, iv x5_38), (8, iv x8_77)]) (fun q => [iv q]) (fun q => h_211) (fun q => m_X25_place_j229 a0 x4_38 x5_38 x8_77 q h_211) ?_ ?_
          · rintro s0_229 rs0_229
            try dsimp only
            unfold m_X25_place_j229
            refine g_istore (pc := 229) X (i := 11) (x := s0_229) (rest := [(0, rv D a0), (4, iv x4_38), (5, iv x5_38), (8, iv x8_77)]) (Nat.le_of_ble_eq_true rfl) [0, 1, 2, 3] rfl rfl (dl_at t_X25_place 132 rfl) ?_
            refine g_aload_n (pc := 231) X (j := 0) (i := 0) (q := 1) (x := a0) rfl rfl (dl_at t_X25_place 133 rfl) ?_
            have k232 := kx (E84.trans (E_140.trans E_211)) (by decide) k44
            refine r_getr (pc := 232) X fX25_123 k232 q3935 (dl_at t_X25_place 134 rfl) ?_
            refine g_iload (pc := 235) X (i := 8) (q := 4) (x := x8_77) rfl (dl_at t_X25_place 135 rfl) ?_
            refine g_gd fun k237 => ?_
            refine g_iald (pc := 237) X r8_77 k237 (dl_at t_X25_place 136 rfl) fun g237 => ?_
            refine g_lti g237 fun x12_238 r12_238 => ?_
            refine g_istoreN (pc := 238) X (i := 12) (x := x12_238) (b := 11) (w := iv s0_229) (rest := [(0, rv D a0), (4, iv x4_38), (5, iv x5_38)]) (Nat.le_of_ble_eq_true rfl) [0, 1, 2, 3] rfl (by decide) rfl rfl (dl_at t_X25_place 137 rfl) ?_
            refine g_aload_n (pc := 240) X (j := 0) (i := 0) (q := 2) (x := a0) rfl rfl (dl_at t_X25_place 138 rfl) ?_
            refine r_geti (pc := 241) X fX25_88 k232 q3891 (dl_at t_X25_place 139 rfl) fun g241 => ?_
            refine g_lti g241 fun x13_244 r13_244 => ?_
            refine g_istoreN (pc := 244) X (i := 13) (x := x13_244) (b := 12) (w := iv x12_238) (rest := [(11, iv s0_229), (0, rv D a0), (4, iv x4_38), (5, iv x5_38)]) (Nat.le_of_ble_eq_true rfl) [0, 1, 2, 3, 4] rfl (by decide) rfl rfl (dl_at t_X25_place 140 rfl) ?_
            refine g_iload (pc := 246) X (i := 4) (q := 4) (x := x4_38) rfl (dl_at t_X25_place 141 rfl) ?_
            refine g_join (γ := Hp) (fun q => Ext h_211 q) 286 (fun q => [(0, rv D a0), (5, iv x5_38), (11, iv s0_229), (12, iv x12_238), (13, iv x13_244)]) (fun q => []) (fun q => q) (fun q => m_X25_place_j286 x13_244 x12_238 s0_229 a0 x5_38 q) ?_ ?_
            · rintro h_286 E_286
              try dsimp only
              unfold m_X25_place_j286
              refine g_iload (pc := 286) X (i := 11) (q := 2) (x := s0_229) rfl (dl_at t_X25_place 165 rfl) ?_
              refine g_istoreN (pc := 288) X (i := 14) (x := s0_229) (b := 13) (w := iv x13_244) (rest := [(0, rv D a0), (5, iv x5_38), (12, iv x12_238)]) (Nat.le_of_ble_eq_true rfl) [4, 0, 1, 3] rfl (by decide) rfl rfl (dl_at t_X25_place 166 rfl) ?_
              refine g_ls (ls2 := [(0, rv D a0), (5, iv x5_38), (12, iv x12_238), (13, iv x13_244), (14, iv s0_229)]) [2, 3, 4, 1, 0] rfl ?_
              refine g_loop1 (fun (q : Int × Hp) => [(0, rv D a0), (5, iv x5_38), (12, iv x12_238), (13, iv x13_244), (14, iv q.1)]) (fun (q : Int × Hp) => q.2) (fun (q : Int × Hp) => r32 q.1 ∧ Ext h_286 q.2) 332 (fun (y332 : Hp) => [(0, rv D a0), (5, iv x5_38), (13, iv x13_244)]) (fun (y332 : Hp) => y332) (fun (y332 : Hp) => Ext h_286 y332) (s0_229, h_286) ⟨rs0_229, (Ext.refl _)⟩ ?_ ?_
              · rintro ⟨x14_290, h_290⟩ ⟨r14_290, E_290⟩
                try dsimp only
                unfold m_X25_place_l290
                refine g_iload (pc := 290) X (i := 14) (q := 4) (x := x14_290) rfl (dl_at t_X25_place 167 rfl) ?_
                refine g_iload (pc := 292) X (i := 12) (q := 2) (x := x12_238) rfl (dl_at t_X25_place 168 rfl) ?_
                refine g_icmpge (pc := 294) X r14_290 r12_238 (off := 38) (tgt := 332) rfl (dl_at t_X25_place 169 rfl) (fun _ => ?_) (fun _ => ?_)
                · refine g_ls (ls2 := [(0, rv D a0), (5, iv x5_38), (13, iv x13_244)]) [0, 1, 3] rfl ?_
                  exact g_at fun Q hQ => hQ E_290
                refine g_aload_n (pc := 297) X (j := 0) (i := 0) (q := 0) (x := a0) rfl rfl (dl_at t_X25_place 170 rfl) ?_
                refine g_iload (pc := 298) X (i := 14) (q := 4) (x := x14_290) rfl (dl_at t_X25_place 171 rfl) ?_
                refine g_iconst (pc := 300) X (n := 0) (dl_at t_X25_place 172 rfl) ?_
                refine g_iload (pc := 301) X (i := 14) (q := 4) (x := x14_290) rfl (dl_at t_X25_place 173 rfl) ?_
                refine g_iload (pc := 303) X (i := 12) (q := 2) (x := x12_238) rfl (dl_at t_X25_place 174 rfl) ?_
                refine g_iconst (pc := 305) X (n := 1) (dl_at t_X25_place 175 rfl) ?_
                refine g_isub (pc := 306) X r12_238 (r32_c rfl) (dl_at t_X25_place 176 rfl) ?_
                refine g_join (γ := Int × Int) (fun q => (q.1 = 0 ∨ q.1 = 1) ∧ r32 q.2) 323 (fun q => [(0, rv D a0), (5, iv x5_38), (12, iv x12_238), (13, iv x13_244), (14, iv x14_290)]) (fun q => [iv q.2, iv q.1, iv x14_290, rv D a0]) (fun q => h_290) (fun q => m_X25_place_j323 a0 x14_290 q.1 q.2 h_290) ?_ ?_
                · rintro ⟨s2_323, s3_323⟩ ⟨rs2_323, rs3_323⟩
                  try dsimp only
                  unfold m_X25_place_j323
                  have k323 := kx (E_286.trans E_290) (by decide) k232
                  refine r_callV (pc := 323) X (fun _ hv => s_X25_piece k323 r14_290 (r32_z rs2_323) rs3_323 hv) cw_code q5113 q379 (in_Vk X (As := [iv x14_290, iv s2_323, iv s3_323]) kX25 k323 (Or.inl q5110) q5112 qs343 cw_code q5113 ⟨by decide, by decide⟩ rfl (dl_at t_X25_place 184 rfl)) (dl_at t_X25_place 184 rfl) (cat24 (st := []) (Nat.le_of_ble_eq_true rfl)) (Nat.le_of_ble_eq_true rfl) (Nat.le_of_ble_eq_true rfl) fun h323 E323 => ?_
                  refine r_iincN (pc := 326) X (i := 14) (q := 4) (n := 1) (x := x14_290) (b := 13) (w := iv x13_244) (rest := [(0, rv D a0), (5, iv x5_38), (12, iv x12_238)]) rfl r14_290 (r32_c rfl) (Nat.le_of_ble_eq_true rfl) [3, 0, 1, 2] rfl (by decide) rfl rfl (dl_at t_X25_place 185 rfl) fun x14_326 r14_326 => ?_
                  refine g_goto (pc := 329) X (off := (-39)) (tgt := 290) rfl (dl_at t_X25_place 186 rfl) ?_
                  refine g_ls (ls2 := [(0, rv D a0), (5, iv x5_38), (12, iv x12_238), (13, iv x13_244), (14, iv x14_326)]) [2, 3, 4, 1, 0] rfl ?_
                  exact g_at fun Q hQ => hQ ⟨r14_326, (E_290.trans E323)⟩
                intro J323
                refine g_icmpne (pc := 307) X r14_290 (r32_w _) (off := 10) (tgt := 317) rfl (dl_at t_X25_place 177 rfl) (fun _ => ?_) (fun _ => ?_)
                · refine g_aload_n (pc := 317) X (j := 0) (i := 0) (q := 0) (x := a0) rfl rfl (dl_at t_X25_place 181 rfl) ?_
                  refine g_iload (pc := 318) X (i := 14) (q := 4) (x := x14_290) rfl (dl_at t_X25_place 182 rfl) ?_
                  have k320 := kx (E_286.trans E_290) (by decide) k232
                  refine r_callRi (pc := 320) X (fun _ hv => s_X25_linesOf k320 r14_290 hv) cw_code q5086 q379 (in_Vk X (As := [iv x14_290]) kX25 k320 (Or.inl q5083) q5085 qs338 cw_code q5086 ⟨by decide, by decide⟩ rfl (dl_at t_X25_place 183 rfl)) (dl_at t_X25_place 183 rfl) (cat24 (st := [iv 0, iv x14_290, rv D a0]) (Nat.le_of_ble_eq_true rfl)) (Nat.le_of_ble_eq_true rfl) (Nat.le_of_ble_eq_true rfl) fun v320 g320 => ?_
                  exact J323 (0, v320) ⟨(Or.inl rfl), g320⟩
                refine g_aload_n (pc := 310) X (j := 0) (i := 0) (q := 0) (x := a0) rfl rfl (dl_at t_X25_place 178 rfl) ?_
                have k311 := kx (E_286.trans E_290) (by decide) k232
                refine r_geti (pc := 311) X fX25_136 k311 q3948 (dl_at t_X25_place 179 rfl) fun g311 => ?_
                refine g_goto (pc := 314) X (off := 9) (tgt := 323) rfl (dl_at t_X25_place 180 rfl) ?_
                exact J323 (0, (h_290 a0 136)) ⟨(Or.inl rfl), g311⟩
              · rintro h_332 E_332
                try dsimp only [sE]
                refine g_aload_n (pc := 332) X (j := 0) (i := 0) (q := 0) (x := a0) rfl rfl (dl_at t_X25_place 187 rfl) ?_
                refine g_iload (pc := 333) X (i := 13) (q := 2) (x := x13_244) rfl (dl_at t_X25_place 188 rfl) ?_
                have k335 := kx (E_286.trans E_332) (by decide) k232
                refine r_callV (pc := 335) X (fun _ hv => s_X25_foot k335 r13_244 hv) cw_code q5117 q379 (in_Vk X (As := [iv x13_244]) kX25 k335 (Or.inl q5114) q5116 qs344 cw_code q5117 ⟨by decide, by decide⟩ rfl (dl_at t_X25_place 189 rfl)) (dl_at t_X25_place 189 rfl) (cat24 (st := []) (Nat.le_of_ble_eq_true rfl)) (Nat.le_of_ble_eq_true rfl) (Nat.le_of_ble_eq_true rfl) fun h335 E335 => ?_
                refine g_aload_n (pc := 338) X (j := 0) (i := 0) (q := 0) (x := a0) rfl rfl (dl_at t_X25_place 190 rfl) ?_
                have k339 := kx E335 (by decide) k335
                refine r_geti (pc := 339) X fX25_133 k339 q3945 (dl_at t_X25_place 191 rfl) fun g339 => ?_
                refine g_lti g339 fun x3_342 r3_342 => ?_
                refine g_istore_n (pc := 342) X (j := 3) (i := 3) (x := x3_342) (rest := [(0, rv D a0), (5, iv x5_38)]) rfl (Nat.le_of_ble_eq_true rfl) [0, 1] rfl rfl (dl_at t_X25_place 192 rfl) ?_
                refine g_aload_n (pc := 343) X (j := 0) (i := 0) (q := 1) (x := a0) rfl rfl (dl_at t_X25_place 193 rfl) ?_
                refine r_geti (pc := 344) X fX25_134 k339 q3946 (dl_at t_X25_place 194 rfl) fun g344 => ?_
                refine g_lti g344 fun x4_347 r4_347 => ?_
                refine g_istoreN (pc := 347) X (i := 4) (x := x4_347) (b := 3) (w := iv x3_342) (rest := [(0, rv D a0), (5, iv x5_38)]) (Nat.le_of_ble_eq_true rfl) [0, 1, 2] rfl (by decide) rfl rfl (dl_at t_X25_place 195 rfl) ?_
                refine g_aload_n (pc := 349) X (j := 0) (i := 0) (q := 2) (x := a0) rfl rfl (dl_at t_X25_place 196 rfl) ?_
                refine r_callTv (pc := 350) X (fun _ hv => s_X25_next k339 hv) cw_code q5121 q379 (in_Vk X (As := []) kX25 k339 (Or.inl q5118) q5120 qs345 cw_code q5121 ⟨by decide, by decide⟩ rfl (dl_at t_X25_place 197 rfl)) (dl_at t_X25_place 197 rfl) (cat24 (st := []) (Nat.le_of_ble_eq_true rfl)) (Nat.le_of_ble_eq_true rfl) (Nat.le_of_ble_eq_true rfl) (fun v350 h350 E350 => ?_) (fun _ _ ha _ => gt_at fun Q hQ => gt_out (Q := Q) X rfl ha (hno _) _ Q rfl hQ)
                refine r_iincN (pc := 353) X (i := 5) (q := 3) (n := (-1)) (x := x5_38) (b := 4) (w := iv x4_347) (rest := [(3, iv x3_342), (0, rv D a0)]) rfl r5_38 (r32_c rfl) (Nat.le_of_ble_eq_true rfl) [0, 1, 2] rfl (by decide) rfl rfl (dl_at t_X25_place 198 rfl) fun x5_353 r5_353 => ?_
                refine g_goto (pc := 356) X (off := (-318)) (tgt := 38) rfl (dl_at t_X25_place 199 rfl) ?_
                refine g_ls (ls2 := [(0, rv D a0), (3, iv x3_342), (4, iv x4_347), (5, iv x5_353)]) [3, 2, 1, 0] rfl ?_
                exact g_at fun Q hQ => hQ ⟨r3_342, r4_347, r5_353, (E_38.trans (E84.trans (E_140.trans (E_211.trans (E_286.trans (E_332.trans (E335.trans E350)))))))⟩
            intro J286
            refine g_ifle (pc := 248) X r4_38 (off := 38) (tgt := 286) rfl (dl_at t_X25_place 142 rfl) (fun _ => ?_) (fun _ => ?_)
            · refine g_ls (ls2 := [(0, rv D a0), (5, iv x5_38), (11, iv s0_229), (12, iv x12_238), (13, iv x13_244)]) [3, 5, 2, 1, 0] rfl ?_
              exact J286 h_211 (Ext.refl _)
            refine g_aload_n (pc := 251) X (j := 0) (i := 0) (q := 3) (x := a0) rfl rfl (dl_at t_X25_place 143 rfl) ?_
            refine g_iload (pc := 252) X (i := 11) (q := 2) (x := s0_229) rfl (dl_at t_X25_place 144 rfl) ?_
            refine g_iconst (pc := 254) X (n := 1) (dl_at t_X25_place 145 rfl) ?_
            refine g_isub (pc := 255) X rs0_229 (r32_c rfl) (dl_at t_X25_place 146 rfl) ?_
            refine g_aload_n (pc := 256) X (j := 0) (i := 0) (q := 3) (x := a0) rfl rfl (dl_at t_X25_place 147 rfl) ?_
            refine g_iload (pc := 257) X (i := 11) (q := 2) (x := s0_229) rfl (dl_at t_X25_place 148 rfl) ?_
            refine g_iconst (pc := 259) X (n := 1) (dl_at t_X25_place 149 rfl) ?_
            refine g_isub (pc := 260) X rs0_229 (r32_c rfl) (dl_at t_X25_place 150 rfl) ?_
            refine r_callRi (pc := 261) X (fun _ hv => s_X25_linesOf k232 (r32_w _) hv) cw_code q5086 q379 (in_Vk X (As := [iv (w32 (s0_229 - 1))]) kX25 k232 (Or.inl q5083) q5085 qs338 cw_code q5086 ⟨by decide, by decide⟩ rfl (dl_at t_X25_place 151 rfl)) (dl_at t_X25_place 151 rfl) (cat24 (st := [iv (w32 (s0_229 - 1)), rv D a0]) (Nat.le_of_ble_eq_true rfl)) (Nat.le_of_ble_eq_true rfl) (Nat.le_of_ble_eq_true rfl) fun v261 g261 => ?_
            refine g_iload (pc := 264) X (i := 4) (q := 4) (x := x4_38) rfl (dl_at t_X25_place 152 rfl) ?_
            refine g_isub (pc := 266) X g261 r4_38 (dl_at t_X25_place 153 rfl) ?_
            refine g_aload_n (pc := 267) X (j := 0) (i := 0) (q := 3) (x := a0) rfl rfl (dl_at t_X25_place 154 rfl) ?_
            refine g_iload (pc := 268) X (i := 11) (q := 2) (x := s0_229) rfl (dl_at t_X25_place 155 rfl) ?_
            refine g_iconst (pc := 270) X (n := 1) (dl_at t_X25_place 156 rfl) ?_
            refine g_isub (pc := 271) X rs0_229 (r32_c rfl) (dl_at t_X25_place 157 rfl) ?_
            refine r_callRi (pc := 272) X (fun _ hv => s_X25_linesOf k232 (r32_w _) hv) cw_code q5086 q379 (in_Vk X (As := [iv (w32 (s0_229 - 1))]) kX25 k232 (Or.inl q5083) q5085 qs338 cw_code q5086 ⟨by decide, by decide⟩ rfl (dl_at t_X25_place 158 rfl)) (dl_at t_X25_place 158 rfl) (cat24 (st := [iv (w32 (v261 - x4_38)), iv (w32 (s0_229 - 1)), rv D a0]) (Nat.le_of_ble_eq_true rfl)) (Nat.le_of_ble_eq_true rfl) (Nat.le_of_ble_eq_true rfl) fun v272 g272 => ?_
            refine g_iload (pc := 275) X (i := 4) (q := 4) (x := x4_38) rfl (dl_at t_X25_place 159 rfl) ?_
            refine g_isub (pc := 277) X g272 r4_38 (dl_at t_X25_place 160 rfl) ?_
            refine g_aload_n (pc := 278) X (j := 0) (i := 0) (q := 3) (x := a0) rfl rfl (dl_at t_X25_place 161 rfl) ?_
            refine r_geti (pc := 279) X fX25_135 k232 q3947 (dl_at t_X25_place 162 rfl) fun g279 => ?_
            refine g_iadd (pc := 282) X (r32_w _) g279 (dl_at t_X25_place 163 rfl) ?_
            refine r_callV (pc := 283) X (fun _ hv => s_X25_piece k232 (r32_w _) (r32_w _) (r32_w _) hv) cw_code q5113 q379 (in_Vk X (As := [iv (w32 (s0_229 - 1)), iv (w32 (v261 - x4_38)), iv (w32 ((w32 (v272 - x4_38)) + (h_211 a0 135)))]) kX25 k232 (Or.inl q5110) q5112 qs343 cw_code q5113 ⟨by decide, by decide⟩ rfl (dl_at t_X25_place 164 rfl)) (dl_at t_X25_place 164 rfl) (cat24 (st := []) (Nat.le_of_ble_eq_true rfl)) (Nat.le_of_ble_eq_true rfl) (Nat.le_of_ble_eq_true rfl) fun h283 E283 => ?_
            refine g_ls (ls2 := [(0, rv D a0), (5, iv x5_38), (11, iv s0_229), (12, iv x12_238), (13, iv x13_244)]) [3, 5, 2, 1, 0] rfl ?_
            exact J286 h283 E283
          intro J229
          refine g_ifne (pc := 213) X r7_59 (off := 7) (tgt := 220) rfl (dl_at t_X25_place 123 rfl) (fun _ => ?_) (fun _ => ?_)
          · refine g_aload_n (pc := 220) X (j := 0) (i := 0) (q := 0) (x := a0) rfl rfl (dl_at t_X25_place 126 rfl) ?_
            have k221 := kx (E84.trans (E_140.trans E_211)) (by decide) k44
            refine r_getr (pc := 221) X fX25_123 k221 q3935 (dl_at t_X25_place 127 rfl) ?_
            refine g_iload (pc := 224) X (i := 7) (q := 3) (x := x7_59) rfl (dl_at t_X25_place 128 rfl) ?_
            refine g_iconst (pc := 226) X (n := 1) (dl_at t_X25_place 129 rfl) ?_
            refine g_isub (pc := 227) X r7_59 (r32_c rfl) (dl_at t_X25_place 130 rfl) ?_
            refine g_gd fun k228 => ?_
            refine g_iald (pc := 228) X (r32_w _) k228 (dl_at t_X25_place 131 rfl) fun g228 => ?_
            refine g_ls (ls2 := [(0, rv D a0), (4, iv x4_38), (5, iv x5_38), (8, iv x8_77)]) [0, 1, 2, 4] rfl ?_
            exact J229 (h_211 (h_211 a0 123) (w32 (x7_59 - 1))) g228
          refine g_iconst (pc := 216) X (n := 0) (dl_at t_X25_place 124 rfl) ?_
          refine g_goto (pc := 217) X (off := 12) (tgt := 229) rfl (dl_at t_X25_place 125 rfl) ?_
          refine g_ls (ls2 := [(0, rv D a0), (4, iv x4_38), (5, iv x5_38), (8, iv x8_77)]) [0, 1, 2, 4] rfl ?_
          exact J229 0 (r32_c rfl)
    · rintro ⟨x3_359, x4_359, h_359⟩ ⟨r3_359, r4_359, E_359⟩
      try dsimp only [sE]
      refine g_aload_n (pc := 359) X (j := 0) (i := 0) (q := 0) (x := a0) rfl rfl (dl_at t_X25_place 200 rfl) ?_
      have k360 := kx (E_28.trans E_359) (by decide) hk
      refine r_getr (pc := 360) X fX25_123 k360 q3935 (dl_at t_X25_place 201 rfl) ?_
      refine g_aload_n (pc := 363) X (j := 0) (i := 0) (q := 0) (x := a0) rfl rfl (dl_at t_X25_place 202 rfl) ?_
      refine r_geti (pc := 364) X fX25_42 k360 q3821 (dl_at t_X25_place 203 rfl) fun g364 => ?_
      refine g_iconst (pc := 367) X (n := 1) (dl_at t_X25_place 204 rfl) ?_
      refine g_isub (pc := 368) X g364 (r32_c rfl) (dl_at t_X25_place 205 rfl) ?_
      refine g_gd fun k369 => ?_
      refine g_iald (pc := 369) X (r32_w _) k369 (dl_at t_X25_place 206 rfl) fun g369 => ?_
      refine g_iconst (pc := 370) X (n := 1) (dl_at t_X25_place 207 rfl) ?_
      refine g_isub (pc := 371) X g369 (r32_c rfl) (dl_at t_X25_place 208 rfl) ?_
      refine g_lti (r32_w _) fun x5_372 r5_372 => ?_
      refine g_istoreN (pc := 372) X (i := 5) (x := x5_372) (b := 4) (w := iv x4_359) (rest := [(0, rv D a0), (3, iv x3_359)]) (Nat.le_of_ble_eq_true rfl) [2, 0, 1] rfl (by decide) rfl rfl (dl_at t_X25_place 209 rfl) ?_
      refine g_ls (ls2 := [(0, rv D a0), (3, iv x3_359), (4, iv x4_359), (5, iv x5_372)]) [2, 3, 1, 0] rfl ?_
      refine g_loop0F (fun (q : Int × Int × Hp) => [(0, rv D a0), (3, iv q.1), (4, iv q.2.1), (5, iv x5_372)]) (fun (q : Int × Int × Hp) => q.2.2) (fun (q : Int × Int × Hp) => r32 q.1 ∧ r32 q.2.1 ∧ Ext h_359 q.2.2) (x3_359, x4_359, h_359) ⟨r3_359, r4_359, (Ext.refl _)⟩ ?_ (fun _ => rfl)
      · rintro ⟨x3_374, x4_374, h_374⟩ ⟨r3_374, r4_374, E_374⟩
        try dsimp only
        unfold m_X25_place_l374
        refine g_iload (pc := 374) X (i := 4) (q := 2) (x := x4_374) rfl (dl_at t_X25_place 210 rfl) ?_
        refine g_join (γ := Unit) (fun q => True) 387 (fun q => [(0, rv D a0), (3, iv x3_374), (4, iv x4_374), (5, iv x5_372)]) (fun q => []) (fun q => h_374) (fun q => m_X25_place_j387 a0 x3_374 x4_374 x5_372 h_374) ?_ ?_
        · rintro _ _
          try dsimp only
          unfold m_X25_place_j387
          refine g_aload_n (pc := 387) X (j := 0) (i := 0) (q := 0) (x := a0) rfl rfl (dl_at t_X25_place 216 rfl) ?_
          have k388 := kx E_374 (by decide) k360
          refine r_geti (pc := 388) X fX25_88 k388 q3891 (dl_at t_X25_place 217 rfl) fun g388 => ?_
          refine g_lti g388 fun x6_391 r6_391 => ?_
          refine g_istoreN (pc := 391) X (i := 6) (x := x6_391) (b := 5) (w := iv x5_372) (rest := [(0, rv D a0), (3, iv x3_374), (4, iv x4_374)]) (Nat.le_of_ble_eq_true rfl) [3, 0, 1, 2] rfl (by decide) rfl rfl (dl_at t_X25_place 218 rfl) ?_
          refine g_lconst0 (pc := 393) X (dl_at t_X25_place 219 rfl) ?_
          refine g_ltl (r64_c rfl) fun x7_394 r7_394 => ?_
          refine g_lstoreN (pc := 394) X (i := 7) (x := x7_394) (b := 6) (w := iv x6_391) (rest := [(5, iv x5_372), (0, rv D a0), (3, iv x3_374), (4, iv x4_374)]) (Nat.le_of_ble_eq_true rfl) [0, 1, 2, 3, 4] rfl (by decide) (by decide) rfl rfl (dl_at t_X25_place 220 rfl) ?_
          refine g_iload (pc := 396) X (i := 4) (q := 5) (x := x4_374) rfl (dl_at t_X25_place 221 rfl) ?_
          refine g_join (γ := Int × Int × Hp) (fun q => r32 q.1 ∧ r64 q.2.1 ∧ Ext h_374 q.2.2) 506 (fun q => [(0, rv D a0), (3, iv x3_374), (4, iv q.1), (5, iv x5_372), (6, iv x6_391), (7, jv q.2.1)]) (fun q => []) (fun q => q.2.2) (fun q => m_X25_place_j506 x6_391 a0 x3_374 q.1 q.2.1 q.2.2) ?_ ?_
          · rintro ⟨x4_506, x7_506, h_506⟩ ⟨r4_506, r7_506, E_506⟩
            try dsimp only
            unfold m_X25_place_j506
            refine g_aload_n (pc := 506) X (j := 0) (i := 0) (q := 0) (x := a0) rfl rfl (dl_at t_X25_place 281 rfl) ?_
            refine g_iload (pc := 507) X (i := 6) (q := 4) (x := x6_391) rfl (dl_at t_X25_place 282 rfl) ?_
            have k509 := kx E_506 (by decide) k388
            refine r_callV (pc := 509) X (fun _ hv => s_X25_foot k509 r6_391 hv) cw_code q5117 q379 (in_Vk X (As := [iv x6_391]) kX25 k509 (Or.inl q5114) q5116 qs344 cw_code q5117 ⟨by decide, by decide⟩ rfl (dl_at t_X25_place 283 rfl)) (dl_at t_X25_place 283 rfl) (cat24 (st := []) (Nat.le_of_ble_eq_true rfl)) (Nat.le_of_ble_eq_true rfl) (Nat.le_of_ble_eq_true rfl) fun h509 E509 => ?_
            refine g_lconst0 (pc := 512) X (dl_at t_X25_place 284 rfl) ?_
            refine g_ltl (r64_c rfl) fun x9_513 r9_513 => ?_
            refine g_lstore (pc := 513) X (i := 9) (x := x9_513) (rest := [(0, rv D a0), (3, iv x3_374), (4, iv x4_506), (5, iv x5_372), (7, jv x7_506)]) (Nat.le_of_ble_eq_true rfl) [0, 1, 2, 3, 5] rfl rfl (dl_at t_X25_place 285 rfl) ?_
            refine g_ls (ls2 := [(0, rv D a0), (3, iv x3_374), (4, iv x4_506), (5, iv x5_372), (7, jv x7_506), (9, jv x9_513)]) [1, 2, 3, 4, 5, 0] rfl ?_
            refine g_loop1 (fun (q : Int × Int × Int × Hp) => [(0, rv D a0), (3, iv q.1), (4, iv x4_506), (5, iv x5_372), (7, jv q.2.1), (9, jv q.2.2.1)]) (fun (q : Int × Int × Int × Hp) => q.2.2.2) (fun (q : Int × Int × Int × Hp) => r32 q.1 ∧ r64 q.2.1 ∧ r64 q.2.2.1 ∧ Ext h509 q.2.2.2) 589 (fun (y589 : Int × Hp) => [(0, rv D a0), (3, iv y589.1), (4, iv x4_506), (5, iv x5_372)]) (fun (y589 : Int × Hp) => y589.2) (fun (y589 : Int × Hp) => r32 y589.1 ∧ Ext h509 y589.2) (x3_374, x7_506, x9_513, h509) ⟨r3_374, r7_506, r9_513, (Ext.refl _)⟩ ?_ ?_
            · rintro ⟨x3_515, x7_515, x9_515, h_515⟩ ⟨r3_515, r7_515, r9_515, E_515⟩
              try dsimp only
              unfold m_X25_place_l515
              refine g_iload_n (pc := 515) X (j := 3) (i := 3) (q := 1) (x := x3_515) rfl rfl (dl_at t_X25_place 286 rfl) ?_
              refine g_aload_n (pc := 516) X (j := 0) (i := 0) (q := 0) (x := a0) rfl rfl (dl_at t_X25_place 287 rfl) ?_
              have k517 := kx (E509.trans E_515) (by decide) k509
              refine r_geti (pc := 517) X fX25_54 k517 q3840 (dl_at t_X25_place 288 rfl) fun g517 => ?_
              refine g_icmpge (pc := 520) X r3_515 g517 (off := 69) (tgt := 589) rfl (dl_at t_X25_place 289 rfl) (fun _ => ?_) (fun _ => ?_)
              · refine g_ls (ls2 := [(0, rv D a0), (3, iv x3_515), (4, iv x4_506), (5, iv x5_372)]) [0, 1, 2, 3] rfl ?_
                exact g_at fun Q hQ => hQ ⟨r3_515, E_515⟩
              refine g_lload (pc := 523) X (i := 7) (q := 4) (x := x7_515) rfl (dl_at t_X25_place 290 rfl) ?_
              refine g_aload_n (pc := 525) X (j := 0) (i := 0) (q := 0) (x := a0) rfl rfl (dl_at t_X25_place 291 rfl) ?_
              refine g_iload_n (pc := 526) X (j := 3) (i := 3) (q := 1) (x := x3_515) rfl rfl (dl_at t_X25_place 292 rfl) ?_
              refine r_callRl (pc := 527) X (fun _ hv => s_X25_floatHigh k517 r3_515 hv) cw_code q5090 q379 (in_Vk X (As := [iv x3_515]) kX25 k517 (Or.inl q5087) q5089 qs339 cw_code q5090 ⟨by decide, by decide⟩ rfl (dl_at t_X25_place 293 rfl)) (dl_at t_X25_place 293 rfl) (cat24 (st := [jv x7_515]) (Nat.le_of_ble_eq_true rfl)) (Nat.le_of_ble_eq_true rfl) (Nat.le_of_ble_eq_true rfl) fun v527 g527 => ?_
              refine g_ladd (pc := 530) X r7_515 g527 (dl_at t_X25_place 294 rfl) ?_
              refine g_aload_n (pc := 531) X (j := 0) (i := 0) (q := 0) (x := a0) rfl rfl (dl_at t_X25_place 295 rfl) ?_
              refine r_getr (pc := 532) X fX25_0 k517 q3761 (dl_at t_X25_place 296 rfl) ?_
              refine g_gd fun k535 => ?_
              refine r_getr (pc := 535) X fX24_2 k535 q3647 (dl_at t_X25_place 297 rfl) ?_
              refine g_iconst (pc := 538) X (n := 1) (dl_at t_X25_place 298 rfl) ?_
              refine g_gd fun k539 => ?_
              refine g_iald (pc := 539) X (r32_c rfl) k539 (dl_at t_X25_place 299 rfl) fun g539 => ?_
              refine g_i2l (pc := 540) X g539 (dl_at t_X25_place 300 rfl) ?_
              refine g_lcmp (pc := 541) X (r64_w _) (r64_of g539) (dl_at t_X25_place 301 rfl) ?_
              refine g_ifgt (pc := 542) X (r32_lcmp _ _) (off := 47) (tgt := 589) rfl (dl_at t_X25_place 302 rfl) (fun _ => ?_) (fun _ => ?_)
              · refine g_ls (ls2 := [(0, rv D a0), (3, iv x3_515), (4, iv x4_506), (5, iv x5_372)]) [0, 1, 2, 3] rfl ?_
                exact g_at fun Q hQ => hQ ⟨r3_515, E_515⟩
              refine g_aload_n (pc := 545) X (j := 0) (i := 0) (q := 0) (x := a0) rfl rfl (dl_at t_X25_place 303 rfl) ?_
              refine r_getr (pc := 546) X fX25_62 k517 q3856 (dl_at t_X25_place 304 rfl) ?_
              refine g_iload_n (pc := 549) X (j := 3) (i := 3) (q := 1) (x := x3_515) rfl rfl (dl_at t_X25_place 305 rfl) ?_
              refine g_aload_n (pc := 550) X (j := 0) (i := 0) (q := 0) (x := a0) rfl rfl (dl_at t_X25_place 306 rfl) ?_
              refine r_geti (pc := 551) X fX25_94 k517 q3903 (dl_at t_X25_place 307 rfl) fun g551 => ?_
              refine g_gd fun k554 => ?_
              refine r_iast (pc := 554) X r3_515 g551 k554 (dl_at t_X25_place 308 rfl) (fun h554 E554 => ?_)
              refine g_aload_n (pc := 555) X (j := 0) (i := 0) (q := 0) (x := a0) rfl rfl (dl_at t_X25_place 309 rfl) ?_
              have k556 := kx E554 (by decide) k517
              refine r_getr (pc := 556) X fX25_64 k556 q3860 (dl_at t_X25_place 310 rfl) ?_
              refine g_iload_n (pc := 559) X (j := 3) (i := 3) (q := 1) (x := x3_515) rfl rfl (dl_at t_X25_place 311 rfl) ?_
              refine g_lload (pc := 560) X (i := 9) (q := 5) (x := x9_515) rfl (dl_at t_X25_place 312 rfl) ?_
              refine g_gd fun k562 => ?_
              refine r_last (pc := 562) X r3_515 r9_515 k562 (dl_at t_X25_place 313 rfl) (fun h562 E562 => ?_)
              refine g_lload (pc := 563) X (i := 9) (q := 5) (x := x9_515) rfl (dl_at t_X25_place 314 rfl) ?_
              refine g_aload_n (pc := 565) X (j := 0) (i := 0) (q := 0) (x := a0) rfl rfl (dl_at t_X25_place 315 rfl) ?_
              refine g_iload_n (pc := 566) X (j := 3) (i := 3) (q := 1) (x := x3_515) rfl rfl (dl_at t_X25_place 316 rfl) ?_
              have k567 := kx E562 (by decide) k556
              refine r_callRl (pc := 567) X (fun _ hv => s_X25_floatHigh k567 r3_515 hv) cw_code q5090 q379 (in_Vk X (As := [iv x3_515]) kX25 k567 (Or.inl q5087) q5089 qs339 cw_code q5090 ⟨by decide, by decide⟩ rfl (dl_at t_X25_place 317 rfl)) (dl_at t_X25_place 317 rfl) (cat24 (st := [jv x9_515]) (Nat.le_of_ble_eq_true rfl)) (Nat.le_of_ble_eq_true rfl) (Nat.le_of_ble_eq_true rfl) fun v567 g567 => ?_
              refine g_ladd (pc := 570) X r9_515 g567 (dl_at t_X25_place 318 rfl) ?_
              refine g_ltl (r64_w _) fun x9_571 r9_571 => ?_
              refine g_lstore (pc := 571) X (i := 9) (x := x9_571) (rest := [(0, rv D a0), (3, iv x3_515), (4, iv x4_506), (5, iv x5_372), (7, jv x7_515)]) (Nat.le_of_ble_eq_true rfl) [0, 1, 2, 3, 4] rfl rfl (dl_at t_X25_place 319 rfl) ?_
              refine g_lload (pc := 573) X (i := 7) (q := 5) (x := x7_515) rfl (dl_at t_X25_place 320 rfl) ?_
              refine g_aload_n (pc := 575) X (j := 0) (i := 0) (q := 1) (x := a0) rfl rfl (dl_at t_X25_place 321 rfl) ?_
              refine g_iload_n (pc := 576) X (j := 3) (i := 3) (q := 2) (x := x3_515) rfl rfl (dl_at t_X25_place 322 rfl) ?_
              refine r_callRl (pc := 577) X (fun _ hv => s_X25_floatHigh k567 r3_515 hv) cw_code q5090 q379 (in_Vk X (As := [iv x3_515]) kX25 k567 (Or.inl q5087) q5089 qs339 cw_code q5090 ⟨by decide, by decide⟩ rfl (dl_at t_X25_place 323 rfl)) (dl_at t_X25_place 323 rfl) (cat24 (st := [jv x7_515]) (Nat.le_of_ble_eq_true rfl)) (Nat.le_of_ble_eq_true rfl) (Nat.le_of_ble_eq_true rfl) fun v577 g577 => ?_
              refine g_ladd (pc := 580) X r7_515 g577 (dl_at t_X25_place 324 rfl) ?_
              refine g_ltl (r64_w _) fun x7_581 r7_581 => ?_
              refine g_lstore (pc := 581) X (i := 7) (x := x7_581) (rest := [(9, jv x9_571), (0, rv D a0), (3, iv x3_515), (4, iv x4_506), (5, iv x5_372)]) (Nat.le_of_ble_eq_true rfl) [0, 1, 2, 3, 4] rfl rfl (dl_at t_X25_place 325 rfl) ?_
              refine r_iinc (pc := 583) X (i := 3) (q := 3) (n := 1) (x := x3_515) (rest := [(7, jv x7_581), (9, jv x9_571), (0, rv D a0), (4, iv x4_506), (5, iv x5_372)]) rfl r3_515 (r32_c rfl) (Nat.le_of_ble_eq_true rfl) [0, 1, 2, 4, 5] rfl rfl (dl_at t_X25_place 326 rfl) fun x3_583 r3_583 => ?_
              refine g_goto (pc := 586) X (off := (-71)) (tgt := 515) rfl (dl_at t_X25_place 327 rfl) ?_
              refine g_ls (ls2 := [(0, rv D a0), (3, iv x3_583), (4, iv x4_506), (5, iv x5_372), (7, jv x7_581), (9, jv x9_571)]) [3, 0, 4, 5, 1, 2] rfl ?_
              exact g_at fun Q hQ => hQ ⟨r3_583, r7_581, r9_571, (E_515.trans (E554.trans E562))⟩
            · rintro ⟨x3_589, h_589⟩ ⟨r3_589, E_589⟩
              try dsimp only [sE]
              refine g_aload_n (pc := 589) X (j := 0) (i := 0) (q := 0) (x := a0) rfl rfl (dl_at t_X25_place 328 rfl) ?_
              have k590 := kx (E509.trans E_589) (by decide) k509
              refine r_callTv (pc := 590) X (fun _ hv => s_X25_next k590 hv) cw_code q5121 q379 (in_Vk X (As := []) kX25 k590 (Or.inl q5118) q5120 qs345 cw_code q5121 ⟨by decide, by decide⟩ rfl (dl_at t_X25_place 329 rfl)) (dl_at t_X25_place 329 rfl) (cat24 (st := []) (Nat.le_of_ble_eq_true rfl)) (Nat.le_of_ble_eq_true rfl) (Nat.le_of_ble_eq_true rfl) (fun v590 h590 E590 => ?_) (fun _ _ ha _ => gt_at fun Q hQ => gt_out (Q := Q) X rfl ha (hno _) _ Q rfl hQ)
              refine g_goto (pc := 593) X (off := (-219)) (tgt := 374) rfl (dl_at t_X25_place 330 rfl) ?_
              exact g_at fun Q hQ => hQ ⟨r3_589, r4_506, (E_374.trans (E_506.trans (E509.trans (E_589.trans E590))))⟩
          intro J506
          refine g_ifle (pc := 398) X r4_374 (off := 108) (tgt := 506) rfl (dl_at t_X25_place 222 rfl) (fun _ => ?_) (fun _ => ?_)
          · refine g_ls (ls2 := [(0, rv D a0), (3, iv x3_374), (4, iv x4_374), (5, iv x5_372), (6, iv x6_391), (7, jv x7_394)]) [3, 4, 5, 2, 1, 0] rfl ?_
            exact J506 (x4_374, x7_394, h_374) ⟨r4_374, r7_394, (Ext.refl _)⟩
          refine g_aload_n (pc := 401) X (j := 0) (i := 0) (q := 3) (x := a0) rfl rfl (dl_at t_X25_place 223 rfl) ?_
          refine r_getr (pc := 402) X fX25_0 k388 q3761 (dl_at t_X25_place 224 rfl) ?_
          refine g_gd fun k405 => ?_
          refine r_getr (pc := 405) X fX24_2 k405 q3647 (dl_at t_X25_place 225 rfl) ?_
          refine g_iconst (pc := 408) X (n := 4) (dl_at t_X25_place 226 rfl) ?_
          refine g_gd fun k409 => ?_
          refine g_iald (pc := 409) X (r32_c rfl) k409 (dl_at t_X25_place 227 rfl) fun g409 => ?_
          refine g_aload_n (pc := 410) X (j := 0) (i := 0) (q := 3) (x := a0) rfl rfl (dl_at t_X25_place 228 rfl) ?_
          refine g_iload (pc := 411) X (i := 5) (q := 2) (x := x5_372) rfl (dl_at t_X25_place 229 rfl) ?_
          refine r_callRi (pc := 413) X (fun _ hv => s_X25_leadOf k388 r5_372 hv) cw_code q5082 q379 (in_Vk X (As := [iv x5_372]) kX25 k388 (Or.inl q5079) q5081 qs337 cw_code q5082 ⟨by decide, by decide⟩ rfl (dl_at t_X25_place 230 rfl)) (dl_at t_X25_place 230 rfl) (cat24 (st := [iv (h_374 (h_374 (h_374 a0 0) 2) 4)]) (Nat.le_of_ble_eq_true rfl)) (Nat.le_of_ble_eq_true rfl) (Nat.le_of_ble_eq_true rfl) fun v413 g413 => ?_
          refine g_iadd (pc := 416) X g409 g413 (dl_at t_X25_place 231 rfl) ?_
          refine g_i2l (pc := 417) X (r32_w _) (dl_at t_X25_place 232 rfl) ?_
          refine g_ltl (r64_of (r32_w _)) fun x7_418 r7_418 => ?_
          refine g_lstoreN (pc := 418) X (i := 7) (x := x7_418) (b := 6) (w := iv x6_391) (rest := [(5, iv x5_372), (0, rv D a0), (3, iv x3_374), (4, iv x4_374)]) (Nat.le_of_ble_eq_true rfl) [1, 2, 3, 4, 5] rfl (by decide) (by decide) rfl rfl (dl_at t_X25_place 233 rfl) ?_
          refine g_iconst (pc := 420) X (n := 1) (dl_at t_X25_place 234 rfl) ?_
          refine g_ltz (Or.inr rfl) fun x9_421 r9_421 => ?_
          refine g_istore (pc := 421) X (i := 9) (x := x9_421) (rest := [(7, jv x7_418), (6, iv x6_391), (5, iv x5_372), (0, rv D a0), (3, iv x3_374), (4, iv x4_374)]) (Nat.le_of_ble_eq_true rfl) [0, 1, 2, 3, 4, 5] rfl rfl (dl_at t_X25_place 235 rfl) ?_
          refine g_ls (ls2 := [(0, rv D a0), (3, iv x3_374), (4, iv x4_374), (5, iv x5_372), (6, iv x6_391), (7, jv x7_418), (9, iv x9_421)]) [4, 5, 6, 3, 2, 1, 0] rfl ?_
          refine g_loop1 (fun (q : Int × Int) => [(0, rv D a0), (3, iv x3_374), (4, iv x4_374), (5, iv x5_372), (6, iv x6_391), (7, jv q.1), (9, iv q.2)]) (fun (q : Int × Int) => h_374) (fun (q : Int × Int) => r64 q.1 ∧ r32 q.2) 472 (fun (y472 : Int × Int) => [(0, rv D a0), (3, iv x3_374), (4, iv x4_374), (5, iv x5_372), (6, iv x6_391), (7, jv y472.1), (9, iv y472.2)]) (fun (y472 : Int × Int) => h_374) (fun (y472 : Int × Int) => r64 y472.1 ∧ r32 y472.2) (x7_418, x9_421) ⟨r7_418, (r32_z r9_421)⟩ ?_ ?_
          · rintro ⟨x7_423, x9_423⟩ ⟨r7_423, r9_423⟩
            try dsimp only
            unfold m_X25_place_l423
            refine g_iload (pc := 423) X (i := 9) (q := 6) (x := x9_423) rfl (dl_at t_X25_place 236 rfl) ?_
            refine g_iload (pc := 425) X (i := 4) (q := 2) (x := x4_374) rfl (dl_at t_X25_place 237 rfl) ?_
            refine g_icmpge (pc := 427) X r9_423 r4_374 (off := 45) (tgt := 472) rfl (dl_at t_X25_place 238 rfl) (fun _ => ?_) (fun _ => ?_)
            · exact g_at fun Q hQ => hQ ⟨r7_423, r9_423⟩
            refine g_lload (pc := 430) X (i := 7) (q := 5) (x := x7_423) rfl (dl_at t_X25_place 239 rfl) ?_
            refine g_aload_n (pc := 432) X (j := 0) (i := 0) (q := 0) (x := a0) rfl rfl (dl_at t_X25_place 240 rfl) ?_
            refine g_iload (pc := 433) X (i := 5) (q := 3) (x := x5_372) rfl (dl_at t_X25_place 241 rfl) ?_
            refine r_callRi (pc := 435) X (fun _ hv => s_X25_leadOf k388 r5_372 hv) cw_code q5082 q379 (in_Vk X (As := [iv x5_372]) kX25 k388 (Or.inl q5079) q5081 qs337 cw_code q5082 ⟨by decide, by decide⟩ rfl (dl_at t_X25_place 242 rfl)) (dl_at t_X25_place 242 rfl) (cat24 (st := [jv x7_423]) (Nat.le_of_ble_eq_true rfl)) (Nat.le_of_ble_eq_true rfl) (Nat.le_of_ble_eq_true rfl) fun v435 g435 => ?_
            refine g_i2l (pc := 438) X g435 (dl_at t_X25_place 243 rfl) ?_
            refine g_ladd (pc := 439) X r7_423 (r64_of g435) (dl_at t_X25_place 244 rfl) ?_
            refine g_aload_n (pc := 440) X (j := 0) (i := 0) (q := 0) (x := a0) rfl rfl (dl_at t_X25_place 245 rfl) ?_
            refine r_getr (pc := 441) X fX25_0 k388 q3761 (dl_at t_X25_place 246 rfl) ?_
            refine r_getr (pc := 444) X fX24_2 k405 q3647 (dl_at t_X25_place 247 rfl) ?_
            refine g_iconst (pc := 447) X (n := 1) (dl_at t_X25_place 248 rfl) ?_
            refine g_gd fun k448 => ?_
            refine g_iald (pc := 448) X (r32_c rfl) k448 (dl_at t_X25_place 249 rfl) fun g448 => ?_
            refine g_i2l (pc := 449) X g448 (dl_at t_X25_place 250 rfl) ?_
            refine g_lcmp (pc := 450) X (r64_w _) (r64_of g448) (dl_at t_X25_place 251 rfl) ?_
            refine g_ifgt (pc := 451) X (r32_lcmp _ _) (off := 21) (tgt := 472) rfl (dl_at t_X25_place 252 rfl) (fun _ => ?_) (fun _ => ?_)
            · exact g_at fun Q hQ => hQ ⟨r7_423, r9_423⟩
            refine r_iinc (pc := 454) X (i := 9) (q := 6) (n := 1) (x := x9_423) (rest := [(0, rv D a0), (3, iv x3_374), (4, iv x4_374), (5, iv x5_372), (6, iv x6_391), (7, jv x7_423)]) rfl r9_423 (r32_c rfl) (Nat.le_of_ble_eq_true rfl) [0, 1, 2, 3, 4, 5] rfl rfl (dl_at t_X25_place 253 rfl) fun x9_454 r9_454 => ?_
            refine g_lload (pc := 457) X (i := 7) (q := 6) (x := x7_423) rfl (dl_at t_X25_place 254 rfl) ?_
            refine g_aload_n (pc := 459) X (j := 0) (i := 0) (q := 1) (x := a0) rfl rfl (dl_at t_X25_place 255 rfl) ?_
            refine g_iload (pc := 460) X (i := 5) (q := 4) (x := x5_372) rfl (dl_at t_X25_place 256 rfl) ?_
            refine r_callRi (pc := 462) X (fun _ hv => s_X25_leadOf k388 r5_372 hv) cw_code q5082 q379 (in_Vk X (As := [iv x5_372]) kX25 k388 (Or.inl q5079) q5081 qs337 cw_code q5082 ⟨by decide, by decide⟩ rfl (dl_at t_X25_place 257 rfl)) (dl_at t_X25_place 257 rfl) (cat24 (st := [jv x7_423]) (Nat.le_of_ble_eq_true rfl)) (Nat.le_of_ble_eq_true rfl) (Nat.le_of_ble_eq_true rfl) fun v462 g462 => ?_
            refine g_i2l (pc := 465) X g462 (dl_at t_X25_place 258 rfl) ?_
            refine g_ladd (pc := 466) X r7_423 (r64_of g462) (dl_at t_X25_place 259 rfl) ?_
            refine g_ltl (r64_w _) fun x7_467 r7_467 => ?_
            refine g_lstoreN (pc := 467) X (i := 7) (x := x7_467) (b := 6) (w := iv x6_391) (rest := [(9, iv x9_454), (0, rv D a0), (3, iv x3_374), (4, iv x4_374), (5, iv x5_372)]) (Nat.le_of_ble_eq_true rfl) [5, 0, 1, 2, 3, 4] rfl (by decide) (by decide) rfl rfl (dl_at t_X25_place 260 rfl) ?_
            refine g_goto (pc := 469) X (off := (-46)) (tgt := 423) rfl (dl_at t_X25_place 261 rfl) ?_
            refine g_ls (ls2 := [(0, rv D a0), (3, iv x3_374), (4, iv x4_374), (5, iv x5_372), (6, iv x6_391), (7, jv x7_467), (9, iv x9_454)]) [3, 4, 5, 6, 1, 0, 2] rfl ?_
            exact g_at fun Q hQ => hQ ⟨r7_467, r9_454⟩
          · rintro ⟨x7_472, x9_472⟩ ⟨r7_472, r9_472⟩
            try dsimp only [sE]
            refine g_aload_n (pc := 472) X (j := 0) (i := 0) (q := 0) (x := a0) rfl rfl (dl_at t_X25_place 262 rfl) ?_
            refine g_iload (pc := 473) X (i := 5) (q := 3) (x := x5_372) rfl (dl_at t_X25_place 263 rfl) ?_
            refine g_aload_n (pc := 475) X (j := 0) (i := 0) (q := 0) (x := a0) rfl rfl (dl_at t_X25_place 264 rfl) ?_
            refine g_iload (pc := 476) X (i := 5) (q := 3) (x := x5_372) rfl (dl_at t_X25_place 265 rfl) ?_
            refine r_callRi (pc := 478) X (fun _ hv => s_X25_linesOf k388 r5_372 hv) cw_code q5086 q379 (in_Vk X (As := [iv x5_372]) kX25 k388 (Or.inl q5083) q5085 qs338 cw_code q5086 ⟨by decide, by decide⟩ rfl (dl_at t_X25_place 266 rfl)) (dl_at t_X25_place 266 rfl) (cat24 (st := [iv x5_372, rv D a0]) (Nat.le_of_ble_eq_true rfl)) (Nat.le_of_ble_eq_true rfl) (Nat.le_of_ble_eq_true rfl) fun v478 g478 => ?_
            refine g_iload (pc := 481) X (i := 4) (q := 2) (x := x4_374) rfl (dl_at t_X25_place 267 rfl) ?_
            refine g_isub (pc := 483) X g478 r4_374 (dl_at t_X25_place 268 rfl) ?_
            refine g_aload_n (pc := 484) X (j := 0) (i := 0) (q := 0) (x := a0) rfl rfl (dl_at t_X25_place 269 rfl) ?_
            refine g_iload (pc := 485) X (i := 5) (q := 3) (x := x5_372) rfl (dl_at t_X25_place 270 rfl) ?_
            refine r_callRi (pc := 487) X (fun _ hv => s_X25_linesOf k388 r5_372 hv) cw_code q5086 q379 (in_Vk X (As := [iv x5_372]) kX25 k388 (Or.inl q5083) q5085 qs338 cw_code q5086 ⟨by decide, by decide⟩ rfl (dl_at t_X25_place 271 rfl)) (dl_at t_X25_place 271 rfl) (cat24 (st := [iv (w32 (v478 - x4_374)), iv x5_372, rv D a0]) (Nat.le_of_ble_eq_true rfl)) (Nat.le_of_ble_eq_true rfl) (Nat.le_of_ble_eq_true rfl) fun v487 g487 => ?_
            refine g_iload (pc := 490) X (i := 4) (q := 2) (x := x4_374) rfl (dl_at t_X25_place 272 rfl) ?_
            refine g_isub (pc := 492) X g487 r4_374 (dl_at t_X25_place 273 rfl) ?_
            refine g_iload (pc := 493) X (i := 9) (q := 6) (x := x9_472) rfl (dl_at t_X25_place 274 rfl) ?_
            refine g_iadd (pc := 495) X (r32_w _) r9_472 (dl_at t_X25_place 275 rfl) ?_
            refine r_callV (pc := 496) X (fun _ hv => s_X25_piece k388 r5_372 (r32_w _) (r32_w _) hv) cw_code q5113 q379 (in_Vk X (As := [iv x5_372, iv (w32 (v478 - x4_374)), iv (w32 ((w32 (v487 - x4_374)) + x9_472))]) kX25 k388 (Or.inl q5110) q5112 qs343 cw_code q5113 ⟨by decide, by decide⟩ rfl (dl_at t_X25_place 276 rfl)) (dl_at t_X25_place 276 rfl) (cat24 (st := []) (Nat.le_of_ble_eq_true rfl)) (Nat.le_of_ble_eq_true rfl) (Nat.le_of_ble_eq_true rfl) fun h496 E496 => ?_
            refine g_iload (pc := 499) X (i := 4) (q := 2) (x := x4_374) rfl (dl_at t_X25_place 277 rfl) ?_
            refine g_iload (pc := 501) X (i := 9) (q := 6) (x := x9_472) rfl (dl_at t_X25_place 278 rfl) ?_
            refine g_isub (pc := 503) X r4_374 r9_472 (dl_at t_X25_place 279 rfl) ?_
            refine g_lti (r32_w _) fun x4_504 r4_504 => ?_
            refine g_istoreN (pc := 504) X (i := 4) (x := x4_504) (b := 3) (w := iv x3_374) (rest := [(0, rv D a0), (5, iv x5_372), (6, iv x6_391), (7, jv x7_472)]) (Nat.le_of_ble_eq_true rfl) [1, 0, 3, 4, 5] rfl (by decide) rfl rfl (dl_at t_X25_place 280 rfl) ?_
            refine g_ls (ls2 := [(0, rv D a0), (3, iv x3_374), (4, iv x4_504), (5, iv x5_372), (6, iv x6_391), (7, jv x7_472)]) [2, 1, 0, 3, 4, 5] rfl ?_
            exact J506 (x4_504, x7_472, h496) ⟨r4_504, r7_472, E496⟩
        intro J387
        refine g_ifgt (pc := 376) X r4_374 (off := 11) (tgt := 387) rfl (dl_at t_X25_place 211 rfl) (fun _ => ?_) (fun _ => ?_)
        · exact J387 () trivial
        refine g_iload_n (pc := 379) X (j := 3) (i := 3) (q := 1) (x := x3_374) rfl rfl (dl_at t_X25_place 212 rfl) ?_
        refine g_aload_n (pc := 380) X (j := 0) (i := 0) (q := 0) (x := a0) rfl rfl (dl_at t_X25_place 213 rfl) ?_
        have k381 := kx E_374 (by decide) k360
        refine r_geti (pc := 381) X fX25_54 k381 q3840 (dl_at t_X25_place 214 rfl) fun g381 => ?_
        refine g_icmpge (pc := 384) X r3_374 g381 (off := 212) (tgt := 596) rfl (dl_at t_X25_place 215 rfl) (fun _ => ?_) (fun _ => ?_)
        · exact g_at fun Q hQ => (g_vret (pc := 596) X (v := 0) rfl rfl (dl_at t_X25_place 331 rfl)) _ Q rfl hQ
        exact J387 () trivial
def k_X25_layOut : List (Nat × Instr × Nat) := [(0, .aload_n 0, 1), (1, .iconst 0, 1), (2, .putfield 832, 3), (5, .aload_n 0, 1), (6, .iconst 0, 1), (7, .putfield 835, 3), (10, .aload_n 0, 1), (11, .iconst 0, 1), (12, .putfield 793, 3), (15, .aload_n 0, 1), (16, .getfield 783, 3), (19, .ifCond .ne 4, 3), (22, .return_, 1), (23, .aload_n 0, 1), (24, .getfield 295, 3), (27, .iconst 0, 1), (28, .lconst 0, 1), (29, .lastore, 1), (30, .iconst 0, 1), (31, .istore_n 1, 1), (32, .iload_n 1, 1), (33, .aload_n 0, 1), (34, .getfield 783, 3), (37, .if_icmp .ge 135, 3), (40, .aload_n 0, 1), (41, .getfield 295, 3), (44, .iload_n 1, 1), (45, .iconst 1, 1), (46, .iadd, 1), (47, .aload_n 0, 1), (48, .getfield 295, 3), (51, .iload_n 1, 1), (52, .laload, 1), (53, .aload_n 0, 1), (54, .getfield 136, 3), (57, .iload_n 1, 1), (58, .iaload, 1), (59, .i2l, 1), (60, .ladd, 1), (61, .aload_n 0, 1), (62, .getfield 133, 3), (65, .iload_n 1, 1), (66, .iaload, 1), (67, .i2l, 1), (68, .ladd, 1), (69, .lastore, 1), (70, .iload_n 1, 1), (71, .ifCond .ne 7, 3), (74, .iconst 0, 1), (75, .goto 11, 3), (78, .aload_n 0, 1), (79, .getfield 298, 3), (82, .iload_n 1, 1), (83, .iconst 1, 1), (84, .isub, 1), (85, .iaload, 1), (86, .istore_n 2, 1), (87, .iload_n 2, 1), (88, .aload_n 0, 1), (89, .getfield 592, 3), (92, .if_icmp .ge 19, 3), (95, .aload_n 0, 1), (96, .getfield 157, 3), (99, .iload_n 2, 1), (100, .iaload, 1), (101, .iload_n 1, 1), (102, .if_icmp .gt 9, 3), (105, .iinc 2 1, 3), (108, .goto (-21), 3), (111, .aload_n 0, 1), (112, .getfield 298, 3), (115, .iload_n 1, 1), (116, .iload_n 2, 1), (117, .iastore, 1), (118, .iload_n 1, 1), (119, .ifCond .ne 7, 3), (122, .iconst 0, 1), (123, .goto 11, 3), (126, .aload_n 0, 1), (127, .getfield 301, 3), (130, .iload_n 1, 1), (131, .iconst 1, 1), (132, .isub, 1), (133, .iaload, 1), (134, .istore_n 2, 1), (135, .iload_n 2, 1), (136, .aload_n 0, 1), (137, .getfield 595, 3), (140, .if_icmp .ge 19, 3), (143, .aload_n 0, 1), (144, .getfield 172, 3), (147, .iload_n 2, 1), (148, .iaload, 1), (149, .iload_n 1, 1), (150, .if_icmp .gt 9, 3), (153, .iinc 2 1, 3), (156, .goto (-21), 3), (159, .aload_n 0, 1), (160, .getfield 301, 3), (163, .iload_n 1, 1), (164, .iload_n 2, 1), (165, .iastore, 1), (166, .iinc 1 1, 3), (169, .goto (-137), 3), (172, .iconst 0, 1), (173, .istore_n 1, 1), (174, .iload_n 1, 1), (175, .aload_n 0, 1), (176, .getfield 783, 3), (179, .if_icmp .gt 16, 3), (182, .aload_n 0, 1), (183, .getfield 304, 3), (186, .iload_n 1, 1), (187, .iconst (-1), 1), (188, .iastore, 1), (189, .iinc 1 1, 3), (192, .goto (-18), 3), (195, .aload_n 0, 1), (196, .getfield 14, 3), (199, .getfield 489, 3), (202, .iconst 1, 1), (203, .iaload, 1), (204, .i2l, 1), (205, .lstore_n 1, 1), (206, .aload_n 0, 1), (207, .iconst 0, 1), (208, .iconst 0, 1), (209, .iconst 0, 1), (210, .lconst 0, 1), (211, .iconst (-1), 1), (212, .invokevirtual 828, 3), (215, .pop, 1), (216, .iconst 0, 1), (217, .istore_n 3, 1), (218, .iload_n 3, 1), (219, .aload_n 0, 1), (220, .getfield 783, 3), (223, .if_icmp .ge 208, 3), (226, .aload_n 0, 1), (227, .getfield 304, 3), (230, .iload_n 3, 1), (231, .iaload, 1), (232, .istore 4, 2), (234, .iload 4, 2), (236, .ifCond .lt 189, 3), (239, .iload_n 3, 1), (240, .istore 5, 2), (242, .iload 5, 2), (244, .aload_n 0, 1), (245, .getfield 783, 3), (248, .if_icmp .ge 165, 3), (251, .aload_n 0, 1), (252, .getfield 295, 3), (255, .iload 5, 2), (257, .iconst 1, 1), (258, .iadd, 1), (259, .laload, 1), (260, .aload_n 0, 1), (261, .getfield 295, 3), (264, .iload_n 3, 1), (265, .laload, 1), (266, .lsub, 1), (267, .aload_n 0, 1), (268, .getfield 136, 3), (271, .iload_n 3, 1), (272, .iaload, 1), (273, .i2l, 1), (274, .lsub, 1), (275, .lload_n 1, 1), (276, .lcmp, 1), (277, .ifCond .gt 136, 3), (280, .aload_n 0, 1), (281, .getfield 148, 3), (284, .iload 5, 2), (286, .baload, 1), (287, .ifCond .eq 120, 3), (290, .aload_n 0, 1), (291, .iload 4, 2), (293, .iload 5, 2), (295, .invokevirtual 838, 3), (298, .ifCond .ne 6, 3), (301, .goto 106, 3), (304, .ldc2_w 733, 3), (307, .lload_n 1, 1), (308, .aload_n 0, 1), (309, .getfield 822, 3), (312, .lsub, 1), (313, .lmul, 1), (314, .lload_n 1, 1), (315, .ldiv, 1), (316, .lstore 6, 2), (318, .aload_n 0, 1), (319, .getfield 130, 3), (322, .iload 5, 2), (324, .iaload, 1), (325, .ifCond .ge 28, 3), (328, .aload_n 0, 1), (329, .aload_n 0, 1), (330, .getfield 124, 3), (333, .iload 5, 2), (335, .iaload, 1), (336, .aload_n 0, 1), (337, .getfield 127, 3), (340, .iload 5, 2), (342, .iaload, 1), (343, .invokevirtual 841, 3), (346, .ifCond .eq 7, 3), (349, .iconst 1, 1), (350, .goto 4, 3), (353, .iconst 0, 1), (354, .istore 8, 2), (356, .aload_n 0, 1), (357, .iload 4, 2), (359, .iload 5, 2), (361, .iconst 1, 1), (362, .iadd, 1), (363, .aload_n 0, 1), (364, .getfield 322, 3), (367, .iload 4, 2), (369, .laload, 1), (370, .iload 5, 2), (372, .aload_n 0, 1), (373, .getfield 783, 3), (376, .iconst 1, 1), (377, .isub, 1), (378, .if_icmp .ne 7, 3), (381, .lconst 0, 1), (382, .goto 21, 3), (385, .lload 6, 2), (387, .lload 6, 2), (389, .lmul, 1), (390, .iload 8, 2), (392, .ifCond .eq 9, 3), (395, .ldc2_w 844, 3), (398, .goto 4, 3), (401, .lconst 0, 1), (402, .ladd, 1), (403, .ladd, 1), (404, .invokevirtual 846, 3), (407, .iinc 5 1, 3), (410, .goto (-168), 3), (413, .aload_n 0, 1), (414, .getfield 319, 3), (417, .iload 4, 2), (419, .iaload, 1), (420, .istore 4, 2), (422, .goto (-188), 3), (425, .iinc 3 1, 3), (428, .goto (-210), 3), (431, .iconst (-1), 1), (432, .istore_n 3, 1), (433, .aload_n 0, 1), (434, .getfield 304, 3), (437, .aload_n 0, 1), (438, .getfield 783, 3), (441, .iaload, 1), (442, .istore 4, 2), (444, .iload 4, 2), (446, .ifCond .lt 66, 3), (449, .iload_n 3, 1), (450, .ifCond .lt 47, 3), (453, .aload_n 0, 1), (454, .getfield 322, 3), (457, .iload 4, 2), (459, .laload, 1), (460, .aload_n 0, 1), (461, .getfield 322, 3), (464, .iload_n 3, 1), (465, .laload, 1), (466, .lcmp, 1), (467, .ifCond .lt 30, 3), (470, .aload_n 0, 1), (471, .getfield 322, 3), (474, .iload 4, 2), (476, .laload, 1), (477, .aload_n 0, 1), (478, .getfield 322, 3), (481, .iload_n 3, 1), (482, .laload, 1), (483, .lcmp, 1), (484, .ifCond .ne 16, 3), (487, .aload_n 0, 1), (488, .iload 4, 2), (490, .iload_n 3, 1), (491, .invokevirtual 825, 3), (494, .ifCond .eq 6, 3), (497, .iload 4, 2), (499, .istore_n 3, 1), (500, .aload_n 0, 1), (501, .getfield 319, 3), (504, .iload 4, 2), (506, .iaload, 1), (507, .istore 4, 2), (509, .goto (-65), 3), (512, .iload_n 3, 1), (513, .ifCond .ge 11, 3), (516, .new 850, 3), (519, .dup, 1), (520, .invokespecial 852, 3), (523, .athrow, 1), (524, .aload_n 0, 1), (525, .iload_n 3, 1), (526, .invokevirtual 853, 3), (529, .return_, 1)]
theorem t_X25_layOut : ∀ q ∈ k_X25_layOut, decode cX25_layOut q.1 = .ok q.2 := dl_all (by decide +kernel)
noncomputable def m_X25_layOut_l87 (a0 x1_32 x2_87 : Int) (h69 : Hp) : Option ((Int) ⊕ ((Int))) :=
  if (h69 a0 53) ≤ x2_87 then (some (.inr x2_87))
  else (gd (h69 (h69 a0 56) (-2) % 16 = 1 ∧ (0 : Int) ≤ x2_87 ∧ x2_87 < h69 (h69 a0 56) (-1)) (if x1_32 < (h69 (h69 a0 56) x2_87) then (some (.inr x2_87))
  else (lt_ (w32 (x2_87 + 1)) fun x2_105 =>
  some (.inl x2_105))))
noncomputable def m_X25_layOut_l135 (a0 x1_32 x2_135 : Int) (h117 : Hp) : Option ((Int) ⊕ ((Int))) :=
  if (h117 a0 54) ≤ x2_135 then (some (.inr x2_135))
  else (gd (h117 (h117 a0 61) (-2) % 16 = 1 ∧ (0 : Int) ≤ x2_135 ∧ x2_135 < h117 (h117 a0 61) (-1)) (if x1_32 < (h117 (h117 a0 61) x2_135) then (some (.inr x2_135))
  else (lt_ (w32 (x2_135 + 1)) fun x2_153 =>
  some (.inl x2_153))))
noncomputable def m_X25_layOut_j134 (a0 x1_32 s0_134 : Int) (h117 : Hp) : Option ((Int × Hp) ⊕ ((Hp))) :=
  (lp (fun (q : Int) => m_X25_layOut_l135 a0 x1_32 q h117) s0_134).bind (fun (y159 : Int) => gd (h117 (h117 a0 124) (-2) % 16 = 1 ∧ (0 : Int) ≤ x1_32 ∧ x1_32 < h117 (h117 a0 124) (-1)) (pt h117 (h117 a0 124) x1_32 y159 fun h165 =>
  lt_ (w32 (x1_32 + 1)) fun x1_166 =>
  some (.inl (x1_166, h165))))
noncomputable def m_X25_layOut_j86 (a0 x1_32 s0_86 : Int) (h69 : Hp) : Option ((Int × Hp) ⊕ ((Hp))) :=
  (lp (fun (q : Int) => m_X25_layOut_l87 a0 x1_32 q h69) s0_86).bind (fun (y111 : Int) => gd (h69 (h69 a0 123) (-2) % 16 = 1 ∧ (0 : Int) ≤ x1_32 ∧ x1_32 < h69 (h69 a0 123) (-1)) (pt h69 (h69 a0 123) x1_32 y111 fun h117 =>
  if x1_32 ≠ 0 then (gd (h117 (h117 a0 124) (-2) % 16 = 1 ∧ (0 : Int) ≤ (w32 (x1_32 - 1)) ∧ (w32 (x1_32 - 1)) < h117 (h117 a0 124) (-1)) (m_X25_layOut_j134 a0 x1_32 (h117 (h117 a0 124) (w32 (x1_32 - 1))) h117))
  else (m_X25_layOut_j134 a0 x1_32 0 h117)))
noncomputable def m_X25_layOut_l32 (a0 x1_32 : Int) (h_32 : Hp) : Option ((Int × Hp) ⊕ ((Hp))) :=
  if (h_32 a0 42) ≤ x1_32 then (some (.inr h_32))
  else (gd (h_32 (h_32 a0 122) (-2) % 16 = 4 ∧ (0 : Int) ≤ x1_32 ∧ x1_32 < h_32 (h_32 a0 122) (-1)) (gd (h_32 (h_32 a0 47) (-2) % 16 = 1 ∧ (0 : Int) ≤ x1_32 ∧ x1_32 < h_32 (h_32 a0 47) (-1)) (gd (h_32 (h_32 a0 46) (-2) % 16 = 1 ∧ (0 : Int) ≤ x1_32 ∧ x1_32 < h_32 (h_32 a0 46) (-1)) (gd (h_32 (h_32 a0 122) (-2) % 16 = 4 ∧ (0 : Int) ≤ (w32 (x1_32 + 1)) ∧ (w32 (x1_32 + 1)) < h_32 (h_32 a0 122) (-1)) (pt h_32 (h_32 a0 122) (w32 (x1_32 + 1)) (w64 ((w64 ((h_32 (h_32 a0 122) x1_32) + (h_32 (h_32 a0 47) x1_32))) + (h_32 (h_32 a0 46) x1_32))) fun h69 =>
  if x1_32 ≠ 0 then (gd (h69 (h69 a0 123) (-2) % 16 = 1 ∧ (0 : Int) ≤ (w32 (x1_32 - 1)) ∧ (w32 (x1_32 - 1)) < h69 (h69 a0 123) (-1)) (m_X25_layOut_j86 a0 x1_32 (h69 (h69 a0 123) (w32 (x1_32 - 1))) h69))
  else (m_X25_layOut_j86 a0 x1_32 0 h69))))))
noncomputable def m_X25_layOut_l174 (a0 x1_174 : Int) (h_174 : Hp) : Option ((Int × Hp) ⊕ ((Hp))) :=
  if (h_174 a0 42) < x1_174 then (some (.inr h_174))
  else (gd (h_174 (h_174 a0 125) (-2) % 16 = 1 ∧ (0 : Int) ≤ x1_174 ∧ x1_174 < h_174 (h_174 a0 125) (-1)) (pt h_174 (h_174 a0 125) x1_174 (-1) fun h188 =>
  lt_ (w32 (x1_174 + 1)) fun x1_189 =>
  some (.inl (x1_189, h188))))
noncomputable def m_X25_layOut_j407 (x5_242 : Int) (h_407 : Hp) : Option ((Int × Hp) ⊕ ((Hp) ⊕ (((Int × Hp) ⊕ ((Hp) ⊕ (((Int × Hp) ⊕ ((Hp) ⊕ (((Int × Int) × Hp)))))))))) :=
  lt_ (w32 (x5_242 + 1)) fun x5_407 =>
  some (.inl (x5_407, h_407))
noncomputable def m_X25_layOut_j403 (a0 x4_234 x5_242 s2_403 s3_403 s4_403 : Int) (h295 : Hp) : Option ((Int × Hp) ⊕ ((Hp) ⊕ (((Int × Hp) ⊕ ((Hp) ⊕ (((Int × Hp) ⊕ ((Hp) ⊕ (((Int × Int) × Hp)))))))))) :=
  bT (m_X25_relax a0 x4_234 s2_403 (w64 (s3_403 + s4_403)) h295) (fun _ h404 =>
  m_X25_layOut_j407 x5_242 h404) (fun a_ h_ => some (.inr (.inr (.inr (.inr (.inr (.inr ((1, a_), h_))))))))
noncomputable def m_X25_layOut_j402 (a0 x4_234 x5_242 s2_402 s3_402 s4_402 s5_402 : Int) (h295 : Hp) : Option ((Int × Hp) ⊕ ((Hp) ⊕ (((Int × Hp) ⊕ ((Hp) ⊕ (((Int × Hp) ⊕ ((Hp) ⊕ (((Int × Int) × Hp)))))))))) :=
  m_X25_layOut_j403 a0 x4_234 x5_242 s2_402 s3_402 (w64 (s4_402 + s5_402)) h295
noncomputable def m_X25_layOut_j354 (x6_316 x5_242 a0 x4_234 s0_354 : Int) (h295 : Hp) : Option ((Int × Hp) ⊕ ((Hp) ⊕ (((Int × Hp) ⊕ ((Hp) ⊕ (((Int × Hp) ⊕ ((Hp) ⊕ (((Int × Int) × Hp)))))))))) :=
  gd (h295 (h295 a0 132) (-2) % 16 = 4 ∧ (0 : Int) ≤ x4_234 ∧ x4_234 < h295 (h295 a0 132) (-1)) (if x5_242 ≠ (w32 ((h295 a0 42) - 1)) then (if s0_354 = 0 then (m_X25_layOut_j402 a0 x4_234 x5_242 (w32 (x5_242 + 1)) (h295 (h295 a0 132) x4_234) (w64 (x6_316 * x6_316)) 0 h295)
  else (m_X25_layOut_j402 a0 x4_234 x5_242 (w32 (x5_242 + 1)) (h295 (h295 a0 132) x4_234) (w64 (x6_316 * x6_316)) 400 h295))
  else (m_X25_layOut_j403 a0 x4_234 x5_242 (w32 (x5_242 + 1)) (h295 (h295 a0 132) x4_234) 0 h295))
noncomputable def m_X25_layOut_j353 (x6_316 x5_242 a0 x4_234 : Int) (h295 : Hp) : Option ((Int × Hp) ⊕ ((Hp) ⊕ (((Int × Hp) ⊕ ((Hp) ⊕ (((Int × Hp) ⊕ ((Hp) ⊕ (((Int × Int) × Hp)))))))))) :=
  m_X25_layOut_j354 x6_316 x5_242 a0 x4_234 0 h295
noncomputable def m_X25_layOut_l242 (a0 x1_205 x3_218 x4_234 x5_242 : Int) (h_242 : Hp) : Option ((Int × Hp) ⊕ ((Hp) ⊕ (((Int × Hp) ⊕ ((Hp) ⊕ (((Int × Hp) ⊕ ((Hp) ⊕ (((Int × Int) × Hp)))))))))) :=
  if (h_242 a0 42) ≤ x5_242 then (some (.inr (.inl h_242)))
  else (gd (h_242 (h_242 a0 122) (-2) % 16 = 4 ∧ (0 : Int) ≤ (w32 (x5_242 + 1)) ∧ (w32 (x5_242 + 1)) < h_242 (h_242 a0 122) (-1)) (gd (h_242 (h_242 a0 122) (-2) % 16 = 4 ∧ (0 : Int) ≤ x3_218 ∧ x3_218 < h_242 (h_242 a0 122) (-1)) (gd (h_242 (h_242 a0 47) (-2) % 16 = 1 ∧ (0 : Int) ≤ x3_218 ∧ x3_218 < h_242 (h_242 a0 47) (-1)) (if 0 < (lcmp_ (w64 ((w64 ((h_242 (h_242 a0 122) (w32 (x5_242 + 1))) - (h_242 (h_242 a0 122) x3_218))) - (h_242 (h_242 a0 47) x3_218))) x1_205) then (some (.inr (.inl h_242)))
  else (gd (h_242 (h_242 a0 51) (-2) % 16 = 3 ∧ (0 : Int) ≤ x5_242 ∧ x5_242 < h_242 (h_242 a0 51) (-1)) (if (h_242 (h_242 a0 51) x5_242) = 0 then (m_X25_layOut_j407 x5_242 h_242)
  else (bW (m_X25_fits a0 x4_234 x5_242 h_242) fun v295 h295 =>
  if v295 ≠ 0 then (gd (x1_205 ≠ 0) (lt_ (w64 (Int.tdiv (w64 (100 * (w64 (x1_205 - (h295 a0 137))))) x1_205)) fun x6_316 =>
  gd (h295 (h295 a0 45) (-2) % 16 = 1 ∧ (0 : Int) ≤ x5_242 ∧ x5_242 < h295 (h295 a0 45) (-1)) (if 0 ≤ (h295 (h295 a0 45) x5_242) then (m_X25_layOut_j353 x6_316 x5_242 a0 x4_234 h295)
  else (gd (h295 (h295 a0 43) (-2) % 16 = 1 ∧ (0 : Int) ≤ x5_242 ∧ x5_242 < h295 (h295 a0 43) (-1)) (gd (h295 (h295 a0 44) (-2) % 16 = 1 ∧ (0 : Int) ≤ x5_242 ∧ x5_242 < h295 (h295 a0 44) (-1)) ((m_X25_endsHyphen a0 (h295 (h295 a0 43) x5_242) (h295 (h295 a0 44) x5_242) h295).bind fun v343 =>
  if v343 = 0 then (m_X25_layOut_j353 x6_316 x5_242 a0 x4_234 h295)
  else (m_X25_layOut_j354 x6_316 x5_242 a0 x4_234 1 h295)))))))
  else (m_X25_layOut_j407 x5_242 h295))))))))
noncomputable def m_X25_layOut_l234 (a0 x1_205 x3_218 x4_234 : Int) (h_234 : Hp) : Option ((Int × Hp) ⊕ ((Hp) ⊕ (((Int × Hp) ⊕ ((Hp) ⊕ (((Int × Int) × Hp))))))) :=
  if x4_234 < 0 then (some (.inr (.inl h_234)))
  else ((lp (fun (q : Int × Hp) => m_X25_layOut_l242 a0 x1_205 x3_218 x4_234 q.1 q.2) (x3_218, h_234)).bind (sE (fun (y413 : Hp) => gd (y413 (y413 a0 131) (-2) % 16 = 1 ∧ (0 : Int) ≤ x4_234 ∧ x4_234 < y413 (y413 a0 131) (-1)) (lt_ (y413 (y413 a0 131) x4_234) fun x4_420 =>
  some (.inl (x4_420, y413)))) (fun (x : (Int × Hp) ⊕ ((Hp) ⊕ (((Int × Hp) ⊕ ((Hp) ⊕ (((Int × Int) × Hp))))))) => some x)))
noncomputable def m_X25_layOut_l218 (a0 x1_205 x3_218 : Int) (h_218 : Hp) : Option ((Int × Hp) ⊕ ((Hp) ⊕ (((Int × Int) × Hp)))) :=
  if (h_218 a0 42) ≤ x3_218 then (some (.inr (.inl h_218)))
  else (gd (h_218 (h_218 a0 125) (-2) % 16 = 1 ∧ (0 : Int) ≤ x3_218 ∧ x3_218 < h_218 (h_218 a0 125) (-1)) (lt_ (h_218 (h_218 a0 125) x3_218) fun x4_232 =>
  (lp (fun (q : Int × Hp) => m_X25_layOut_l234 a0 x1_205 x3_218 q.1 q.2) (x4_232, h_218)).bind (sE (fun (y425 : Hp) => lt_ (w32 (x3_218 + 1)) fun x3_425 =>
  some (.inl (x3_425, y425))) (fun (x : (Int × Hp) ⊕ ((Hp) ⊕ (((Int × Int) × Hp)))) => some x))))
noncomputable def m_X25_layOut_j500 (a0 x4_444 x3_500 : Int) (h_431 : Hp) : Option ((Int × Int) ⊕ ((Int))) :=
  gd (h_431 (h_431 a0 131) (-2) % 16 = 1 ∧ (0 : Int) ≤ x4_444 ∧ x4_444 < h_431 (h_431 a0 131) (-1)) (lt_ (h_431 (h_431 a0 131) x4_444) fun x4_507 =>
  some (.inl (x3_500, x4_507)))
noncomputable def m_X25_layOut_j497 (a0 x4_444 : Int) (h_431 : Hp) : Option ((Int × Int) ⊕ ((Int))) :=
  m_X25_layOut_j500 a0 x4_444 x4_444 h_431
noncomputable def m_X25_layOut_l444 (a0 x3_444 x4_444 : Int) (h_431 : Hp) : Option ((Int × Int) ⊕ ((Int))) :=
  if x4_444 < 0 then (some (.inr x3_444))
  else (if x3_444 < 0 then (m_X25_layOut_j497 a0 x4_444 h_431)
  else (gd (h_431 (h_431 a0 132) (-2) % 16 = 4 ∧ (0 : Int) ≤ x4_444 ∧ x4_444 < h_431 (h_431 a0 132) (-1)) (gd (h_431 (h_431 a0 132) (-2) % 16 = 4 ∧ (0 : Int) ≤ x3_444 ∧ x3_444 < h_431 (h_431 a0 132) (-1)) (if (lcmp_ (h_431 (h_431 a0 132) x4_444) (h_431 (h_431 a0 132) x3_444)) < 0 then (m_X25_layOut_j497 a0 x4_444 h_431)
  else (if (lcmp_ (h_431 (h_431 a0 132) x4_444) (h_431 (h_431 a0 132) x3_444)) ≠ 0 then (m_X25_layOut_j500 a0 x4_444 x3_444 h_431)
  else ((m_X25_columnsFirst a0 x4_444 x3_444 h_431).bind fun v491 =>
  if v491 = 0 then (m_X25_layOut_j500 a0 x4_444 x3_444 h_431)
  else (m_X25_layOut_j497 a0 x4_444 h_431)))))))
noncomputable def m_X25_layOut (a0 : Int) (h : Hp) : Option ((Int × Int) × Hp) :=
  pt h a0 94 0 fun h2 =>
  pt h2 a0 88 0 fun h7 =>
  pt h7 a0 126 0 fun h12 =>
  if (h12 a0 42) ≠ 0 then (gd (h12 (h12 a0 122) (-2) % 16 = 4 ∧ (0 : Int) ≤ 0 ∧ 0 < h12 (h12 a0 122) (-1)) (pt h12 (h12 a0 122) 0 0 fun h29 =>
  lt_ 0 fun x1_31 =>
  (lp (fun (q : Int × Hp) => m_X25_layOut_l32 a0 q.1 q.2) (x1_31, h29)).bind (fun (y172 : Hp) => lt_ 0 fun x1_173 =>
  (lp (fun (q : Int × Hp) => m_X25_layOut_l174 a0 q.1 q.2) (x1_173, y172)).bind (fun (y195 : Hp) => gd (y195 (y195 a0 0) (-2) = 400) (gd (y195 (y195 (y195 a0 0) 2) (-2) % 16 = 1 ∧ (0 : Int) ≤ 1 ∧ 1 < y195 (y195 (y195 a0 0) 2) (-1)) (lt_ (y195 (y195 (y195 a0 0) 2) 1) fun x1_205 =>
  bT (m_X25_state a0 0 0 0 0 (-1) y195) (fun v212 h212 =>
  lt_ 0 fun x3_217 =>
  (lp (fun (q : Int × Hp) => m_X25_layOut_l218 a0 x1_205 q.1 q.2) (x3_217, h212)).bind (sE (fun (y431 : Hp) => lt_ (-1) fun x3_432 =>
  gd (y431 (y431 a0 125) (-2) % 16 = 1 ∧ (0 : Int) ≤ (y431 a0 42) ∧ (y431 a0 42) < y431 (y431 a0 125) (-1)) (lt_ (y431 (y431 a0 125) (y431 a0 42)) fun x4_442 =>
  (lp (fun (q : Int × Int) => m_X25_layOut_l444 a0 q.1 q.2 y431) (x3_432, x4_442)).bind (fun (y512 : Int) => if 0 ≤ y512 then (bT (m_X25_place a0 y512 y431) (fun _ h526 =>
  some ((0, 0), h526)) (fun a_ h_ => some ((1, a_), h_)))
  else (al y431 544 6 fun a516 h516 =>
  (x_init0 a516 h516).bind fun h520 =>
  some ((1, a516), h520))))) (fun (x : (Int × Int) × Hp) => some x))) (fun a_ h_ => some ((1, a_), h_))))))))
  else (some ((0, 0), h12))
theorem s_X25_layOut {l : Launch} [NoTr l] {D : SD} {a0 : Int} {h : Hp} (hk : h a0 (-2) = 416) {r : (Int × Int) × Hp} (hm : m_X25_layOut a0 h = some r) : Sim l D yX25_layOut (Cond.code yX25_layOut cX25_layOut 9 (Option.none : Option Jvm.ClassFile.FieldType)) 11 423 [rv D a0] h 0 r := by
  refine Sim.of (fin := fun (v : (Int × Int) × Hp) => v) (lsE := [(0, rv D a0)]) hm rfl cwS_code (la_r la_n) (ll_r ll_n) ?_
  intro p e s m below meth c X hcw hmm hcc hnm hname
  have hno := noh hcw hnm hmm hcc
  unfold m_X25_layOut
  refine g_aload_n (pc := 0) X (j := 0) (i := 0) (q := 0) (x := a0) rfl rfl (dl_at t_X25_layOut 0 rfl) ?_
  refine g_iconst (pc := 1) X (n := 0) (dl_at t_X25_layOut 1 rfl) ?_
  refine r_puti (pc := 2) X fX25_94 hk q3903 rfl (dl_at t_X25_layOut 2 rfl) (r32_c rfl) (fun h2 E2 => ?_)
  refine g_aload_n (pc := 5) X (j := 0) (i := 0) (q := 0) (x := a0) rfl rfl (dl_at t_X25_layOut 3 rfl) ?_
  refine g_iconst (pc := 6) X (n := 0) (dl_at t_X25_layOut 4 rfl) ?_
  have k7 := kx E2 (by decide) hk
  refine r_puti (pc := 7) X fX25_88 k7 q3891 rfl (dl_at t_X25_layOut 5 rfl) (r32_c rfl) (fun h7 E7 => ?_)
  refine g_aload_n (pc := 10) X (j := 0) (i := 0) (q := 0) (x := a0) rfl rfl (dl_at t_X25_layOut 6 rfl) ?_
  refine g_iconst (pc := 11) X (n := 0) (dl_at t_X25_layOut 7 rfl) ?_
  have k12 := kx E7 (by decide) k7
  refine r_puti (pc := 12) X fX25_126 k12 q3938 rfl (dl_at t_X25_layOut 8 rfl) (r32_c rfl) (fun h12 E12 => ?_)
  refine g_aload_n (pc := 15) X (j := 0) (i := 0) (q := 0) (x := a0) rfl rfl (dl_at t_X25_layOut 9 rfl) ?_
  have k16 := kx E12 (by decide) k12
  refine r_geti (pc := 16) X fX25_42 k16 q3821 (dl_at t_X25_layOut 10 rfl) fun g16 => ?_
  refine g_ifne (pc := 19) X g16 (off := 4) (tgt := 23) rfl (dl_at t_X25_layOut 11 rfl) (fun _ => ?_) (fun _ => ?_)
  · refine g_aload_n (pc := 23) X (j := 0) (i := 0) (q := 0) (x := a0) rfl rfl (dl_at t_X25_layOut 13 rfl) ?_
    refine r_getr (pc := 24) X fX25_122 k16 q3934 (dl_at t_X25_layOut 14 rfl) ?_
    refine g_iconst (pc := 27) X (n := 0) (dl_at t_X25_layOut 15 rfl) ?_
    refine g_lconst0 (pc := 28) X (dl_at t_X25_layOut 16 rfl) ?_
    refine g_gd fun k29 => ?_
    refine r_last (pc := 29) X (r32_c rfl) (r64_c rfl) k29 (dl_at t_X25_layOut 17 rfl) (fun h29 E29 => ?_)
    refine g_iconst (pc := 30) X (n := 0) (dl_at t_X25_layOut 18 rfl) ?_
    refine g_ltz (Or.inl rfl) fun x1_31 r1_31 => ?_
    refine g_istore_nN (pc := 31) X (j := 1) (i := 1) (x := x1_31) (b := 0) (w := rv D a0) (rest := []) rfl (Nat.le_of_ble_eq_true rfl) [0] rfl (by decide) rv_cat rfl (dl_at t_X25_layOut 19 rfl) ?_
    refine g_ls (ls2 := [(0, rv D a0), (1, iv x1_31)]) [1, 0] rfl ?_
    refine g_loop1 (fun (q : Int × Hp) => [(0, rv D a0), (1, iv q.1)]) (fun (q : Int × Hp) => q.2) (fun (q : Int × Hp) => r32 q.1 ∧ Ext h29 q.2) 172 (fun (y172 : Hp) => [(0, rv D a0)]) (fun (y172 : Hp) => y172) (fun (y172 : Hp) => Ext h29 y172) (x1_31, h29) ⟨(r32_z r1_31), (Ext.refl _)⟩ ?_ ?_
    · rintro ⟨x1_32, h_32⟩ ⟨r1_32, E_32⟩
      try dsimp only
      unfold m_X25_layOut_l32
      refine g_iload_n (pc := 32) X (j := 1) (i := 1) (q := 1) (x := x1_32) rfl rfl (dl_at t_X25_layOut 20 rfl) ?_
      refine g_aload_n (pc := 33) X (j := 0) (i := 0) (q := 0) (x := a0) rfl rfl (dl_at t_X25_layOut 21 rfl) ?_
      have k34 := kx (E29.trans E_32) (by decide) k16
      refine r_geti (pc := 34) X fX25_42 k34 q3821 (dl_at t_X25_layOut 22 rfl) fun g34 => ?_
      refine g_icmpge (pc := 37) X r1_32 g34 (off := 135) (tgt := 172) rfl (dl_at t_X25_layOut 23 rfl) (fun _ => ?_) (fun _ => ?_)
      · refine g_ls (ls2 := [(0, rv D a0)]) [0] rfl ?_
        exact g_at fun Q hQ => hQ E_32
      refine g_aload_n (pc := 40) X (j := 0) (i := 0) (q := 0) (x := a0) rfl rfl (dl_at t_X25_layOut 24 rfl) ?_
      refine r_getr (pc := 41) X fX25_122 k34 q3934 (dl_at t_X25_layOut 25 rfl) ?_
      refine g_iload_n (pc := 44) X (j := 1) (i := 1) (q := 1) (x := x1_32) rfl rfl (dl_at t_X25_layOut 26 rfl) ?_
      refine g_iconst (pc := 45) X (n := 1) (dl_at t_X25_layOut 27 rfl) ?_
      refine g_iadd (pc := 46) X r1_32 (r32_c rfl) (dl_at t_X25_layOut 28 rfl) ?_
      refine g_aload_n (pc := 47) X (j := 0) (i := 0) (q := 0) (x := a0) rfl rfl (dl_at t_X25_layOut 29 rfl) ?_
      refine r_getr (pc := 48) X fX25_122 k34 q3934 (dl_at t_X25_layOut 30 rfl) ?_
      refine g_iload_n (pc := 51) X (j := 1) (i := 1) (q := 1) (x := x1_32) rfl rfl (dl_at t_X25_layOut 31 rfl) ?_
      refine g_gd fun k52 => ?_
      refine g_lald (pc := 52) X r1_32 k52 (dl_at t_X25_layOut 32 rfl) fun g52 => ?_
      refine g_aload_n (pc := 53) X (j := 0) (i := 0) (q := 0) (x := a0) rfl rfl (dl_at t_X25_layOut 33 rfl) ?_
      refine r_getr (pc := 54) X fX25_47 k34 q3829 (dl_at t_X25_layOut 34 rfl) ?_
      refine g_iload_n (pc := 57) X (j := 1) (i := 1) (q := 1) (x := x1_32) rfl rfl (dl_at t_X25_layOut 35 rfl) ?_
      refine g_gd fun k58 => ?_
      refine g_iald (pc := 58) X r1_32 k58 (dl_at t_X25_layOut 36 rfl) fun g58 => ?_
      refine g_i2l (pc := 59) X g58 (dl_at t_X25_layOut 37 rfl) ?_
      refine g_ladd (pc := 60) X g52 (r64_of g58) (dl_at t_X25_layOut 38 rfl) ?_
      refine g_aload_n (pc := 61) X (j := 0) (i := 0) (q := 0) (x := a0) rfl rfl (dl_at t_X25_layOut 39 rfl) ?_
      refine r_getr (pc := 62) X fX25_46 k34 q3828 (dl_at t_X25_layOut 40 rfl) ?_
      refine g_iload_n (pc := 65) X (j := 1) (i := 1) (q := 1) (x := x1_32) rfl rfl (dl_at t_X25_layOut 41 rfl) ?_
      refine g_gd fun k66 => ?_
      refine g_iald (pc := 66) X r1_32 k66 (dl_at t_X25_layOut 42 rfl) fun g66 => ?_
      refine g_i2l (pc := 67) X g66 (dl_at t_X25_layOut 43 rfl) ?_
      refine g_ladd (pc := 68) X (r64_w _) (r64_of g66) (dl_at t_X25_layOut 44 rfl) ?_
      refine g_gd fun k69 => ?_
      refine r_last (pc := 69) X (r32_w _) (r64_w _) k69 (dl_at t_X25_layOut 45 rfl) (fun h69 E69 => ?_)
      refine g_iload_n (pc := 70) X (j := 1) (i := 1) (q := 1) (x := x1_32) rfl rfl (dl_at t_X25_layOut 46 rfl) ?_
      refine g_join (γ := Int) (fun q => r32 q) 86 (fun q => [(0, rv D a0), (1, iv x1_32)]) (fun q => [iv q]) (fun q => h69) (fun q => m_X25_layOut_j86 a0 x1_32 q h69) ?_ ?_
      · rintro s0_86 rs0_86
        try dsimp only
        unfold m_X25_layOut_j86
        refine g_istore_nN (pc := 86) X (j := 2) (i := 2) (x := s0_86) (b := 1) (w := iv x1_32) (rest := [(0, rv D a0)]) rfl (Nat.le_of_ble_eq_true rfl) [1, 0] rfl (by decide) rfl rfl (dl_at t_X25_layOut 56 rfl) ?_
        refine g_ls (ls2 := [(0, rv D a0), (1, iv x1_32), (2, iv s0_86)]) [2, 1, 0] rfl ?_
        refine g_loop1 (fun (q : Int) => [(0, rv D a0), (1, iv x1_32), (2, iv q)]) (fun (q : Int) => h69) (fun (q : Int) => r32 q) 111 (fun (y111 : Int) => [(0, rv D a0), (1, iv x1_32), (2, iv y111)]) (fun (y111 : Int) => h69) (fun (y111 : Int) => r32 y111) s0_86 rs0_86 ?_ ?_
        · rintro x2_87 r2_87
          try dsimp only
          unfold m_X25_layOut_l87
          refine g_iload_n (pc := 87) X (j := 2) (i := 2) (q := 2) (x := x2_87) rfl rfl (dl_at t_X25_layOut 57 rfl) ?_
          refine g_aload_n (pc := 88) X (j := 0) (i := 0) (q := 0) (x := a0) rfl rfl (dl_at t_X25_layOut 58 rfl) ?_
          have k89 := kx E69 (by decide) k34
          refine r_geti (pc := 89) X fX25_53 k89 q3838 (dl_at t_X25_layOut 59 rfl) fun g89 => ?_
          refine g_icmpge (pc := 92) X r2_87 g89 (off := 19) (tgt := 111) rfl (dl_at t_X25_layOut 60 rfl) (fun _ => ?_) (fun _ => ?_)
          · exact g_at fun Q hQ => hQ r2_87
          refine g_aload_n (pc := 95) X (j := 0) (i := 0) (q := 0) (x := a0) rfl rfl (dl_at t_X25_layOut 61 rfl) ?_
          refine r_getr (pc := 96) X fX25_56 k89 q3844 (dl_at t_X25_layOut 62 rfl) ?_
          refine g_iload_n (pc := 99) X (j := 2) (i := 2) (q := 2) (x := x2_87) rfl rfl (dl_at t_X25_layOut 63 rfl) ?_
          refine g_gd fun k100 => ?_
          refine g_iald (pc := 100) X r2_87 k100 (dl_at t_X25_layOut 64 rfl) fun g100 => ?_
          refine g_iload_n (pc := 101) X (j := 1) (i := 1) (q := 1) (x := x1_32) rfl rfl (dl_at t_X25_layOut 65 rfl) ?_
          refine g_icmpgt (pc := 102) X g100 r1_32 (off := 9) (tgt := 111) rfl (dl_at t_X25_layOut 66 rfl) (fun _ => ?_) (fun _ => ?_)
          · exact g_at fun Q hQ => hQ r2_87
          refine r_iincN (pc := 105) X (i := 2) (q := 2) (n := 1) (x := x2_87) (b := 1) (w := iv x1_32) (rest := [(0, rv D a0)]) rfl r2_87 (r32_c rfl) (Nat.le_of_ble_eq_true rfl) [1, 0] rfl (by decide) rfl rfl (dl_at t_X25_layOut 67 rfl) fun x2_105 r2_105 => ?_
          refine g_goto (pc := 108) X (off := (-21)) (tgt := 87) rfl (dl_at t_X25_layOut 68 rfl) ?_
          refine g_ls (ls2 := [(0, rv D a0), (1, iv x1_32), (2, iv x2_105)]) [2, 1, 0] rfl ?_
          exact g_at fun Q hQ => hQ r2_105
        · rintro x2_111 r2_111
          try dsimp only [sE]
          refine g_aload_n (pc := 111) X (j := 0) (i := 0) (q := 0) (x := a0) rfl rfl (dl_at t_X25_layOut 69 rfl) ?_
          have k112 := kx E69 (by decide) k34
          refine r_getr (pc := 112) X fX25_123 k112 q3935 (dl_at t_X25_layOut 70 rfl) ?_
          refine g_iload_n (pc := 115) X (j := 1) (i := 1) (q := 1) (x := x1_32) rfl rfl (dl_at t_X25_layOut 71 rfl) ?_
          refine g_iload_n (pc := 116) X (j := 2) (i := 2) (q := 2) (x := x2_111) rfl rfl (dl_at t_X25_layOut 72 rfl) ?_
          refine g_gd fun k117 => ?_
          refine r_iast (pc := 117) X r1_32 r2_111 k117 (dl_at t_X25_layOut 73 rfl) (fun h117 E117 => ?_)
          refine g_iload_n (pc := 118) X (j := 1) (i := 1) (q := 1) (x := x1_32) rfl rfl (dl_at t_X25_layOut 74 rfl) ?_
          refine g_join (γ := Int) (fun q => r32 q) 134 (fun q => [(0, rv D a0), (1, iv x1_32)]) (fun q => [iv q]) (fun q => h117) (fun q => m_X25_layOut_j134 a0 x1_32 q h117) ?_ ?_
          · rintro s0_134 rs0_134
            try dsimp only
            unfold m_X25_layOut_j134
            refine g_istore_nN (pc := 134) X (j := 2) (i := 2) (x := s0_134) (b := 1) (w := iv x1_32) (rest := [(0, rv D a0)]) rfl (Nat.le_of_ble_eq_true rfl) [1, 0] rfl (by decide) rfl rfl (dl_at t_X25_layOut 84 rfl) ?_
            refine g_ls (ls2 := [(0, rv D a0), (1, iv x1_32), (2, iv s0_134)]) [2, 1, 0] rfl ?_
            refine g_loop1 (fun (q : Int) => [(0, rv D a0), (1, iv x1_32), (2, iv q)]) (fun (q : Int) => h117) (fun (q : Int) => r32 q) 159 (fun (y159 : Int) => [(0, rv D a0), (1, iv x1_32), (2, iv y159)]) (fun (y159 : Int) => h117) (fun (y159 : Int) => r32 y159) s0_134 rs0_134 ?_ ?_
            · rintro x2_135 r2_135
              try dsimp only
              unfold m_X25_layOut_l135
              refine g_iload_n (pc := 135) X (j := 2) (i := 2) (q := 2) (x := x2_135) rfl rfl (dl_at t_X25_layOut 85 rfl) ?_
              refine g_aload_n (pc := 136) X (j := 0) (i := 0) (q := 0) (x := a0) rfl rfl (dl_at t_X25_layOut 86 rfl) ?_
              have k137 := kx E117 (by decide) k112
              refine r_geti (pc := 137) X fX25_54 k137 q3840 (dl_at t_X25_layOut 87 rfl) fun g137 => ?_
              refine g_icmpge (pc := 140) X r2_135 g137 (off := 19) (tgt := 159) rfl (dl_at t_X25_layOut 88 rfl) (fun _ => ?_) (fun _ => ?_)
              · exact g_at fun Q hQ => hQ r2_135
              refine g_aload_n (pc := 143) X (j := 0) (i := 0) (q := 0) (x := a0) rfl rfl (dl_at t_X25_layOut 89 rfl) ?_
              refine r_getr (pc := 144) X fX25_61 k137 q3854 (dl_at t_X25_layOut 90 rfl) ?_
              refine g_iload_n (pc := 147) X (j := 2) (i := 2) (q := 2) (x := x2_135) rfl rfl (dl_at t_X25_layOut 91 rfl) ?_
              refine g_gd fun k148 => ?_
              refine g_iald (pc := 148) X r2_135 k148 (dl_at t_X25_layOut 92 rfl) fun g148 => ?_
              refine g_iload_n (pc := 149) X (j := 1) (i := 1) (q := 1) (x := x1_32) rfl rfl (dl_at t_X25_layOut 93 rfl) ?_
              refine g_icmpgt (pc := 150) X g148 r1_32 (off := 9) (tgt := 159) rfl (dl_at t_X25_layOut 94 rfl) (fun _ => ?_) (fun _ => ?_)
              · exact g_at fun Q hQ => hQ r2_135
              refine r_iincN (pc := 153) X (i := 2) (q := 2) (n := 1) (x := x2_135) (b := 1) (w := iv x1_32) (rest := [(0, rv D a0)]) rfl r2_135 (r32_c rfl) (Nat.le_of_ble_eq_true rfl) [1, 0] rfl (by decide) rfl rfl (dl_at t_X25_layOut 95 rfl) fun x2_153 r2_153 => ?_
              refine g_goto (pc := 156) X (off := (-21)) (tgt := 135) rfl (dl_at t_X25_layOut 96 rfl) ?_
              refine g_ls (ls2 := [(0, rv D a0), (1, iv x1_32), (2, iv x2_153)]) [2, 1, 0] rfl ?_
              exact g_at fun Q hQ => hQ r2_153
            · rintro x2_159 r2_159
              try dsimp only [sE]
              refine g_aload_n (pc := 159) X (j := 0) (i := 0) (q := 0) (x := a0) rfl rfl (dl_at t_X25_layOut 97 rfl) ?_
              have k160 := kx E117 (by decide) k112
              refine r_getr (pc := 160) X fX25_124 k160 q3936 (dl_at t_X25_layOut 98 rfl) ?_
              refine g_iload_n (pc := 163) X (j := 1) (i := 1) (q := 1) (x := x1_32) rfl rfl (dl_at t_X25_layOut 99 rfl) ?_
              refine g_iload_n (pc := 164) X (j := 2) (i := 2) (q := 2) (x := x2_159) rfl rfl (dl_at t_X25_layOut 100 rfl) ?_
              refine g_gd fun k165 => ?_
              refine r_iast (pc := 165) X r1_32 r2_159 k165 (dl_at t_X25_layOut 101 rfl) (fun h165 E165 => ?_)
              refine r_iincN (pc := 166) X (i := 1) (q := 1) (n := 1) (x := x1_32) (b := 0) (w := rv D a0) (rest := []) rfl r1_32 (r32_c rfl) (Nat.le_of_ble_eq_true rfl) [0] rfl (by decide) rv_cat rfl (dl_at t_X25_layOut 102 rfl) fun x1_166 r1_166 => ?_
              refine g_goto (pc := 169) X (off := (-137)) (tgt := 32) rfl (dl_at t_X25_layOut 103 rfl) ?_
              refine g_ls (ls2 := [(0, rv D a0), (1, iv x1_166)]) [1, 0] rfl ?_
              exact g_at fun Q hQ => hQ ⟨r1_166, (E_32.trans (E69.trans (E117.trans E165)))⟩
          intro J134
          refine g_ifne (pc := 119) X r1_32 (off := 7) (tgt := 126) rfl (dl_at t_X25_layOut 75 rfl) (fun _ => ?_) (fun _ => ?_)
          · refine g_aload_n (pc := 126) X (j := 0) (i := 0) (q := 0) (x := a0) rfl rfl (dl_at t_X25_layOut 78 rfl) ?_
            have k127 := kx E117 (by decide) k112
            refine r_getr (pc := 127) X fX25_124 k127 q3936 (dl_at t_X25_layOut 79 rfl) ?_
            refine g_iload_n (pc := 130) X (j := 1) (i := 1) (q := 1) (x := x1_32) rfl rfl (dl_at t_X25_layOut 80 rfl) ?_
            refine g_iconst (pc := 131) X (n := 1) (dl_at t_X25_layOut 81 rfl) ?_
            refine g_isub (pc := 132) X r1_32 (r32_c rfl) (dl_at t_X25_layOut 82 rfl) ?_
            refine g_gd fun k133 => ?_
            refine g_iald (pc := 133) X (r32_w _) k133 (dl_at t_X25_layOut 83 rfl) fun g133 => ?_
            refine g_ls (ls2 := [(0, rv D a0), (1, iv x1_32)]) [0, 1] rfl ?_
            exact J134 (h117 (h117 a0 124) (w32 (x1_32 - 1))) g133
          refine g_iconst (pc := 122) X (n := 0) (dl_at t_X25_layOut 76 rfl) ?_
          refine g_goto (pc := 123) X (off := 11) (tgt := 134) rfl (dl_at t_X25_layOut 77 rfl) ?_
          refine g_ls (ls2 := [(0, rv D a0), (1, iv x1_32)]) [0, 1] rfl ?_
          exact J134 0 (r32_c rfl)
      intro J86
      refine g_ifne (pc := 71) X r1_32 (off := 7) (tgt := 78) rfl (dl_at t_X25_layOut 47 rfl) (fun _ => ?_) (fun _ => ?_)
      · refine g_aload_n (pc := 78) X (j := 0) (i := 0) (q := 0) (x := a0) rfl rfl (dl_at t_X25_layOut 50 rfl) ?_
        have k79 := kx E69 (by decide) k34
        refine r_getr (pc := 79) X fX25_123 k79 q3935 (dl_at t_X25_layOut 51 rfl) ?_
        refine g_iload_n (pc := 82) X (j := 1) (i := 1) (q := 1) (x := x1_32) rfl rfl (dl_at t_X25_layOut 52 rfl) ?_
        refine g_iconst (pc := 83) X (n := 1) (dl_at t_X25_layOut 53 rfl) ?_
        refine g_isub (pc := 84) X r1_32 (r32_c rfl) (dl_at t_X25_layOut 54 rfl) ?_
        refine g_gd fun k85 => ?_
        refine g_iald (pc := 85) X (r32_w _) k85 (dl_at t_X25_layOut 55 rfl) fun g85 => ?_
        exact J86 (h69 (h69 a0 123) (w32 (x1_32 - 1))) g85
      refine g_iconst (pc := 74) X (n := 0) (dl_at t_X25_layOut 48 rfl) ?_
      refine g_goto (pc := 75) X (off := 11) (tgt := 86) rfl (dl_at t_X25_layOut 49 rfl) ?_
      exact J86 0 (r32_c rfl)
    · rintro h_172 E_172
      try dsimp only [sE]
      refine g_iconst (pc := 172) X (n := 0) (dl_at t_X25_layOut 104 rfl) ?_
      refine g_ltz (Or.inl rfl) fun x1_173 r1_173 => ?_
      refine g_istore_nN (pc := 173) X (j := 1) (i := 1) (x := x1_173) (b := 0) (w := rv D a0) (rest := []) rfl (Nat.le_of_ble_eq_true rfl) [0] rfl (by decide) rv_cat rfl (dl_at t_X25_layOut 105 rfl) ?_
      refine g_ls (ls2 := [(0, rv D a0), (1, iv x1_173)]) [1, 0] rfl ?_
      refine g_loop1 (fun (q : Int × Hp) => [(0, rv D a0), (1, iv q.1)]) (fun (q : Int × Hp) => q.2) (fun (q : Int × Hp) => r32 q.1 ∧ Ext h_172 q.2) 195 (fun (y195 : Hp) => [(0, rv D a0)]) (fun (y195 : Hp) => y195) (fun (y195 : Hp) => Ext h_172 y195) (x1_173, h_172) ⟨(r32_z r1_173), (Ext.refl _)⟩ ?_ ?_
      · rintro ⟨x1_174, h_174⟩ ⟨r1_174, E_174⟩
        try dsimp only
        unfold m_X25_layOut_l174
        refine g_iload_n (pc := 174) X (j := 1) (i := 1) (q := 1) (x := x1_174) rfl rfl (dl_at t_X25_layOut 106 rfl) ?_
        refine g_aload_n (pc := 175) X (j := 0) (i := 0) (q := 0) (x := a0) rfl rfl (dl_at t_X25_layOut 107 rfl) ?_
        have k176 := kx (E29.trans (E_172.trans E_174)) (by decide) k16
        refine r_geti (pc := 176) X fX25_42 k176 q3821 (dl_at t_X25_layOut 108 rfl) fun g176 => ?_
        refine g_icmpgt (pc := 179) X r1_174 g176 (off := 16) (tgt := 195) rfl (dl_at t_X25_layOut 109 rfl) (fun _ => ?_) (fun _ => ?_)
        · refine g_ls (ls2 := [(0, rv D a0)]) [0] rfl ?_
          exact g_at fun Q hQ => hQ E_174
        refine g_aload_n (pc := 182) X (j := 0) (i := 0) (q := 0) (x := a0) rfl rfl (dl_at t_X25_layOut 110 rfl) ?_
        refine r_getr (pc := 183) X fX25_125 k176 q3937 (dl_at t_X25_layOut 111 rfl) ?_
        refine g_iload_n (pc := 186) X (j := 1) (i := 1) (q := 1) (x := x1_174) rfl rfl (dl_at t_X25_layOut 112 rfl) ?_
        refine g_iconst (pc := 187) X (n := (-1)) (dl_at t_X25_layOut 113 rfl) ?_
        refine g_gd fun k188 => ?_
        refine r_iast (pc := 188) X r1_174 (r32_c rfl) k188 (dl_at t_X25_layOut 114 rfl) (fun h188 E188 => ?_)
        refine r_iincN (pc := 189) X (i := 1) (q := 1) (n := 1) (x := x1_174) (b := 0) (w := rv D a0) (rest := []) rfl r1_174 (r32_c rfl) (Nat.le_of_ble_eq_true rfl) [0] rfl (by decide) rv_cat rfl (dl_at t_X25_layOut 115 rfl) fun x1_189 r1_189 => ?_
        refine g_goto (pc := 192) X (off := (-18)) (tgt := 174) rfl (dl_at t_X25_layOut 116 rfl) ?_
        refine g_ls (ls2 := [(0, rv D a0), (1, iv x1_189)]) [1, 0] rfl ?_
        exact g_at fun Q hQ => hQ ⟨r1_189, (E_174.trans E188)⟩
      · rintro h_195 E_195
        try dsimp only [sE]
        refine g_aload_n (pc := 195) X (j := 0) (i := 0) (q := 0) (x := a0) rfl rfl (dl_at t_X25_layOut 117 rfl) ?_
        have k196 := kx (E29.trans (E_172.trans E_195)) (by decide) k16
        refine r_getr (pc := 196) X fX25_0 k196 q3761 (dl_at t_X25_layOut 118 rfl) ?_
        refine g_gd fun k199 => ?_
        refine r_getr (pc := 199) X fX24_2 k199 q3647 (dl_at t_X25_layOut 119 rfl) ?_
        refine g_iconst (pc := 202) X (n := 1) (dl_at t_X25_layOut 120 rfl) ?_
        refine g_gd fun k203 => ?_
        refine g_iald (pc := 203) X (r32_c rfl) k203 (dl_at t_X25_layOut 121 rfl) fun g203 => ?_
        refine g_i2l (pc := 204) X g203 (dl_at t_X25_layOut 122 rfl) ?_
        refine g_ltl (r64_of g203) fun x1_205 r1_205 => ?_
        refine g_lstore_nN (pc := 205) X (j := 1) (i := 1) (x := x1_205) (b := 0) (w := rv D a0) (rest := []) rfl (Nat.le_of_ble_eq_true rfl) [0] rfl (by decide) (by decide) rv_cat rfl (dl_at t_X25_layOut 123 rfl) ?_
        refine g_aload_n (pc := 206) X (j := 0) (i := 0) (q := 1) (x := a0) rfl rfl (dl_at t_X25_layOut 124 rfl) ?_
        refine g_iconst (pc := 207) X (n := 0) (dl_at t_X25_layOut 125 rfl) ?_
        refine g_iconst (pc := 208) X (n := 0) (dl_at t_X25_layOut 126 rfl) ?_
        refine g_iconst (pc := 209) X (n := 0) (dl_at t_X25_layOut 127 rfl) ?_
        refine g_lconst0 (pc := 210) X (dl_at t_X25_layOut 128 rfl) ?_
        refine g_iconst (pc := 211) X (n := (-1)) (dl_at t_X25_layOut 129 rfl) ?_
        refine r_callTi (pc := 212) X (fun _ hv => s_X25_state k196 (r32_c rfl) (r32_c rfl) (r32_c rfl) (r64_c rfl) (r32_c rfl) hv) cw_code q5071 q379 (in_Vk X (As := [iv 0, iv 0, iv 0, jv 0, iv (-1)]) kX25 k196 (Or.inl q5068) q5070 qs335 cw_code q5071 ⟨by decide, by decide⟩ rfl (dl_at t_X25_layOut 130 rfl)) (dl_at t_X25_layOut 130 rfl) (cat24 (st := []) (Nat.le_of_ble_eq_true rfl)) (Nat.le_of_ble_eq_true rfl) (Nat.le_of_ble_eq_true rfl) (fun v212 h212 g212 E212 => ?_) (fun _ _ ha _ => gt_at fun Q hQ => gt_out (Q := Q) X rfl ha (hno _) _ Q rfl hQ)
        refine g_pop (pc := 215) X rfl (dl_at t_X25_layOut 131 rfl) ?_
        refine g_iconst (pc := 216) X (n := 0) (dl_at t_X25_layOut 132 rfl) ?_
        refine g_ltz (Or.inl rfl) fun x3_217 r3_217 => ?_
        refine g_istore_n (pc := 217) X (j := 3) (i := 3) (x := x3_217) (rest := [(1, jv x1_205), (0, rv D a0)]) rfl (Nat.le_of_ble_eq_true rfl) [0, 1] rfl rfl (dl_at t_X25_layOut 133 rfl) ?_
        refine g_ls (ls2 := [(0, rv D a0), (1, jv x1_205), (3, iv x3_217)]) [2, 1, 0] rfl ?_
        refine g_loop1F (fun (q : Int × Hp) => [(0, rv D a0), (1, jv x1_205), (3, iv q.1)]) (fun (q : Int × Hp) => q.2) (fun (q : Int × Hp) => r32 q.1 ∧ Ext h212 q.2) 431 (fun (y431 : Hp) => [(0, rv D a0)]) (fun (y431 : Hp) => y431) (fun (y431 : Hp) => Ext h212 y431) (x3_217, h212) ⟨(r32_z r3_217), (Ext.refl _)⟩ ?_ ?_ (fun _ => rfl)
        · rintro ⟨x3_218, h_218⟩ ⟨r3_218, E_218⟩
          try dsimp only
          unfold m_X25_layOut_l218
          refine g_iload_n (pc := 218) X (j := 3) (i := 3) (q := 2) (x := x3_218) rfl rfl (dl_at t_X25_layOut 134 rfl) ?_
          refine g_aload_n (pc := 219) X (j := 0) (i := 0) (q := 0) (x := a0) rfl rfl (dl_at t_X25_layOut 135 rfl) ?_
          have k220 := kx (E212.trans E_218) (by decide) k196
          refine r_geti (pc := 220) X fX25_42 k220 q3821 (dl_at t_X25_layOut 136 rfl) fun g220 => ?_
          refine g_icmpge (pc := 223) X r3_218 g220 (off := 208) (tgt := 431) rfl (dl_at t_X25_layOut 137 rfl) (fun _ => ?_) (fun _ => ?_)
          · refine g_ls (ls2 := [(0, rv D a0)]) [0] rfl ?_
            exact g_at fun Q hQ => hQ E_218
          refine g_aload_n (pc := 226) X (j := 0) (i := 0) (q := 0) (x := a0) rfl rfl (dl_at t_X25_layOut 138 rfl) ?_
          refine r_getr (pc := 227) X fX25_125 k220 q3937 (dl_at t_X25_layOut 139 rfl) ?_
          refine g_iload_n (pc := 230) X (j := 3) (i := 3) (q := 2) (x := x3_218) rfl rfl (dl_at t_X25_layOut 140 rfl) ?_
          refine g_gd fun k231 => ?_
          refine g_iald (pc := 231) X r3_218 k231 (dl_at t_X25_layOut 141 rfl) fun g231 => ?_
          refine g_lti g231 fun x4_232 r4_232 => ?_
          refine g_istoreN (pc := 232) X (i := 4) (x := x4_232) (b := 3) (w := iv x3_218) (rest := [(0, rv D a0), (1, jv x1_205)]) (Nat.le_of_ble_eq_true rfl) [2, 0, 1] rfl (by decide) rfl rfl (dl_at t_X25_layOut 142 rfl) ?_
          refine g_ls (ls2 := [(0, rv D a0), (1, jv x1_205), (3, iv x3_218), (4, iv x4_232)]) [2, 3, 1, 0] rfl ?_
          refine g_loop1F (fun (q : Int × Hp) => [(0, rv D a0), (1, jv x1_205), (3, iv x3_218), (4, iv q.1)]) (fun (q : Int × Hp) => q.2) (fun (q : Int × Hp) => r32 q.1 ∧ Ext h_218 q.2) 425 (fun (y425 : Hp) => [(0, rv D a0), (1, jv x1_205), (3, iv x3_218)]) (fun (y425 : Hp) => y425) (fun (y425 : Hp) => Ext h_218 y425) (x4_232, h_218) ⟨r4_232, (Ext.refl _)⟩ ?_ ?_ (fun _ => rfl)
          · rintro ⟨x4_234, h_234⟩ ⟨r4_234, E_234⟩
            try dsimp only
            unfold m_X25_layOut_l234
            refine g_iload (pc := 234) X (i := 4) (q := 3) (x := x4_234) rfl (dl_at t_X25_layOut 143 rfl) ?_
            refine g_iflt (pc := 236) X r4_234 (off := 189) (tgt := 425) rfl (dl_at t_X25_layOut 144 rfl) (fun _ => ?_) (fun _ => ?_)
            · refine g_ls (ls2 := [(0, rv D a0), (1, jv x1_205), (3, iv x3_218)]) [0, 1, 2] rfl ?_
              exact g_at fun Q hQ => hQ E_234
            refine g_iload_n (pc := 239) X (j := 3) (i := 3) (q := 2) (x := x3_218) rfl rfl (dl_at t_X25_layOut 145 rfl) ?_
            refine g_istoreN (pc := 240) X (i := 5) (x := x3_218) (b := 4) (w := iv x4_234) (rest := [(0, rv D a0), (1, jv x1_205), (3, iv x3_218)]) (Nat.le_of_ble_eq_true rfl) [3, 0, 1, 2] rfl (by decide) rfl rfl (dl_at t_X25_layOut 146 rfl) ?_
            refine g_ls (ls2 := [(0, rv D a0), (1, jv x1_205), (3, iv x3_218), (4, iv x4_234), (5, iv x3_218)]) [2, 3, 4, 1, 0] rfl ?_
            refine g_loop1F (fun (q : Int × Hp) => [(0, rv D a0), (1, jv x1_205), (3, iv x3_218), (4, iv x4_234), (5, iv q.1)]) (fun (q : Int × Hp) => q.2) (fun (q : Int × Hp) => r32 q.1 ∧ Ext h_234 q.2) 413 (fun (y413 : Hp) => [(0, rv D a0), (1, jv x1_205), (3, iv x3_218), (4, iv x4_234)]) (fun (y413 : Hp) => y413) (fun (y413 : Hp) => Ext h_234 y413) (x3_218, h_234) ⟨r3_218, (Ext.refl _)⟩ ?_ ?_ (fun _ => rfl)
            · rintro ⟨x5_242, h_242⟩ ⟨r5_242, E_242⟩
              try dsimp only
              unfold m_X25_layOut_l242
              refine g_iload (pc := 242) X (i := 5) (q := 4) (x := x5_242) rfl (dl_at t_X25_layOut 147 rfl) ?_
              refine g_aload_n (pc := 244) X (j := 0) (i := 0) (q := 0) (x := a0) rfl rfl (dl_at t_X25_layOut 148 rfl) ?_
              have k245 := kx (E_234.trans E_242) (by decide) k220
              refine r_geti (pc := 245) X fX25_42 k245 q3821 (dl_at t_X25_layOut 149 rfl) fun g245 => ?_
              refine g_icmpge (pc := 248) X r5_242 g245 (off := 165) (tgt := 413) rfl (dl_at t_X25_layOut 150 rfl) (fun _ => ?_) (fun _ => ?_)
              · refine g_ls (ls2 := [(0, rv D a0), (1, jv x1_205), (3, iv x3_218), (4, iv x4_234)]) [0, 1, 2, 3] rfl ?_
                exact g_at fun Q hQ => hQ E_242
              refine g_aload_n (pc := 251) X (j := 0) (i := 0) (q := 0) (x := a0) rfl rfl (dl_at t_X25_layOut 151 rfl) ?_
              refine r_getr (pc := 252) X fX25_122 k245 q3934 (dl_at t_X25_layOut 152 rfl) ?_
              refine g_iload (pc := 255) X (i := 5) (q := 4) (x := x5_242) rfl (dl_at t_X25_layOut 153 rfl) ?_
              refine g_iconst (pc := 257) X (n := 1) (dl_at t_X25_layOut 154 rfl) ?_
              refine g_iadd (pc := 258) X r5_242 (r32_c rfl) (dl_at t_X25_layOut 155 rfl) ?_
              refine g_gd fun k259 => ?_
              refine g_lald (pc := 259) X (r32_w _) k259 (dl_at t_X25_layOut 156 rfl) fun g259 => ?_
              refine g_aload_n (pc := 260) X (j := 0) (i := 0) (q := 0) (x := a0) rfl rfl (dl_at t_X25_layOut 157 rfl) ?_
              refine r_getr (pc := 261) X fX25_122 k245 q3934 (dl_at t_X25_layOut 158 rfl) ?_
              refine g_iload_n (pc := 264) X (j := 3) (i := 3) (q := 2) (x := x3_218) rfl rfl (dl_at t_X25_layOut 159 rfl) ?_
              refine g_gd fun k265 => ?_
              refine g_lald (pc := 265) X r3_218 k265 (dl_at t_X25_layOut 160 rfl) fun g265 => ?_
              refine g_lsub (pc := 266) X g259 g265 (dl_at t_X25_layOut 161 rfl) ?_
              refine g_aload_n (pc := 267) X (j := 0) (i := 0) (q := 0) (x := a0) rfl rfl (dl_at t_X25_layOut 162 rfl) ?_
              refine r_getr (pc := 268) X fX25_47 k245 q3829 (dl_at t_X25_layOut 163 rfl) ?_
              refine g_iload_n (pc := 271) X (j := 3) (i := 3) (q := 2) (x := x3_218) rfl rfl (dl_at t_X25_layOut 164 rfl) ?_
              refine g_gd fun k272 => ?_
              refine g_iald (pc := 272) X r3_218 k272 (dl_at t_X25_layOut 165 rfl) fun g272 => ?_
              refine g_i2l (pc := 273) X g272 (dl_at t_X25_layOut 166 rfl) ?_
              refine g_lsub (pc := 274) X (r64_w _) (r64_of g272) (dl_at t_X25_layOut 167 rfl) ?_
              refine g_lload_n (pc := 275) X (j := 1) (i := 1) (q := 1) (x := x1_205) rfl rfl (dl_at t_X25_layOut 168 rfl) ?_
              refine g_lcmp (pc := 276) X (r64_w _) r1_205 (dl_at t_X25_layOut 169 rfl) ?_
              refine g_ifgt (pc := 277) X (r32_lcmp _ _) (off := 136) (tgt := 413) rfl (dl_at t_X25_layOut 170 rfl) (fun _ => ?_) (fun _ => ?_)
              · refine g_ls (ls2 := [(0, rv D a0), (1, jv x1_205), (3, iv x3_218), (4, iv x4_234)]) [0, 1, 2, 3] rfl ?_
                exact g_at fun Q hQ => hQ E_242
              refine g_aload_n (pc := 280) X (j := 0) (i := 0) (q := 0) (x := a0) rfl rfl (dl_at t_X25_layOut 171 rfl) ?_
              refine r_getr (pc := 281) X fX25_51 k245 q3835 (dl_at t_X25_layOut 172 rfl) ?_
              refine g_iload (pc := 284) X (i := 5) (q := 4) (x := x5_242) rfl (dl_at t_X25_layOut 173 rfl) ?_
              refine g_gd fun k286 => ?_
              refine g_zald (pc := 286) X r5_242 k286 (dl_at t_X25_layOut 174 rfl) fun g286 => ?_
              refine g_join (γ := Hp) (fun q => Ext h_242 q) 407 (fun q => [(0, rv D a0), (1, jv x1_205), (3, iv x3_218), (4, iv x4_234), (5, iv x5_242)]) (fun q => []) (fun q => q) (fun q => m_X25_layOut_j407 x5_242 q) ?_ ?_
              · rintro h_407 E_407
                try dsimp only
                unfold m_X25_layOut_j407
                refine r_iincN (pc := 407) X (i := 5) (q := 4) (n := 1) (x := x5_242) (b := 4) (w := iv x4_234) (rest := [(0, rv D a0), (1, jv x1_205), (3, iv x3_218)]) rfl r5_242 (r32_c rfl) (Nat.le_of_ble_eq_true rfl) [3, 0, 1, 2] rfl (by decide) rfl rfl (dl_at t_X25_layOut 239 rfl) fun x5_407 r5_407 => ?_
                refine g_goto (pc := 410) X (off := (-168)) (tgt := 242) rfl (dl_at t_X25_layOut 240 rfl) ?_
                refine g_ls (ls2 := [(0, rv D a0), (1, jv x1_205), (3, iv x3_218), (4, iv x4_234), (5, iv x5_407)]) [2, 3, 4, 1, 0] rfl ?_
                exact g_at fun Q hQ => hQ ⟨r5_407, (E_242.trans E_407)⟩
              intro J407
              refine g_ifeq (pc := 287) X (r32_z g286) (off := 120) (tgt := 407) rfl (dl_at t_X25_layOut 175 rfl) (fun _ => ?_) (fun _ => ?_)
              · exact J407 h_242 (Ext.refl _)
              refine g_aload_n (pc := 290) X (j := 0) (i := 0) (q := 0) (x := a0) rfl rfl (dl_at t_X25_layOut 176 rfl) ?_
              refine g_iload (pc := 291) X (i := 4) (q := 3) (x := x4_234) rfl (dl_at t_X25_layOut 177 rfl) ?_
              refine g_iload (pc := 293) X (i := 5) (q := 4) (x := x5_242) rfl (dl_at t_X25_layOut 178 rfl) ?_
              refine r_callWz (pc := 295) X (fun _ hv => s_X25_fits k245 r4_234 r5_242 hv) cw_code q5078 q379 (in_Vk X (As := [iv x4_234, iv x5_242]) kX25 k245 (Or.inl q5075) q5077 qs336 cw_code q5078 ⟨by decide, by decide⟩ rfl (dl_at t_X25_layOut 179 rfl)) (dl_at t_X25_layOut 179 rfl) (cat24 (st := []) (Nat.le_of_ble_eq_true rfl)) (Nat.le_of_ble_eq_true rfl) (Nat.le_of_ble_eq_true rfl) fun v295 h295 g295 E295 => ?_
              refine g_ifne (pc := 298) X (r32_z g295) (off := 6) (tgt := 304) rfl (dl_at t_X25_layOut 180 rfl) (fun _ => ?_) (fun _ => ?_)
              · refine g_ldc2 (pc := 304) X (index := 733) (n := 100) q5029 (dl_at t_X25_layOut 182 rfl) ?_
                refine g_lload_n (pc := 307) X (j := 1) (i := 1) (q := 1) (x := x1_205) rfl rfl (dl_at t_X25_layOut 183 rfl) ?_
                refine g_aload_n (pc := 308) X (j := 0) (i := 0) (q := 0) (x := a0) rfl rfl (dl_at t_X25_layOut 184 rfl) ?_
                have k309 := kx E295 (by decide) k245
                refine r_getl (pc := 309) X fX25_137 k309 q3949 (dl_at t_X25_layOut 185 rfl) fun g309 => ?_
                refine g_lsub (pc := 312) X r1_205 g309 (dl_at t_X25_layOut 186 rfl) ?_
                refine g_lmul (pc := 313) X (r64_c rfl) (r64_w _) (dl_at t_X25_layOut 187 rfl) ?_
                refine g_lload_n (pc := 314) X (j := 1) (i := 1) (q := 1) (x := x1_205) rfl rfl (dl_at t_X25_layOut 188 rfl) ?_
                refine g_gd fun z315 => ?_
                refine g_ldiv (pc := 315) X (r64_w _) r1_205 z315 (dl_at t_X25_layOut 189 rfl) ?_
                refine g_ltl (r64_w _) fun x6_316 r6_316 => ?_
                refine g_lstoreN (pc := 316) X (i := 6) (x := x6_316) (b := 5) (w := iv x5_242) (rest := [(0, rv D a0), (1, jv x1_205), (3, iv x3_218), (4, iv x4_234)]) (Nat.le_of_ble_eq_true rfl) [4, 0, 1, 2, 3] rfl (by decide) (by decide) rfl rfl (dl_at t_X25_layOut 190 rfl) ?_
                refine g_aload_n (pc := 318) X (j := 0) (i := 0) (q := 2) (x := a0) rfl rfl (dl_at t_X25_layOut 191 rfl) ?_
                refine r_getr (pc := 319) X fX25_45 k309 q3826 (dl_at t_X25_layOut 192 rfl) ?_
                refine g_iload (pc := 322) X (i := 5) (q := 1) (x := x5_242) rfl (dl_at t_X25_layOut 193 rfl) ?_
                refine g_gd fun k324 => ?_
                refine g_iald (pc := 324) X r5_242 k324 (dl_at t_X25_layOut 194 rfl) fun g324 => ?_
                refine g_join (γ := Int) (fun q => (q = 0 ∨ q = 1)) 354 (fun q => [(0, rv D a0), (1, jv x1_205), (3, iv x3_218), (4, iv x4_234), (5, iv x5_242), (6, jv x6_316)]) (fun q => [iv q]) (fun q => h295) (fun q => m_X25_layOut_j354 x6_316 x5_242 a0 x4_234 q h295) ?_ ?_
                · rintro s0_354 rs0_354
                  try dsimp only
                  unfold m_X25_layOut_j354
                  refine g_istore (pc := 354) X (i := 8) (x := s0_354) (rest := [(0, rv D a0), (1, jv x1_205), (3, iv x3_218), (4, iv x4_234), (5, iv x5_242), (6, jv x6_316)]) (Nat.le_of_ble_eq_true rfl) [0, 1, 2, 3, 4, 5] rfl rfl (dl_at t_X25_layOut 210 rfl) ?_
                  refine g_aload_n (pc := 356) X (j := 0) (i := 0) (q := 1) (x := a0) rfl rfl (dl_at t_X25_layOut 211 rfl) ?_
                  refine g_iload (pc := 357) X (i := 4) (q := 4) (x := x4_234) rfl (dl_at t_X25_layOut 212 rfl) ?_
                  refine g_iload (pc := 359) X (i := 5) (q := 5) (x := x5_242) rfl (dl_at t_X25_layOut 213 rfl) ?_
                  refine g_iconst (pc := 361) X (n := 1) (dl_at t_X25_layOut 214 rfl) ?_
                  refine g_iadd (pc := 362) X r5_242 (r32_c rfl) (dl_at t_X25_layOut 215 rfl) ?_
                  refine g_aload_n (pc := 363) X (j := 0) (i := 0) (q := 1) (x := a0) rfl rfl (dl_at t_X25_layOut 216 rfl) ?_
                  refine r_getr (pc := 364) X fX25_132 k309 q3944 (dl_at t_X25_layOut 217 rfl) ?_
                  refine g_iload (pc := 367) X (i := 4) (q := 4) (x := x4_234) rfl (dl_at t_X25_layOut 218 rfl) ?_
                  refine g_gd fun k369 => ?_
                  refine g_lald (pc := 369) X r4_234 k369 (dl_at t_X25_layOut 219 rfl) fun g369 => ?_
                  refine g_iload (pc := 370) X (i := 5) (q := 5) (x := x5_242) rfl (dl_at t_X25_layOut 220 rfl) ?_
                  refine g_aload_n (pc := 372) X (j := 0) (i := 0) (q := 1) (x := a0) rfl rfl (dl_at t_X25_layOut 221 rfl) ?_
                  refine r_geti (pc := 373) X fX25_42 k309 q3821 (dl_at t_X25_layOut 222 rfl) fun g373 => ?_
                  refine g_iconst (pc := 376) X (n := 1) (dl_at t_X25_layOut 223 rfl) ?_
                  refine g_isub (pc := 377) X g373 (r32_c rfl) (dl_at t_X25_layOut 224 rfl) ?_
                  refine g_join (γ := Int × Int × Int) (fun q => r32 q.1 ∧ r64 q.2.1 ∧ r64 q.2.2) 403 (fun q => [(0, rv D a0), (1, jv x1_205), (3, iv x3_218), (4, iv x4_234), (5, iv x5_242)]) (fun q => [jv q.2.2, jv q.2.1, iv q.1, iv x4_234, rv D a0]) (fun q => h295) (fun q => m_X25_layOut_j403 a0 x4_234 x5_242 q.1 q.2.1 q.2.2 h295) ?_ ?_
                  · rintro ⟨s2_403, s3_403, s4_403⟩ ⟨rs2_403, rs3_403, rs4_403⟩
                    try dsimp only
                    unfold m_X25_layOut_j403
                    refine g_ladd (pc := 403) X rs3_403 rs4_403 (dl_at t_X25_layOut 237 rfl) ?_
                    refine r_callTv (pc := 404) X (fun _ hv => s_X25_relax k309 r4_234 rs2_403 (r64_w _) hv) cw_code q5099 q379 (in_Vk X (As := [iv x4_234, iv s2_403, jv (w64 (s3_403 + s4_403))]) kX25 k309 (Or.inl q5096) q5098 qs340 cw_code q5099 ⟨by decide, by decide⟩ rfl (dl_at t_X25_layOut 238 rfl)) (dl_at t_X25_layOut 238 rfl) (cat24 (st := []) (Nat.le_of_ble_eq_true rfl)) (Nat.le_of_ble_eq_true rfl) (Nat.le_of_ble_eq_true rfl) (fun v404 h404 E404 => ?_) (fun _ _ ha _ => gt_at fun Q hQ => gt_out (Q := Q) X rfl ha (hno _) _ Q rfl hQ)
                    exact J407 h404 (E295.trans E404)
                  intro J403
                  refine g_icmpne (pc := 378) X r5_242 (r32_w _) (off := 7) (tgt := 385) rfl (dl_at t_X25_layOut 225 rfl) (fun _ => ?_) (fun _ => ?_)
                  · refine g_lload (pc := 385) X (i := 6) (q := 6) (x := x6_316) rfl (dl_at t_X25_layOut 228 rfl) ?_
                    refine g_lload (pc := 387) X (i := 6) (q := 6) (x := x6_316) rfl (dl_at t_X25_layOut 229 rfl) ?_
                    refine g_lmul (pc := 389) X r6_316 r6_316 (dl_at t_X25_layOut 230 rfl) ?_
                    refine g_iload (pc := 390) X (i := 8) (q := 0) (x := s0_354) rfl (dl_at t_X25_layOut 231 rfl) ?_
                    refine g_join (γ := Int × Int × Int × Int) (fun q => r32 q.1 ∧ r64 q.2.1 ∧ r64 q.2.2.1 ∧ r64 q.2.2.2) 402 (fun q => [(0, rv D a0), (1, jv x1_205), (3, iv x3_218), (4, iv x4_234), (5, iv x5_242)]) (fun q => [jv q.2.2.2, jv q.2.2.1, jv q.2.1, iv q.1, iv x4_234, rv D a0]) (fun q => h295) (fun q => m_X25_layOut_j402 a0 x4_234 x5_242 q.1 q.2.1 q.2.2.1 q.2.2.2 h295) ?_ ?_
                    · rintro ⟨s2_402, s3_402, s4_402, s5_402⟩ ⟨rs2_402, rs3_402, rs4_402, rs5_402⟩
                      try dsimp only
                      unfold m_X25_layOut_j402
                      refine g_ladd (pc := 402) X rs4_402 rs5_402 (dl_at t_X25_layOut 236 rfl) ?_
                      exact J403 (s2_402, s3_402, (w64 (s4_402 + s5_402))) ⟨rs2_402, rs3_402, (r64_w _)⟩
                    intro J402
                    refine g_ifeq (pc := 392) X (r32_z rs0_354) (off := 9) (tgt := 401) rfl (dl_at t_X25_layOut 232 rfl) (fun _ => ?_) (fun _ => ?_)
                    · refine g_lconst0 (pc := 401) X (dl_at t_X25_layOut 235 rfl) ?_
                      refine g_ls (ls2 := [(0, rv D a0), (1, jv x1_205), (3, iv x3_218), (4, iv x4_234), (5, iv x5_242)]) [1, 2, 3, 4, 5] rfl ?_
                      exact J402 ((w32 (x5_242 + 1)), (h295 (h295 a0 132) x4_234), (w64 (x6_316 * x6_316)), 0) ⟨(r32_w _), g369, (r64_w _), (r64_c rfl)⟩
                    refine g_ldc2 (pc := 395) X (index := 844) (n := 400) q5095 (dl_at t_X25_layOut 233 rfl) ?_
                    refine g_goto (pc := 398) X (off := 4) (tgt := 402) rfl (dl_at t_X25_layOut 234 rfl) ?_
                    refine g_ls (ls2 := [(0, rv D a0), (1, jv x1_205), (3, iv x3_218), (4, iv x4_234), (5, iv x5_242)]) [1, 2, 3, 4, 5] rfl ?_
                    exact J402 ((w32 (x5_242 + 1)), (h295 (h295 a0 132) x4_234), (w64 (x6_316 * x6_316)), 400) ⟨(r32_w _), g369, (r64_w _), (r64_c rfl)⟩
                  refine g_lconst0 (pc := 381) X (dl_at t_X25_layOut 226 rfl) ?_
                  refine g_goto (pc := 382) X (off := 21) (tgt := 403) rfl (dl_at t_X25_layOut 227 rfl) ?_
                  refine g_ls (ls2 := [(0, rv D a0), (1, jv x1_205), (3, iv x3_218), (4, iv x4_234), (5, iv x5_242)]) [1, 2, 3, 4, 5] rfl ?_
                  exact J403 ((w32 (x5_242 + 1)), (h295 (h295 a0 132) x4_234), 0) ⟨(r32_w _), g369, (r64_c rfl)⟩
                intro J354
                refine g_join (γ := Unit) (fun q => True) 353 (fun q => [(0, rv D a0), (1, jv x1_205), (3, iv x3_218), (4, iv x4_234), (5, iv x5_242), (6, jv x6_316)]) (fun q => []) (fun q => h295) (fun q => m_X25_layOut_j353 x6_316 x5_242 a0 x4_234 h295) ?_ ?_
                · rintro _ _
                  try dsimp only
                  unfold m_X25_layOut_j353
                  refine g_iconst (pc := 353) X (n := 0) (dl_at t_X25_layOut 209 rfl) ?_
                  exact J354 0 (Or.inl rfl)
                intro J353
                refine g_ifge (pc := 325) X g324 (off := 28) (tgt := 353) rfl (dl_at t_X25_layOut 195 rfl) (fun _ => ?_) (fun _ => ?_)
                · refine g_ls (ls2 := [(0, rv D a0), (1, jv x1_205), (3, iv x3_218), (4, iv x4_234), (5, iv x5_242), (6, jv x6_316)]) [2, 3, 4, 5, 1, 0] rfl ?_
                  exact J353 () trivial
                refine g_aload_n (pc := 328) X (j := 0) (i := 0) (q := 2) (x := a0) rfl rfl (dl_at t_X25_layOut 196 rfl) ?_
                refine g_aload_n (pc := 329) X (j := 0) (i := 0) (q := 2) (x := a0) rfl rfl (dl_at t_X25_layOut 197 rfl) ?_
                refine r_getr (pc := 330) X fX25_43 k309 q3822 (dl_at t_X25_layOut 198 rfl) ?_
                refine g_iload (pc := 333) X (i := 5) (q := 1) (x := x5_242) rfl (dl_at t_X25_layOut 199 rfl) ?_
                refine g_gd fun k335 => ?_
                refine g_iald (pc := 335) X r5_242 k335 (dl_at t_X25_layOut 200 rfl) fun g335 => ?_
                refine g_aload_n (pc := 336) X (j := 0) (i := 0) (q := 2) (x := a0) rfl rfl (dl_at t_X25_layOut 201 rfl) ?_
                refine r_getr (pc := 337) X fX25_44 k309 q3824 (dl_at t_X25_layOut 202 rfl) ?_
                refine g_iload (pc := 340) X (i := 5) (q := 1) (x := x5_242) rfl (dl_at t_X25_layOut 203 rfl) ?_
                refine g_gd fun k342 => ?_
                refine g_iald (pc := 342) X r5_242 k342 (dl_at t_X25_layOut 204 rfl) fun g342 => ?_
                refine r_callRz (pc := 343) X (fun _ hv => s_X25_endsHyphen k309 g335 g342 hv) cw_code q5094 q379 (in_Vk X (As := [iv (h295 (h295 a0 43) x5_242), iv (h295 (h295 a0 44) x5_242)]) kX25 k309 (Or.inl q5091) q5092 q5093 cw_code q5094 ⟨by decide, by decide⟩ rfl (dl_at t_X25_layOut 205 rfl)) (dl_at t_X25_layOut 205 rfl) (cat24 (st := []) (Nat.le_of_ble_eq_true rfl)) (Nat.le_of_ble_eq_true rfl) (Nat.le_of_ble_eq_true rfl) fun v343 g343 => ?_
                refine g_ifeq (pc := 346) X (r32_z g343) (off := 7) (tgt := 353) rfl (dl_at t_X25_layOut 206 rfl) (fun _ => ?_) (fun _ => ?_)
                · refine g_ls (ls2 := [(0, rv D a0), (1, jv x1_205), (3, iv x3_218), (4, iv x4_234), (5, iv x5_242), (6, jv x6_316)]) [2, 3, 4, 5, 1, 0] rfl ?_
                  exact J353 () trivial
                refine g_iconst (pc := 349) X (n := 1) (dl_at t_X25_layOut 207 rfl) ?_
                refine g_goto (pc := 350) X (off := 4) (tgt := 354) rfl (dl_at t_X25_layOut 208 rfl) ?_
                refine g_ls (ls2 := [(0, rv D a0), (1, jv x1_205), (3, iv x3_218), (4, iv x4_234), (5, iv x5_242), (6, jv x6_316)]) [2, 3, 4, 5, 1, 0] rfl ?_
                exact J354 1 (Or.inr rfl)
              refine g_goto (pc := 301) X (off := 106) (tgt := 407) rfl (dl_at t_X25_layOut 181 rfl) ?_
              exact J407 h295 E295
            · rintro h_413 E_413
              try dsimp only [sE]
              refine g_aload_n (pc := 413) X (j := 0) (i := 0) (q := 0) (x := a0) rfl rfl (dl_at t_X25_layOut 241 rfl) ?_
              have k414 := kx (E_234.trans E_413) (by decide) k220
              refine r_getr (pc := 414) X fX25_131 k414 q3943 (dl_at t_X25_layOut 242 rfl) ?_
              refine g_iload (pc := 417) X (i := 4) (q := 3) (x := x4_234) rfl (dl_at t_X25_layOut 243 rfl) ?_
              refine g_gd fun k419 => ?_
              refine g_iald (pc := 419) X r4_234 k419 (dl_at t_X25_layOut 244 rfl) fun g419 => ?_
              refine g_lti g419 fun x4_420 r4_420 => ?_
              refine g_istoreN (pc := 420) X (i := 4) (x := x4_420) (b := 3) (w := iv x3_218) (rest := [(0, rv D a0), (1, jv x1_205)]) (Nat.le_of_ble_eq_true rfl) [2, 0, 1] rfl (by decide) rfl rfl (dl_at t_X25_layOut 245 rfl) ?_
              refine g_goto (pc := 422) X (off := (-188)) (tgt := 234) rfl (dl_at t_X25_layOut 246 rfl) ?_
              refine g_ls (ls2 := [(0, rv D a0), (1, jv x1_205), (3, iv x3_218), (4, iv x4_420)]) [2, 3, 1, 0] rfl ?_
              exact g_at fun Q hQ => hQ ⟨r4_420, (E_234.trans E_413)⟩
          · rintro h_425 E_425
            try dsimp only [sE]
            refine r_iinc (pc := 425) X (i := 3) (q := 2) (n := 1) (x := x3_218) (rest := [(0, rv D a0), (1, jv x1_205)]) rfl r3_218 (r32_c rfl) (Nat.le_of_ble_eq_true rfl) [0, 1] rfl rfl (dl_at t_X25_layOut 247 rfl) fun x3_425 r3_425 => ?_
            refine g_goto (pc := 428) X (off := (-210)) (tgt := 218) rfl (dl_at t_X25_layOut 248 rfl) ?_
            refine g_ls (ls2 := [(0, rv D a0), (1, jv x1_205), (3, iv x3_425)]) [1, 2, 0] rfl ?_
            exact g_at fun Q hQ => hQ ⟨r3_425, (E_218.trans E_425)⟩
        · rintro h_431 E_431
          try dsimp only [sE]
          refine g_iconst (pc := 431) X (n := (-1)) (dl_at t_X25_layOut 249 rfl) ?_
          refine g_lti (r32_c rfl) fun x3_432 r3_432 => ?_
          refine g_istore_n (pc := 432) X (j := 3) (i := 3) (x := x3_432) (rest := [(0, rv D a0)]) rfl (Nat.le_of_ble_eq_true rfl) [0] rfl rfl (dl_at t_X25_layOut 250 rfl) ?_
          refine g_aload_n (pc := 433) X (j := 0) (i := 0) (q := 1) (x := a0) rfl rfl (dl_at t_X25_layOut 251 rfl) ?_
          have k434 := kx (E212.trans E_431) (by decide) k196
          refine r_getr (pc := 434) X fX25_125 k434 q3937 (dl_at t_X25_layOut 252 rfl) ?_
          refine g_aload_n (pc := 437) X (j := 0) (i := 0) (q := 1) (x := a0) rfl rfl (dl_at t_X25_layOut 253 rfl) ?_
          refine r_geti (pc := 438) X fX25_42 k434 q3821 (dl_at t_X25_layOut 254 rfl) fun g438 => ?_
          refine g_gd fun k441 => ?_
          refine g_iald (pc := 441) X g438 k441 (dl_at t_X25_layOut 255 rfl) fun g441 => ?_
          refine g_lti g441 fun x4_442 r4_442 => ?_
          refine g_istoreN (pc := 442) X (i := 4) (x := x4_442) (b := 3) (w := iv x3_432) (rest := [(0, rv D a0)]) (Nat.le_of_ble_eq_true rfl) [0, 1] rfl (by decide) rfl rfl (dl_at t_X25_layOut 256 rfl) ?_
          refine g_ls (ls2 := [(0, rv D a0), (3, iv x3_432), (4, iv x4_442)]) [2, 1, 0] rfl ?_
          refine g_loop1 (fun (q : Int × Int) => [(0, rv D a0), (3, iv q.1), (4, iv q.2)]) (fun (q : Int × Int) => h_431) (fun (q : Int × Int) => r32 q.1 ∧ r32 q.2) 512 (fun (y512 : Int) => [(0, rv D a0), (3, iv y512)]) (fun (y512 : Int) => h_431) (fun (y512 : Int) => r32 y512) (x3_432, x4_442) ⟨r3_432, r4_442⟩ ?_ ?_
          · rintro ⟨x3_444, x4_444⟩ ⟨r3_444, r4_444⟩
            try dsimp only
            unfold m_X25_layOut_l444
            refine g_iload (pc := 444) X (i := 4) (q := 2) (x := x4_444) rfl (dl_at t_X25_layOut 257 rfl) ?_
            refine g_iflt (pc := 446) X r4_444 (off := 66) (tgt := 512) rfl (dl_at t_X25_layOut 258 rfl) (fun _ => ?_) (fun _ => ?_)
            · refine g_ls (ls2 := [(0, rv D a0), (3, iv x3_444)]) [0, 1] rfl ?_
              exact g_at fun Q hQ => hQ r3_444
            refine g_iload_n (pc := 449) X (j := 3) (i := 3) (q := 1) (x := x3_444) rfl rfl (dl_at t_X25_layOut 259 rfl) ?_
            refine g_join (γ := Int) (fun q => r32 q) 500 (fun q => [(0, rv D a0), (3, iv q), (4, iv x4_444)]) (fun q => []) (fun q => h_431) (fun q => m_X25_layOut_j500 a0 x4_444 q h_431) ?_ ?_
            · rintro x3_500 r3_500
              try dsimp only
              unfold m_X25_layOut_j500
              refine g_aload_n (pc := 500) X (j := 0) (i := 0) (q := 0) (x := a0) rfl rfl (dl_at t_X25_layOut 288 rfl) ?_
              refine r_getr (pc := 501) X fX25_131 k434 q3943 (dl_at t_X25_layOut 289 rfl) ?_
              refine g_iload (pc := 504) X (i := 4) (q := 2) (x := x4_444) rfl (dl_at t_X25_layOut 290 rfl) ?_
              refine g_gd fun k506 => ?_
              refine g_iald (pc := 506) X r4_444 k506 (dl_at t_X25_layOut 291 rfl) fun g506 => ?_
              refine g_lti g506 fun x4_507 r4_507 => ?_
              refine g_istoreN (pc := 507) X (i := 4) (x := x4_507) (b := 3) (w := iv x3_500) (rest := [(0, rv D a0)]) (Nat.le_of_ble_eq_true rfl) [1, 0] rfl (by decide) rfl rfl (dl_at t_X25_layOut 292 rfl) ?_
              refine g_goto (pc := 509) X (off := (-65)) (tgt := 444) rfl (dl_at t_X25_layOut 293 rfl) ?_
              refine g_ls (ls2 := [(0, rv D a0), (3, iv x3_500), (4, iv x4_507)]) [2, 1, 0] rfl ?_
              exact g_at fun Q hQ => hQ ⟨r3_500, r4_507⟩
            intro J500
            refine g_join (γ := Unit) (fun q => True) 497 (fun q => [(0, rv D a0), (4, iv x4_444)]) (fun q => []) (fun q => h_431) (fun q => m_X25_layOut_j497 a0 x4_444 h_431) ?_ ?_
            · rintro _ _
              try dsimp only
              unfold m_X25_layOut_j497
              refine g_iload (pc := 497) X (i := 4) (q := 1) (x := x4_444) rfl (dl_at t_X25_layOut 286 rfl) ?_
              refine g_istore_n (pc := 499) X (j := 3) (i := 3) (x := x4_444) (rest := [(0, rv D a0), (4, iv x4_444)]) rfl (Nat.le_of_ble_eq_true rfl) [0, 1] rfl rfl (dl_at t_X25_layOut 287 rfl) ?_
              refine g_ls (ls2 := [(0, rv D a0), (3, iv x4_444), (4, iv x4_444)]) [1, 0, 2] rfl ?_
              exact J500 x4_444 r4_444
            intro J497
            refine g_iflt (pc := 450) X r3_444 (off := 47) (tgt := 497) rfl (dl_at t_X25_layOut 260 rfl) (fun _ => ?_) (fun _ => ?_)
            · refine g_ls (ls2 := [(0, rv D a0), (4, iv x4_444)]) [0, 2] rfl ?_
              exact J497 () trivial
            refine g_aload_n (pc := 453) X (j := 0) (i := 0) (q := 0) (x := a0) rfl rfl (dl_at t_X25_layOut 261 rfl) ?_
            refine r_getr (pc := 454) X fX25_132 k434 q3944 (dl_at t_X25_layOut 262 rfl) ?_
            refine g_iload (pc := 457) X (i := 4) (q := 2) (x := x4_444) rfl (dl_at t_X25_layOut 263 rfl) ?_
            refine g_gd fun k459 => ?_
            refine g_lald (pc := 459) X r4_444 k459 (dl_at t_X25_layOut 264 rfl) fun g459 => ?_
            refine g_aload_n (pc := 460) X (j := 0) (i := 0) (q := 0) (x := a0) rfl rfl (dl_at t_X25_layOut 265 rfl) ?_
            refine r_getr (pc := 461) X fX25_132 k434 q3944 (dl_at t_X25_layOut 266 rfl) ?_
            refine g_iload_n (pc := 464) X (j := 3) (i := 3) (q := 1) (x := x3_444) rfl rfl (dl_at t_X25_layOut 267 rfl) ?_
            refine g_gd fun k465 => ?_
            refine g_lald (pc := 465) X r3_444 k465 (dl_at t_X25_layOut 268 rfl) fun g465 => ?_
            refine g_lcmp (pc := 466) X g459 g465 (dl_at t_X25_layOut 269 rfl) ?_
            refine g_iflt (pc := 467) X (r32_lcmp _ _) (off := 30) (tgt := 497) rfl (dl_at t_X25_layOut 270 rfl) (fun _ => ?_) (fun _ => ?_)
            · refine g_ls (ls2 := [(0, rv D a0), (4, iv x4_444)]) [0, 2] rfl ?_
              exact J497 () trivial
            refine g_aload_n (pc := 470) X (j := 0) (i := 0) (q := 0) (x := a0) rfl rfl (dl_at t_X25_layOut 271 rfl) ?_
            refine r_getr (pc := 471) X fX25_132 k434 q3944 (dl_at t_X25_layOut 272 rfl) ?_
            refine g_iload (pc := 474) X (i := 4) (q := 2) (x := x4_444) rfl (dl_at t_X25_layOut 273 rfl) ?_
            refine g_lald (pc := 476) X r4_444 k459 (dl_at t_X25_layOut 274 rfl) fun g476 => ?_
            refine g_aload_n (pc := 477) X (j := 0) (i := 0) (q := 0) (x := a0) rfl rfl (dl_at t_X25_layOut 275 rfl) ?_
            refine r_getr (pc := 478) X fX25_132 k434 q3944 (dl_at t_X25_layOut 276 rfl) ?_
            refine g_iload_n (pc := 481) X (j := 3) (i := 3) (q := 1) (x := x3_444) rfl rfl (dl_at t_X25_layOut 277 rfl) ?_
            refine g_lald (pc := 482) X r3_444 k465 (dl_at t_X25_layOut 278 rfl) fun g482 => ?_
            refine g_lcmp (pc := 483) X g476 g482 (dl_at t_X25_layOut 279 rfl) ?_
            refine g_ifne (pc := 484) X (r32_lcmp _ _) (off := 16) (tgt := 500) rfl (dl_at t_X25_layOut 280 rfl) (fun _ => ?_) (fun _ => ?_)
            · exact J500 x3_444 r3_444
            refine g_aload_n (pc := 487) X (j := 0) (i := 0) (q := 0) (x := a0) rfl rfl (dl_at t_X25_layOut 281 rfl) ?_
            refine g_iload (pc := 488) X (i := 4) (q := 2) (x := x4_444) rfl (dl_at t_X25_layOut 282 rfl) ?_
            refine g_iload_n (pc := 490) X (j := 3) (i := 3) (q := 1) (x := x3_444) rfl rfl (dl_at t_X25_layOut 283 rfl) ?_
            refine r_callRz (pc := 491) X (fun _ hv => s_X25_columnsFirst k434 r4_444 r3_444 hv) cw_code q5103 q379 (in_Vk X (As := [iv x4_444, iv x3_444]) kX25 k434 (Or.inl q5100) q5102 qs341 cw_code q5103 ⟨by decide, by decide⟩ rfl (dl_at t_X25_layOut 284 rfl)) (dl_at t_X25_layOut 284 rfl) (cat24 (st := []) (Nat.le_of_ble_eq_true rfl)) (Nat.le_of_ble_eq_true rfl) (Nat.le_of_ble_eq_true rfl) fun v491 g491 => ?_
            refine g_ifeq (pc := 494) X (r32_z g491) (off := 6) (tgt := 500) rfl (dl_at t_X25_layOut 285 rfl) (fun _ => ?_) (fun _ => ?_)
            · exact J500 x3_444 r3_444
            refine g_ls (ls2 := [(0, rv D a0), (4, iv x4_444)]) [0, 2] rfl ?_
            exact J497 () trivial
          · rintro x3_512 r3_512
            try dsimp only [sE]
            refine g_iload_n (pc := 512) X (j := 3) (i := 3) (q := 1) (x := x3_512) rfl rfl (dl_at t_X25_layOut 294 rfl) ?_
            refine g_ifge (pc := 513) X r3_512 (off := 11) (tgt := 524) rfl (dl_at t_X25_layOut 295 rfl) (fun _ => ?_) (fun _ => ?_)
            · refine g_aload_n (pc := 524) X (j := 0) (i := 0) (q := 0) (x := a0) rfl rfl (dl_at t_X25_layOut 300 rfl) ?_
              refine g_iload_n (pc := 525) X (j := 3) (i := 3) (q := 1) (x := x3_512) rfl rfl (dl_at t_X25_layOut 301 rfl) ?_
              refine r_callTv (pc := 526) X (fun _ hv => s_X25_place k434 r3_512 hv) cw_code q5109 q379 (in_Vk X (As := [iv x3_512]) kX25 k434 (Or.inl q5106) q5108 qs342 cw_code q5109 ⟨by decide, by decide⟩ rfl (dl_at t_X25_layOut 302 rfl)) (dl_at t_X25_layOut 302 rfl) (cat24 (st := []) (Nat.le_of_ble_eq_true rfl)) (Nat.le_of_ble_eq_true rfl) (Nat.le_of_ble_eq_true rfl) (fun v526 h526 E526 => ?_) (fun _ _ ha _ => gt_at fun Q hQ => gt_out (Q := Q) X rfl ha (hno _) _ Q rfl hQ)
              exact g_vret (pc := 529) X (v := 0) rfl rfl (dl_at t_X25_layOut 303 rfl)
            refine r_new (pc := 516) X kJ12 q5104 (dl_at t_X25_layOut 296 rfl) fun a516 h516 p516 k516 E516 => ?_
            refine g_dup (pc := 519) X rv_cat (dl_at t_X25_layOut 297 rfl) ?_
            refine r_callV (pc := 520) X (fun _ hv => sx_ArithmeticException_init__V k516 hv) cw_code q3018 q395 (in_I X (As := []) (Int.ne_of_gt p516) rfl (Or.inl q5105) q3017 q3018 ⟨by decide, by decide⟩ rfl (dl_at t_X25_layOut 298 rfl)) (dl_at t_X25_layOut 298 rfl) (cat24 (st := [rv D a516]) (Nat.le_of_ble_eq_true rfl)) (Nat.le_of_ble_eq_true rfl) (Nat.le_of_ble_eq_true rfl) fun h520 E520 => ?_
            refine g_athrow (pc := 523) X (Int.ne_of_gt p516) (dl_at t_X25_layOut 299 rfl) ?_
            exact gt_at fun Q hQ => gt_out (Q := Q) X rfl p516 (hno _) _ Q rfl hQ
  exact g_vret (pc := 22) X (v := 0) rfl rfl (dl_at t_X25_layOut 12 rfl)
def k_X25_pageOf : List (Nat × Instr × Nat) := [(0, .iload_n 1, 1), (1, .aload_n 0, 1), (2, .getfield 14, 3), (5, .getfield 489, 3), (8, .iconst 2, 1), (9, .iaload, 1), (10, .idiv, 1), (11, .iconst 1, 1), (12, .iadd, 1), (13, .ireturn, 1)]
theorem t_X25_pageOf : ∀ q ∈ k_X25_pageOf, decode cX25_pageOf q.1 = .ok q.2 := dl_all (by decide +kernel)
noncomputable def m_X25_pageOf (a0 a1 : Int) (h : Hp) : Option (Int) :=
  gd (h (h a0 0) (-2) = 400) (gd (h (h (h a0 0) 2) (-2) % 16 = 1 ∧ (0 : Int) ≤ 2 ∧ 2 < h (h (h a0 0) 2) (-1)) (gd ((h (h (h a0 0) 2) 2) ≠ 0) (some (w32 ((w32 (Int.tdiv a1 (h (h (h a0 0) 2) 2))) + 1)))))
theorem s_X25_pageOf {l : Launch} [NoTr l] {D : SD} {a0 a1 : Int} {h : Hp} (hk : h a0 (-2) = 416) (r1 : r32 a1) {r : Int} (hm : m_X25_pageOf a0 a1 h = some r) : Sim l D yX25_pageOf (Cond.code yX25_pageOf cX25_pageOf 2 (Option.some Jvm.ClassFile.FieldType.int)) 0 0 [rv D a0, iv a1] h 1 ((0, r), h) := by
  refine Sim.of (fin := fun (v : Int) => ((0, v), h)) (lsE := [(0, rv D a0), (1, iv a1)]) hm rfl cwS_code (la_r (la_i la_n)) (ll_r (ll_i ll_n)) ?_
  intro p e s m below meth c X hcw hmm hcc hnm hname
  unfold m_X25_pageOf
  refine g_iload_n (pc := 0) X (j := 1) (i := 1) (q := 1) (x := a1) rfl rfl (dl_at t_X25_pageOf 0 rfl) ?_
  refine g_aload_n (pc := 1) X (j := 0) (i := 0) (q := 0) (x := a0) rfl rfl (dl_at t_X25_pageOf 1 rfl) ?_
  refine r_getr (pc := 2) X fX25_0 hk q3761 (dl_at t_X25_pageOf 2 rfl) ?_
  refine g_gd fun k5 => ?_
  refine r_getr (pc := 5) X fX24_2 k5 q3647 (dl_at t_X25_pageOf 3 rfl) ?_
  refine g_iconst (pc := 8) X (n := 2) (dl_at t_X25_pageOf 4 rfl) ?_
  refine g_gd fun k9 => ?_
  refine g_iald (pc := 9) X (r32_c rfl) k9 (dl_at t_X25_pageOf 5 rfl) fun g9 => ?_
  refine g_gd fun z10 => ?_
  refine g_idiv (pc := 10) X r1 g9 z10 (dl_at t_X25_pageOf 6 rfl) ?_
  refine g_iconst (pc := 11) X (n := 1) (dl_at t_X25_pageOf 7 rfl) ?_
  refine g_iadd (pc := 12) X (r32_w _) (r32_c rfl) (dl_at t_X25_pageOf 8 rfl) ?_
  exact g_iret (pc := 13) X (r32_w _) rfl rfl (dl_at t_X25_pageOf 9 rfl)
def k_X25_number : List (Nat × Instr × Nat) := [(0, .aload_n 0, 1), (1, .aload_n 0, 1), (2, .getfield 832, 3), (5, .ifCond .ne 7, 3), (8, .iconst 0, 1), (9, .goto 13, 3), (12, .aload_n 0, 1), (13, .aload_n 0, 1), (14, .getfield 832, 3), (17, .iconst 1, 1), (18, .isub, 1), (19, .invokevirtual 865, 3), (22, .putfield 868, 3), (25, .iconst 0, 1), (26, .istore_n 1, 1), (27, .iconst 0, 1), (28, .istore_n 2, 1), (29, .iconst 0, 1), (30, .istore_n 3, 1), (31, .iload_n 3, 1), (32, .aload_n 0, 1), (33, .getfield 783, 3), (36, .if_icmp .ge 121, 3), (39, .aload_n 0, 1), (40, .aload_n 0, 1), (41, .getfield 142, 3), (44, .iload_n 3, 1), (45, .iaload, 1), (46, .invokevirtual 865, 3), (49, .istore 4, 2), (51, .aload_n 0, 1), (52, .getfield 14, 3), (55, .getfield 489, 3), (58, .iconst 5, 1), (59, .iaload, 1), (60, .iconst 1, 1), (61, .if_icmp .ne 11, 3), (64, .iload 4, 2), (66, .iload_n 2, 1), (67, .if_icmp .eq 5, 3), (70, .iconst 0, 1), (71, .istore_n 1, 1), (72, .iload 4, 2), (74, .istore_n 2, 1), (75, .aload_n 0, 1), (76, .getfield 14, 3), (79, .getfield 489, 3), (82, .iconst 5, 1), (83, .iaload, 1), (84, .ifCond .le 40, 3), (87, .aload_n 0, 1), (88, .getfield 130, 3), (91, .iload_n 3, 1), (92, .iaload, 1), (93, .ifCond .ge 31, 3), (96, .aload_n 0, 1), (97, .getfield 14, 3), (100, .aload_n 0, 1), (101, .getfield 35, 3), (104, .aload_n 0, 1), (105, .getfield 124, 3), (108, .iload_n 3, 1), (109, .iaload, 1), (110, .iaload, 1), (111, .bipush 14, 2), (113, .invokevirtual 477, 3), (116, .iconst 1, 1), (117, .if_icmp .ne 7, 3), (120, .iconst 1, 1), (121, .goto 4, 3), (124, .iconst 0, 1), (125, .istore 5, 2), (127, .iload 5, 2), (129, .ifCond .eq 6, 3), (132, .iinc 1 1, 3), (135, .aload_n 0, 1), (136, .getfield 139, 3), (139, .iload_n 3, 1), (140, .iload 5, 2), (142, .ifCond .eq 7, 3), (145, .iload_n 1, 1), (146, .goto 4, 3), (149, .iconst 0, 1), (150, .iastore, 1), (151, .iinc 3 1, 3), (154, .goto (-123), 3), (157, .iconst 0, 1), (158, .istore_n 3, 1), (159, .iload_n 3, 1), (160, .aload_n 0, 1), (161, .getfield 342, 3), (164, .getfield 351, 3), (167, .if_icmp .ge 138, 3), (170, .aload_n 0, 1), (171, .getfield 214, 3), (174, .iload_n 3, 1), (175, .iaload, 1), (176, .ifCond .lt 7, 3), (179, .iconst 1, 1), (180, .goto 4, 3), (183, .iconst 0, 1), (184, .istore 4, 2), (186, .aload_n 0, 1), (187, .getfield 232, 3), (190, .iload_n 3, 1), (191, .iload 4, 2), (193, .ifCond .eq 21, 3), (196, .aload_n 0, 1), (197, .aload_n 0, 1), (198, .getfield 142, 3), (201, .aload_n 0, 1), (202, .getfield 214, 3), (205, .iload_n 3, 1), (206, .iaload, 1), (207, .iaload, 1), (208, .invokevirtual 865, 3), (211, .goto 4, 3), (214, .iconst 0, 1), (215, .iastore, 1), (216, .aload_n 0, 1), (217, .getfield 235, 3), (220, .iload_n 3, 1), (221, .iload 4, 2), (223, .ifCond .eq 17, 3), (226, .aload_n 0, 1), (227, .getfield 139, 3), (230, .aload_n 0, 1), (231, .getfield 214, 3), (234, .iload_n 3, 1), (235, .iaload, 1), (236, .iaload, 1), (237, .goto 4, 3), (240, .iconst 0, 1), (241, .iastore, 1), (242, .aload_n 0, 1), (243, .getfield 238, 3), (246, .iload_n 3, 1), (247, .iload 4, 2), (249, .ifCond .eq 17, 3), (252, .aload_n 0, 1), (253, .getfield 139, 3), (256, .aload_n 0, 1), (257, .getfield 217, 3), (260, .iload_n 3, 1), (261, .iaload, 1), (262, .iaload, 1), (263, .goto 4, 3), (266, .iconst 0, 1), (267, .iastore, 1), (268, .aload_n 0, 1), (269, .getfield 331, 3), (272, .iload_n 3, 1), (273, .iload 4, 2), (275, .ifCond .eq 22, 3), (278, .aload_n 0, 1), (279, .getfield 217, 3), (282, .iload_n 3, 1), (283, .iaload, 1), (284, .aload_n 0, 1), (285, .getfield 214, 3), (288, .iload_n 3, 1), (289, .iaload, 1), (290, .if_icmp .eq 7, 3), (293, .iconst 1, 1), (294, .goto 4, 3), (297, .iconst 0, 1), (298, .bastore, 1), (299, .iinc 3 1, 3), (302, .goto (-143), 3), (305, .return_, 1)]
theorem t_X25_number : ∀ q ∈ k_X25_number, decode cX25_number q.1 = .ok q.2 := dl_all (by decide +kernel)
noncomputable def m_X25_number_j150 (x1_135 v46 x3_31 s0_150 s2_150 : Int) (h_31 : Hp) : Option ((Int × Int × Int × Hp) ⊕ ((Hp))) :=
  gd (h_31 s0_150 (-2) % 16 = 1 ∧ (0 : Int) ≤ x3_31 ∧ x3_31 < h_31 s0_150 (-1)) (pt h_31 s0_150 x3_31 s2_150 fun h150 =>
  lt_ (w32 (x3_31 + 1)) fun x3_151 =>
  some (.inl (x1_135, v46, x3_151, h150)))
noncomputable def m_X25_number_j135 (s0_125 a0 v46 x3_31 x1_135 : Int) (h_31 : Hp) : Option ((Int × Int × Int × Hp) ⊕ ((Hp))) :=
  if s0_125 = 0 then (m_X25_number_j150 x1_135 v46 x3_31 (h_31 a0 48) 0 h_31)
  else (m_X25_number_j150 x1_135 v46 x3_31 (h_31 a0 48) x1_135 h_31)
noncomputable def m_X25_number_j125 (v46 x1_72 a0 x3_31 s0_125 : Int) (h_31 : Hp) : Option ((Int × Int × Int × Hp) ⊕ ((Hp))) :=
  if s0_125 = 0 then (m_X25_number_j135 s0_125 a0 v46 x3_31 x1_72 h_31)
  else (lt_ (w32 (x1_72 + 1)) fun x1_132 =>
  m_X25_number_j135 s0_125 a0 v46 x3_31 x1_132 h_31)
noncomputable def m_X25_number_j124 (v46 x1_72 a0 x3_31 : Int) (h_31 : Hp) : Option ((Int × Int × Int × Hp) ⊕ ((Hp))) :=
  m_X25_number_j125 v46 x1_72 a0 x3_31 0 h_31
noncomputable def m_X25_number_j72 (v46 x3_31 a0 x1_72 : Int) (h_31 : Hp) : Option ((Int × Int × Int × Hp) ⊕ ((Hp))) :=
  if (h_31 (h_31 (h_31 a0 0) 2) 5) ≤ 0 then (m_X25_number_j124 v46 x1_72 a0 x3_31 h_31)
  else (gd (h_31 (h_31 a0 45) (-2) % 16 = 1 ∧ (0 : Int) ≤ x3_31 ∧ x3_31 < h_31 (h_31 a0 45) (-1)) (if 0 ≤ (h_31 (h_31 a0 45) x3_31) then (m_X25_number_j124 v46 x1_72 a0 x3_31 h_31)
  else (gd (h_31 (h_31 a0 43) (-2) % 16 = 1 ∧ (0 : Int) ≤ x3_31 ∧ x3_31 < h_31 (h_31 a0 43) (-1)) (gd (h_31 (h_31 a0 12) (-2) % 16 = 1 ∧ (0 : Int) ≤ (h_31 (h_31 a0 43) x3_31) ∧ (h_31 (h_31 a0 43) x3_31) < h_31 (h_31 a0 12) (-1)) ((m_X24_of (h_31 a0 0) (h_31 (h_31 a0 12) (h_31 (h_31 a0 43) x3_31)) 14 h_31).bind fun v113 =>
  if v113 ≠ 1 then (m_X25_number_j124 v46 x1_72 a0 x3_31 h_31)
  else (m_X25_number_j125 v46 x1_72 a0 x3_31 1 h_31))))))
noncomputable def m_X25_number_l31 (a0 x1_31 x2_31 x3_31 : Int) (h_31 : Hp) : Option ((Int × Int × Int × Hp) ⊕ ((Hp))) :=
  if (h_31 a0 42) ≤ x3_31 then (some (.inr h_31))
  else (gd (h_31 (h_31 a0 49) (-2) % 16 = 1 ∧ (0 : Int) ≤ x3_31 ∧ x3_31 < h_31 (h_31 a0 49) (-1)) ((m_X25_pageOf a0 (h_31 (h_31 a0 49) x3_31) h_31).bind fun v46 =>
  gd (h_31 (h_31 a0 0) (-2) = 400) (gd (h_31 (h_31 (h_31 a0 0) 2) (-2) % 16 = 1 ∧ (0 : Int) ≤ 5 ∧ 5 < h_31 (h_31 (h_31 a0 0) 2) (-1)) (if (h_31 (h_31 (h_31 a0 0) 2) 5) ≠ 1 then (m_X25_number_j72 v46 x3_31 a0 x1_31 h_31)
  else (if v46 = x2_31 then (m_X25_number_j72 v46 x3_31 a0 x1_31 h_31)
  else (lt_ 0 fun x1_71 =>
  m_X25_number_j72 v46 x3_31 a0 x1_71 h_31))))))
noncomputable def m_X25_number_j298 (x3_159 s0_298 s2_298 : Int) (h267 : Hp) : Option ((Int × Hp) ⊕ ((Hp))) :=
  gd (h267 s0_298 (-2) % 16 = 3 ∧ (0 : Int) ≤ x3_159 ∧ x3_159 < h267 s0_298 (-1)) (pt h267 s0_298 x3_159 s2_298 fun h298 =>
  lt_ (w32 (x3_159 + 1)) fun x3_299 =>
  some (.inl (x3_299, h298)))
noncomputable def m_X25_number_j297 (x3_159 s0_297 : Int) (h267 : Hp) : Option ((Int × Hp) ⊕ ((Hp))) :=
  m_X25_number_j298 x3_159 s0_297 0 h267
noncomputable def m_X25_number_j267 (a0 x3_159 s0_184 s0_267 s2_267 : Int) (h241 : Hp) : Option ((Int × Hp) ⊕ ((Hp))) :=
  gd (h241 s0_267 (-2) % 16 = 1 ∧ (0 : Int) ≤ x3_159 ∧ x3_159 < h241 s0_267 (-1)) (pt h241 s0_267 x3_159 s2_267 fun h267 =>
  if s0_184 = 0 then (m_X25_number_j297 x3_159 (h267 a0 140) h267)
  else (gd (h267 (h267 a0 78) (-2) % 16 = 1 ∧ (0 : Int) ≤ x3_159 ∧ x3_159 < h267 (h267 a0 78) (-1)) (gd (h267 (h267 a0 77) (-2) % 16 = 1 ∧ (0 : Int) ≤ x3_159 ∧ x3_159 < h267 (h267 a0 77) (-1)) (if (h267 (h267 a0 78) x3_159) = (h267 (h267 a0 77) x3_159) then (m_X25_number_j297 x3_159 (h267 a0 140) h267)
  else (m_X25_number_j298 x3_159 (h267 a0 140) 1 h267)))))
noncomputable def m_X25_number_j241 (a0 x3_159 s0_184 s0_241 s2_241 : Int) (h215 : Hp) : Option ((Int × Hp) ⊕ ((Hp))) :=
  gd (h215 s0_241 (-2) % 16 = 1 ∧ (0 : Int) ≤ x3_159 ∧ x3_159 < h215 s0_241 (-1)) (pt h215 s0_241 x3_159 s2_241 fun h241 =>
  if s0_184 = 0 then (m_X25_number_j267 a0 x3_159 s0_184 (h241 a0 85) 0 h241)
  else (gd (h241 (h241 a0 78) (-2) % 16 = 1 ∧ (0 : Int) ≤ x3_159 ∧ x3_159 < h241 (h241 a0 78) (-1)) (gd (h241 (h241 a0 48) (-2) % 16 = 1 ∧ (0 : Int) ≤ (h241 (h241 a0 78) x3_159) ∧ (h241 (h241 a0 78) x3_159) < h241 (h241 a0 48) (-1)) (m_X25_number_j267 a0 x3_159 s0_184 (h241 a0 85) (h241 (h241 a0 48) (h241 (h241 a0 78) x3_159)) h241))))
noncomputable def m_X25_number_j215 (s0_184 x3_159 a0 s0_215 s2_215 : Int) (h_159 : Hp) : Option ((Int × Hp) ⊕ ((Hp))) :=
  gd (h_159 s0_215 (-2) % 16 = 1 ∧ (0 : Int) ≤ x3_159 ∧ x3_159 < h_159 s0_215 (-1)) (pt h_159 s0_215 x3_159 s2_215 fun h215 =>
  if s0_184 = 0 then (m_X25_number_j241 a0 x3_159 s0_184 (h215 a0 84) 0 h215)
  else (gd (h215 (h215 a0 77) (-2) % 16 = 1 ∧ (0 : Int) ≤ x3_159 ∧ x3_159 < h215 (h215 a0 77) (-1)) (gd (h215 (h215 a0 48) (-2) % 16 = 1 ∧ (0 : Int) ≤ (h215 (h215 a0 77) x3_159) ∧ (h215 (h215 a0 77) x3_159) < h215 (h215 a0 48) (-1)) (m_X25_number_j241 a0 x3_159 s0_184 (h215 a0 84) (h215 (h215 a0 48) (h215 (h215 a0 77) x3_159)) h215))))
noncomputable def m_X25_number_j184 (a0 x3_159 s0_184 : Int) (h_159 : Hp) : Option ((Int × Hp) ⊕ ((Hp))) :=
  if s0_184 = 0 then (m_X25_number_j215 s0_184 x3_159 a0 (h_159 a0 83) 0 h_159)
  else (gd (h_159 (h_159 a0 49) (-2) % 16 = 1 ∧ (0 : Int) ≤ (h_159 (h_159 a0 77) x3_159) ∧ (h_159 (h_159 a0 77) x3_159) < h_159 (h_159 a0 49) (-1)) ((m_X25_pageOf a0 (h_159 (h_159 a0 49) (h_159 (h_159 a0 77) x3_159)) h_159).bind fun v208 =>
  m_X25_number_j215 s0_184 x3_159 a0 (h_159 a0 83) v208 h_159))
noncomputable def m_X25_number_l159 (a0 x3_159 : Int) (h_159 : Hp) : Option ((Int × Hp) ⊕ ((Hp))) :=
  gd (h_159 (h_159 a0 1) (-2) = 384) (if (h_159 (h_159 a0 1) 3) ≤ x3_159 then (some (.inr h_159))
  else (gd (h_159 (h_159 a0 77) (-2) % 16 = 1 ∧ (0 : Int) ≤ x3_159 ∧ x3_159 < h_159 (h_159 a0 77) (-1)) (if (h_159 (h_159 a0 77) x3_159) < 0 then (m_X25_number_j184 a0 x3_159 0 h_159)
  else (m_X25_number_j184 a0 x3_159 1 h_159))))
noncomputable def m_X25_number_j22 (a0 s1_22 : Int) (h : Hp) : Option (Hp) :=
  pt h a0 95 s1_22 fun h22 =>
  lt_ 0 fun x1_26 =>
  lt_ 0 fun x2_28 =>
  lt_ 0 fun x3_30 =>
  (lp (fun (q : Int × Int × Int × Hp) => m_X25_number_l31 a0 q.1 q.2.1 q.2.2.1 q.2.2.2) (x1_26, x2_28, x3_30, h22)).bind (fun (y157 : Hp) => lt_ 0 fun x3_158 =>
  (lp (fun (q : Int × Hp) => m_X25_number_l159 a0 q.1 q.2) (x3_158, y157)).bind (fun (x : Hp) => some x))
noncomputable def m_X25_number (a0 : Int) (h : Hp) : Option (Hp) :=
  if (h a0 94) ≠ 0 then ((m_X25_pageOf a0 (w32 ((h a0 94) - 1)) h).bind fun v19 =>
  m_X25_number_j22 a0 v19 h)
  else (m_X25_number_j22 a0 0 h)
theorem s_X25_number {l : Launch} [NoTr l] {D : SD} {a0 : Int} {h : Hp} (hk : h a0 (-2) = 416) {r : Hp} (hm : m_X25_number a0 h = some r) : Sim l D yX25_number (Cond.code yX25_number cX25_number 6 (Option.none : Option Jvm.ClassFile.FieldType)) 2 74 [rv D a0] h 0 ((0, 0), r) := by
  refine Sim.of (fin := fun (v : Hp) => ((0, 0), v)) (lsE := [(0, rv D a0)]) hm rfl cwS_code (la_r la_n) (ll_r ll_n) ?_
  intro p e s m below meth c X hcw hmm hcc hnm hname
  unfold m_X25_number
  refine g_aload_n (pc := 0) X (j := 0) (i := 0) (q := 0) (x := a0) rfl rfl (dl_at t_X25_number 0 rfl) ?_
  refine g_aload_n (pc := 1) X (j := 0) (i := 0) (q := 0) (x := a0) rfl rfl (dl_at t_X25_number 1 rfl) ?_
  refine r_geti (pc := 2) X fX25_94 hk q3903 (dl_at t_X25_number 2 rfl) fun g2 => ?_
  refine g_join (γ := Int) (fun q => r32 q) 22 (fun q => [(0, rv D a0)]) (fun q => [iv q, rv D a0]) (fun q => h) (fun q => m_X25_number_j22 a0 q h) ?_ ?_
  · rintro s1_22 rs1_22
    try dsimp only
    unfold m_X25_number_j22
    refine r_puti (pc := 22) X fX25_95 hk q3905 rfl (dl_at t_X25_number 12 rfl) rs1_22 (fun h22 E22 => ?_)
    refine g_iconst (pc := 25) X (n := 0) (dl_at t_X25_number 13 rfl) ?_
    refine g_ltz (Or.inl rfl) fun x1_26 r1_26 => ?_
    refine g_istore_nN (pc := 26) X (j := 1) (i := 1) (x := x1_26) (b := 0) (w := rv D a0) (rest := []) rfl (Nat.le_of_ble_eq_true rfl) [0] rfl (by decide) rv_cat rfl (dl_at t_X25_number 14 rfl) ?_
    refine g_iconst (pc := 27) X (n := 0) (dl_at t_X25_number 15 rfl) ?_
    refine g_ltz (Or.inl rfl) fun x2_28 r2_28 => ?_
    refine g_istore_nN (pc := 28) X (j := 2) (i := 2) (x := x2_28) (b := 1) (w := iv x1_26) (rest := [(0, rv D a0)]) rfl (Nat.le_of_ble_eq_true rfl) [0, 1] rfl (by decide) rfl rfl (dl_at t_X25_number 16 rfl) ?_
    refine g_iconst (pc := 29) X (n := 0) (dl_at t_X25_number 17 rfl) ?_
    refine g_ltz (Or.inl rfl) fun x3_30 r3_30 => ?_
    refine g_istore_nN (pc := 30) X (j := 3) (i := 3) (x := x3_30) (b := 2) (w := iv x2_28) (rest := [(1, iv x1_26), (0, rv D a0)]) rfl (Nat.le_of_ble_eq_true rfl) [0, 1, 2] rfl (by decide) rfl rfl (dl_at t_X25_number 18 rfl) ?_
    refine g_ls (ls2 := [(0, rv D a0), (1, iv x1_26), (2, iv x2_28), (3, iv x3_30)]) [3, 2, 1, 0] rfl ?_
    refine g_loop1 (fun (q : Int × Int × Int × Hp) => [(0, rv D a0), (1, iv q.1), (2, iv q.2.1), (3, iv q.2.2.1)]) (fun (q : Int × Int × Int × Hp) => q.2.2.2) (fun (q : Int × Int × Int × Hp) => r32 q.1 ∧ r32 q.2.1 ∧ r32 q.2.2.1 ∧ Ext h22 q.2.2.2) 157 (fun (y157 : Hp) => [(0, rv D a0)]) (fun (y157 : Hp) => y157) (fun (y157 : Hp) => Ext h22 y157) (x1_26, x2_28, x3_30, h22) ⟨(r32_z r1_26), (r32_z r2_28), (r32_z r3_30), (Ext.refl _)⟩ ?_ ?_
    · rintro ⟨x1_31, x2_31, x3_31, h_31⟩ ⟨r1_31, r2_31, r3_31, E_31⟩
      try dsimp only
      unfold m_X25_number_l31
      refine g_iload_n (pc := 31) X (j := 3) (i := 3) (q := 3) (x := x3_31) rfl rfl (dl_at t_X25_number 19 rfl) ?_
      refine g_aload_n (pc := 32) X (j := 0) (i := 0) (q := 0) (x := a0) rfl rfl (dl_at t_X25_number 20 rfl) ?_
      have k33 := kx (E22.trans E_31) (by decide) hk
      refine r_geti (pc := 33) X fX25_42 k33 q3821 (dl_at t_X25_number 21 rfl) fun g33 => ?_
      refine g_icmpge (pc := 36) X r3_31 g33 (off := 121) (tgt := 157) rfl (dl_at t_X25_number 22 rfl) (fun _ => ?_) (fun _ => ?_)
      · refine g_ls (ls2 := [(0, rv D a0)]) [0] rfl ?_
        exact g_at fun Q hQ => hQ E_31
      refine g_aload_n (pc := 39) X (j := 0) (i := 0) (q := 0) (x := a0) rfl rfl (dl_at t_X25_number 23 rfl) ?_
      refine g_aload_n (pc := 40) X (j := 0) (i := 0) (q := 0) (x := a0) rfl rfl (dl_at t_X25_number 24 rfl) ?_
      refine r_getr (pc := 41) X fX25_49 k33 q3832 (dl_at t_X25_number 25 rfl) ?_
      refine g_iload_n (pc := 44) X (j := 3) (i := 3) (q := 3) (x := x3_31) rfl rfl (dl_at t_X25_number 26 rfl) ?_
      refine g_gd fun k45 => ?_
      refine g_iald (pc := 45) X r3_31 k45 (dl_at t_X25_number 27 rfl) fun g45 => ?_
      refine r_callRi (pc := 46) X (fun _ hv => s_X25_pageOf k33 g45 hv) cw_code q5129 q379 (in_Vk X (As := [iv (h_31 (h_31 a0 49) x3_31)]) kX25 k33 (Or.inl q5126) q5127 q5128 cw_code q5129 ⟨by decide, by decide⟩ rfl (dl_at t_X25_number 28 rfl)) (dl_at t_X25_number 28 rfl) (cat24 (st := []) (Nat.le_of_ble_eq_true rfl)) (Nat.le_of_ble_eq_true rfl) (Nat.le_of_ble_eq_true rfl) fun v46 g46 => ?_
      refine g_istoreN (pc := 49) X (i := 4) (x := v46) (b := 3) (w := iv x3_31) (rest := [(0, rv D a0), (1, iv x1_31), (2, iv x2_31)]) (Nat.le_of_ble_eq_true rfl) [3, 0, 1, 2] rfl (by decide) rfl rfl (dl_at t_X25_number 29 rfl) ?_
      refine g_aload_n (pc := 51) X (j := 0) (i := 0) (q := 2) (x := a0) rfl rfl (dl_at t_X25_number 30 rfl) ?_
      refine r_getr (pc := 52) X fX25_0 k33 q3761 (dl_at t_X25_number 31 rfl) ?_
      refine g_gd fun k55 => ?_
      refine r_getr (pc := 55) X fX24_2 k55 q3647 (dl_at t_X25_number 32 rfl) ?_
      refine g_iconst (pc := 58) X (n := 5) (dl_at t_X25_number 33 rfl) ?_
      refine g_gd fun k59 => ?_
      refine g_iald (pc := 59) X (r32_c rfl) k59 (dl_at t_X25_number 34 rfl) fun g59 => ?_
      refine g_iconst (pc := 60) X (n := 1) (dl_at t_X25_number 35 rfl) ?_
      refine g_join (γ := Int) (fun q => r32 q) 72 (fun q => [(0, rv D a0), (1, iv q), (3, iv x3_31), (4, iv v46)]) (fun q => []) (fun q => h_31) (fun q => m_X25_number_j72 v46 x3_31 a0 q h_31) ?_ ?_
      · rintro x1_72 r1_72
        try dsimp only
        unfold m_X25_number_j72
        refine g_iload (pc := 72) X (i := 4) (q := 3) (x := v46) rfl (dl_at t_X25_number 42 rfl) ?_
        refine g_istore_nN (pc := 74) X (j := 2) (i := 2) (x := v46) (b := 1) (w := iv x1_72) (rest := [(0, rv D a0), (3, iv x3_31)]) rfl (Nat.le_of_ble_eq_true rfl) [1, 0, 2] rfl (by decide) rfl rfl (dl_at t_X25_number 43 rfl) ?_
        refine g_aload_n (pc := 75) X (j := 0) (i := 0) (q := 2) (x := a0) rfl rfl (dl_at t_X25_number 44 rfl) ?_
        refine r_getr (pc := 76) X fX25_0 k33 q3761 (dl_at t_X25_number 45 rfl) ?_
        refine r_getr (pc := 79) X fX24_2 k55 q3647 (dl_at t_X25_number 46 rfl) ?_
        refine g_iconst (pc := 82) X (n := 5) (dl_at t_X25_number 47 rfl) ?_
        refine g_iald (pc := 83) X (r32_c rfl) k59 (dl_at t_X25_number 48 rfl) fun g83 => ?_
        refine g_join (γ := Int) (fun q => (q = 0 ∨ q = 1)) 125 (fun q => [(0, rv D a0), (1, iv x1_72), (2, iv v46), (3, iv x3_31)]) (fun q => [iv q]) (fun q => h_31) (fun q => m_X25_number_j125 v46 x1_72 a0 x3_31 q h_31) ?_ ?_
        · rintro s0_125 rs0_125
          try dsimp only
          unfold m_X25_number_j125
          refine g_istore (pc := 125) X (i := 5) (x := s0_125) (rest := [(0, rv D a0), (1, iv x1_72), (2, iv v46), (3, iv x3_31)]) (Nat.le_of_ble_eq_true rfl) [0, 1, 2, 3] rfl rfl (dl_at t_X25_number 71 rfl) ?_
          refine g_iload (pc := 127) X (i := 5) (q := 0) (x := s0_125) rfl (dl_at t_X25_number 72 rfl) ?_
          refine g_join (γ := Int) (fun q => r32 q) 135 (fun q => [(0, rv D a0), (1, iv q), (2, iv v46), (3, iv x3_31), (5, iv s0_125)]) (fun q => []) (fun q => h_31) (fun q => m_X25_number_j135 s0_125 a0 v46 x3_31 q h_31) ?_ ?_
          · rintro x1_135 r1_135
            try dsimp only
            unfold m_X25_number_j135
            refine g_aload_n (pc := 135) X (j := 0) (i := 0) (q := 0) (x := a0) rfl rfl (dl_at t_X25_number 75 rfl) ?_
            refine r_getr (pc := 136) X fX25_48 k33 q3830 (dl_at t_X25_number 76 rfl) ?_
            refine g_iload_n (pc := 139) X (j := 3) (i := 3) (q := 3) (x := x3_31) rfl rfl (dl_at t_X25_number 77 rfl) ?_
            refine g_iload (pc := 140) X (i := 5) (q := 4) (x := s0_125) rfl (dl_at t_X25_number 78 rfl) ?_
            refine g_join (γ := Int × Int) (fun q => r32 q.2) 150 (fun q => [(0, rv D a0), (1, iv x1_135), (2, iv v46), (3, iv x3_31)]) (fun q => [iv q.2, iv x3_31, rv D q.1]) (fun q => h_31) (fun q => m_X25_number_j150 x1_135 v46 x3_31 q.1 q.2 h_31) ?_ ?_
            · rintro ⟨s0_150, s2_150⟩ rs2_150
              try dsimp only
              unfold m_X25_number_j150
              refine g_gd fun k150 => ?_
              refine r_iast (pc := 150) X r3_31 rs2_150 k150 (dl_at t_X25_number 83 rfl) (fun h150 E150 => ?_)
              refine r_iincN (pc := 151) X (i := 3) (q := 3) (n := 1) (x := x3_31) (b := 2) (w := iv v46) (rest := [(0, rv D a0), (1, iv x1_135)]) rfl r3_31 (r32_c rfl) (Nat.le_of_ble_eq_true rfl) [2, 0, 1] rfl (by decide) rfl rfl (dl_at t_X25_number 84 rfl) fun x3_151 r3_151 => ?_
              refine g_goto (pc := 154) X (off := (-123)) (tgt := 31) rfl (dl_at t_X25_number 85 rfl) ?_
              refine g_ls (ls2 := [(0, rv D a0), (1, iv x1_135), (2, iv v46), (3, iv x3_151)]) [2, 3, 1, 0] rfl ?_
              exact g_at fun Q hQ => hQ ⟨r1_135, g46, r3_151, (E_31.trans E150)⟩
            intro J150
            refine g_ifeq (pc := 142) X (r32_z rs0_125) (off := 7) (tgt := 149) rfl (dl_at t_X25_number 79 rfl) (fun _ => ?_) (fun _ => ?_)
            · refine g_iconst (pc := 149) X (n := 0) (dl_at t_X25_number 82 rfl) ?_
              refine g_ls (ls2 := [(0, rv D a0), (1, iv x1_135), (2, iv v46), (3, iv x3_31)]) [0, 1, 2, 3] rfl ?_
              exact J150 ((h_31 a0 48), 0) (r32_c rfl)
            refine g_iload_n (pc := 145) X (j := 1) (i := 1) (q := 1) (x := x1_135) rfl rfl (dl_at t_X25_number 80 rfl) ?_
            refine g_goto (pc := 146) X (off := 4) (tgt := 150) rfl (dl_at t_X25_number 81 rfl) ?_
            refine g_ls (ls2 := [(0, rv D a0), (1, iv x1_135), (2, iv v46), (3, iv x3_31)]) [0, 1, 2, 3] rfl ?_
            exact J150 ((h_31 a0 48), x1_135) r1_135
          intro J135
          refine g_ifeq (pc := 129) X (r32_z rs0_125) (off := 6) (tgt := 135) rfl (dl_at t_X25_number 73 rfl) (fun _ => ?_) (fun _ => ?_)
          · refine g_ls (ls2 := [(0, rv D a0), (1, iv x1_72), (2, iv v46), (3, iv x3_31), (5, iv s0_125)]) [1, 2, 3, 4, 0] rfl ?_
            exact J135 x1_72 r1_72
          refine r_iincN (pc := 132) X (i := 1) (q := 2) (n := 1) (x := x1_72) (b := 0) (w := rv D a0) (rest := [(5, iv s0_125), (2, iv v46), (3, iv x3_31)]) rfl r1_72 (r32_c rfl) (Nat.le_of_ble_eq_true rfl) [1, 0, 3, 4] rfl (by decide) rv_cat rfl (dl_at t_X25_number 74 rfl) fun x1_132 r1_132 => ?_
          refine g_ls (ls2 := [(0, rv D a0), (1, iv x1_132), (2, iv v46), (3, iv x3_31), (5, iv s0_125)]) [1, 0, 3, 4, 2] rfl ?_
          exact J135 x1_132 r1_132
        intro J125
        refine g_join (γ := Unit) (fun q => True) 124 (fun q => [(0, rv D a0), (1, iv x1_72), (2, iv v46), (3, iv x3_31)]) (fun q => []) (fun q => h_31) (fun q => m_X25_number_j124 v46 x1_72 a0 x3_31 h_31) ?_ ?_
        · rintro _ _
          try dsimp only
          unfold m_X25_number_j124
          refine g_iconst (pc := 124) X (n := 0) (dl_at t_X25_number 70 rfl) ?_
          exact J125 0 (Or.inl rfl)
        intro J124
        refine g_ifle (pc := 84) X g83 (off := 40) (tgt := 124) rfl (dl_at t_X25_number 49 rfl) (fun _ => ?_) (fun _ => ?_)
        · refine g_ls (ls2 := [(0, rv D a0), (1, iv x1_72), (2, iv v46), (3, iv x3_31)]) [2, 1, 0, 3] rfl ?_
          exact J124 () trivial
        refine g_aload_n (pc := 87) X (j := 0) (i := 0) (q := 2) (x := a0) rfl rfl (dl_at t_X25_number 50 rfl) ?_
        refine r_getr (pc := 88) X fX25_45 k33 q3826 (dl_at t_X25_number 51 rfl) ?_
        refine g_iload_n (pc := 91) X (j := 3) (i := 3) (q := 3) (x := x3_31) rfl rfl (dl_at t_X25_number 52 rfl) ?_
        refine g_gd fun k92 => ?_
        refine g_iald (pc := 92) X r3_31 k92 (dl_at t_X25_number 53 rfl) fun g92 => ?_
        refine g_ifge (pc := 93) X g92 (off := 31) (tgt := 124) rfl (dl_at t_X25_number 54 rfl) (fun _ => ?_) (fun _ => ?_)
        · refine g_ls (ls2 := [(0, rv D a0), (1, iv x1_72), (2, iv v46), (3, iv x3_31)]) [2, 1, 0, 3] rfl ?_
          exact J124 () trivial
        refine g_aload_n (pc := 96) X (j := 0) (i := 0) (q := 2) (x := a0) rfl rfl (dl_at t_X25_number 55 rfl) ?_
        refine r_getr (pc := 97) X fX25_0 k33 q3761 (dl_at t_X25_number 56 rfl) ?_
        refine g_aload_n (pc := 100) X (j := 0) (i := 0) (q := 2) (x := a0) rfl rfl (dl_at t_X25_number 57 rfl) ?_
        refine r_getr (pc := 101) X fX25_12 k33 q3779 (dl_at t_X25_number 58 rfl) ?_
        refine g_aload_n (pc := 104) X (j := 0) (i := 0) (q := 2) (x := a0) rfl rfl (dl_at t_X25_number 59 rfl) ?_
        refine r_getr (pc := 105) X fX25_43 k33 q3822 (dl_at t_X25_number 60 rfl) ?_
        refine g_iload_n (pc := 108) X (j := 3) (i := 3) (q := 3) (x := x3_31) rfl rfl (dl_at t_X25_number 61 rfl) ?_
        refine g_gd fun k109 => ?_
        refine g_iald (pc := 109) X r3_31 k109 (dl_at t_X25_number 62 rfl) fun g109 => ?_
        refine g_gd fun k110 => ?_
        refine g_iald (pc := 110) X g109 k110 (dl_at t_X25_number 63 rfl) fun g110 => ?_
        refine g_bipush (pc := 111) X (n := 14) rfl (dl_at t_X25_number 64 rfl) ?_
        refine r_callRi (pc := 113) X (fun _ hv => s_X24_of k55 g110 (r32_c rfl) hv) cw_code q4704 q378 (in_Vk X (As := [iv (h_31 (h_31 a0 12) (h_31 (h_31 a0 43) x3_31)), iv 14]) kX24 k55 (Or.inl q4844) q4702 q4703 cw_code q4704 ⟨by decide, by decide⟩ rfl (dl_at t_X25_number 65 rfl)) (dl_at t_X25_number 65 rfl) (cat24 (st := []) (Nat.le_of_ble_eq_true rfl)) (Nat.le_of_ble_eq_true rfl) (Nat.le_of_ble_eq_true rfl) fun v113 g113 => ?_
        refine g_iconst (pc := 116) X (n := 1) (dl_at t_X25_number 66 rfl) ?_
        refine g_icmpne (pc := 117) X g113 (r32_c rfl) (off := 7) (tgt := 124) rfl (dl_at t_X25_number 67 rfl) (fun _ => ?_) (fun _ => ?_)
        · refine g_ls (ls2 := [(0, rv D a0), (1, iv x1_72), (2, iv v46), (3, iv x3_31)]) [2, 1, 0, 3] rfl ?_
          exact J124 () trivial
        refine g_iconst (pc := 120) X (n := 1) (dl_at t_X25_number 68 rfl) ?_
        refine g_goto (pc := 121) X (off := 4) (tgt := 125) rfl (dl_at t_X25_number 69 rfl) ?_
        refine g_ls (ls2 := [(0, rv D a0), (1, iv x1_72), (2, iv v46), (3, iv x3_31)]) [2, 1, 0, 3] rfl ?_
        exact J125 1 (Or.inr rfl)
      intro J72
      refine g_icmpne (pc := 61) X g59 (r32_c rfl) (off := 11) (tgt := 72) rfl (dl_at t_X25_number 36 rfl) (fun _ => ?_) (fun _ => ?_)
      · refine g_ls (ls2 := [(0, rv D a0), (1, iv x1_31), (3, iv x3_31), (4, iv v46)]) [2, 3, 1, 0] rfl ?_
        exact J72 x1_31 r1_31
      refine g_iload (pc := 64) X (i := 4) (q := 0) (x := v46) rfl (dl_at t_X25_number 37 rfl) ?_
      refine g_iload_n (pc := 66) X (j := 2) (i := 2) (q := 4) (x := x2_31) rfl rfl (dl_at t_X25_number 38 rfl) ?_
      refine g_icmpeq (pc := 67) X g46 r2_31 (off := 5) (tgt := 72) rfl (dl_at t_X25_number 39 rfl) (fun _ => ?_) (fun _ => ?_)
      · refine g_ls (ls2 := [(0, rv D a0), (1, iv x1_31), (3, iv x3_31), (4, iv v46)]) [2, 3, 1, 0] rfl ?_
        exact J72 x1_31 r1_31
      refine g_iconst (pc := 70) X (n := 0) (dl_at t_X25_number 40 rfl) ?_
      refine g_ltz (Or.inl rfl) fun x1_71 r1_71 => ?_
      refine g_istore_nN (pc := 71) X (j := 1) (i := 1) (x := x1_71) (b := 0) (w := rv D a0) (rest := [(4, iv v46), (3, iv x3_31)]) rfl (Nat.le_of_ble_eq_true rfl) [2, 0, 1] rfl (by decide) rv_cat rfl (dl_at t_X25_number 41 rfl) ?_
      refine g_ls (ls2 := [(0, rv D a0), (1, iv x1_71), (3, iv x3_31), (4, iv v46)]) [1, 0, 3, 2] rfl ?_
      exact J72 x1_71 (r32_z r1_71)
    · rintro h_157 E_157
      try dsimp only [sE]
      refine g_iconst (pc := 157) X (n := 0) (dl_at t_X25_number 86 rfl) ?_
      refine g_ltz (Or.inl rfl) fun x3_158 r3_158 => ?_
      refine g_istore_n (pc := 158) X (j := 3) (i := 3) (x := x3_158) (rest := [(0, rv D a0)]) rfl (Nat.le_of_ble_eq_true rfl) [0] rfl rfl (dl_at t_X25_number 87 rfl) ?_
      refine g_ls (ls2 := [(0, rv D a0), (3, iv x3_158)]) [1, 0] rfl ?_
      refine g_loop0F (fun (q : Int × Hp) => [(0, rv D a0), (3, iv q.1)]) (fun (q : Int × Hp) => q.2) (fun (q : Int × Hp) => r32 q.1 ∧ Ext h_157 q.2) (x3_158, h_157) ⟨(r32_z r3_158), (Ext.refl _)⟩ ?_ (fun _ => rfl)
      · rintro ⟨x3_159, h_159⟩ ⟨r3_159, E_159⟩
        try dsimp only
        unfold m_X25_number_l159
        refine g_iload_n (pc := 159) X (j := 3) (i := 3) (q := 1) (x := x3_159) rfl rfl (dl_at t_X25_number 88 rfl) ?_
        refine g_aload_n (pc := 160) X (j := 0) (i := 0) (q := 0) (x := a0) rfl rfl (dl_at t_X25_number 89 rfl) ?_
        have k161 := kx (E22.trans (E_157.trans E_159)) (by decide) hk
        refine r_getr (pc := 161) X fX25_1 k161 q3763 (dl_at t_X25_number 90 rfl) ?_
        refine g_gd fun k164 => ?_
        refine r_geti (pc := 164) X fX23_3 k164 q3526 (dl_at t_X25_number 91 rfl) fun g164 => ?_
        refine g_icmpge (pc := 167) X r3_159 g164 (off := 138) (tgt := 305) rfl (dl_at t_X25_number 92 rfl) (fun _ => ?_) (fun _ => ?_)
        · exact g_at fun Q hQ => (g_vret (pc := 305) X (v := 0) rfl rfl (dl_at t_X25_number 169 rfl)) _ Q rfl hQ
        refine g_aload_n (pc := 170) X (j := 0) (i := 0) (q := 0) (x := a0) rfl rfl (dl_at t_X25_number 93 rfl) ?_
        refine r_getr (pc := 171) X fX25_77 k161 q3875 (dl_at t_X25_number 94 rfl) ?_
        refine g_iload_n (pc := 174) X (j := 3) (i := 3) (q := 1) (x := x3_159) rfl rfl (dl_at t_X25_number 95 rfl) ?_
        refine g_gd fun k175 => ?_
        refine g_iald (pc := 175) X r3_159 k175 (dl_at t_X25_number 96 rfl) fun g175 => ?_
        refine g_join (γ := Int) (fun q => (q = 0 ∨ q = 1)) 184 (fun q => [(0, rv D a0), (3, iv x3_159)]) (fun q => [iv q]) (fun q => h_159) (fun q => m_X25_number_j184 a0 x3_159 q h_159) ?_ ?_
        · rintro s0_184 rs0_184
          try dsimp only
          unfold m_X25_number_j184
          refine g_istoreN (pc := 184) X (i := 4) (x := s0_184) (b := 3) (w := iv x3_159) (rest := [(0, rv D a0)]) (Nat.le_of_ble_eq_true rfl) [1, 0] rfl (by decide) rfl rfl (dl_at t_X25_number 101 rfl) ?_
          refine g_aload_n (pc := 186) X (j := 0) (i := 0) (q := 2) (x := a0) rfl rfl (dl_at t_X25_number 102 rfl) ?_
          refine r_getr (pc := 187) X fX25_83 k161 q3883 (dl_at t_X25_number 103 rfl) ?_
          refine g_iload_n (pc := 190) X (j := 3) (i := 3) (q := 1) (x := x3_159) rfl rfl (dl_at t_X25_number 104 rfl) ?_
          refine g_iload (pc := 191) X (i := 4) (q := 0) (x := s0_184) rfl (dl_at t_X25_number 105 rfl) ?_
          refine g_join (γ := Int × Int) (fun q => r32 q.2) 215 (fun q => [(0, rv D a0), (3, iv x3_159), (4, iv s0_184)]) (fun q => [iv q.2, iv x3_159, rv D q.1]) (fun q => h_159) (fun q => m_X25_number_j215 s0_184 x3_159 a0 q.1 q.2 h_159) ?_ ?_
          · rintro ⟨s0_215, s2_215⟩ rs2_215
            try dsimp only
            unfold m_X25_number_j215
            refine g_gd fun k215 => ?_
            refine r_iast (pc := 215) X r3_159 rs2_215 k215 (dl_at t_X25_number 118 rfl) (fun h215 E215 => ?_)
            refine g_aload_n (pc := 216) X (j := 0) (i := 0) (q := 0) (x := a0) rfl rfl (dl_at t_X25_number 119 rfl) ?_
            have k217 := kx E215 (by decide) k161
            refine r_getr (pc := 217) X fX25_84 k217 q3885 (dl_at t_X25_number 120 rfl) ?_
            refine g_iload_n (pc := 220) X (j := 3) (i := 3) (q := 1) (x := x3_159) rfl rfl (dl_at t_X25_number 121 rfl) ?_
            refine g_iload (pc := 221) X (i := 4) (q := 2) (x := s0_184) rfl (dl_at t_X25_number 122 rfl) ?_
            refine g_join (γ := Int × Int) (fun q => r32 q.2) 241 (fun q => [(0, rv D a0), (3, iv x3_159), (4, iv s0_184)]) (fun q => [iv q.2, iv x3_159, rv D q.1]) (fun q => h215) (fun q => m_X25_number_j241 a0 x3_159 s0_184 q.1 q.2 h215) ?_ ?_
            · rintro ⟨s0_241, s2_241⟩ rs2_241
              try dsimp only
              unfold m_X25_number_j241
              refine g_gd fun k241 => ?_
              refine r_iast (pc := 241) X r3_159 rs2_241 k241 (dl_at t_X25_number 133 rfl) (fun h241 E241 => ?_)
              refine g_aload_n (pc := 242) X (j := 0) (i := 0) (q := 0) (x := a0) rfl rfl (dl_at t_X25_number 134 rfl) ?_
              have k243 := kx E241 (by decide) k217
              refine r_getr (pc := 243) X fX25_85 k243 q3887 (dl_at t_X25_number 135 rfl) ?_
              refine g_iload_n (pc := 246) X (j := 3) (i := 3) (q := 1) (x := x3_159) rfl rfl (dl_at t_X25_number 136 rfl) ?_
              refine g_iload (pc := 247) X (i := 4) (q := 2) (x := s0_184) rfl (dl_at t_X25_number 137 rfl) ?_
              refine g_join (γ := Int × Int) (fun q => r32 q.2) 267 (fun q => [(0, rv D a0), (3, iv x3_159), (4, iv s0_184)]) (fun q => [iv q.2, iv x3_159, rv D q.1]) (fun q => h241) (fun q => m_X25_number_j267 a0 x3_159 s0_184 q.1 q.2 h241) ?_ ?_
              · rintro ⟨s0_267, s2_267⟩ rs2_267
                try dsimp only
                unfold m_X25_number_j267
                refine g_gd fun k267 => ?_
                refine r_iast (pc := 267) X r3_159 rs2_267 k267 (dl_at t_X25_number 148 rfl) (fun h267 E267 => ?_)
                refine g_aload_n (pc := 268) X (j := 0) (i := 0) (q := 0) (x := a0) rfl rfl (dl_at t_X25_number 149 rfl) ?_
                have k269 := kx E267 (by decide) k243
                refine r_getr (pc := 269) X fX25_140 k269 q3952 (dl_at t_X25_number 150 rfl) ?_
                refine g_iload_n (pc := 272) X (j := 3) (i := 3) (q := 1) (x := x3_159) rfl rfl (dl_at t_X25_number 151 rfl) ?_
                refine g_iload (pc := 273) X (i := 4) (q := 2) (x := s0_184) rfl (dl_at t_X25_number 152 rfl) ?_
                refine g_join (γ := Int × Int) (fun q => (q.2 = 0 ∨ q.2 = 1)) 298 (fun q => [(0, rv D a0), (3, iv x3_159)]) (fun q => [iv q.2, iv x3_159, rv D q.1]) (fun q => h267) (fun q => m_X25_number_j298 x3_159 q.1 q.2 h267) ?_ ?_
                · rintro ⟨s0_298, s2_298⟩ rs2_298
                  try dsimp only
                  unfold m_X25_number_j298
                  refine g_gd fun k298 => ?_
                  refine r_zast (pc := 298) X r3_159 rs2_298 k298 (dl_at t_X25_number 166 rfl) (fun h298 E298 => ?_)
                  refine r_iinc (pc := 299) X (i := 3) (q := 1) (n := 1) (x := x3_159) (rest := [(0, rv D a0)]) rfl r3_159 (r32_c rfl) (Nat.le_of_ble_eq_true rfl) [0] rfl rfl (dl_at t_X25_number 167 rfl) fun x3_299 r3_299 => ?_
                  refine g_goto (pc := 302) X (off := (-143)) (tgt := 159) rfl (dl_at t_X25_number 168 rfl) ?_
                  refine g_ls (ls2 := [(0, rv D a0), (3, iv x3_299)]) [1, 0] rfl ?_
                  exact g_at fun Q hQ => hQ ⟨r3_299, (E_159.trans (E215.trans (E241.trans (E267.trans E298))))⟩
                intro J298
                refine g_join (γ := Int) (fun q => True) 297 (fun q => [(0, rv D a0), (3, iv x3_159)]) (fun q => [iv x3_159, rv D q]) (fun q => h267) (fun q => m_X25_number_j297 x3_159 q h267) ?_ ?_
                · rintro s0_297 _
                  try dsimp only
                  unfold m_X25_number_j297
                  refine g_iconst (pc := 297) X (n := 0) (dl_at t_X25_number 165 rfl) ?_
                  exact J298 (s0_297, 0) (Or.inl rfl)
                intro J297
                refine g_ifeq (pc := 275) X (r32_z rs0_184) (off := 22) (tgt := 297) rfl (dl_at t_X25_number 153 rfl) (fun _ => ?_) (fun _ => ?_)
                · refine g_ls (ls2 := [(0, rv D a0), (3, iv x3_159)]) [0, 1] rfl ?_
                  exact J297 (h267 a0 140) trivial
                refine g_aload_n (pc := 278) X (j := 0) (i := 0) (q := 0) (x := a0) rfl rfl (dl_at t_X25_number 154 rfl) ?_
                refine r_getr (pc := 279) X fX25_78 k269 q3877 (dl_at t_X25_number 155 rfl) ?_
                refine g_iload_n (pc := 282) X (j := 3) (i := 3) (q := 1) (x := x3_159) rfl rfl (dl_at t_X25_number 156 rfl) ?_
                refine g_gd fun k283 => ?_
                refine g_iald (pc := 283) X r3_159 k283 (dl_at t_X25_number 157 rfl) fun g283 => ?_
                refine g_aload_n (pc := 284) X (j := 0) (i := 0) (q := 0) (x := a0) rfl rfl (dl_at t_X25_number 158 rfl) ?_
                refine r_getr (pc := 285) X fX25_77 k269 q3875 (dl_at t_X25_number 159 rfl) ?_
                refine g_iload_n (pc := 288) X (j := 3) (i := 3) (q := 1) (x := x3_159) rfl rfl (dl_at t_X25_number 160 rfl) ?_
                refine g_gd fun k289 => ?_
                refine g_iald (pc := 289) X r3_159 k289 (dl_at t_X25_number 161 rfl) fun g289 => ?_
                refine g_icmpeq (pc := 290) X g283 g289 (off := 7) (tgt := 297) rfl (dl_at t_X25_number 162 rfl) (fun _ => ?_) (fun _ => ?_)
                · refine g_ls (ls2 := [(0, rv D a0), (3, iv x3_159)]) [0, 1] rfl ?_
                  exact J297 (h267 a0 140) trivial
                refine g_iconst (pc := 293) X (n := 1) (dl_at t_X25_number 163 rfl) ?_
                refine g_goto (pc := 294) X (off := 4) (tgt := 298) rfl (dl_at t_X25_number 164 rfl) ?_
                refine g_ls (ls2 := [(0, rv D a0), (3, iv x3_159)]) [0, 1] rfl ?_
                exact J298 ((h267 a0 140), 1) (Or.inr rfl)
              intro J267
              refine g_ifeq (pc := 249) X (r32_z rs0_184) (off := 17) (tgt := 266) rfl (dl_at t_X25_number 138 rfl) (fun _ => ?_) (fun _ => ?_)
              · refine g_iconst (pc := 266) X (n := 0) (dl_at t_X25_number 147 rfl) ?_
                exact J267 ((h241 a0 85), 0) (r32_c rfl)
              refine g_aload_n (pc := 252) X (j := 0) (i := 0) (q := 0) (x := a0) rfl rfl (dl_at t_X25_number 139 rfl) ?_
              refine r_getr (pc := 253) X fX25_48 k243 q3830 (dl_at t_X25_number 140 rfl) ?_
              refine g_aload_n (pc := 256) X (j := 0) (i := 0) (q := 0) (x := a0) rfl rfl (dl_at t_X25_number 141 rfl) ?_
              refine r_getr (pc := 257) X fX25_78 k243 q3877 (dl_at t_X25_number 142 rfl) ?_
              refine g_iload_n (pc := 260) X (j := 3) (i := 3) (q := 1) (x := x3_159) rfl rfl (dl_at t_X25_number 143 rfl) ?_
              refine g_gd fun k261 => ?_
              refine g_iald (pc := 261) X r3_159 k261 (dl_at t_X25_number 144 rfl) fun g261 => ?_
              refine g_gd fun k262 => ?_
              refine g_iald (pc := 262) X g261 k262 (dl_at t_X25_number 145 rfl) fun g262 => ?_
              refine g_goto (pc := 263) X (off := 4) (tgt := 267) rfl (dl_at t_X25_number 146 rfl) ?_
              exact J267 ((h241 a0 85), (h241 (h241 a0 48) (h241 (h241 a0 78) x3_159))) g262
            intro J241
            refine g_ifeq (pc := 223) X (r32_z rs0_184) (off := 17) (tgt := 240) rfl (dl_at t_X25_number 123 rfl) (fun _ => ?_) (fun _ => ?_)
            · refine g_iconst (pc := 240) X (n := 0) (dl_at t_X25_number 132 rfl) ?_
              exact J241 ((h215 a0 84), 0) (r32_c rfl)
            refine g_aload_n (pc := 226) X (j := 0) (i := 0) (q := 0) (x := a0) rfl rfl (dl_at t_X25_number 124 rfl) ?_
            refine r_getr (pc := 227) X fX25_48 k217 q3830 (dl_at t_X25_number 125 rfl) ?_
            refine g_aload_n (pc := 230) X (j := 0) (i := 0) (q := 0) (x := a0) rfl rfl (dl_at t_X25_number 126 rfl) ?_
            refine r_getr (pc := 231) X fX25_77 k217 q3875 (dl_at t_X25_number 127 rfl) ?_
            refine g_iload_n (pc := 234) X (j := 3) (i := 3) (q := 1) (x := x3_159) rfl rfl (dl_at t_X25_number 128 rfl) ?_
            refine g_gd fun k235 => ?_
            refine g_iald (pc := 235) X r3_159 k235 (dl_at t_X25_number 129 rfl) fun g235 => ?_
            refine g_gd fun k236 => ?_
            refine g_iald (pc := 236) X g235 k236 (dl_at t_X25_number 130 rfl) fun g236 => ?_
            refine g_goto (pc := 237) X (off := 4) (tgt := 241) rfl (dl_at t_X25_number 131 rfl) ?_
            exact J241 ((h215 a0 84), (h215 (h215 a0 48) (h215 (h215 a0 77) x3_159))) g236
          intro J215
          refine g_ifeq (pc := 193) X (r32_z rs0_184) (off := 21) (tgt := 214) rfl (dl_at t_X25_number 106 rfl) (fun _ => ?_) (fun _ => ?_)
          · refine g_iconst (pc := 214) X (n := 0) (dl_at t_X25_number 117 rfl) ?_
            refine g_ls (ls2 := [(0, rv D a0), (3, iv x3_159), (4, iv s0_184)]) [2, 1, 0] rfl ?_
            exact J215 ((h_159 a0 83), 0) (r32_c rfl)
          refine g_aload_n (pc := 196) X (j := 0) (i := 0) (q := 2) (x := a0) rfl rfl (dl_at t_X25_number 107 rfl) ?_
          refine g_aload_n (pc := 197) X (j := 0) (i := 0) (q := 2) (x := a0) rfl rfl (dl_at t_X25_number 108 rfl) ?_
          refine r_getr (pc := 198) X fX25_49 k161 q3832 (dl_at t_X25_number 109 rfl) ?_
          refine g_aload_n (pc := 201) X (j := 0) (i := 0) (q := 2) (x := a0) rfl rfl (dl_at t_X25_number 110 rfl) ?_
          refine r_getr (pc := 202) X fX25_77 k161 q3875 (dl_at t_X25_number 111 rfl) ?_
          refine g_iload_n (pc := 205) X (j := 3) (i := 3) (q := 1) (x := x3_159) rfl rfl (dl_at t_X25_number 112 rfl) ?_
          refine g_iald (pc := 206) X r3_159 k175 (dl_at t_X25_number 113 rfl) fun g206 => ?_
          refine g_gd fun k207 => ?_
          refine g_iald (pc := 207) X g206 k207 (dl_at t_X25_number 114 rfl) fun g207 => ?_
          refine r_callRi (pc := 208) X (fun _ hv => s_X25_pageOf k161 g207 hv) cw_code q5129 q379 (in_Vk X (As := [iv (h_159 (h_159 a0 49) (h_159 (h_159 a0 77) x3_159))]) kX25 k161 (Or.inl q5126) q5127 q5128 cw_code q5129 ⟨by decide, by decide⟩ rfl (dl_at t_X25_number 115 rfl)) (dl_at t_X25_number 115 rfl) (cat24 (st := [iv x3_159, rv D (h_159 a0 83)]) (Nat.le_of_ble_eq_true rfl)) (Nat.le_of_ble_eq_true rfl) (Nat.le_of_ble_eq_true rfl) fun v208 g208 => ?_
          refine g_goto (pc := 211) X (off := 4) (tgt := 215) rfl (dl_at t_X25_number 116 rfl) ?_
          refine g_ls (ls2 := [(0, rv D a0), (3, iv x3_159), (4, iv s0_184)]) [2, 1, 0] rfl ?_
          exact J215 ((h_159 a0 83), v208) g208
        intro J184
        refine g_iflt (pc := 176) X g175 (off := 7) (tgt := 183) rfl (dl_at t_X25_number 97 rfl) (fun _ => ?_) (fun _ => ?_)
        · refine g_iconst (pc := 183) X (n := 0) (dl_at t_X25_number 100 rfl) ?_
          exact J184 0 (Or.inl rfl)
        refine g_iconst (pc := 179) X (n := 1) (dl_at t_X25_number 98 rfl) ?_
        refine g_goto (pc := 180) X (off := 4) (tgt := 184) rfl (dl_at t_X25_number 99 rfl) ?_
        exact J184 1 (Or.inr rfl)
  intro J22
  refine g_ifne (pc := 5) X g2 (off := 7) (tgt := 12) rfl (dl_at t_X25_number 3 rfl) (fun _ => ?_) (fun _ => ?_)
  · refine g_aload_n (pc := 12) X (j := 0) (i := 0) (q := 0) (x := a0) rfl rfl (dl_at t_X25_number 6 rfl) ?_
    refine g_aload_n (pc := 13) X (j := 0) (i := 0) (q := 0) (x := a0) rfl rfl (dl_at t_X25_number 7 rfl) ?_
    refine r_geti (pc := 14) X fX25_94 hk q3903 (dl_at t_X25_number 8 rfl) fun g14 => ?_
    refine g_iconst (pc := 17) X (n := 1) (dl_at t_X25_number 9 rfl) ?_
    refine g_isub (pc := 18) X g14 (r32_c rfl) (dl_at t_X25_number 10 rfl) ?_
    refine r_callRi (pc := 19) X (fun _ hv => s_X25_pageOf hk (r32_w _) hv) cw_code q5129 q379 (in_Vk X (As := [iv (w32 ((h a0 94) - 1))]) kX25 hk (Or.inl q5126) q5127 q5128 cw_code q5129 ⟨by decide, by decide⟩ rfl (dl_at t_X25_number 11 rfl)) (dl_at t_X25_number 11 rfl) (cat24 (st := [rv D a0]) (Nat.le_of_ble_eq_true rfl)) (Nat.le_of_ble_eq_true rfl) (Nat.le_of_ble_eq_true rfl) fun v19 g19 => ?_
    exact J22 v19 g19
  refine g_iconst (pc := 8) X (n := 0) (dl_at t_X25_number 4 rfl) ?_
  refine g_goto (pc := 9) X (off := 13) (tgt := 22) rfl (dl_at t_X25_number 5 rfl) ?_
  exact J22 0 (r32_c rfl)
def k_X25_round : List (Nat × Instr × Nat) := [(0, .aload_n 0, 1), (1, .invokevirtual 369, 3), (4, .iconst 0, 1), (5, .istore_n 1, 1), (6, .iload_n 1, 1), (7, .aload_n 0, 1), (8, .getfield 372, 3), (11, .if_icmp .ge 14, 3), (14, .aload_n 0, 1), (15, .iload_n 1, 1), (16, .invokevirtual 375, 3), (19, .iinc 1 1, 3), (22, .goto (-16), 3), (25, .aload_n 0, 1), (26, .getfield 47, 3), (29, .aload_n 0, 1), (30, .getfield 372, 3), (33, .aload_n 0, 1), (34, .aload_n 0, 1), (35, .getfield 372, 3), (38, .invokevirtual 378, 3), (41, .iastore, 1), (42, .aload_n 0, 1), (43, .invokevirtual 381, 3), (46, .aload_n 0, 1), (47, .getfield 53, 3), (50, .iconst 0, 1), (51, .iconst 0, 1), (52, .iastore, 1), (53, .iconst 0, 1), (54, .istore_n 1, 1), (55, .iload_n 1, 1), (56, .aload_n 0, 1), (57, .getfield 372, 3), (60, .if_icmp .ge 35, 3), (63, .aload_n 0, 1), (64, .iload_n 1, 1), (65, .invokevirtual 384, 3), (68, .aload_n 0, 1), (69, .getfield 53, 3), (72, .iload_n 1, 1), (73, .iconst 1, 1), (74, .iadd, 1), (75, .aload_n 0, 1), (76, .getfield 53, 3), (79, .iload_n 1, 1), (80, .iaload, 1), (81, .aload_n 0, 1), (82, .getfield 50, 3), (85, .iload_n 1, 1), (86, .iaload, 1), (87, .iadd, 1), (88, .iastore, 1), (89, .iinc 1 1, 3), (92, .goto (-37), 3), (95, .aload_n 0, 1), (96, .invokevirtual 387, 3), (99, .aload_n 0, 1), (100, .invokevirtual 390, 3), (103, .aload_n 0, 1), (104, .invokevirtual 393, 3), (107, .aload_n 0, 1), (108, .invokevirtual 396, 3), (111, .return_, 1)]
theorem t_X25_round : ∀ q ∈ k_X25_round, decode cX25_round q.1 = .ok q.2 := dl_all (by decide +kernel)
noncomputable def m_X25_round_l6 (a0 x1_6 : Int) (h_6 : Hp) : Option ((Int × Hp) ⊕ ((Hp) ⊕ (((Int × Int) × Hp)))) :=
  if (h_6 a0 9) ≤ x1_6 then (some (.inr (.inl h_6)))
  else (bT (m_X25_part a0 x1_6 h_6) (fun _ h16 =>
  lt_ (w32 (x1_6 + 1)) fun x1_19 =>
  some (.inl (x1_19, h16))) (fun a_ h_ => some (.inr (.inr ((1, a_), h_)))))
noncomputable def m_X25_round_l55 (a0 x1_55 : Int) (h_55 : Hp) : Option ((Int × Hp) ⊕ (((Int × Int) × Hp))) :=
  if (h_55 a0 9) ≤ x1_55 then (bT (m_X25_flow a0 h_55) (fun _ h96 =>
  (m_X25_findLines a0 h96).bind fun h100 =>
  bT (m_X25_layOut a0 h100) (fun _ h104 =>
  (m_X25_number a0 h104).bind fun h108 =>
  some (.inr ((0, 0), h108))) (fun a_ h_ => some (.inr ((1, a_), h_)))) (fun a_ h_ => some (.inr ((1, a_), h_))))
  else ((m_X25_breakUp a0 x1_55 h_55).bind fun h65 =>
  gd (h65 (h65 a0 18) (-2) % 16 = 1 ∧ (0 : Int) ≤ x1_55 ∧ x1_55 < h65 (h65 a0 18) (-1)) (gd (h65 (h65 a0 17) (-2) % 16 = 1 ∧ (0 : Int) ≤ x1_55 ∧ x1_55 < h65 (h65 a0 17) (-1)) (gd (h65 (h65 a0 18) (-2) % 16 = 1 ∧ (0 : Int) ≤ (w32 (x1_55 + 1)) ∧ (w32 (x1_55 + 1)) < h65 (h65 a0 18) (-1)) (pt h65 (h65 a0 18) (w32 (x1_55 + 1)) (w32 ((h65 (h65 a0 18) x1_55) + (h65 (h65 a0 17) x1_55))) fun h88 =>
  lt_ (w32 (x1_55 + 1)) fun x1_89 =>
  some (.inl (x1_89, h88))))))
noncomputable def m_X25_round (a0 : Int) (h : Hp) : Option ((Int × Int) × Hp) :=
  bT (m_X25_build a0 h) (fun _ h1 =>
  lt_ 0 fun x1_5 =>
  (lp (fun (q : Int × Hp) => m_X25_round_l6 a0 q.1 q.2) (x1_5, h1)).bind (sE (fun (y25 : Hp) => (m_X25_breakAt a0 (y25 a0 9) y25).bind fun v38 =>
  gd (y25 (y25 a0 16) (-2) % 16 = 1 ∧ (0 : Int) ≤ (y25 a0 9) ∧ (y25 a0 9) < y25 (y25 a0 16) (-1)) (pt y25 (y25 a0 16) (y25 a0 9) v38 fun h41 =>
  (m_X25_tables a0 h41).bind fun h43 =>
  gd (h43 (h43 a0 18) (-2) % 16 = 1 ∧ (0 : Int) ≤ 0 ∧ 0 < h43 (h43 a0 18) (-1)) (pt h43 (h43 a0 18) 0 0 fun h52 =>
  lt_ 0 fun x1_54 =>
  (lp (fun (q : Int × Hp) => m_X25_round_l55 a0 q.1 q.2) (x1_54, h52)).bind (fun (x : (Int × Int) × Hp) => some x)))) (fun (x : (Int × Int) × Hp) => some x))) (fun a_ h_ => some ((1, a_), h_))
theorem s_X25_round {l : Launch} [NoTr l] {D : SD} {a0 : Int} {h : Hp} (hk : h a0 (-2) = 416) {r : (Int × Int) × Hp} (hm : m_X25_round a0 h = some r) : Sim l D yX25_round (Cond.code yX25_round cX25_round 2 (Option.none : Option Jvm.ClassFile.FieldType)) 15 579 [rv D a0] h 0 r := by
  refine Sim.of (fin := fun (v : (Int × Int) × Hp) => v) (lsE := [(0, rv D a0)]) hm rfl cwS_code (la_r la_n) (ll_r ll_n) ?_
  intro p e s m below meth c X hcw hmm hcc hnm hname
  have hno := noh hcw hnm hmm hcc
  unfold m_X25_round
  refine g_aload_n (pc := 0) X (j := 0) (i := 0) (q := 0) (x := a0) rfl rfl (dl_at t_X25_round 0 rfl) ?_
  refine r_callTv (pc := 1) X (fun _ hv => s_X25_build hk hv) cw_code q4823 q379 (in_Vk X (As := []) kX25 hk (Or.inl q4820) q4822 qs292 cw_code q4823 ⟨by decide, by decide⟩ rfl (dl_at t_X25_round 1 rfl)) (dl_at t_X25_round 1 rfl) (cat24 (st := []) (Nat.le_of_ble_eq_true rfl)) (Nat.le_of_ble_eq_true rfl) (Nat.le_of_ble_eq_true rfl) (fun v1 h1 E1 => ?_) (fun _ _ ha _ => gt_at fun Q hQ => gt_out (Q := Q) X rfl ha (hno _) _ Q rfl hQ)
  refine g_iconst (pc := 4) X (n := 0) (dl_at t_X25_round 2 rfl) ?_
  refine g_ltz (Or.inl rfl) fun x1_5 r1_5 => ?_
  refine g_istore_nN (pc := 5) X (j := 1) (i := 1) (x := x1_5) (b := 0) (w := rv D a0) (rest := []) rfl (Nat.le_of_ble_eq_true rfl) [0] rfl (by decide) rv_cat rfl (dl_at t_X25_round 3 rfl) ?_
  refine g_ls (ls2 := [(0, rv D a0), (1, iv x1_5)]) [1, 0] rfl ?_
  refine g_loop1F (fun (q : Int × Hp) => [(0, rv D a0), (1, iv q.1)]) (fun (q : Int × Hp) => q.2) (fun (q : Int × Hp) => r32 q.1 ∧ Ext h1 q.2) 25 (fun (y25 : Hp) => [(0, rv D a0)]) (fun (y25 : Hp) => y25) (fun (y25 : Hp) => Ext h1 y25) (x1_5, h1) ⟨(r32_z r1_5), (Ext.refl _)⟩ ?_ ?_ (fun _ => rfl)
  · rintro ⟨x1_6, h_6⟩ ⟨r1_6, E_6⟩
    try dsimp only
    unfold m_X25_round_l6
    refine g_iload_n (pc := 6) X (j := 1) (i := 1) (q := 1) (x := x1_6) rfl rfl (dl_at t_X25_round 4 rfl) ?_
    refine g_aload_n (pc := 7) X (j := 0) (i := 0) (q := 0) (x := a0) rfl rfl (dl_at t_X25_round 5 rfl) ?_
    have k8 := kx (E1.trans E_6) (by decide) hk
    refine r_geti (pc := 8) X fX25_9 k8 q3773 (dl_at t_X25_round 6 rfl) fun g8 => ?_
    refine g_icmpge (pc := 11) X r1_6 g8 (off := 14) (tgt := 25) rfl (dl_at t_X25_round 7 rfl) (fun _ => ?_) (fun _ => ?_)
    · refine g_ls (ls2 := [(0, rv D a0)]) [0] rfl ?_
      exact g_at fun Q hQ => hQ E_6
    refine g_aload_n (pc := 14) X (j := 0) (i := 0) (q := 0) (x := a0) rfl rfl (dl_at t_X25_round 8 rfl) ?_
    refine g_iload_n (pc := 15) X (j := 1) (i := 1) (q := 1) (x := x1_6) rfl rfl (dl_at t_X25_round 9 rfl) ?_
    refine r_callTv (pc := 16) X (fun _ hv => s_X25_part k8 r1_6 hv) cw_code q4949 q379 (in_Vk X (As := [iv x1_6]) kX25 k8 (Or.inl q4946) q4948 qs315 cw_code q4949 ⟨by decide, by decide⟩ rfl (dl_at t_X25_round 10 rfl)) (dl_at t_X25_round 10 rfl) (cat24 (st := []) (Nat.le_of_ble_eq_true rfl)) (Nat.le_of_ble_eq_true rfl) (Nat.le_of_ble_eq_true rfl) (fun v16 h16 E16 => ?_) (fun _ _ ha _ => gt_at fun Q hQ => gt_out (Q := Q) X rfl ha (hno _) _ Q rfl hQ)
    refine r_iincN (pc := 19) X (i := 1) (q := 1) (n := 1) (x := x1_6) (b := 0) (w := rv D a0) (rest := []) rfl r1_6 (r32_c rfl) (Nat.le_of_ble_eq_true rfl) [0] rfl (by decide) rv_cat rfl (dl_at t_X25_round 11 rfl) fun x1_19 r1_19 => ?_
    refine g_goto (pc := 22) X (off := (-16)) (tgt := 6) rfl (dl_at t_X25_round 12 rfl) ?_
    refine g_ls (ls2 := [(0, rv D a0), (1, iv x1_19)]) [1, 0] rfl ?_
    exact g_at fun Q hQ => hQ ⟨r1_19, (E_6.trans E16)⟩
  · rintro h_25 E_25
    try dsimp only [sE]
    refine g_aload_n (pc := 25) X (j := 0) (i := 0) (q := 0) (x := a0) rfl rfl (dl_at t_X25_round 13 rfl) ?_
    have k26 := kx (E1.trans E_25) (by decide) hk
    refine r_getr (pc := 26) X fX25_16 k26 q3785 (dl_at t_X25_round 14 rfl) ?_
    refine g_aload_n (pc := 29) X (j := 0) (i := 0) (q := 0) (x := a0) rfl rfl (dl_at t_X25_round 15 rfl) ?_
    refine r_geti (pc := 30) X fX25_9 k26 q3773 (dl_at t_X25_round 16 rfl) fun g30 => ?_
    refine g_aload_n (pc := 33) X (j := 0) (i := 0) (q := 0) (x := a0) rfl rfl (dl_at t_X25_round 17 rfl) ?_
    refine g_aload_n (pc := 34) X (j := 0) (i := 0) (q := 0) (x := a0) rfl rfl (dl_at t_X25_round 18 rfl) ?_
    refine r_geti (pc := 35) X fX25_9 k26 q3773 (dl_at t_X25_round 19 rfl) fun g35 => ?_
    refine r_callRi (pc := 38) X (fun _ hv => s_X25_breakAt k26 g35 hv) cw_code q4988 q379 (in_Vk X (As := [iv (h_25 a0 9)]) kX25 k26 (Or.inl q4985) q4987 qs319 cw_code q4988 ⟨by decide, by decide⟩ rfl (dl_at t_X25_round 20 rfl)) (dl_at t_X25_round 20 rfl) (cat24 (st := [iv (h_25 a0 9), rv D (h_25 a0 16)]) (Nat.le_of_ble_eq_true rfl)) (Nat.le_of_ble_eq_true rfl) (Nat.le_of_ble_eq_true rfl) fun v38 g38 => ?_
    refine g_gd fun k41 => ?_
    refine r_iast (pc := 41) X g30 g38 k41 (dl_at t_X25_round 21 rfl) (fun h41 E41 => ?_)
    refine g_aload_n (pc := 42) X (j := 0) (i := 0) (q := 0) (x := a0) rfl rfl (dl_at t_X25_round 22 rfl) ?_
    have k43 := kx E41 (by decide) k26
    refine r_callV (pc := 43) X (fun _ hv => s_X25_tables k43 hv) cw_code q4992 q379 (in_Vk X (As := []) kX25 k43 (Or.inl q4989) q4991 qs320 cw_code q4992 ⟨by decide, by decide⟩ rfl (dl_at t_X25_round 23 rfl)) (dl_at t_X25_round 23 rfl) (cat24 (st := []) (Nat.le_of_ble_eq_true rfl)) (Nat.le_of_ble_eq_true rfl) (Nat.le_of_ble_eq_true rfl) fun h43 E43 => ?_
    refine g_aload_n (pc := 46) X (j := 0) (i := 0) (q := 0) (x := a0) rfl rfl (dl_at t_X25_round 24 rfl) ?_
    have k47 := kx E43 (by decide) k43
    refine r_getr (pc := 47) X fX25_18 k47 q3788 (dl_at t_X25_round 25 rfl) ?_
    refine g_iconst (pc := 50) X (n := 0) (dl_at t_X25_round 26 rfl) ?_
    refine g_iconst (pc := 51) X (n := 0) (dl_at t_X25_round 27 rfl) ?_
    refine g_gd fun k52 => ?_
    refine r_iast (pc := 52) X (r32_c rfl) (r32_c rfl) k52 (dl_at t_X25_round 28 rfl) (fun h52 E52 => ?_)
    refine g_iconst (pc := 53) X (n := 0) (dl_at t_X25_round 29 rfl) ?_
    refine g_ltz (Or.inl rfl) fun x1_54 r1_54 => ?_
    refine g_istore_nN (pc := 54) X (j := 1) (i := 1) (x := x1_54) (b := 0) (w := rv D a0) (rest := []) rfl (Nat.le_of_ble_eq_true rfl) [0] rfl (by decide) rv_cat rfl (dl_at t_X25_round 30 rfl) ?_
    refine g_ls (ls2 := [(0, rv D a0), (1, iv x1_54)]) [1, 0] rfl ?_
    refine g_loop0F (fun (q : Int × Hp) => [(0, rv D a0), (1, iv q.1)]) (fun (q : Int × Hp) => q.2) (fun (q : Int × Hp) => r32 q.1 ∧ Ext h52 q.2) (x1_54, h52) ⟨(r32_z r1_54), (Ext.refl _)⟩ ?_ (fun _ => rfl)
    · rintro ⟨x1_55, h_55⟩ ⟨r1_55, E_55⟩
      try dsimp only
      unfold m_X25_round_l55
      refine g_iload_n (pc := 55) X (j := 1) (i := 1) (q := 1) (x := x1_55) rfl rfl (dl_at t_X25_round 31 rfl) ?_
      refine g_aload_n (pc := 56) X (j := 0) (i := 0) (q := 0) (x := a0) rfl rfl (dl_at t_X25_round 32 rfl) ?_
      have k57 := kx (E52.trans E_55) (by decide) k47
      refine r_geti (pc := 57) X fX25_9 k57 q3773 (dl_at t_X25_round 33 rfl) fun g57 => ?_
      refine g_icmpge (pc := 60) X r1_55 g57 (off := 35) (tgt := 95) rfl (dl_at t_X25_round 34 rfl) (fun _ => ?_) (fun _ => ?_)
      · refine g_aload_n (pc := 95) X (j := 0) (i := 0) (q := 0) (x := a0) rfl rfl (dl_at t_X25_round 55 rfl) ?_
        refine r_callTv (pc := 96) X (fun _ hv => s_X25_flow k57 hv) cw_code q5051 q379 (in_Vk X (As := []) kX25 k57 (Or.inl q5048) q5050 qs331 cw_code q5051 ⟨by decide, by decide⟩ rfl (dl_at t_X25_round 56 rfl)) (dl_at t_X25_round 56 rfl) (cat24 (st := []) (Nat.le_of_ble_eq_true rfl)) (Nat.le_of_ble_eq_true rfl) (Nat.le_of_ble_eq_true rfl) (fun v96 h96 E96 => ?_) (fun _ _ ha _ => gt_at fun Q hQ => gt_out (Q := Q) X rfl ha (hno _) _ Q rfl hQ)
        refine g_aload_n (pc := 99) X (j := 0) (i := 0) (q := 0) (x := a0) rfl rfl (dl_at t_X25_round 57 rfl) ?_
        have k100 := kx E96 (by decide) k57
        refine r_callV (pc := 100) X (fun _ hv => s_X25_findLines k100 hv) cw_code q5059 q379 (in_Vk X (As := []) kX25 k100 (Or.inl q5056) q5058 qs333 cw_code q5059 ⟨by decide, by decide⟩ rfl (dl_at t_X25_round 58 rfl)) (dl_at t_X25_round 58 rfl) (cat24 (st := []) (Nat.le_of_ble_eq_true rfl)) (Nat.le_of_ble_eq_true rfl) (Nat.le_of_ble_eq_true rfl) fun h100 E100 => ?_
        refine g_aload_n (pc := 103) X (j := 0) (i := 0) (q := 0) (x := a0) rfl rfl (dl_at t_X25_round 59 rfl) ?_
        have k104 := kx E100 (by decide) k100
        refine r_callTv (pc := 104) X (fun _ hv => s_X25_layOut k104 hv) cw_code q5067 q379 (in_Vk X (As := []) kX25 k104 (Or.inl q5064) q5066 qs334 cw_code q5067 ⟨by decide, by decide⟩ rfl (dl_at t_X25_round 60 rfl)) (dl_at t_X25_round 60 rfl) (cat24 (st := []) (Nat.le_of_ble_eq_true rfl)) (Nat.le_of_ble_eq_true rfl) (Nat.le_of_ble_eq_true rfl) (fun v104 h104 E104 => ?_) (fun _ _ ha _ => gt_at fun Q hQ => gt_out (Q := Q) X rfl ha (hno _) _ Q rfl hQ)
        refine g_aload_n (pc := 107) X (j := 0) (i := 0) (q := 0) (x := a0) rfl rfl (dl_at t_X25_round 61 rfl) ?_
        have k108 := kx E104 (by decide) k104
        refine r_callV (pc := 108) X (fun _ hv => s_X25_number k108 hv) cw_code q5125 q379 (in_Vk X (As := []) kX25 k108 (Or.inl q5122) q5124 qs346 cw_code q5125 ⟨by decide, by decide⟩ rfl (dl_at t_X25_round 62 rfl)) (dl_at t_X25_round 62 rfl) (cat24 (st := []) (Nat.le_of_ble_eq_true rfl)) (Nat.le_of_ble_eq_true rfl) (Nat.le_of_ble_eq_true rfl) fun h108 E108 => ?_
        exact g_at fun Q hQ => (g_vret (pc := 111) X (v := 0) rfl rfl (dl_at t_X25_round 63 rfl)) _ Q rfl hQ
      refine g_aload_n (pc := 63) X (j := 0) (i := 0) (q := 0) (x := a0) rfl rfl (dl_at t_X25_round 35 rfl) ?_
      refine g_iload_n (pc := 64) X (j := 1) (i := 1) (q := 1) (x := x1_55) rfl rfl (dl_at t_X25_round 36 rfl) ?_
      refine r_callV (pc := 65) X (fun _ hv => s_X25_breakUp k57 r1_55 hv) cw_code q5000 q379 (in_Vk X (As := [iv x1_55]) kX25 k57 (Or.inl q4997) q4999 qs322 cw_code q5000 ⟨by decide, by decide⟩ rfl (dl_at t_X25_round 37 rfl)) (dl_at t_X25_round 37 rfl) (cat24 (st := []) (Nat.le_of_ble_eq_true rfl)) (Nat.le_of_ble_eq_true rfl) (Nat.le_of_ble_eq_true rfl) fun h65 E65 => ?_
      refine g_aload_n (pc := 68) X (j := 0) (i := 0) (q := 0) (x := a0) rfl rfl (dl_at t_X25_round 38 rfl) ?_
      have k69 := kx E65 (by decide) k57
      refine r_getr (pc := 69) X fX25_18 k69 q3788 (dl_at t_X25_round 39 rfl) ?_
      refine g_iload_n (pc := 72) X (j := 1) (i := 1) (q := 1) (x := x1_55) rfl rfl (dl_at t_X25_round 40 rfl) ?_
      refine g_iconst (pc := 73) X (n := 1) (dl_at t_X25_round 41 rfl) ?_
      refine g_iadd (pc := 74) X r1_55 (r32_c rfl) (dl_at t_X25_round 42 rfl) ?_
      refine g_aload_n (pc := 75) X (j := 0) (i := 0) (q := 0) (x := a0) rfl rfl (dl_at t_X25_round 43 rfl) ?_
      refine r_getr (pc := 76) X fX25_18 k69 q3788 (dl_at t_X25_round 44 rfl) ?_
      refine g_iload_n (pc := 79) X (j := 1) (i := 1) (q := 1) (x := x1_55) rfl rfl (dl_at t_X25_round 45 rfl) ?_
      refine g_gd fun k80 => ?_
      refine g_iald (pc := 80) X r1_55 k80 (dl_at t_X25_round 46 rfl) fun g80 => ?_
      refine g_aload_n (pc := 81) X (j := 0) (i := 0) (q := 0) (x := a0) rfl rfl (dl_at t_X25_round 47 rfl) ?_
      refine r_getr (pc := 82) X fX25_17 k69 q3786 (dl_at t_X25_round 48 rfl) ?_
      refine g_iload_n (pc := 85) X (j := 1) (i := 1) (q := 1) (x := x1_55) rfl rfl (dl_at t_X25_round 49 rfl) ?_
      refine g_gd fun k86 => ?_
      refine g_iald (pc := 86) X r1_55 k86 (dl_at t_X25_round 50 rfl) fun g86 => ?_
      refine g_iadd (pc := 87) X g80 g86 (dl_at t_X25_round 51 rfl) ?_
      refine g_gd fun k88 => ?_
      refine r_iast (pc := 88) X (r32_w _) (r32_w _) k88 (dl_at t_X25_round 52 rfl) (fun h88 E88 => ?_)
      refine r_iincN (pc := 89) X (i := 1) (q := 1) (n := 1) (x := x1_55) (b := 0) (w := rv D a0) (rest := []) rfl r1_55 (r32_c rfl) (Nat.le_of_ble_eq_true rfl) [0] rfl (by decide) rv_cat rfl (dl_at t_X25_round 53 rfl) fun x1_89 r1_89 => ?_
      refine g_goto (pc := 92) X (off := (-37)) (tgt := 55) rfl (dl_at t_X25_round 54 rfl) ?_
      refine g_ls (ls2 := [(0, rv D a0), (1, iv x1_89)]) [1, 0] rfl ?_
      exact g_at fun Q hQ => hQ ⟨r1_89, (E_55.trans (E65.trans E88))⟩
def k_X25_findWavering : List (Nat × Instr × Nat) := [(0, .aload_n 0, 1), (1, .iconst 0, 1), (2, .putfield 366, 3), (5, .iconst 0, 1), (6, .istore_n 1, 1), (7, .iconst 0, 1), (8, .istore_n 2, 1), (9, .iconst 0, 1), (10, .istore_n 3, 1), (11, .iload_n 3, 1), (12, .aload_n 0, 1), (13, .getfield 342, 3), (16, .getfield 351, 3), (19, .if_icmp .ge 95, 3), (22, .aload_n 0, 1), (23, .getfield 223, 3), (26, .iload_n 3, 1), (27, .iaload, 1), (28, .aload_n 0, 1), (29, .getfield 232, 3), (32, .iload_n 3, 1), (33, .iaload, 1), (34, .if_icmp .eq 7, 3), (37, .iconst 1, 1), (38, .goto 4, 3), (41, .iconst 0, 1), (42, .istore 4, 2), (44, .iload_n 1, 1), (45, .ifCond .ne 33, 3), (48, .iload 4, 2), (50, .ifCond .eq 32, 3), (53, .aload_n 0, 1), (54, .getfield 14, 3), (57, .getfield 423, 3), (60, .iload_n 3, 1), (61, .baload, 1), (62, .ifCond .eq 20, 3), (65, .aload_n 0, 1), (66, .getfield 14, 3), (69, .iload_n 3, 1), (70, .bipush 19, 2), (72, .invokevirtual 477, 3), (75, .ifCond .le 7, 3), (78, .iconst 1, 1), (79, .goto 4, 3), (82, .iconst 0, 1), (83, .istore_n 1, 1), (84, .iload_n 2, 1), (85, .ifCond .ne 17, 3), (88, .iload 4, 2), (90, .ifCond .eq 16, 3), (93, .aload_n 0, 1), (94, .getfield 193, 3), (97, .iload_n 3, 1), (98, .iaload, 1), (99, .ifCond .lt 7, 3), (102, .iconst 1, 1), (103, .goto 4, 3), (106, .iconst 0, 1), (107, .istore_n 2, 1), (108, .iinc 3 1, 3), (111, .goto (-100), 3), (114, .iconst 0, 1), (115, .istore_n 3, 1), (116, .iload_n 3, 1), (117, .aload_n 0, 1), (118, .getfield 342, 3), (121, .getfield 351, 3), (124, .if_icmp .ge 235, 3), (127, .aload_n 0, 1), (128, .getfield 244, 3), (131, .iload_n 3, 1), (132, .iaload, 1), (133, .istore 4, 2), (135, .aload_n 0, 1), (136, .getfield 241, 3), (139, .iload_n 3, 1), (140, .iaload, 1), (176, .aload_n 0, 1), (177, .getfield 262, 3), (180, .iload_n 3, 1), (181, .aload_n 0, 1), (182, .getfield 223, 3), (185, .iload 4, 2), (187, .iaload, 1), (188, .aload_n 0, 1), (189, .getfield 232, 3), (192, .iload 4, 2), (194, .iaload, 1), (195, .if_icmp .eq 7, 3), (198, .iconst 1, 1), (199, .goto 4, 3), (202, .iconst 0, 1), (203, .bastore, 1), (204, .goto 126, 3), (207, .aload_n 0, 1), (208, .getfield 262, 3), (211, .iload_n 3, 1), (212, .aload_n 0, 1), (213, .getfield 226, 3), (216, .iload 4, 2), (218, .iaload, 1), (219, .aload_n 0, 1), (220, .getfield 235, 3), (223, .iload 4, 2), (225, .iaload, 1), (226, .if_icmp .eq 7, 3), (229, .iconst 1, 1), (230, .goto 4, 3), (233, .iconst 0, 1), (234, .bastore, 1), (235, .goto 95, 3), (238, .aload_n 0, 1), (239, .getfield 262, 3), (242, .iload_n 3, 1), (243, .aload_n 0, 1), (244, .getfield 226, 3), (247, .iload 4, 2), (249, .iaload, 1), (250, .aload_n 0, 1), (251, .getfield 235, 3), (254, .iload 4, 2), (256, .iaload, 1), (257, .if_icmp .ne 37, 3), (260, .aload_n 0, 1), (261, .getfield 229, 3), (264, .iload 4, 2), (266, .iaload, 1), (267, .aload_n 0, 1), (268, .getfield 238, 3), (271, .iload 4, 2), (273, .iaload, 1), (274, .if_icmp .ne 20, 3), (277, .aload_n 0, 1), (278, .getfield 328, 3), (281, .iload 4, 2), (283, .baload, 1), (284, .aload_n 0, 1), (285, .getfield 331, 3), (288, .iload 4, 2), (290, .baload, 1), (291, .if_icmp .eq 7, 3), (294, .iconst 1, 1), (295, .goto 4, 3), (298, .iconst 0, 1), (299, .bastore, 1), (300, .goto 30, 3), (303, .aload_n 0, 1), (304, .getfield 262, 3), (307, .iload_n 3, 1), (308, .iload_n 1, 1), (309, .bastore, 1), (310, .goto 20, 3), (313, .aload_n 0, 1), (314, .getfield 262, 3), (317, .iload_n 3, 1), (318, .iload_n 2, 1), (319, .bastore, 1), (320, .goto 10, 3), (323, .aload_n 0, 1), (324, .getfield 262, 3), (327, .iload_n 3, 1), (328, .iconst 0, 1), (329, .bastore, 1), (330, .aload_n 0, 1), (331, .dup, 1), (332, .getfield 366, 3), (335, .aload_n 0, 1), (336, .getfield 262, 3), (339, .iload_n 3, 1), (340, .baload, 1), (341, .ifCond .eq 7, 3), (344, .iconst 1, 1), (345, .goto 4, 3), (348, .iconst 0, 1), (349, .iadd, 1), (350, .putfield 366, 3), (353, .iinc 3 1, 3), (356, .goto (-240), 3), (359, .return_, 1)]
theorem t_X25_findWavering : ∀ q ∈ k_X25_findWavering, decode cX25_findWavering q.1 = .ok q.2 := dl_all (by decide +kernel)
theorem dS_X25_findWavering_141 : decode cX25_findWavering 141 = .ok (.tableswitch 182 1 5 #[35, 66, 97, 162, 172], 35) := by decide +kernel
noncomputable def m_X25_findWavering_j107 (s0_83 x3_11 s0_107 : Int) : Option ((Int × Int × Int) ⊕ ((Int × Int))) :=
  lt_ (w32 (x3_11 + 1)) fun x3_108 =>
  some (.inl (s0_83, s0_107, x3_108))
noncomputable def m_X25_findWavering_j102 (s0_83 x3_11 : Int) : Option ((Int × Int × Int) ⊕ ((Int × Int))) :=
  m_X25_findWavering_j107 s0_83 x3_11 1
noncomputable def m_X25_findWavering_j106 (s0_83 x3_11 : Int) : Option ((Int × Int × Int) ⊕ ((Int × Int))) :=
  m_X25_findWavering_j107 s0_83 x3_11 0
noncomputable def m_X25_findWavering_j83 (s0_42 x3_11 a0 x2_11 s0_83 : Int) (h2 : Hp) : Option ((Int × Int × Int) ⊕ ((Int × Int))) :=
  if x2_11 ≠ 0 then (m_X25_findWavering_j102 s0_83 x3_11)
  else (if s0_42 = 0 then (m_X25_findWavering_j106 s0_83 x3_11)
  else (gd (h2 (h2 a0 69) (-2) % 16 = 1 ∧ (0 : Int) ≤ x3_11 ∧ x3_11 < h2 (h2 a0 69) (-1)) (if (h2 (h2 a0 69) x3_11) < 0 then (m_X25_findWavering_j106 s0_83 x3_11)
  else (m_X25_findWavering_j102 s0_83 x3_11))))
noncomputable def m_X25_findWavering_j78 (s0_42 x3_11 a0 x2_11 : Int) (h2 : Hp) : Option ((Int × Int × Int) ⊕ ((Int × Int))) :=
  m_X25_findWavering_j83 s0_42 x3_11 a0 x2_11 1 h2
noncomputable def m_X25_findWavering_j82 (s0_42 x3_11 a0 x2_11 : Int) (h2 : Hp) : Option ((Int × Int × Int) ⊕ ((Int × Int))) :=
  m_X25_findWavering_j83 s0_42 x3_11 a0 x2_11 0 h2
noncomputable def m_X25_findWavering_j42 (a0 x1_11 x2_11 x3_11 s0_42 : Int) (h2 : Hp) : Option ((Int × Int × Int) ⊕ ((Int × Int))) :=
  if x1_11 ≠ 0 then (m_X25_findWavering_j78 s0_42 x3_11 a0 x2_11 h2)
  else (if s0_42 = 0 then (m_X25_findWavering_j82 s0_42 x3_11 a0 x2_11 h2)
  else (gd (h2 (h2 a0 0) (-2) = 400) (gd (h2 (h2 (h2 a0 0) 10) (-2) % 16 = 3 ∧ (0 : Int) ≤ x3_11 ∧ x3_11 < h2 (h2 (h2 a0 0) 10) (-1)) (if (h2 (h2 (h2 a0 0) 10) x3_11) = 0 then (m_X25_findWavering_j82 s0_42 x3_11 a0 x2_11 h2)
  else ((m_X24_of (h2 a0 0) x3_11 19 h2).bind fun v72 =>
  if v72 ≤ 0 then (m_X25_findWavering_j82 s0_42 x3_11 a0 x2_11 h2)
  else (m_X25_findWavering_j78 s0_42 x3_11 a0 x2_11 h2))))))
noncomputable def m_X25_findWavering_l11 (a0 x1_11 x2_11 x3_11 : Int) (h2 : Hp) : Option ((Int × Int × Int) ⊕ ((Int × Int))) :=
  gd (h2 (h2 a0 1) (-2) = 384) (if (h2 (h2 a0 1) 3) ≤ x3_11 then (some (.inr (x1_11, x2_11)))
  else (gd (h2 (h2 a0 80) (-2) % 16 = 1 ∧ (0 : Int) ≤ x3_11 ∧ x3_11 < h2 (h2 a0 80) (-1)) (gd (h2 (h2 a0 83) (-2) % 16 = 1 ∧ (0 : Int) ≤ x3_11 ∧ x3_11 < h2 (h2 a0 83) (-1)) (if (h2 (h2 a0 80) x3_11) = (h2 (h2 a0 83) x3_11) then (m_X25_findWavering_j42 a0 x1_11 x2_11 x3_11 0 h2)
  else (m_X25_findWavering_j42 a0 x1_11 x2_11 x3_11 1 h2)))))
noncomputable def m_X25_findWavering_j349 (a0 x3_116 s1_349 s2_349 : Int) (h_330 : Hp) : Option ((Int × Hp) ⊕ ((Hp))) :=
  pt h_330 a0 96 (w32 (s1_349 + s2_349)) fun h350 =>
  lt_ (w32 (x3_116 + 1)) fun x3_353 =>
  some (.inl (x3_353, h350))
noncomputable def m_X25_findWavering_j330 (x3_116 a0 : Int) (h_330 : Hp) : Option ((Int × Hp) ⊕ ((Hp))) :=
  gd (h_330 (h_330 a0 99) (-2) % 16 = 3 ∧ (0 : Int) ≤ x3_116 ∧ x3_116 < h_330 (h_330 a0 99) (-1)) (if (h_330 (h_330 a0 99) x3_116) = 0 then (m_X25_findWavering_j349 a0 x3_116 (h_330 a0 96) 0 h_330)
  else (m_X25_findWavering_j349 a0 x3_116 (h_330 a0 96) 1 h_330))
noncomputable def m_X25_findWavering_j203 (x3_116 a0 s0_203 s2_203 : Int) (h_116 : Hp) : Option ((Int × Hp) ⊕ ((Hp))) :=
  gd (h_116 s0_203 (-2) % 16 = 3 ∧ (0 : Int) ≤ x3_116 ∧ x3_116 < h_116 s0_203 (-1)) (pt h_116 s0_203 x3_116 s2_203 fun h203 =>
  m_X25_findWavering_j330 x3_116 a0 h203)
noncomputable def m_X25_findWavering_j234 (x3_116 a0 s0_234 s2_234 : Int) (h_116 : Hp) : Option ((Int × Hp) ⊕ ((Hp))) :=
  gd (h_116 s0_234 (-2) % 16 = 3 ∧ (0 : Int) ≤ x3_116 ∧ x3_116 < h_116 s0_234 (-1)) (pt h_116 s0_234 x3_116 s2_234 fun h234 =>
  m_X25_findWavering_j330 x3_116 a0 h234)
noncomputable def m_X25_findWavering_j299 (x3_116 a0 s0_299 s2_299 : Int) (h_116 : Hp) : Option ((Int × Hp) ⊕ ((Hp))) :=
  gd (h_116 s0_299 (-2) % 16 = 3 ∧ (0 : Int) ≤ x3_116 ∧ x3_116 < h_116 s0_299 (-1)) (pt h_116 s0_299 x3_116 s2_299 fun h299 =>
  m_X25_findWavering_j330 x3_116 a0 h299)
noncomputable def m_X25_findWavering_j294 (x3_116 a0 s0_294 : Int) (h_116 : Hp) : Option ((Int × Hp) ⊕ ((Hp))) :=
  m_X25_findWavering_j299 x3_116 a0 s0_294 1 h_116
noncomputable def m_X25_findWavering_l116 (a0 x1_114 x2_114 x3_116 : Int) (h_116 : Hp) : Option ((Int × Hp) ⊕ ((Hp))) :=
  gd (h_116 (h_116 a0 1) (-2) = 384) (if (h_116 (h_116 a0 1) 3) ≤ x3_116 then (some (.inr h_116))
  else (gd (h_116 (h_116 a0 87) (-2) % 16 = 1 ∧ (0 : Int) ≤ x3_116 ∧ x3_116 < h_116 (h_116 a0 87) (-1)) (lt_ (h_116 (h_116 a0 87) x3_116) fun x4_133 =>
  gd (h_116 (h_116 a0 86) (-2) % 16 = 1 ∧ (0 : Int) ≤ x3_116 ∧ x3_116 < h_116 (h_116 a0 86) (-1)) (if (h_116 (h_116 a0 86) x3_116) = 1 then (gd (h_116 (h_116 a0 80) (-2) % 16 = 1 ∧ (0 : Int) ≤ x4_133 ∧ x4_133 < h_116 (h_116 a0 80) (-1)) (gd (h_116 (h_116 a0 83) (-2) % 16 = 1 ∧ (0 : Int) ≤ x4_133 ∧ x4_133 < h_116 (h_116 a0 83) (-1)) (if (h_116 (h_116 a0 80) x4_133) = (h_116 (h_116 a0 83) x4_133) then (m_X25_findWavering_j203 x3_116 a0 (h_116 a0 99) 0 h_116)
  else (m_X25_findWavering_j203 x3_116 a0 (h_116 a0 99) 1 h_116))))
  else (if (h_116 (h_116 a0 86) x3_116) = 2 then (gd (h_116 (h_116 a0 81) (-2) % 16 = 1 ∧ (0 : Int) ≤ x4_133 ∧ x4_133 < h_116 (h_116 a0 81) (-1)) (gd (h_116 (h_116 a0 84) (-2) % 16 = 1 ∧ (0 : Int) ≤ x4_133 ∧ x4_133 < h_116 (h_116 a0 84) (-1)) (if (h_116 (h_116 a0 81) x4_133) = (h_116 (h_116 a0 84) x4_133) then (m_X25_findWavering_j234 x3_116 a0 (h_116 a0 99) 0 h_116)
  else (m_X25_findWavering_j234 x3_116 a0 (h_116 a0 99) 1 h_116))))
  else (if (h_116 (h_116 a0 86) x3_116) = 3 then (gd (h_116 (h_116 a0 81) (-2) % 16 = 1 ∧ (0 : Int) ≤ x4_133 ∧ x4_133 < h_116 (h_116 a0 81) (-1)) (gd (h_116 (h_116 a0 84) (-2) % 16 = 1 ∧ (0 : Int) ≤ x4_133 ∧ x4_133 < h_116 (h_116 a0 84) (-1)) (if (h_116 (h_116 a0 81) x4_133) ≠ (h_116 (h_116 a0 84) x4_133) then (m_X25_findWavering_j294 x3_116 a0 (h_116 a0 99) h_116)
  else (gd (h_116 (h_116 a0 82) (-2) % 16 = 1 ∧ (0 : Int) ≤ x4_133 ∧ x4_133 < h_116 (h_116 a0 82) (-1)) (gd (h_116 (h_116 a0 85) (-2) % 16 = 1 ∧ (0 : Int) ≤ x4_133 ∧ x4_133 < h_116 (h_116 a0 85) (-1)) (if (h_116 (h_116 a0 82) x4_133) ≠ (h_116 (h_116 a0 85) x4_133) then (m_X25_findWavering_j294 x3_116 a0 (h_116 a0 99) h_116)
  else (gd (h_116 (h_116 a0 139) (-2) % 16 = 3 ∧ (0 : Int) ≤ x4_133 ∧ x4_133 < h_116 (h_116 a0 139) (-1)) (gd (h_116 (h_116 a0 140) (-2) % 16 = 3 ∧ (0 : Int) ≤ x4_133 ∧ x4_133 < h_116 (h_116 a0 140) (-1)) (if (h_116 (h_116 a0 139) x4_133) = (h_116 (h_116 a0 140) x4_133) then (m_X25_findWavering_j299 x3_116 a0 (h_116 a0 99) 0 h_116)
  else (m_X25_findWavering_j294 x3_116 a0 (h_116 a0 99) h_116))))))))))
  else (if (h_116 (h_116 a0 86) x3_116) = 4 then (gd (h_116 (h_116 a0 99) (-2) % 16 = 3 ∧ (0 : Int) ≤ x3_116 ∧ x3_116 < h_116 (h_116 a0 99) (-1)) (pt h_116 (h_116 a0 99) x3_116 x1_114 fun h309 =>
  m_X25_findWavering_j330 x3_116 a0 h309))
  else (if (h_116 (h_116 a0 86) x3_116) = 5 then (gd (h_116 (h_116 a0 99) (-2) % 16 = 3 ∧ (0 : Int) ≤ x3_116 ∧ x3_116 < h_116 (h_116 a0 99) (-1)) (pt h_116 (h_116 a0 99) x3_116 x2_114 fun h319 =>
  m_X25_findWavering_j330 x3_116 a0 h319))
  else (gd (h_116 (h_116 a0 99) (-2) % 16 = 3 ∧ (0 : Int) ≤ x3_116 ∧ x3_116 < h_116 (h_116 a0 99) (-1)) (pt h_116 (h_116 a0 99) x3_116 0 fun h329 =>
  m_X25_findWavering_j330 x3_116 a0 h329))))))))))
noncomputable def m_X25_findWavering (a0 : Int) (h : Hp) : Option (Hp) :=
  pt h a0 96 0 fun h2 =>
  lt_ 0 fun x1_6 =>
  lt_ 0 fun x2_8 =>
  lt_ 0 fun x3_10 =>
  (lp (fun (q : Int × Int × Int) => m_X25_findWavering_l11 a0 q.1 q.2.1 q.2.2 h2) (x1_6, x2_8, x3_10)).bind (fun (y114 : Int × Int) => lt_ 0 fun x3_115 =>
  (lp (fun (q : Int × Hp) => m_X25_findWavering_l116 a0 y114.1 y114.2 q.1 q.2) (x3_115, h2)).bind (fun (x : Hp) => some x))
theorem s_X25_findWavering {l : Launch} [NoTr l] {D : SD} {a0 : Int} {h : Hp} (hk : h a0 (-2) = 416) {r : Hp} (hm : m_X25_findWavering a0 h = some r) : Sim l D yX25_findWavering (Cond.code yX25_findWavering cX25_findWavering 5 (Option.none : Option Jvm.ClassFile.FieldType)) 2 74 [rv D a0] h 0 ((0, 0), r) := by
  refine Sim.of (fin := fun (v : Hp) => ((0, 0), v)) (lsE := [(0, rv D a0)]) hm rfl cwS_code (la_r la_n) (ll_r ll_n) ?_
  intro p e s m below meth c X hcw hmm hcc hnm hname
  unfold m_X25_findWavering
  refine g_aload_n (pc := 0) X (j := 0) (i := 0) (q := 0) (x := a0) rfl rfl (dl_at t_X25_findWavering 0 rfl) ?_
  refine g_iconst (pc := 1) X (n := 0) (dl_at t_X25_findWavering 1 rfl) ?_
  refine r_puti (pc := 2) X fX25_96 hk q3906 rfl (dl_at t_X25_findWavering 2 rfl) (r32_c rfl) (fun h2 E2 => ?_)
  refine g_iconst (pc := 5) X (n := 0) (dl_at t_X25_findWavering 3 rfl) ?_
  refine g_ltz (Or.inl rfl) fun x1_6 r1_6 => ?_
  refine g_istore_nN (pc := 6) X (j := 1) (i := 1) (x := x1_6) (b := 0) (w := rv D a0) (rest := []) rfl (Nat.le_of_ble_eq_true rfl) [0] rfl (by decide) rv_cat rfl (dl_at t_X25_findWavering 4 rfl) ?_
  refine g_iconst (pc := 7) X (n := 0) (dl_at t_X25_findWavering 5 rfl) ?_
  refine g_ltz (Or.inl rfl) fun x2_8 r2_8 => ?_
  refine g_istore_nN (pc := 8) X (j := 2) (i := 2) (x := x2_8) (b := 1) (w := iv x1_6) (rest := [(0, rv D a0)]) rfl (Nat.le_of_ble_eq_true rfl) [0, 1] rfl (by decide) rfl rfl (dl_at t_X25_findWavering 6 rfl) ?_
  refine g_iconst (pc := 9) X (n := 0) (dl_at t_X25_findWavering 7 rfl) ?_
  refine g_ltz (Or.inl rfl) fun x3_10 r3_10 => ?_
  refine g_istore_nN (pc := 10) X (j := 3) (i := 3) (x := x3_10) (b := 2) (w := iv x2_8) (rest := [(1, iv x1_6), (0, rv D a0)]) rfl (Nat.le_of_ble_eq_true rfl) [0, 1, 2] rfl (by decide) rfl rfl (dl_at t_X25_findWavering 8 rfl) ?_
  refine g_ls (ls2 := [(0, rv D a0), (1, iv x1_6), (2, iv x2_8), (3, iv x3_10)]) [3, 2, 1, 0] rfl ?_
  refine g_loop1 (fun (q : Int × Int × Int) => [(0, rv D a0), (1, iv q.1), (2, iv q.2.1), (3, iv q.2.2)]) (fun (q : Int × Int × Int) => h2) (fun (q : Int × Int × Int) => (q.1 = 0 ∨ q.1 = 1) ∧ (q.2.1 = 0 ∨ q.2.1 = 1) ∧ r32 q.2.2) 114 (fun (y114 : Int × Int) => [(0, rv D a0), (1, iv y114.1), (2, iv y114.2)]) (fun (y114 : Int × Int) => h2) (fun (y114 : Int × Int) => (y114.1 = 0 ∨ y114.1 = 1) ∧ (y114.2 = 0 ∨ y114.2 = 1)) (x1_6, x2_8, x3_10) ⟨r1_6, r2_8, (r32_z r3_10)⟩ ?_ ?_
  · rintro ⟨x1_11, x2_11, x3_11⟩ ⟨r1_11, r2_11, r3_11⟩
    try dsimp only
    unfold m_X25_findWavering_l11
    refine g_iload_n (pc := 11) X (j := 3) (i := 3) (q := 3) (x := x3_11) rfl rfl (dl_at t_X25_findWavering 9 rfl) ?_
    refine g_aload_n (pc := 12) X (j := 0) (i := 0) (q := 0) (x := a0) rfl rfl (dl_at t_X25_findWavering 10 rfl) ?_
    have k13 := kx E2 (by decide) hk
    refine r_getr (pc := 13) X fX25_1 k13 q3763 (dl_at t_X25_findWavering 11 rfl) ?_
    refine g_gd fun k16 => ?_
    refine r_geti (pc := 16) X fX23_3 k16 q3526 (dl_at t_X25_findWavering 12 rfl) fun g16 => ?_
    refine g_icmpge (pc := 19) X r3_11 g16 (off := 95) (tgt := 114) rfl (dl_at t_X25_findWavering 13 rfl) (fun _ => ?_) (fun _ => ?_)
    · refine g_ls (ls2 := [(0, rv D a0), (1, iv x1_11), (2, iv x2_11)]) [0, 1, 2] rfl ?_
      exact g_at fun Q hQ => hQ ⟨r1_11, r2_11⟩
    refine g_aload_n (pc := 22) X (j := 0) (i := 0) (q := 0) (x := a0) rfl rfl (dl_at t_X25_findWavering 14 rfl) ?_
    refine r_getr (pc := 23) X fX25_80 k13 q3880 (dl_at t_X25_findWavering 15 rfl) ?_
    refine g_iload_n (pc := 26) X (j := 3) (i := 3) (q := 3) (x := x3_11) rfl rfl (dl_at t_X25_findWavering 16 rfl) ?_
    refine g_gd fun k27 => ?_
    refine g_iald (pc := 27) X r3_11 k27 (dl_at t_X25_findWavering 17 rfl) fun g27 => ?_
    refine g_aload_n (pc := 28) X (j := 0) (i := 0) (q := 0) (x := a0) rfl rfl (dl_at t_X25_findWavering 18 rfl) ?_
    refine r_getr (pc := 29) X fX25_83 k13 q3883 (dl_at t_X25_findWavering 19 rfl) ?_
    refine g_iload_n (pc := 32) X (j := 3) (i := 3) (q := 3) (x := x3_11) rfl rfl (dl_at t_X25_findWavering 20 rfl) ?_
    refine g_gd fun k33 => ?_
    refine g_iald (pc := 33) X r3_11 k33 (dl_at t_X25_findWavering 21 rfl) fun g33 => ?_
    refine g_join (γ := Int) (fun q => (q = 0 ∨ q = 1)) 42 (fun q => [(0, rv D a0), (1, iv x1_11), (2, iv x2_11), (3, iv x3_11)]) (fun q => [iv q]) (fun q => h2) (fun q => m_X25_findWavering_j42 a0 x1_11 x2_11 x3_11 q h2) ?_ ?_
    · rintro s0_42 rs0_42
      try dsimp only
      unfold m_X25_findWavering_j42
      refine g_istoreN (pc := 42) X (i := 4) (x := s0_42) (b := 3) (w := iv x3_11) (rest := [(0, rv D a0), (1, iv x1_11), (2, iv x2_11)]) (Nat.le_of_ble_eq_true rfl) [3, 0, 1, 2] rfl (by decide) rfl rfl (dl_at t_X25_findWavering 26 rfl) ?_
      refine g_iload_n (pc := 44) X (j := 1) (i := 1) (q := 3) (x := x1_11) rfl rfl (dl_at t_X25_findWavering 27 rfl) ?_
      refine g_join (γ := Int) (fun q => (q = 0 ∨ q = 1)) 83 (fun q => [(0, rv D a0), (2, iv x2_11), (3, iv x3_11), (4, iv s0_42)]) (fun q => [iv q]) (fun q => h2) (fun q => m_X25_findWavering_j83 s0_42 x3_11 a0 x2_11 q h2) ?_ ?_
      · rintro s0_83 rs0_83
        try dsimp only
        unfold m_X25_findWavering_j83
        refine g_istore_nN (pc := 83) X (j := 1) (i := 1) (x := s0_83) (b := 0) (w := rv D a0) (rest := [(2, iv x2_11), (3, iv x3_11), (4, iv s0_42)]) rfl (Nat.le_of_ble_eq_true rfl) [0, 1, 2, 3] rfl (by decide) rv_cat rfl (dl_at t_X25_findWavering 46 rfl) ?_
        refine g_iload_n (pc := 84) X (j := 2) (i := 2) (q := 2) (x := x2_11) rfl rfl (dl_at t_X25_findWavering 47 rfl) ?_
        refine g_join (γ := Int) (fun q => (q = 0 ∨ q = 1)) 107 (fun q => [(0, rv D a0), (1, iv s0_83), (3, iv x3_11)]) (fun q => [iv q]) (fun q => h2) (fun q => m_X25_findWavering_j107 s0_83 x3_11 q) ?_ ?_
        · rintro s0_107 rs0_107
          try dsimp only
          unfold m_X25_findWavering_j107
          refine g_istore_nN (pc := 107) X (j := 2) (i := 2) (x := s0_107) (b := 1) (w := iv s0_83) (rest := [(0, rv D a0), (3, iv x3_11)]) rfl (Nat.le_of_ble_eq_true rfl) [1, 0, 2] rfl (by decide) rfl rfl (dl_at t_X25_findWavering 59 rfl) ?_
          refine r_iincN (pc := 108) X (i := 3) (q := 3) (n := 1) (x := x3_11) (b := 2) (w := iv s0_107) (rest := [(1, iv s0_83), (0, rv D a0)]) rfl r3_11 (r32_c rfl) (Nat.le_of_ble_eq_true rfl) [0, 1, 2] rfl (by decide) rfl rfl (dl_at t_X25_findWavering 60 rfl) fun x3_108 r3_108 => ?_
          refine g_goto (pc := 111) X (off := (-100)) (tgt := 11) rfl (dl_at t_X25_findWavering 61 rfl) ?_
          refine g_ls (ls2 := [(0, rv D a0), (1, iv s0_83), (2, iv s0_107), (3, iv x3_108)]) [3, 2, 1, 0] rfl ?_
          exact g_at fun Q hQ => hQ ⟨rs0_83, rs0_107, r3_108⟩
        intro J107
        refine g_join (γ := Unit) (fun q => True) 102 (fun q => [(0, rv D a0), (1, iv s0_83), (3, iv x3_11)]) (fun q => []) (fun q => h2) (fun q => m_X25_findWavering_j102 s0_83 x3_11) ?_ ?_
        · rintro _ _
          try dsimp only
          unfold m_X25_findWavering_j102
          refine g_iconst (pc := 102) X (n := 1) (dl_at t_X25_findWavering 56 rfl) ?_
          refine g_goto (pc := 103) X (off := 4) (tgt := 107) rfl (dl_at t_X25_findWavering 57 rfl) ?_
          exact J107 1 (Or.inr rfl)
        intro J102
        refine g_ifne (pc := 85) X (r32_z r2_11) (off := 17) (tgt := 102) rfl (dl_at t_X25_findWavering 48 rfl) (fun _ => ?_) (fun _ => ?_)
        · refine g_ls (ls2 := [(0, rv D a0), (1, iv s0_83), (3, iv x3_11)]) [1, 0, 3] rfl ?_
          exact J102 () trivial
        refine g_iload (pc := 88) X (i := 4) (q := 4) (x := s0_42) rfl (dl_at t_X25_findWavering 49 rfl) ?_
        refine g_join (γ := Unit) (fun q => True) 106 (fun q => [(0, rv D a0), (1, iv s0_83), (3, iv x3_11)]) (fun q => []) (fun q => h2) (fun q => m_X25_findWavering_j106 s0_83 x3_11) ?_ ?_
        · rintro _ _
          try dsimp only
          unfold m_X25_findWavering_j106
          refine g_iconst (pc := 106) X (n := 0) (dl_at t_X25_findWavering 58 rfl) ?_
          exact J107 0 (Or.inl rfl)
        intro J106
        refine g_ifeq (pc := 90) X (r32_z rs0_42) (off := 16) (tgt := 106) rfl (dl_at t_X25_findWavering 50 rfl) (fun _ => ?_) (fun _ => ?_)
        · refine g_ls (ls2 := [(0, rv D a0), (1, iv s0_83), (3, iv x3_11)]) [1, 0, 3] rfl ?_
          exact J106 () trivial
        refine g_aload_n (pc := 93) X (j := 0) (i := 0) (q := 1) (x := a0) rfl rfl (dl_at t_X25_findWavering 51 rfl) ?_
        refine r_getr (pc := 94) X fX25_69 k13 q3867 (dl_at t_X25_findWavering 52 rfl) ?_
        refine g_iload_n (pc := 97) X (j := 3) (i := 3) (q := 3) (x := x3_11) rfl rfl (dl_at t_X25_findWavering 53 rfl) ?_
        refine g_gd fun k98 => ?_
        refine g_iald (pc := 98) X r3_11 k98 (dl_at t_X25_findWavering 54 rfl) fun g98 => ?_
        refine g_iflt (pc := 99) X g98 (off := 7) (tgt := 106) rfl (dl_at t_X25_findWavering 55 rfl) (fun _ => ?_) (fun _ => ?_)
        · refine g_ls (ls2 := [(0, rv D a0), (1, iv s0_83), (3, iv x3_11)]) [1, 0, 3] rfl ?_
          exact J106 () trivial
        refine g_ls (ls2 := [(0, rv D a0), (1, iv s0_83), (3, iv x3_11)]) [1, 0, 3] rfl ?_
        exact J102 () trivial
      intro J83
      refine g_join (γ := Unit) (fun q => True) 78 (fun q => [(0, rv D a0), (2, iv x2_11), (3, iv x3_11), (4, iv s0_42)]) (fun q => []) (fun q => h2) (fun q => m_X25_findWavering_j78 s0_42 x3_11 a0 x2_11 h2) ?_ ?_
      · rintro _ _
        try dsimp only
        unfold m_X25_findWavering_j78
        refine g_iconst (pc := 78) X (n := 1) (dl_at t_X25_findWavering 43 rfl) ?_
        refine g_goto (pc := 79) X (off := 4) (tgt := 83) rfl (dl_at t_X25_findWavering 44 rfl) ?_
        exact J83 1 (Or.inr rfl)
      intro J78
      refine g_ifne (pc := 45) X (r32_z r1_11) (off := 33) (tgt := 78) rfl (dl_at t_X25_findWavering 28 rfl) (fun _ => ?_) (fun _ => ?_)
      · refine g_ls (ls2 := [(0, rv D a0), (2, iv x2_11), (3, iv x3_11), (4, iv s0_42)]) [2, 4, 1, 0] rfl ?_
        exact J78 () trivial
      refine g_iload (pc := 48) X (i := 4) (q := 0) (x := s0_42) rfl (dl_at t_X25_findWavering 29 rfl) ?_
      refine g_join (γ := Unit) (fun q => True) 82 (fun q => [(0, rv D a0), (2, iv x2_11), (3, iv x3_11), (4, iv s0_42)]) (fun q => []) (fun q => h2) (fun q => m_X25_findWavering_j82 s0_42 x3_11 a0 x2_11 h2) ?_ ?_
      · rintro _ _
        try dsimp only
        unfold m_X25_findWavering_j82
        refine g_iconst (pc := 82) X (n := 0) (dl_at t_X25_findWavering 45 rfl) ?_
        exact J83 0 (Or.inl rfl)
      intro J82
      refine g_ifeq (pc := 50) X (r32_z rs0_42) (off := 32) (tgt := 82) rfl (dl_at t_X25_findWavering 30 rfl) (fun _ => ?_) (fun _ => ?_)
      · refine g_ls (ls2 := [(0, rv D a0), (2, iv x2_11), (3, iv x3_11), (4, iv s0_42)]) [2, 4, 1, 0] rfl ?_
        exact J82 () trivial
      refine g_aload_n (pc := 53) X (j := 0) (i := 0) (q := 2) (x := a0) rfl rfl (dl_at t_X25_findWavering 31 rfl) ?_
      refine r_getr (pc := 54) X fX25_0 k13 q3761 (dl_at t_X25_findWavering 32 rfl) ?_
      refine g_gd fun k57 => ?_
      refine r_getr (pc := 57) X fX24_10 k57 q3666 (dl_at t_X25_findWavering 33 rfl) ?_
      refine g_iload_n (pc := 60) X (j := 3) (i := 3) (q := 1) (x := x3_11) rfl rfl (dl_at t_X25_findWavering 34 rfl) ?_
      refine g_gd fun k61 => ?_
      refine g_zald (pc := 61) X r3_11 k61 (dl_at t_X25_findWavering 35 rfl) fun g61 => ?_
      refine g_ifeq (pc := 62) X (r32_z g61) (off := 20) (tgt := 82) rfl (dl_at t_X25_findWavering 36 rfl) (fun _ => ?_) (fun _ => ?_)
      · refine g_ls (ls2 := [(0, rv D a0), (2, iv x2_11), (3, iv x3_11), (4, iv s0_42)]) [2, 4, 1, 0] rfl ?_
        exact J82 () trivial
      refine g_aload_n (pc := 65) X (j := 0) (i := 0) (q := 2) (x := a0) rfl rfl (dl_at t_X25_findWavering 37 rfl) ?_
      refine r_getr (pc := 66) X fX25_0 k13 q3761 (dl_at t_X25_findWavering 38 rfl) ?_
      refine g_iload_n (pc := 69) X (j := 3) (i := 3) (q := 1) (x := x3_11) rfl rfl (dl_at t_X25_findWavering 39 rfl) ?_
      refine g_bipush (pc := 70) X (n := 19) rfl (dl_at t_X25_findWavering 40 rfl) ?_
      refine r_callRi (pc := 72) X (fun _ hv => s_X24_of k57 r3_11 (r32_c rfl) hv) cw_code q4704 q378 (in_Vk X (As := [iv x3_11, iv 19]) kX24 k57 (Or.inl q4844) q4702 q4703 cw_code q4704 ⟨by decide, by decide⟩ rfl (dl_at t_X25_findWavering 41 rfl)) (dl_at t_X25_findWavering 41 rfl) (cat24 (st := []) (Nat.le_of_ble_eq_true rfl)) (Nat.le_of_ble_eq_true rfl) (Nat.le_of_ble_eq_true rfl) fun v72 g72 => ?_
      refine g_ifle (pc := 75) X g72 (off := 7) (tgt := 82) rfl (dl_at t_X25_findWavering 42 rfl) (fun _ => ?_) (fun _ => ?_)
      · refine g_ls (ls2 := [(0, rv D a0), (2, iv x2_11), (3, iv x3_11), (4, iv s0_42)]) [2, 4, 1, 0] rfl ?_
        exact J82 () trivial
      refine g_ls (ls2 := [(0, rv D a0), (2, iv x2_11), (3, iv x3_11), (4, iv s0_42)]) [2, 4, 1, 0] rfl ?_
      exact J78 () trivial
    intro J42
    refine g_icmpeq (pc := 34) X g27 g33 (off := 7) (tgt := 41) rfl (dl_at t_X25_findWavering 22 rfl) (fun _ => ?_) (fun _ => ?_)
    · refine g_iconst (pc := 41) X (n := 0) (dl_at t_X25_findWavering 25 rfl) ?_
      exact J42 0 (Or.inl rfl)
    refine g_iconst (pc := 37) X (n := 1) (dl_at t_X25_findWavering 23 rfl) ?_
    refine g_goto (pc := 38) X (off := 4) (tgt := 42) rfl (dl_at t_X25_findWavering 24 rfl) ?_
    exact J42 1 (Or.inr rfl)
  · rintro ⟨x1_114, x2_114⟩ ⟨r1_114, r2_114⟩
    try dsimp only [sE]
    refine g_iconst (pc := 114) X (n := 0) (dl_at t_X25_findWavering 62 rfl) ?_
    refine g_ltz (Or.inl rfl) fun x3_115 r3_115 => ?_
    refine g_istore_nN (pc := 115) X (j := 3) (i := 3) (x := x3_115) (b := 2) (w := iv x2_114) (rest := [(0, rv D a0), (1, iv x1_114)]) rfl (Nat.le_of_ble_eq_true rfl) [2, 0, 1] rfl (by decide) rfl rfl (dl_at t_X25_findWavering 63 rfl) ?_
    refine g_ls (ls2 := [(0, rv D a0), (1, iv x1_114), (2, iv x2_114), (3, iv x3_115)]) [2, 3, 1, 0] rfl ?_
    refine g_loop0F (fun (q : Int × Hp) => [(0, rv D a0), (1, iv x1_114), (2, iv x2_114), (3, iv q.1)]) (fun (q : Int × Hp) => q.2) (fun (q : Int × Hp) => r32 q.1 ∧ Ext h2 q.2) (x3_115, h2) ⟨(r32_z r3_115), (Ext.refl _)⟩ ?_ (fun _ => rfl)
    · rintro ⟨x3_116, h_116⟩ ⟨r3_116, E_116⟩
      try dsimp only
      unfold m_X25_findWavering_l116
      refine g_iload_n (pc := 116) X (j := 3) (i := 3) (q := 3) (x := x3_116) rfl rfl (dl_at t_X25_findWavering 64 rfl) ?_
      refine g_aload_n (pc := 117) X (j := 0) (i := 0) (q := 0) (x := a0) rfl rfl (dl_at t_X25_findWavering 65 rfl) ?_
      have k118 := kx (E2.trans E_116) (by decide) hk
      refine r_getr (pc := 118) X fX25_1 k118 q3763 (dl_at t_X25_findWavering 66 rfl) ?_
      refine g_gd fun k121 => ?_
      refine r_geti (pc := 121) X fX23_3 k121 q3526 (dl_at t_X25_findWavering 67 rfl) fun g121 => ?_
      refine g_icmpge (pc := 124) X r3_116 g121 (off := 235) (tgt := 359) rfl (dl_at t_X25_findWavering 68 rfl) (fun _ => ?_) (fun _ => ?_)
      · exact g_at fun Q hQ => (g_vret (pc := 359) X (v := 0) rfl rfl (dl_at t_X25_findWavering 179 rfl)) _ Q rfl hQ
      refine g_aload_n (pc := 127) X (j := 0) (i := 0) (q := 0) (x := a0) rfl rfl (dl_at t_X25_findWavering 69 rfl) ?_
      refine r_getr (pc := 128) X fX25_87 k118 q3889 (dl_at t_X25_findWavering 70 rfl) ?_
      refine g_iload_n (pc := 131) X (j := 3) (i := 3) (q := 3) (x := x3_116) rfl rfl (dl_at t_X25_findWavering 71 rfl) ?_
      refine g_gd fun k132 => ?_
      refine g_iald (pc := 132) X r3_116 k132 (dl_at t_X25_findWavering 72 rfl) fun g132 => ?_
      refine g_lti g132 fun x4_133 r4_133 => ?_
      refine g_istoreN (pc := 133) X (i := 4) (x := x4_133) (b := 3) (w := iv x3_116) (rest := [(0, rv D a0), (1, iv x1_114), (2, iv x2_114)]) (Nat.le_of_ble_eq_true rfl) [3, 0, 1, 2] rfl (by decide) rfl rfl (dl_at t_X25_findWavering 73 rfl) ?_
      refine g_aload_n (pc := 135) X (j := 0) (i := 0) (q := 2) (x := a0) rfl rfl (dl_at t_X25_findWavering 74 rfl) ?_
      refine r_getr (pc := 136) X fX25_86 k118 q3888 (dl_at t_X25_findWavering 75 rfl) ?_
      refine g_iload_n (pc := 139) X (j := 3) (i := 3) (q := 1) (x := x3_116) rfl rfl (dl_at t_X25_findWavering 76 rfl) ?_
      refine g_gd fun k140 => ?_
      refine g_iald (pc := 140) X r3_116 k140 (dl_at t_X25_findWavering 77 rfl) fun g140 => ?_
      refine g_join (γ := Hp) (fun q => Ext h_116 q) 330 (fun q => [(0, rv D a0), (1, iv x1_114), (2, iv x2_114), (3, iv x3_116)]) (fun q => []) (fun q => q) (fun q => m_X25_findWavering_j330 x3_116 a0 q) ?_ ?_
      · rintro h_330 E_330
        try dsimp only
        unfold m_X25_findWavering_j330
        refine g_aload_n (pc := 330) X (j := 0) (i := 0) (q := 0) (x := a0) rfl rfl (dl_at t_X25_findWavering 164 rfl) ?_
        refine g_dup (pc := 331) X rv_cat (dl_at t_X25_findWavering 165 rfl) ?_
        have k332 := kx E_330 (by decide) k118
        refine r_geti (pc := 332) X fX25_96 k332 q3906 (dl_at t_X25_findWavering 166 rfl) fun g332 => ?_
        refine g_aload_n (pc := 335) X (j := 0) (i := 0) (q := 0) (x := a0) rfl rfl (dl_at t_X25_findWavering 167 rfl) ?_
        refine r_getr (pc := 336) X fX25_99 k332 q3910 (dl_at t_X25_findWavering 168 rfl) ?_
        refine g_iload_n (pc := 339) X (j := 3) (i := 3) (q := 3) (x := x3_116) rfl rfl (dl_at t_X25_findWavering 169 rfl) ?_
        refine g_gd fun k340 => ?_
        refine g_zald (pc := 340) X r3_116 k340 (dl_at t_X25_findWavering 170 rfl) fun g340 => ?_
        refine g_join (γ := Int × Int) (fun q => r32 q.1 ∧ (q.2 = 0 ∨ q.2 = 1)) 349 (fun q => [(0, rv D a0), (1, iv x1_114), (2, iv x2_114), (3, iv x3_116)]) (fun q => [iv q.2, iv q.1, rv D a0]) (fun q => h_330) (fun q => m_X25_findWavering_j349 a0 x3_116 q.1 q.2 h_330) ?_ ?_
        · rintro ⟨s1_349, s2_349⟩ ⟨rs1_349, rs2_349⟩
          try dsimp only
          unfold m_X25_findWavering_j349
          refine g_iadd (pc := 349) X rs1_349 (r32_z rs2_349) (dl_at t_X25_findWavering 175 rfl) ?_
          refine r_puti (pc := 350) X fX25_96 k332 q3906 rfl (dl_at t_X25_findWavering 176 rfl) (r32_w _) (fun h350 E350 => ?_)
          refine r_iincN (pc := 353) X (i := 3) (q := 3) (n := 1) (x := x3_116) (b := 2) (w := iv x2_114) (rest := [(0, rv D a0), (1, iv x1_114)]) rfl r3_116 (r32_c rfl) (Nat.le_of_ble_eq_true rfl) [2, 0, 1] rfl (by decide) rfl rfl (dl_at t_X25_findWavering 177 rfl) fun x3_353 r3_353 => ?_
          refine g_goto (pc := 356) X (off := (-240)) (tgt := 116) rfl (dl_at t_X25_findWavering 178 rfl) ?_
          refine g_ls (ls2 := [(0, rv D a0), (1, iv x1_114), (2, iv x2_114), (3, iv x3_353)]) [2, 3, 1, 0] rfl ?_
          exact g_at fun Q hQ => hQ ⟨r3_353, (E_116.trans (E_330.trans E350))⟩
        intro J349
        refine g_ifeq (pc := 341) X (r32_z g340) (off := 7) (tgt := 348) rfl (dl_at t_X25_findWavering 171 rfl) (fun _ => ?_) (fun _ => ?_)
        · refine g_iconst (pc := 348) X (n := 0) (dl_at t_X25_findWavering 174 rfl) ?_
          exact J349 ((h_330 a0 96), 0) ⟨g332, (Or.inl rfl)⟩
        refine g_iconst (pc := 344) X (n := 1) (dl_at t_X25_findWavering 172 rfl) ?_
        refine g_goto (pc := 345) X (off := 4) (tgt := 349) rfl (dl_at t_X25_findWavering 173 rfl) ?_
        exact J349 ((h_330 a0 96), 1) ⟨g332, (Or.inr rfl)⟩
      intro J330
      refine g_case (fun w141 => ?_) (fun nw141 => ?_)
      · refine g_tabIn (pc := 141) X (off := 35) (tgt := 176) g140 w141 (by decide) (by decide) rfl rfl dS_X25_findWavering_141 ?_
        refine g_aload_n (pc := 176) X (j := 0) (i := 0) (q := 2) (x := a0) rfl rfl (dl_at t_X25_findWavering 78 rfl) ?_
        refine r_getr (pc := 177) X fX25_99 k118 q3910 (dl_at t_X25_findWavering 79 rfl) ?_
        refine g_iload_n (pc := 180) X (j := 3) (i := 3) (q := 1) (x := x3_116) rfl rfl (dl_at t_X25_findWavering 80 rfl) ?_
        refine g_aload_n (pc := 181) X (j := 0) (i := 0) (q := 2) (x := a0) rfl rfl (dl_at t_X25_findWavering 81 rfl) ?_
        refine r_getr (pc := 182) X fX25_80 k118 q3880 (dl_at t_X25_findWavering 82 rfl) ?_
        refine g_iload (pc := 185) X (i := 4) (q := 0) (x := x4_133) rfl (dl_at t_X25_findWavering 83 rfl) ?_
        refine g_gd fun k187 => ?_
        refine g_iald (pc := 187) X r4_133 k187 (dl_at t_X25_findWavering 84 rfl) fun g187 => ?_
        refine g_aload_n (pc := 188) X (j := 0) (i := 0) (q := 2) (x := a0) rfl rfl (dl_at t_X25_findWavering 85 rfl) ?_
        refine r_getr (pc := 189) X fX25_83 k118 q3883 (dl_at t_X25_findWavering 86 rfl) ?_
        refine g_iload (pc := 192) X (i := 4) (q := 0) (x := x4_133) rfl (dl_at t_X25_findWavering 87 rfl) ?_
        refine g_gd fun k194 => ?_
        refine g_iald (pc := 194) X r4_133 k194 (dl_at t_X25_findWavering 88 rfl) fun g194 => ?_
        refine g_join (γ := Int × Int) (fun q => (q.2 = 0 ∨ q.2 = 1)) 203 (fun q => [(0, rv D a0), (1, iv x1_114), (2, iv x2_114), (3, iv x3_116)]) (fun q => [iv q.2, iv x3_116, rv D q.1]) (fun q => h_116) (fun q => m_X25_findWavering_j203 x3_116 a0 q.1 q.2 h_116) ?_ ?_
        · rintro ⟨s0_203, s2_203⟩ rs2_203
          try dsimp only
          unfold m_X25_findWavering_j203
          refine g_gd fun k203 => ?_
          refine r_zast (pc := 203) X r3_116 rs2_203 k203 (dl_at t_X25_findWavering 93 rfl) (fun h203 E203 => ?_)
          refine g_goto (pc := 204) X (off := 126) (tgt := 330) rfl (dl_at t_X25_findWavering 94 rfl) ?_
          exact J330 h203 E203
        intro J203
        refine g_icmpeq (pc := 195) X g187 g194 (off := 7) (tgt := 202) rfl (dl_at t_X25_findWavering 89 rfl) (fun _ => ?_) (fun _ => ?_)
        · refine g_iconst (pc := 202) X (n := 0) (dl_at t_X25_findWavering 92 rfl) ?_
          refine g_ls (ls2 := [(0, rv D a0), (1, iv x1_114), (2, iv x2_114), (3, iv x3_116)]) [2, 3, 4, 1] rfl ?_
          exact J203 ((h_116 a0 99), 0) (Or.inl rfl)
        refine g_iconst (pc := 198) X (n := 1) (dl_at t_X25_findWavering 90 rfl) ?_
        refine g_goto (pc := 199) X (off := 4) (tgt := 203) rfl (dl_at t_X25_findWavering 91 rfl) ?_
        refine g_ls (ls2 := [(0, rv D a0), (1, iv x1_114), (2, iv x2_114), (3, iv x3_116)]) [2, 3, 4, 1] rfl ?_
        exact J203 ((h_116 a0 99), 1) (Or.inr rfl)
      refine g_case (fun w141_1 => ?_) (fun nw141_1 => ?_)
      · refine g_tabIn (pc := 141) X (off := 66) (tgt := 207) g140 w141_1 (by decide) (by decide) rfl rfl dS_X25_findWavering_141 ?_
        refine g_aload_n (pc := 207) X (j := 0) (i := 0) (q := 2) (x := a0) rfl rfl (dl_at t_X25_findWavering 95 rfl) ?_
        refine r_getr (pc := 208) X fX25_99 k118 q3910 (dl_at t_X25_findWavering 96 rfl) ?_
        refine g_iload_n (pc := 211) X (j := 3) (i := 3) (q := 1) (x := x3_116) rfl rfl (dl_at t_X25_findWavering 97 rfl) ?_
        refine g_aload_n (pc := 212) X (j := 0) (i := 0) (q := 2) (x := a0) rfl rfl (dl_at t_X25_findWavering 98 rfl) ?_
        refine r_getr (pc := 213) X fX25_81 k118 q3881 (dl_at t_X25_findWavering 99 rfl) ?_
        refine g_iload (pc := 216) X (i := 4) (q := 0) (x := x4_133) rfl (dl_at t_X25_findWavering 100 rfl) ?_
        refine g_gd fun k218 => ?_
        refine g_iald (pc := 218) X r4_133 k218 (dl_at t_X25_findWavering 101 rfl) fun g218 => ?_
        refine g_aload_n (pc := 219) X (j := 0) (i := 0) (q := 2) (x := a0) rfl rfl (dl_at t_X25_findWavering 102 rfl) ?_
        refine r_getr (pc := 220) X fX25_84 k118 q3885 (dl_at t_X25_findWavering 103 rfl) ?_
        refine g_iload (pc := 223) X (i := 4) (q := 0) (x := x4_133) rfl (dl_at t_X25_findWavering 104 rfl) ?_
        refine g_gd fun k225 => ?_
        refine g_iald (pc := 225) X r4_133 k225 (dl_at t_X25_findWavering 105 rfl) fun g225 => ?_
        refine g_join (γ := Int × Int) (fun q => (q.2 = 0 ∨ q.2 = 1)) 234 (fun q => [(0, rv D a0), (1, iv x1_114), (2, iv x2_114), (3, iv x3_116)]) (fun q => [iv q.2, iv x3_116, rv D q.1]) (fun q => h_116) (fun q => m_X25_findWavering_j234 x3_116 a0 q.1 q.2 h_116) ?_ ?_
        · rintro ⟨s0_234, s2_234⟩ rs2_234
          try dsimp only
          unfold m_X25_findWavering_j234
          refine g_gd fun k234 => ?_
          refine r_zast (pc := 234) X r3_116 rs2_234 k234 (dl_at t_X25_findWavering 110 rfl) (fun h234 E234 => ?_)
          refine g_goto (pc := 235) X (off := 95) (tgt := 330) rfl (dl_at t_X25_findWavering 111 rfl) ?_
          exact J330 h234 E234
        intro J234
        refine g_icmpeq (pc := 226) X g218 g225 (off := 7) (tgt := 233) rfl (dl_at t_X25_findWavering 106 rfl) (fun _ => ?_) (fun _ => ?_)
        · refine g_iconst (pc := 233) X (n := 0) (dl_at t_X25_findWavering 109 rfl) ?_
          refine g_ls (ls2 := [(0, rv D a0), (1, iv x1_114), (2, iv x2_114), (3, iv x3_116)]) [2, 3, 4, 1] rfl ?_
          exact J234 ((h_116 a0 99), 0) (Or.inl rfl)
        refine g_iconst (pc := 229) X (n := 1) (dl_at t_X25_findWavering 107 rfl) ?_
        refine g_goto (pc := 230) X (off := 4) (tgt := 234) rfl (dl_at t_X25_findWavering 108 rfl) ?_
        refine g_ls (ls2 := [(0, rv D a0), (1, iv x1_114), (2, iv x2_114), (3, iv x3_116)]) [2, 3, 4, 1] rfl ?_
        exact J234 ((h_116 a0 99), 1) (Or.inr rfl)
      refine g_case (fun w141_2 => ?_) (fun nw141_2 => ?_)
      · refine g_tabIn (pc := 141) X (off := 97) (tgt := 238) g140 w141_2 (by decide) (by decide) rfl rfl dS_X25_findWavering_141 ?_
        refine g_aload_n (pc := 238) X (j := 0) (i := 0) (q := 2) (x := a0) rfl rfl (dl_at t_X25_findWavering 112 rfl) ?_
        refine r_getr (pc := 239) X fX25_99 k118 q3910 (dl_at t_X25_findWavering 113 rfl) ?_
        refine g_iload_n (pc := 242) X (j := 3) (i := 3) (q := 1) (x := x3_116) rfl rfl (dl_at t_X25_findWavering 114 rfl) ?_
        refine g_aload_n (pc := 243) X (j := 0) (i := 0) (q := 2) (x := a0) rfl rfl (dl_at t_X25_findWavering 115 rfl) ?_
        refine r_getr (pc := 244) X fX25_81 k118 q3881 (dl_at t_X25_findWavering 116 rfl) ?_
        refine g_iload (pc := 247) X (i := 4) (q := 0) (x := x4_133) rfl (dl_at t_X25_findWavering 117 rfl) ?_
        refine g_gd fun k249 => ?_
        refine g_iald (pc := 249) X r4_133 k249 (dl_at t_X25_findWavering 118 rfl) fun g249 => ?_
        refine g_aload_n (pc := 250) X (j := 0) (i := 0) (q := 2) (x := a0) rfl rfl (dl_at t_X25_findWavering 119 rfl) ?_
        refine r_getr (pc := 251) X fX25_84 k118 q3885 (dl_at t_X25_findWavering 120 rfl) ?_
        refine g_iload (pc := 254) X (i := 4) (q := 0) (x := x4_133) rfl (dl_at t_X25_findWavering 121 rfl) ?_
        refine g_gd fun k256 => ?_
        refine g_iald (pc := 256) X r4_133 k256 (dl_at t_X25_findWavering 122 rfl) fun g256 => ?_
        refine g_join (γ := Int × Int) (fun q => (q.2 = 0 ∨ q.2 = 1)) 299 (fun q => [(0, rv D a0), (1, iv x1_114), (2, iv x2_114), (3, iv x3_116)]) (fun q => [iv q.2, iv x3_116, rv D q.1]) (fun q => h_116) (fun q => m_X25_findWavering_j299 x3_116 a0 q.1 q.2 h_116) ?_ ?_
        · rintro ⟨s0_299, s2_299⟩ rs2_299
          try dsimp only
          unfold m_X25_findWavering_j299
          refine g_gd fun k299 => ?_
          refine r_zast (pc := 299) X r3_116 rs2_299 k299 (dl_at t_X25_findWavering 145 rfl) (fun h299 E299 => ?_)
          refine g_goto (pc := 300) X (off := 30) (tgt := 330) rfl (dl_at t_X25_findWavering 146 rfl) ?_
          exact J330 h299 E299
        intro J299
        refine g_join (γ := Int) (fun q => True) 294 (fun q => [(0, rv D a0), (1, iv x1_114), (2, iv x2_114), (3, iv x3_116)]) (fun q => [iv x3_116, rv D q]) (fun q => h_116) (fun q => m_X25_findWavering_j294 x3_116 a0 q h_116) ?_ ?_
        · rintro s0_294 _
          try dsimp only
          unfold m_X25_findWavering_j294
          refine g_iconst (pc := 294) X (n := 1) (dl_at t_X25_findWavering 142 rfl) ?_
          refine g_goto (pc := 295) X (off := 4) (tgt := 299) rfl (dl_at t_X25_findWavering 143 rfl) ?_
          exact J299 (s0_294, 1) (Or.inr rfl)
        intro J294
        refine g_icmpne (pc := 257) X g249 g256 (off := 37) (tgt := 294) rfl (dl_at t_X25_findWavering 123 rfl) (fun _ => ?_) (fun _ => ?_)
        · refine g_ls (ls2 := [(0, rv D a0), (1, iv x1_114), (2, iv x2_114), (3, iv x3_116)]) [2, 3, 4, 1] rfl ?_
          exact J294 (h_116 a0 99) trivial
        refine g_aload_n (pc := 260) X (j := 0) (i := 0) (q := 2) (x := a0) rfl rfl (dl_at t_X25_findWavering 124 rfl) ?_
        refine r_getr (pc := 261) X fX25_82 k118 q3882 (dl_at t_X25_findWavering 125 rfl) ?_
        refine g_iload (pc := 264) X (i := 4) (q := 0) (x := x4_133) rfl (dl_at t_X25_findWavering 126 rfl) ?_
        refine g_gd fun k266 => ?_
        refine g_iald (pc := 266) X r4_133 k266 (dl_at t_X25_findWavering 127 rfl) fun g266 => ?_
        refine g_aload_n (pc := 267) X (j := 0) (i := 0) (q := 2) (x := a0) rfl rfl (dl_at t_X25_findWavering 128 rfl) ?_
        refine r_getr (pc := 268) X fX25_85 k118 q3887 (dl_at t_X25_findWavering 129 rfl) ?_
        refine g_iload (pc := 271) X (i := 4) (q := 0) (x := x4_133) rfl (dl_at t_X25_findWavering 130 rfl) ?_
        refine g_gd fun k273 => ?_
        refine g_iald (pc := 273) X r4_133 k273 (dl_at t_X25_findWavering 131 rfl) fun g273 => ?_
        refine g_icmpne (pc := 274) X g266 g273 (off := 20) (tgt := 294) rfl (dl_at t_X25_findWavering 132 rfl) (fun _ => ?_) (fun _ => ?_)
        · refine g_ls (ls2 := [(0, rv D a0), (1, iv x1_114), (2, iv x2_114), (3, iv x3_116)]) [2, 3, 4, 1] rfl ?_
          exact J294 (h_116 a0 99) trivial
        refine g_aload_n (pc := 277) X (j := 0) (i := 0) (q := 2) (x := a0) rfl rfl (dl_at t_X25_findWavering 133 rfl) ?_
        refine r_getr (pc := 278) X fX25_139 k118 q3951 (dl_at t_X25_findWavering 134 rfl) ?_
        refine g_iload (pc := 281) X (i := 4) (q := 0) (x := x4_133) rfl (dl_at t_X25_findWavering 135 rfl) ?_
        refine g_gd fun k283 => ?_
        refine g_zald (pc := 283) X r4_133 k283 (dl_at t_X25_findWavering 136 rfl) fun g283 => ?_
        refine g_aload_n (pc := 284) X (j := 0) (i := 0) (q := 2) (x := a0) rfl rfl (dl_at t_X25_findWavering 137 rfl) ?_
        refine r_getr (pc := 285) X fX25_140 k118 q3952 (dl_at t_X25_findWavering 138 rfl) ?_
        refine g_iload (pc := 288) X (i := 4) (q := 0) (x := x4_133) rfl (dl_at t_X25_findWavering 139 rfl) ?_
        refine g_gd fun k290 => ?_
        refine g_zald (pc := 290) X r4_133 k290 (dl_at t_X25_findWavering 140 rfl) fun g290 => ?_
        refine g_icmpeq (pc := 291) X (r32_z g283) (r32_z g290) (off := 7) (tgt := 298) rfl (dl_at t_X25_findWavering 141 rfl) (fun _ => ?_) (fun _ => ?_)
        · refine g_iconst (pc := 298) X (n := 0) (dl_at t_X25_findWavering 144 rfl) ?_
          refine g_ls (ls2 := [(0, rv D a0), (1, iv x1_114), (2, iv x2_114), (3, iv x3_116)]) [2, 3, 4, 1] rfl ?_
          exact J299 ((h_116 a0 99), 0) (Or.inl rfl)
        refine g_ls (ls2 := [(0, rv D a0), (1, iv x1_114), (2, iv x2_114), (3, iv x3_116)]) [2, 3, 4, 1] rfl ?_
        exact J294 (h_116 a0 99) trivial
      refine g_case (fun w141_3 => ?_) (fun nw141_3 => ?_)
      · refine g_tabIn (pc := 141) X (off := 162) (tgt := 303) g140 w141_3 (by decide) (by decide) rfl rfl dS_X25_findWavering_141 ?_
        refine g_aload_n (pc := 303) X (j := 0) (i := 0) (q := 2) (x := a0) rfl rfl (dl_at t_X25_findWavering 147 rfl) ?_
        refine r_getr (pc := 304) X fX25_99 k118 q3910 (dl_at t_X25_findWavering 148 rfl) ?_
        refine g_iload_n (pc := 307) X (j := 3) (i := 3) (q := 1) (x := x3_116) rfl rfl (dl_at t_X25_findWavering 149 rfl) ?_
        refine g_iload_n (pc := 308) X (j := 1) (i := 1) (q := 3) (x := x1_114) rfl rfl (dl_at t_X25_findWavering 150 rfl) ?_
        refine g_gd fun k309 => ?_
        refine r_zast (pc := 309) X r3_116 r1_114 k309 (dl_at t_X25_findWavering 151 rfl) (fun h309 E309 => ?_)
        refine g_goto (pc := 310) X (off := 20) (tgt := 330) rfl (dl_at t_X25_findWavering 152 rfl) ?_
        refine g_ls (ls2 := [(0, rv D a0), (1, iv x1_114), (2, iv x2_114), (3, iv x3_116)]) [2, 3, 4, 1] rfl ?_
        exact J330 h309 E309
      refine g_case (fun w141_4 => ?_) (fun nw141_4 => ?_)
      · refine g_tabIn (pc := 141) X (off := 172) (tgt := 313) g140 w141_4 (by decide) (by decide) rfl rfl dS_X25_findWavering_141 ?_
        refine g_aload_n (pc := 313) X (j := 0) (i := 0) (q := 2) (x := a0) rfl rfl (dl_at t_X25_findWavering 153 rfl) ?_
        refine r_getr (pc := 314) X fX25_99 k118 q3910 (dl_at t_X25_findWavering 154 rfl) ?_
        refine g_iload_n (pc := 317) X (j := 3) (i := 3) (q := 1) (x := x3_116) rfl rfl (dl_at t_X25_findWavering 155 rfl) ?_
        refine g_iload_n (pc := 318) X (j := 2) (i := 2) (q := 4) (x := x2_114) rfl rfl (dl_at t_X25_findWavering 156 rfl) ?_
        refine g_gd fun k319 => ?_
        refine r_zast (pc := 319) X r3_116 r2_114 k319 (dl_at t_X25_findWavering 157 rfl) (fun h319 E319 => ?_)
        refine g_goto (pc := 320) X (off := 10) (tgt := 330) rfl (dl_at t_X25_findWavering 158 rfl) ?_
        refine g_ls (ls2 := [(0, rv D a0), (1, iv x1_114), (2, iv x2_114), (3, iv x3_116)]) [2, 3, 4, 1] rfl ?_
        exact J330 h319 E319
      have w141_5 : ¬ (h_116 (h_116 a0 86) x3_116) ∈ ([1, 2, 3, 4, 5] : List Int) := by simp only [List.mem_cons, List.not_mem_nil, or_false, not_or] at *; simp only [*, not_false_eq_true, and_self]
      refine g_tabElse (pc := 141) X (tgt := 323) [1, 2, 3, 4, 5] g140 w141_5 rfl rfl dS_X25_findWavering_141 ?_
      refine g_aload_n (pc := 323) X (j := 0) (i := 0) (q := 2) (x := a0) rfl rfl (dl_at t_X25_findWavering 159 rfl) ?_
      refine r_getr (pc := 324) X fX25_99 k118 q3910 (dl_at t_X25_findWavering 160 rfl) ?_
      refine g_iload_n (pc := 327) X (j := 3) (i := 3) (q := 1) (x := x3_116) rfl rfl (dl_at t_X25_findWavering 161 rfl) ?_
      refine g_iconst (pc := 328) X (n := 0) (dl_at t_X25_findWavering 162 rfl) ?_
      refine g_gd fun k329 => ?_
      refine r_zast (pc := 329) X r3_116 (Or.inl rfl) k329 (dl_at t_X25_findWavering 163 rfl) (fun h329 E329 => ?_)
      refine g_ls (ls2 := [(0, rv D a0), (1, iv x1_114), (2, iv x2_114), (3, iv x3_116)]) [2, 3, 4, 1] rfl ?_
      exact J330 h329 E329
def k_X25_make : List (Nat × Instr × Nat) := [(0, .aload_n 0, 1), (1, .getfield 14, 3), (4, .aload_n 1, 1), (5, .aload_n 2, 1), (6, .invokevirtual 334, 3), (9, .aload_n 0, 1), (10, .aload_n 0, 1), (11, .getfield 14, 3), (14, .getfield 338, 3), (17, .putfield 342, 3), (20, .aload_n 0, 1), (21, .aload_n 3, 1), (22, .putfield 343, 3), (25, .aload_n 0, 1), (26, .aload 4, 2), (28, .putfield 347, 3), (31, .iconst 0, 1), (32, .istore 6, 2), (34, .iload 6, 2), (36, .aload_n 0, 1), (37, .getfield 342, 3), (40, .getfield 351, 3), (43, .if_icmp .ge 41, 3), (46, .aload_n 0, 1), (47, .getfield 223, 3), (50, .iload 6, 2), (52, .iconst 0, 1), (53, .iastore, 1), (54, .aload_n 0, 1), (55, .getfield 226, 3), (58, .iload 6, 2), (60, .iconst 0, 1), (61, .iastore, 1), (62, .aload_n 0, 1), (63, .getfield 229, 3), (66, .iload 6, 2), (68, .iconst 0, 1), (69, .iastore, 1), (70, .aload_n 0, 1), (71, .getfield 328, 3), (74, .iload 6, 2), (76, .iconst 0, 1), (77, .bastore, 1), (78, .iinc 6 1, 3), (81, .goto (-47), 3), (84, .aload_n 0, 1), (85, .invokevirtual 357, 3), (88, .iconst 1, 1), (89, .istore 6, 2), (91, .iload 6, 2), (93, .iload 5, 2), (95, .if_icmp .gt 115, 3), (98, .aload_n 0, 1), (99, .invokevirtual 360, 3), (102, .aload_n 0, 1), (103, .invokevirtual 363, 3), (106, .aload_n 0, 1), (107, .getfield 366, 3), (110, .ifCond .ne 6, 3), (113, .iload 6, 2), (115, .ireturn, 1), (116, .iload 6, 2), (118, .iload 5, 2), (120, .if_icmp .ne 7, 3), (123, .iload 6, 2), (125, .ineg, 1), (126, .ireturn, 1), (127, .iconst 0, 1), (128, .istore 7, 2), (130, .iload 7, 2), (132, .aload_n 0, 1), (133, .getfield 342, 3), (136, .getfield 351, 3), (139, .if_icmp .ge 65, 3), (142, .aload_n 0, 1), (143, .getfield 223, 3), (146, .iload 7, 2), (148, .aload_n 0, 1), (149, .getfield 232, 3), (152, .iload 7, 2), (154, .iaload, 1), (155, .iastore, 1), (156, .aload_n 0, 1), (157, .getfield 226, 3), (160, .iload 7, 2), (162, .aload_n 0, 1), (163, .getfield 235, 3), (166, .iload 7, 2), (168, .iaload, 1), (169, .iastore, 1), (170, .aload_n 0, 1), (171, .getfield 229, 3), (174, .iload 7, 2), (176, .aload_n 0, 1), (177, .getfield 238, 3), (180, .iload 7, 2), (182, .iaload, 1), (183, .iastore, 1), (184, .aload_n 0, 1), (185, .getfield 328, 3), (188, .iload 7, 2), (190, .aload_n 0, 1), (191, .getfield 331, 3), (194, .iload 7, 2), (196, .baload, 1), (197, .bastore, 1), (198, .iinc 7 1, 3), (201, .goto (-71), 3), (204, .iinc 6 1, 3), (207, .goto (-116), 3), (210, .iconst 0, 1), (211, .ireturn, 1)]
theorem t_X25_make : ∀ q ∈ k_X25_make, decode cX25_make q.1 = .ok q.2 := dl_all (by decide +kernel)
noncomputable def m_X25_make_l34 (a0 x6_34 : Int) (h_34 : Hp) : Option ((Int × Hp) ⊕ ((Hp))) :=
  gd (h_34 (h_34 a0 1) (-2) = 384) (if (h_34 (h_34 a0 1) 3) ≤ x6_34 then (some (.inr h_34))
  else (gd (h_34 (h_34 a0 80) (-2) % 16 = 1 ∧ (0 : Int) ≤ x6_34 ∧ x6_34 < h_34 (h_34 a0 80) (-1)) (pt h_34 (h_34 a0 80) x6_34 0 fun h53 =>
  gd (h53 (h53 a0 81) (-2) % 16 = 1 ∧ (0 : Int) ≤ x6_34 ∧ x6_34 < h53 (h53 a0 81) (-1)) (pt h53 (h53 a0 81) x6_34 0 fun h61 =>
  gd (h61 (h61 a0 82) (-2) % 16 = 1 ∧ (0 : Int) ≤ x6_34 ∧ x6_34 < h61 (h61 a0 82) (-1)) (pt h61 (h61 a0 82) x6_34 0 fun h69 =>
  gd (h69 (h69 a0 139) (-2) % 16 = 3 ∧ (0 : Int) ≤ x6_34 ∧ x6_34 < h69 (h69 a0 139) (-1)) (pt h69 (h69 a0 139) x6_34 0 fun h77 =>
  lt_ (w32 (x6_34 + 1)) fun x6_78 =>
  some (.inl (x6_78, h77))))))))
noncomputable def m_X25_make_l130 (a0 x7_130 : Int) (h_130 : Hp) : Option ((Int × Hp) ⊕ ((Hp))) :=
  gd (h_130 (h_130 a0 1) (-2) = 384) (if (h_130 (h_130 a0 1) 3) ≤ x7_130 then (some (.inr h_130))
  else (gd (h_130 (h_130 a0 83) (-2) % 16 = 1 ∧ (0 : Int) ≤ x7_130 ∧ x7_130 < h_130 (h_130 a0 83) (-1)) (gd (h_130 (h_130 a0 80) (-2) % 16 = 1 ∧ (0 : Int) ≤ x7_130 ∧ x7_130 < h_130 (h_130 a0 80) (-1)) (pt h_130 (h_130 a0 80) x7_130 (h_130 (h_130 a0 83) x7_130) fun h155 =>
  gd (h155 (h155 a0 84) (-2) % 16 = 1 ∧ (0 : Int) ≤ x7_130 ∧ x7_130 < h155 (h155 a0 84) (-1)) (gd (h155 (h155 a0 81) (-2) % 16 = 1 ∧ (0 : Int) ≤ x7_130 ∧ x7_130 < h155 (h155 a0 81) (-1)) (pt h155 (h155 a0 81) x7_130 (h155 (h155 a0 84) x7_130) fun h169 =>
  gd (h169 (h169 a0 85) (-2) % 16 = 1 ∧ (0 : Int) ≤ x7_130 ∧ x7_130 < h169 (h169 a0 85) (-1)) (gd (h169 (h169 a0 82) (-2) % 16 = 1 ∧ (0 : Int) ≤ x7_130 ∧ x7_130 < h169 (h169 a0 82) (-1)) (pt h169 (h169 a0 82) x7_130 (h169 (h169 a0 85) x7_130) fun h183 =>
  gd (h183 (h183 a0 140) (-2) % 16 = 3 ∧ (0 : Int) ≤ x7_130 ∧ x7_130 < h183 (h183 a0 140) (-1)) (gd (h183 (h183 a0 139) (-2) % 16 = 3 ∧ (0 : Int) ≤ x7_130 ∧ x7_130 < h183 (h183 a0 139) (-1)) (pt h183 (h183 a0 139) x7_130 (h183 (h183 a0 140) x7_130) fun h197 =>
  lt_ (w32 (x7_130 + 1)) fun x7_198 =>
  some (.inl (x7_198, h197))))))))))))
noncomputable def m_X25_make_l91 (a0 a5 x6_91 : Int) (h_91 : Hp) : Option ((Int × Hp) ⊕ (((Int × Int) × Hp))) :=
  if a5 < x6_91 then (some (.inr ((0, 0), h_91)))
  else (bT (m_X25_round a0 h_91) (fun _ h99 =>
  (m_X25_findWavering a0 h99).bind fun h103 =>
  if (h103 a0 96) ≠ 0 then (if x6_91 ≠ a5 then (lt_ 0 fun x7_128 =>
  (lp (fun (q : Int × Hp) => m_X25_make_l130 a0 q.1 q.2) (x7_128, h103)).bind (fun (y204 : Hp) => lt_ (w32 (x6_91 + 1)) fun x6_204 =>
  some (.inl (x6_204, y204))))
  else (some (.inr ((0, (w32 (-x6_91))), h103))))
  else (some (.inr ((0, x6_91), h103)))) (fun a_ h_ => some (.inr ((1, a_), h_))))
noncomputable def m_X25_make (a0 a1 a2 a3 a4 a5 : Int) (h : Hp) : Option ((Int × Int) × Hp) :=
  gd (h (h a0 0) (-2) = 400) ((m_X24_make (h a0 0) a1 a2 h).bind fun h6 =>
  gd (h6 (h6 a0 0) (-2) = 400) (pt h6 a0 1 (h6 (h6 a0 0) 0) fun h17 =>
  pt h17 a0 2 a3 fun h22 =>
  pt h22 a0 3 a4 fun h28 =>
  lt_ 0 fun x6_32 =>
  (lp (fun (q : Int × Hp) => m_X25_make_l34 a0 q.1 q.2) (x6_32, h28)).bind (fun (y84 : Hp) => bT (m_X25_findEntries a0 y84) (fun _ h85 =>
  lt_ 1 fun x6_89 =>
  (lp (fun (q : Int × Hp) => m_X25_make_l91 a0 a5 q.1 q.2) (x6_89, h85)).bind (fun (x : (Int × Int) × Hp) => some x)) (fun a_ h_ => some ((1, a_), h_)))))
theorem s_X25_make {l : Launch} [NoTr l] {D : SD} {a0 a1 a2 a3 a4 a5 : Int} {h : Hp} (hk : h a0 (-2) = 416) (r5 : r32 a5) {r : (Int × Int) × Hp} (hm : m_X25_make a0 a1 a2 a3 a4 a5 h = some r) : Sim l D yX25_make (Cond.code yX25_make cX25_make 8 (Option.some Jvm.ClassFile.FieldType.int)) 16 616 [rv D a0, rv D a1, rv D a2, rv D a3, rv D a4, iv a5] h 1 r := by
  refine Sim.of (fin := fun (v : (Int × Int) × Hp) => v) (lsE := [(0, rv D a0), (1, rv D a1), (2, rv D a2), (3, rv D a3), (4, rv D a4), (5, iv a5)]) hm rfl cwS_code (la_r (la_r (la_r (la_r (la_r (la_i la_n)))))) (ll_r (ll_r (ll_r (ll_r (ll_r (ll_i ll_n)))))) ?_
  intro p e s m below meth c X hcw hmm hcc hnm hname
  have hno := noh hcw hnm hmm hcc
  unfold m_X25_make
  refine g_aload_n (pc := 0) X (j := 0) (i := 0) (q := 0) (x := a0) rfl rfl (dl_at t_X25_make 0 rfl) ?_
  refine r_getr (pc := 1) X fX25_0 hk q3761 (dl_at t_X25_make 1 rfl) ?_
  refine g_aload_n (pc := 4) X (j := 1) (i := 1) (q := 1) (x := a1) rfl rfl (dl_at t_X25_make 2 rfl) ?_
  refine g_aload_n (pc := 5) X (j := 2) (i := 2) (q := 2) (x := a2) rfl rfl (dl_at t_X25_make 3 rfl) ?_
  refine g_gd fun k6 => ?_
  refine r_callV (pc := 6) X (fun _ hv => s_X24_make k6 hv) cw_code q4668 q378 (in_Vk X (As := [rv D a1, rv D a2]) kX24 k6 (Or.inl q4665) q4666 q4667 cw_code q4668 ⟨by decide, by decide⟩ rfl (dl_at t_X25_make 4 rfl)) (dl_at t_X25_make 4 rfl) (cat24 (st := []) (Nat.le_of_ble_eq_true rfl)) (Nat.le_of_ble_eq_true rfl) (Nat.le_of_ble_eq_true rfl) fun h6 E6 => ?_
  refine g_aload_n (pc := 9) X (j := 0) (i := 0) (q := 0) (x := a0) rfl rfl (dl_at t_X25_make 5 rfl) ?_
  refine g_aload_n (pc := 10) X (j := 0) (i := 0) (q := 0) (x := a0) rfl rfl (dl_at t_X25_make 6 rfl) ?_
  have k11 := kx E6 (by decide) hk
  refine r_getr (pc := 11) X fX25_0 k11 q3761 (dl_at t_X25_make 7 rfl) ?_
  refine g_gd fun k14 => ?_
  refine r_getr (pc := 14) X fX24_0 k14 q3643 (dl_at t_X25_make 8 rfl) ?_
  refine r_putr (pc := 17) X fX25_1 k11 q3763 rfl (dl_at t_X25_make 9 rfl)  (fun h17 E17 => ?_)
  refine g_aload_n (pc := 20) X (j := 0) (i := 0) (q := 0) (x := a0) rfl rfl (dl_at t_X25_make 10 rfl) ?_
  refine g_aload_n (pc := 21) X (j := 3) (i := 3) (q := 3) (x := a3) rfl rfl (dl_at t_X25_make 11 rfl) ?_
  have k22 := kx E17 (by decide) k11
  refine r_putr (pc := 22) X fX25_2 k22 q3765 rfl (dl_at t_X25_make 12 rfl)  (fun h22 E22 => ?_)
  refine g_aload_n (pc := 25) X (j := 0) (i := 0) (q := 0) (x := a0) rfl rfl (dl_at t_X25_make 13 rfl) ?_
  refine g_aload (pc := 26) X (i := 4) (q := 4) (x := a4) rfl (dl_at t_X25_make 14 rfl) ?_
  have k28 := kx E22 (by decide) k22
  refine r_putr (pc := 28) X fX25_3 k28 q3766 rfl (dl_at t_X25_make 15 rfl)  (fun h28 E28 => ?_)
  refine g_iconst (pc := 31) X (n := 0) (dl_at t_X25_make 16 rfl) ?_
  refine g_ltz (Or.inl rfl) fun x6_32 r6_32 => ?_
  refine g_istoreN (pc := 32) X (i := 6) (x := x6_32) (b := 5) (w := iv a5) (rest := [(0, rv D a0)]) (Nat.le_of_ble_eq_true rfl) [5, 0] rfl (by decide) rfl rfl (dl_at t_X25_make 17 rfl) ?_
  refine g_ls (ls2 := [(0, rv D a0), (5, iv a5), (6, iv x6_32)]) [2, 1, 0] rfl ?_
  refine g_loop1 (fun (q : Int × Hp) => [(0, rv D a0), (5, iv a5), (6, iv q.1)]) (fun (q : Int × Hp) => q.2) (fun (q : Int × Hp) => r32 q.1 ∧ Ext h28 q.2) 84 (fun (y84 : Hp) => [(0, rv D a0), (5, iv a5)]) (fun (y84 : Hp) => y84) (fun (y84 : Hp) => Ext h28 y84) (x6_32, h28) ⟨(r32_z r6_32), (Ext.refl _)⟩ ?_ ?_
  · rintro ⟨x6_34, h_34⟩ ⟨r6_34, E_34⟩
    try dsimp only
    unfold m_X25_make_l34
    refine g_iload (pc := 34) X (i := 6) (q := 2) (x := x6_34) rfl (dl_at t_X25_make 18 rfl) ?_
    refine g_aload_n (pc := 36) X (j := 0) (i := 0) (q := 0) (x := a0) rfl rfl (dl_at t_X25_make 19 rfl) ?_
    have k37 := kx (E28.trans E_34) (by decide) k28
    refine r_getr (pc := 37) X fX25_1 k37 q3763 (dl_at t_X25_make 20 rfl) ?_
    refine g_gd fun k40 => ?_
    refine r_geti (pc := 40) X fX23_3 k40 q3526 (dl_at t_X25_make 21 rfl) fun g40 => ?_
    refine g_icmpge (pc := 43) X r6_34 g40 (off := 41) (tgt := 84) rfl (dl_at t_X25_make 22 rfl) (fun _ => ?_) (fun _ => ?_)
    · refine g_ls (ls2 := [(0, rv D a0), (5, iv a5)]) [0, 1] rfl ?_
      exact g_at fun Q hQ => hQ E_34
    refine g_aload_n (pc := 46) X (j := 0) (i := 0) (q := 0) (x := a0) rfl rfl (dl_at t_X25_make 23 rfl) ?_
    refine r_getr (pc := 47) X fX25_80 k37 q3880 (dl_at t_X25_make 24 rfl) ?_
    refine g_iload (pc := 50) X (i := 6) (q := 2) (x := x6_34) rfl (dl_at t_X25_make 25 rfl) ?_
    refine g_iconst (pc := 52) X (n := 0) (dl_at t_X25_make 26 rfl) ?_
    refine g_gd fun k53 => ?_
    refine r_iast (pc := 53) X r6_34 (r32_c rfl) k53 (dl_at t_X25_make 27 rfl) (fun h53 E53 => ?_)
    refine g_aload_n (pc := 54) X (j := 0) (i := 0) (q := 0) (x := a0) rfl rfl (dl_at t_X25_make 28 rfl) ?_
    have k55 := kx E53 (by decide) k37
    refine r_getr (pc := 55) X fX25_81 k55 q3881 (dl_at t_X25_make 29 rfl) ?_
    refine g_iload (pc := 58) X (i := 6) (q := 2) (x := x6_34) rfl (dl_at t_X25_make 30 rfl) ?_
    refine g_iconst (pc := 60) X (n := 0) (dl_at t_X25_make 31 rfl) ?_
    refine g_gd fun k61 => ?_
    refine r_iast (pc := 61) X r6_34 (r32_c rfl) k61 (dl_at t_X25_make 32 rfl) (fun h61 E61 => ?_)
    refine g_aload_n (pc := 62) X (j := 0) (i := 0) (q := 0) (x := a0) rfl rfl (dl_at t_X25_make 33 rfl) ?_
    have k63 := kx E61 (by decide) k55
    refine r_getr (pc := 63) X fX25_82 k63 q3882 (dl_at t_X25_make 34 rfl) ?_
    refine g_iload (pc := 66) X (i := 6) (q := 2) (x := x6_34) rfl (dl_at t_X25_make 35 rfl) ?_
    refine g_iconst (pc := 68) X (n := 0) (dl_at t_X25_make 36 rfl) ?_
    refine g_gd fun k69 => ?_
    refine r_iast (pc := 69) X r6_34 (r32_c rfl) k69 (dl_at t_X25_make 37 rfl) (fun h69 E69 => ?_)
    refine g_aload_n (pc := 70) X (j := 0) (i := 0) (q := 0) (x := a0) rfl rfl (dl_at t_X25_make 38 rfl) ?_
    have k71 := kx E69 (by decide) k63
    refine r_getr (pc := 71) X fX25_139 k71 q3951 (dl_at t_X25_make 39 rfl) ?_
    refine g_iload (pc := 74) X (i := 6) (q := 2) (x := x6_34) rfl (dl_at t_X25_make 40 rfl) ?_
    refine g_iconst (pc := 76) X (n := 0) (dl_at t_X25_make 41 rfl) ?_
    refine g_gd fun k77 => ?_
    refine r_zast (pc := 77) X r6_34 (Or.inl rfl) k77 (dl_at t_X25_make 42 rfl) (fun h77 E77 => ?_)
    refine r_iincN (pc := 78) X (i := 6) (q := 2) (n := 1) (x := x6_34) (b := 5) (w := iv a5) (rest := [(0, rv D a0)]) rfl r6_34 (r32_c rfl) (Nat.le_of_ble_eq_true rfl) [1, 0] rfl (by decide) rfl rfl (dl_at t_X25_make 43 rfl) fun x6_78 r6_78 => ?_
    refine g_goto (pc := 81) X (off := (-47)) (tgt := 34) rfl (dl_at t_X25_make 44 rfl) ?_
    refine g_ls (ls2 := [(0, rv D a0), (5, iv a5), (6, iv x6_78)]) [2, 1, 0] rfl ?_
    exact g_at fun Q hQ => hQ ⟨r6_78, (E_34.trans (E53.trans (E61.trans (E69.trans E77))))⟩
  · rintro h_84 E_84
    try dsimp only [sE]
    refine g_aload_n (pc := 84) X (j := 0) (i := 0) (q := 0) (x := a0) rfl rfl (dl_at t_X25_make 45 rfl) ?_
    have k85 := kx (E28.trans E_84) (by decide) k28
    refine r_callTv (pc := 85) X (fun _ hv => s_X25_findEntries k85 hv) cw_code q4729 q379 (in_Vk X (As := []) kX25 k85 (Or.inl q4726) q4728 qs281 cw_code q4729 ⟨by decide, by decide⟩ rfl (dl_at t_X25_make 46 rfl)) (dl_at t_X25_make 46 rfl) (cat24 (st := []) (Nat.le_of_ble_eq_true rfl)) (Nat.le_of_ble_eq_true rfl) (Nat.le_of_ble_eq_true rfl) (fun v85 h85 E85 => ?_) (fun _ _ ha _ => gt_at fun Q hQ => gt_out (Q := Q) X rfl ha (hno _) _ Q rfl hQ)
    refine g_iconst (pc := 88) X (n := 1) (dl_at t_X25_make 47 rfl) ?_
    refine g_ltz (Or.inr rfl) fun x6_89 r6_89 => ?_
    refine g_istoreN (pc := 89) X (i := 6) (x := x6_89) (b := 5) (w := iv a5) (rest := [(0, rv D a0)]) (Nat.le_of_ble_eq_true rfl) [1, 0] rfl (by decide) rfl rfl (dl_at t_X25_make 48 rfl) ?_
    refine g_ls (ls2 := [(0, rv D a0), (5, iv a5), (6, iv x6_89)]) [2, 1, 0] rfl ?_
    refine g_loop0F (fun (q : Int × Hp) => [(0, rv D a0), (5, iv a5), (6, iv q.1)]) (fun (q : Int × Hp) => q.2) (fun (q : Int × Hp) => r32 q.1 ∧ Ext h85 q.2) (x6_89, h85) ⟨(r32_z r6_89), (Ext.refl _)⟩ ?_ (fun _ => rfl)
    · rintro ⟨x6_91, h_91⟩ ⟨r6_91, E_91⟩
      try dsimp only
      unfold m_X25_make_l91
      refine g_iload (pc := 91) X (i := 6) (q := 2) (x := x6_91) rfl (dl_at t_X25_make 49 rfl) ?_
      refine g_iload (pc := 93) X (i := 5) (q := 1) (x := a5) rfl (dl_at t_X25_make 50 rfl) ?_
      refine g_icmpgt (pc := 95) X r6_91 r5 (off := 115) (tgt := 210) rfl (dl_at t_X25_make 51 rfl) (fun _ => ?_) (fun _ => ?_)
      · refine g_iconst (pc := 210) X (n := 0) (dl_at t_X25_make 110 rfl) ?_
        exact g_at fun Q hQ => (g_iret (pc := 211) X (r32_c rfl) rfl rfl (dl_at t_X25_make 111 rfl)) _ Q rfl hQ
      refine g_aload_n (pc := 98) X (j := 0) (i := 0) (q := 0) (x := a0) rfl rfl (dl_at t_X25_make 52 rfl) ?_
      have k99 := kx (E85.trans E_91) (by decide) k85
      refine r_callTv (pc := 99) X (fun _ hv => s_X25_round k99 hv) cw_code q4819 q379 (in_Vk X (As := []) kX25 k99 (Or.inl q4816) q4818 qs291 cw_code q4819 ⟨by decide, by decide⟩ rfl (dl_at t_X25_make 53 rfl)) (dl_at t_X25_make 53 rfl) (cat24 (st := []) (Nat.le_of_ble_eq_true rfl)) (Nat.le_of_ble_eq_true rfl) (Nat.le_of_ble_eq_true rfl) (fun v99 h99 E99 => ?_) (fun _ _ ha _ => gt_at fun Q hQ => gt_out (Q := Q) X rfl ha (hno _) _ Q rfl hQ)
      refine g_aload_n (pc := 102) X (j := 0) (i := 0) (q := 0) (x := a0) rfl rfl (dl_at t_X25_make 54 rfl) ?_
      have k103 := kx E99 (by decide) k99
      refine r_callV (pc := 103) X (fun _ hv => s_X25_findWavering k103 hv) cw_code q5133 q379 (in_Vk X (As := []) kX25 k103 (Or.inl q5130) q5132 qs347 cw_code q5133 ⟨by decide, by decide⟩ rfl (dl_at t_X25_make 55 rfl)) (dl_at t_X25_make 55 rfl) (cat24 (st := []) (Nat.le_of_ble_eq_true rfl)) (Nat.le_of_ble_eq_true rfl) (Nat.le_of_ble_eq_true rfl) fun h103 E103 => ?_
      refine g_aload_n (pc := 106) X (j := 0) (i := 0) (q := 0) (x := a0) rfl rfl (dl_at t_X25_make 56 rfl) ?_
      have k107 := kx E103 (by decide) k103
      refine r_geti (pc := 107) X fX25_96 k107 q3906 (dl_at t_X25_make 57 rfl) fun g107 => ?_
      refine g_ifne (pc := 110) X g107 (off := 6) (tgt := 116) rfl (dl_at t_X25_make 58 rfl) (fun _ => ?_) (fun _ => ?_)
      · refine g_iload (pc := 116) X (i := 6) (q := 2) (x := x6_91) rfl (dl_at t_X25_make 61 rfl) ?_
        refine g_iload (pc := 118) X (i := 5) (q := 1) (x := a5) rfl (dl_at t_X25_make 62 rfl) ?_
        refine g_icmpne (pc := 120) X r6_91 r5 (off := 7) (tgt := 127) rfl (dl_at t_X25_make 63 rfl) (fun _ => ?_) (fun _ => ?_)
        · refine g_iconst (pc := 127) X (n := 0) (dl_at t_X25_make 67 rfl) ?_
          refine g_ltz (Or.inl rfl) fun x7_128 r7_128 => ?_
          refine g_istoreN (pc := 128) X (i := 7) (x := x7_128) (b := 6) (w := iv x6_91) (rest := [(0, rv D a0), (5, iv a5)]) (Nat.le_of_ble_eq_true rfl) [2, 0, 1] rfl (by decide) rfl rfl (dl_at t_X25_make 68 rfl) ?_
          refine g_ls (ls2 := [(0, rv D a0), (5, iv a5), (6, iv x6_91), (7, iv x7_128)]) [2, 3, 1, 0] rfl ?_
          refine g_loop1 (fun (q : Int × Hp) => [(0, rv D a0), (5, iv a5), (6, iv x6_91), (7, iv q.1)]) (fun (q : Int × Hp) => q.2) (fun (q : Int × Hp) => r32 q.1 ∧ Ext h103 q.2) 204 (fun (y204 : Hp) => [(0, rv D a0), (5, iv a5), (6, iv x6_91)]) (fun (y204 : Hp) => y204) (fun (y204 : Hp) => Ext h103 y204) (x7_128, h103) ⟨(r32_z r7_128), (Ext.refl _)⟩ ?_ ?_
          · rintro ⟨x7_130, h_130⟩ ⟨r7_130, E_130⟩
            try dsimp only
            unfold m_X25_make_l130
            refine g_iload (pc := 130) X (i := 7) (q := 3) (x := x7_130) rfl (dl_at t_X25_make 69 rfl) ?_
            refine g_aload_n (pc := 132) X (j := 0) (i := 0) (q := 0) (x := a0) rfl rfl (dl_at t_X25_make 70 rfl) ?_
            have k133 := kx E_130 (by decide) k107
            refine r_getr (pc := 133) X fX25_1 k133 q3763 (dl_at t_X25_make 71 rfl) ?_
            refine g_gd fun k136 => ?_
            refine r_geti (pc := 136) X fX23_3 k136 q3526 (dl_at t_X25_make 72 rfl) fun g136 => ?_
            refine g_icmpge (pc := 139) X r7_130 g136 (off := 65) (tgt := 204) rfl (dl_at t_X25_make 73 rfl) (fun _ => ?_) (fun _ => ?_)
            · refine g_ls (ls2 := [(0, rv D a0), (5, iv a5), (6, iv x6_91)]) [0, 1, 2] rfl ?_
              exact g_at fun Q hQ => hQ E_130
            refine g_aload_n (pc := 142) X (j := 0) (i := 0) (q := 0) (x := a0) rfl rfl (dl_at t_X25_make 74 rfl) ?_
            refine r_getr (pc := 143) X fX25_80 k133 q3880 (dl_at t_X25_make 75 rfl) ?_
            refine g_iload (pc := 146) X (i := 7) (q := 3) (x := x7_130) rfl (dl_at t_X25_make 76 rfl) ?_
            refine g_aload_n (pc := 148) X (j := 0) (i := 0) (q := 0) (x := a0) rfl rfl (dl_at t_X25_make 77 rfl) ?_
            refine r_getr (pc := 149) X fX25_83 k133 q3883 (dl_at t_X25_make 78 rfl) ?_
            refine g_iload (pc := 152) X (i := 7) (q := 3) (x := x7_130) rfl (dl_at t_X25_make 79 rfl) ?_
            refine g_gd fun k154 => ?_
            refine g_iald (pc := 154) X r7_130 k154 (dl_at t_X25_make 80 rfl) fun g154 => ?_
            refine g_gd fun k155 => ?_
            refine r_iast (pc := 155) X r7_130 g154 k155 (dl_at t_X25_make 81 rfl) (fun h155 E155 => ?_)
            refine g_aload_n (pc := 156) X (j := 0) (i := 0) (q := 0) (x := a0) rfl rfl (dl_at t_X25_make 82 rfl) ?_
            have k157 := kx E155 (by decide) k133
            refine r_getr (pc := 157) X fX25_81 k157 q3881 (dl_at t_X25_make 83 rfl) ?_
            refine g_iload (pc := 160) X (i := 7) (q := 3) (x := x7_130) rfl (dl_at t_X25_make 84 rfl) ?_
            refine g_aload_n (pc := 162) X (j := 0) (i := 0) (q := 0) (x := a0) rfl rfl (dl_at t_X25_make 85 rfl) ?_
            refine r_getr (pc := 163) X fX25_84 k157 q3885 (dl_at t_X25_make 86 rfl) ?_
            refine g_iload (pc := 166) X (i := 7) (q := 3) (x := x7_130) rfl (dl_at t_X25_make 87 rfl) ?_
            refine g_gd fun k168 => ?_
            refine g_iald (pc := 168) X r7_130 k168 (dl_at t_X25_make 88 rfl) fun g168 => ?_
            refine g_gd fun k169 => ?_
            refine r_iast (pc := 169) X r7_130 g168 k169 (dl_at t_X25_make 89 rfl) (fun h169 E169 => ?_)
            refine g_aload_n (pc := 170) X (j := 0) (i := 0) (q := 0) (x := a0) rfl rfl (dl_at t_X25_make 90 rfl) ?_
            have k171 := kx E169 (by decide) k157
            refine r_getr (pc := 171) X fX25_82 k171 q3882 (dl_at t_X25_make 91 rfl) ?_
            refine g_iload (pc := 174) X (i := 7) (q := 3) (x := x7_130) rfl (dl_at t_X25_make 92 rfl) ?_
            refine g_aload_n (pc := 176) X (j := 0) (i := 0) (q := 0) (x := a0) rfl rfl (dl_at t_X25_make 93 rfl) ?_
            refine r_getr (pc := 177) X fX25_85 k171 q3887 (dl_at t_X25_make 94 rfl) ?_
            refine g_iload (pc := 180) X (i := 7) (q := 3) (x := x7_130) rfl (dl_at t_X25_make 95 rfl) ?_
            refine g_gd fun k182 => ?_
            refine g_iald (pc := 182) X r7_130 k182 (dl_at t_X25_make 96 rfl) fun g182 => ?_
            refine g_gd fun k183 => ?_
            refine r_iast (pc := 183) X r7_130 g182 k183 (dl_at t_X25_make 97 rfl) (fun h183 E183 => ?_)
            refine g_aload_n (pc := 184) X (j := 0) (i := 0) (q := 0) (x := a0) rfl rfl (dl_at t_X25_make 98 rfl) ?_
            have k185 := kx E183 (by decide) k171
            refine r_getr (pc := 185) X fX25_139 k185 q3951 (dl_at t_X25_make 99 rfl) ?_
            refine g_iload (pc := 188) X (i := 7) (q := 3) (x := x7_130) rfl (dl_at t_X25_make 100 rfl) ?_
            refine g_aload_n (pc := 190) X (j := 0) (i := 0) (q := 0) (x := a0) rfl rfl (dl_at t_X25_make 101 rfl) ?_
            refine r_getr (pc := 191) X fX25_140 k185 q3952 (dl_at t_X25_make 102 rfl) ?_
            refine g_iload (pc := 194) X (i := 7) (q := 3) (x := x7_130) rfl (dl_at t_X25_make 103 rfl) ?_
            refine g_gd fun k196 => ?_
            refine g_zald (pc := 196) X r7_130 k196 (dl_at t_X25_make 104 rfl) fun g196 => ?_
            refine g_gd fun k197 => ?_
            refine r_zast (pc := 197) X r7_130 g196 k197 (dl_at t_X25_make 105 rfl) (fun h197 E197 => ?_)
            refine r_iincN (pc := 198) X (i := 7) (q := 3) (n := 1) (x := x7_130) (b := 6) (w := iv x6_91) (rest := [(0, rv D a0), (5, iv a5)]) rfl r7_130 (r32_c rfl) (Nat.le_of_ble_eq_true rfl) [2, 0, 1] rfl (by decide) rfl rfl (dl_at t_X25_make 106 rfl) fun x7_198 r7_198 => ?_
            refine g_goto (pc := 201) X (off := (-71)) (tgt := 130) rfl (dl_at t_X25_make 107 rfl) ?_
            refine g_ls (ls2 := [(0, rv D a0), (5, iv a5), (6, iv x6_91), (7, iv x7_198)]) [2, 3, 1, 0] rfl ?_
            exact g_at fun Q hQ => hQ ⟨r7_198, (E_130.trans (E155.trans (E169.trans (E183.trans E197))))⟩
          · rintro h_204 E_204
            try dsimp only [sE]
            refine r_iincN (pc := 204) X (i := 6) (q := 2) (n := 1) (x := x6_91) (b := 5) (w := iv a5) (rest := [(0, rv D a0)]) rfl r6_91 (r32_c rfl) (Nat.le_of_ble_eq_true rfl) [1, 0] rfl (by decide) rfl rfl (dl_at t_X25_make 108 rfl) fun x6_204 r6_204 => ?_
            refine g_goto (pc := 207) X (off := (-116)) (tgt := 91) rfl (dl_at t_X25_make 109 rfl) ?_
            refine g_ls (ls2 := [(0, rv D a0), (5, iv a5), (6, iv x6_204)]) [2, 1, 0] rfl ?_
            exact g_at fun Q hQ => hQ ⟨r6_204, (E_91.trans (E99.trans (E103.trans E_204)))⟩
        refine g_iload (pc := 123) X (i := 6) (q := 2) (x := x6_91) rfl (dl_at t_X25_make 64 rfl) ?_
        refine g_ineg (pc := 125) X r6_91 (dl_at t_X25_make 65 rfl) ?_
        exact g_at fun Q hQ => (g_iret (pc := 126) X (r32_w _) rfl rfl (dl_at t_X25_make 66 rfl)) _ Q rfl hQ
      refine g_iload (pc := 113) X (i := 6) (q := 2) (x := x6_91) rfl (dl_at t_X25_make 59 rfl) ?_
      exact g_at fun Q hQ => (g_iret (pc := 115) X r6_91 rfl rfl (dl_at t_X25_make 60 rfl)) _ Q rfl hQ
def k_X25_samePar : List (Nat × Instr × Nat) := [(0, .aload_n 0, 1), (1, .getfield 32, 3), (4, .iload_n 1, 1), (5, .iaload, 1), (6, .aload_n 0, 1), (7, .getfield 29, 3), (10, .iload_n 1, 1), (11, .iaload, 1), (12, .isub, 1), (13, .aload_n 2, 1), (14, .getfield 32, 3), (17, .iload_n 3, 1), (18, .iaload, 1), (19, .aload_n 2, 1), (20, .getfield 29, 3), (23, .iload_n 3, 1), (24, .iaload, 1), (25, .isub, 1), (26, .if_icmp .ne 49, 3), (29, .aload_n 0, 1), (30, .getfield 44, 3), (33, .iload_n 1, 1), (34, .iaload, 1), (35, .aload_n 2, 1), (36, .getfield 44, 3), (39, .iload_n 3, 1), (40, .iaload, 1), (41, .if_icmp .ne 34, 3), (44, .aload_n 0, 1), (45, .getfield 62, 3), (48, .iload_n 1, 1), (49, .laload, 1), (50, .aload_n 2, 1), (51, .getfield 62, 3), (54, .iload_n 3, 1), (55, .laload, 1), (56, .lcmp, 1), (57, .ifCond .ne 18, 3), (60, .aload_n 0, 1), (61, .getfield 59, 3), (64, .iload_n 1, 1), (65, .iaload, 1), (66, .aload_n 2, 1), (67, .getfield 59, 3), (70, .iload_n 3, 1), (71, .iaload, 1), (72, .if_icmp .eq 5, 3), (75, .iconst 0, 1), (76, .ireturn, 1), (77, .aload_n 0, 1), (78, .getfield 14, 3), (81, .aload_n 0, 1), (82, .getfield 35, 3), (85, .iload_n 1, 1), (86, .iaload, 1), (87, .iconst 2, 1), (88, .invokevirtual 477, 3), (91, .aload_n 2, 1), (92, .getfield 14, 3), (95, .aload_n 2, 1), (96, .getfield 35, 3), (99, .iload_n 3, 1), (100, .iaload, 1), (101, .iconst 2, 1), (102, .invokevirtual 477, 3), (105, .if_icmp .ne 69, 3), (108, .aload_n 0, 1), (109, .getfield 14, 3), (112, .aload_n 0, 1), (113, .getfield 35, 3), (116, .iload_n 1, 1), (117, .iaload, 1), (118, .bipush 8, 2), (120, .invokevirtual 477, 3), (123, .aload_n 2, 1), (124, .getfield 14, 3), (127, .aload_n 2, 1), (128, .getfield 35, 3), (131, .iload_n 3, 1), (132, .iaload, 1), (133, .bipush 8, 2), (135, .invokevirtual 477, 3), (138, .if_icmp .ne 36, 3), (141, .aload_n 0, 1), (142, .getfield 14, 3), (145, .aload_n 0, 1), (146, .getfield 35, 3), (149, .iload_n 1, 1), (150, .iaload, 1), (151, .bipush 10, 2), (153, .invokevirtual 477, 3), (156, .aload_n 2, 1), (157, .getfield 14, 3), (160, .aload_n 2, 1), (161, .getfield 35, 3), (164, .iload_n 3, 1), (165, .iaload, 1), (166, .bipush 10, 2), (168, .invokevirtual 477, 3), (171, .if_icmp .eq 5, 3), (174, .iconst 0, 1), (175, .ireturn, 1), (176, .iconst 0, 1), (177, .istore 4, 2), (179, .iload 4, 2), (181, .aload_n 0, 1), (182, .getfield 32, 3), (185, .iload_n 1, 1), (186, .iaload, 1), (187, .aload_n 0, 1), (188, .getfield 29, 3), (191, .iload_n 1, 1), (192, .iaload, 1), (193, .isub, 1), (194, .if_icmp .ge 73, 3), (197, .aload_n 0, 1), (198, .getfield 18, 3), (201, .aload_n 0, 1), (202, .getfield 29, 3), (205, .iload_n 1, 1), (206, .iaload, 1), (207, .iload 4, 2), (209, .iadd, 1), (210, .baload, 1), (211, .aload_n 2, 1), (212, .getfield 18, 3), (215, .aload_n 2, 1), (216, .getfield 29, 3), (219, .iload_n 3, 1), (220, .iaload, 1), (221, .iload 4, 2), (223, .iadd, 1), (224, .baload, 1), (225, .if_icmp .ne 34, 3), (228, .aload_n 0, 1), (229, .getfield 22, 3), (232, .aload_n 0, 1), (233, .getfield 29, 3), (236, .iload_n 1, 1), (237, .iaload, 1), (238, .iload 4, 2), (240, .iadd, 1), (241, .iaload, 1), (242, .aload_n 2, 1), (243, .getfield 22, 3), (246, .aload_n 2, 1), (247, .getfield 29, 3), (250, .iload_n 3, 1), (251, .iaload, 1), (252, .iload 4, 2), (254, .iadd, 1), (255, .iaload, 1), (256, .if_icmp .eq 5, 3), (259, .iconst 0, 1), (260, .ireturn, 1), (261, .iinc 4 1, 3), (264, .goto (-85), 3), (267, .iconst 0, 1), (268, .istore 4, 2), (270, .iload 4, 2), (272, .aload_n 0, 1), (273, .getfield 44, 3), (276, .iload_n 1, 1), (277, .iaload, 1), (278, .if_icmp .ge 81, 3), (281, .aload_n 0, 1), (282, .getfield 47, 3), (285, .iload_n 1, 1), (286, .iaload, 1), (287, .iload 4, 2), (289, .iadd, 1), (290, .istore 5, 2), (292, .aload_n 2, 1), (293, .getfield 47, 3), (296, .iload_n 3, 1), (297, .iaload, 1), (298, .iload 4, 2), (300, .iadd, 1), (301, .istore 6, 2), (303, .aload_n 0, 1), (304, .getfield 69, 3), (307, .iload 5, 2), (309, .iaload, 1), (310, .aload_n 2, 1), (311, .getfield 69, 3), (314, .iload 6, 2), (316, .iaload, 1), (317, .if_icmp .ne 34, 3), (320, .aload_n 0, 1), (321, .getfield 72, 3), (324, .iload 5, 2), (326, .iaload, 1), (327, .aload_n 0, 1), (328, .getfield 29, 3), (331, .iload_n 1, 1), (332, .iaload, 1), (333, .isub, 1), (334, .aload_n 2, 1), (335, .getfield 72, 3), (338, .iload 6, 2), (340, .iaload, 1), (341, .aload_n 2, 1), (342, .getfield 29, 3), (345, .iload_n 3, 1), (346, .iaload, 1), (347, .isub, 1), (348, .if_icmp .eq 5, 3), (351, .iconst 0, 1), (352, .ireturn, 1), (353, .iinc 4 1, 3), (356, .goto (-86), 3), (359, .iconst 1, 1), (360, .ireturn, 1)]
theorem t_X25_samePar : ∀ q ∈ k_X25_samePar, decode cX25_samePar q.1 = .ok q.2 := dl_all (by decide +kernel)
noncomputable def m_X25_samePar_l179 (a0 a1 a2 a3 x4_179 : Int) (h : Hp) : Option ((Int) ⊕ ((Unit) ⊕ ((Int)))) :=
  if (w32 ((h (h a0 11) a1) - (h (h a0 10) a1))) ≤ x4_179 then (some (.inr (.inl ())))
  else (gd (h (h a0 5) (-2) % 16 = 2 ∧ (0 : Int) ≤ (w32 ((h (h a0 10) a1) + x4_179)) ∧ (w32 ((h (h a0 10) a1) + x4_179)) < h (h a0 5) (-1)) (gd (h (h a2 5) (-2) % 16 = 2 ∧ (0 : Int) ≤ (w32 ((h (h a2 10) a3) + x4_179)) ∧ (w32 ((h (h a2 10) a3) + x4_179)) < h (h a2 5) (-1)) (if (h (h a0 5) (w32 ((h (h a0 10) a1) + x4_179))) ≠ (h (h a2 5) (w32 ((h (h a2 10) a3) + x4_179))) then (some (.inr (.inr 0)))
  else (gd (h (h a0 6) (-2) % 16 = 1 ∧ (0 : Int) ≤ (w32 ((h (h a0 10) a1) + x4_179)) ∧ (w32 ((h (h a0 10) a1) + x4_179)) < h (h a0 6) (-1)) (gd (h (h a2 6) (-2) % 16 = 1 ∧ (0 : Int) ≤ (w32 ((h (h a2 10) a3) + x4_179)) ∧ (w32 ((h (h a2 10) a3) + x4_179)) < h (h a2 6) (-1)) (if (h (h a0 6) (w32 ((h (h a0 10) a1) + x4_179))) = (h (h a2 6) (w32 ((h (h a2 10) a3) + x4_179))) then (lt_ (w32 (x4_179 + 1)) fun x4_261 =>
  some (.inl x4_261))
  else (some (.inr (.inr 0)))))))))
noncomputable def m_X25_samePar_l270 (a0 a1 a2 a3 x4_270 : Int) (h : Hp) : Option ((Int) ⊕ ((Int))) :=
  if (h (h a0 15) a1) ≤ x4_270 then (some (.inr 1))
  else (gd (h (h a0 16) (-2) % 16 = 1 ∧ (0 : Int) ≤ a1 ∧ a1 < h (h a0 16) (-1)) (lt_ (w32 ((h (h a0 16) a1) + x4_270)) fun x5_290 =>
  gd (h (h a2 16) (-2) % 16 = 1 ∧ (0 : Int) ≤ a3 ∧ a3 < h (h a2 16) (-1)) (lt_ (w32 ((h (h a2 16) a3) + x4_270)) fun x6_301 =>
  gd (h (h a0 23) (-2) % 16 = 1 ∧ (0 : Int) ≤ x5_290 ∧ x5_290 < h (h a0 23) (-1)) (gd (h (h a2 23) (-2) % 16 = 1 ∧ (0 : Int) ≤ x6_301 ∧ x6_301 < h (h a2 23) (-1)) (if (h (h a0 23) x5_290) ≠ (h (h a2 23) x6_301) then (some (.inr 0))
  else (gd (h (h a0 24) (-2) % 16 = 1 ∧ (0 : Int) ≤ x5_290 ∧ x5_290 < h (h a0 24) (-1)) (gd (h (h a2 24) (-2) % 16 = 1 ∧ (0 : Int) ≤ x6_301 ∧ x6_301 < h (h a2 24) (-1)) (if (w32 ((h (h a0 24) x5_290) - (h (h a0 10) a1))) = (w32 ((h (h a2 24) x6_301) - (h (h a2 10) a3))) then (lt_ (w32 (x4_270 + 1)) fun x4_353 =>
  some (.inl x4_353))
  else (some (.inr 0))))))))))
noncomputable def m_X25_samePar (a0 a1 a2 a3 : Int) (h : Hp) : Option (Int) :=
  gd (h (h a0 11) (-2) % 16 = 1 ∧ (0 : Int) ≤ a1 ∧ a1 < h (h a0 11) (-1)) (gd (h (h a0 10) (-2) % 16 = 1 ∧ (0 : Int) ≤ a1 ∧ a1 < h (h a0 10) (-1)) (gd (h a2 (-2) = 416) (gd (h (h a2 11) (-2) % 16 = 1 ∧ (0 : Int) ≤ a3 ∧ a3 < h (h a2 11) (-1)) (gd (h (h a2 10) (-2) % 16 = 1 ∧ (0 : Int) ≤ a3 ∧ a3 < h (h a2 10) (-1)) (if (w32 ((h (h a0 11) a1) - (h (h a0 10) a1))) ≠ (w32 ((h (h a2 11) a3) - (h (h a2 10) a3))) then (some 0)
  else (gd (h (h a0 15) (-2) % 16 = 1 ∧ (0 : Int) ≤ a1 ∧ a1 < h (h a0 15) (-1)) (gd (h (h a2 15) (-2) % 16 = 1 ∧ (0 : Int) ≤ a3 ∧ a3 < h (h a2 15) (-1)) (if (h (h a0 15) a1) ≠ (h (h a2 15) a3) then (some 0)
  else (gd (h (h a0 21) (-2) % 16 = 4 ∧ (0 : Int) ≤ a1 ∧ a1 < h (h a0 21) (-1)) (gd (h (h a2 21) (-2) % 16 = 4 ∧ (0 : Int) ≤ a3 ∧ a3 < h (h a2 21) (-1)) (if (lcmp_ (h (h a0 21) a1) (h (h a2 21) a3)) ≠ 0 then (some 0)
  else (gd (h (h a0 20) (-2) % 16 = 1 ∧ (0 : Int) ≤ a1 ∧ a1 < h (h a0 20) (-1)) (gd (h (h a2 20) (-2) % 16 = 1 ∧ (0 : Int) ≤ a3 ∧ a3 < h (h a2 20) (-1)) (if (h (h a0 20) a1) = (h (h a2 20) a3) then (gd (h (h a0 12) (-2) % 16 = 1 ∧ (0 : Int) ≤ a1 ∧ a1 < h (h a0 12) (-1)) (gd (h (h a0 0) (-2) = 400) ((m_X24_of (h a0 0) (h (h a0 12) a1) 2 h).bind fun v88 =>
  gd (h (h a2 12) (-2) % 16 = 1 ∧ (0 : Int) ≤ a3 ∧ a3 < h (h a2 12) (-1)) (gd (h (h a2 0) (-2) = 400) ((m_X24_of (h a2 0) (h (h a2 12) a3) 2 h).bind fun v102 =>
  if v88 ≠ v102 then (some 0)
  else ((m_X24_of (h a0 0) (h (h a0 12) a1) 8 h).bind fun v120 =>
  (m_X24_of (h a2 0) (h (h a2 12) a3) 8 h).bind fun v135 =>
  if v120 ≠ v135 then (some 0)
  else ((m_X24_of (h a0 0) (h (h a0 12) a1) 10 h).bind fun v153 =>
  (m_X24_of (h a2 0) (h (h a2 12) a3) 10 h).bind fun v168 =>
  if v153 = v168 then (lt_ 0 fun x4_177 =>
  (lp (fun (q : Int) => m_X25_samePar_l179 a0 a1 a2 a3 q h) x4_177).bind (sE (fun (_ : Unit) => lt_ 0 fun x4_268 =>
  (lp (fun (q : Int) => m_X25_samePar_l270 a0 a1 a2 a3 q h) x4_268).bind (fun (x : Int) => some x)) (fun (x : Int) => some x)))
  else (some 0))))))))
  else (some 0)))))))))))))))
theorem s_X25_samePar {l : Launch} [NoTr l] {D : SD} {a0 a1 a2 a3 : Int} {h : Hp} (hk : h a0 (-2) = 416) (r1 : r32 a1) (r3 : r32 a3) {r : Int} (hm : m_X25_samePar a0 a1 a2 a3 h = some r) : Sim l D yX25_samePar (Cond.code yX25_samePar cX25_samePar 7 (Option.some Jvm.ClassFile.FieldType.boolean)) 2 74 [rv D a0, iv a1, rv D a2, iv a3] h 3 ((0, r), h) := by
  refine Sim.of (fin := fun (v : Int) => ((0, v), h)) (lsE := [(0, rv D a0), (1, iv a1), (2, rv D a2), (3, iv a3)]) hm rfl cwS_code (la_r (la_i (la_r (la_i la_n)))) (ll_r (ll_i (ll_r (ll_i ll_n)))) ?_
  intro p e s m below meth c X hcw hmm hcc hnm hname
  unfold m_X25_samePar
  refine g_aload_n (pc := 0) X (j := 0) (i := 0) (q := 0) (x := a0) rfl rfl (dl_at t_X25_samePar 0 rfl) ?_
  refine r_getr (pc := 1) X fX25_11 hk q3777 (dl_at t_X25_samePar 1 rfl) ?_
  refine g_iload_n (pc := 4) X (j := 1) (i := 1) (q := 1) (x := a1) rfl rfl (dl_at t_X25_samePar 2 rfl) ?_
  refine g_gd fun k5 => ?_
  refine g_iald (pc := 5) X r1 k5 (dl_at t_X25_samePar 3 rfl) fun g5 => ?_
  refine g_aload_n (pc := 6) X (j := 0) (i := 0) (q := 0) (x := a0) rfl rfl (dl_at t_X25_samePar 4 rfl) ?_
  refine r_getr (pc := 7) X fX25_10 hk q3775 (dl_at t_X25_samePar 5 rfl) ?_
  refine g_iload_n (pc := 10) X (j := 1) (i := 1) (q := 1) (x := a1) rfl rfl (dl_at t_X25_samePar 6 rfl) ?_
  refine g_gd fun k11 => ?_
  refine g_iald (pc := 11) X r1 k11 (dl_at t_X25_samePar 7 rfl) fun g11 => ?_
  refine g_isub (pc := 12) X g5 g11 (dl_at t_X25_samePar 8 rfl) ?_
  refine g_aload_n (pc := 13) X (j := 2) (i := 2) (q := 2) (x := a2) rfl rfl (dl_at t_X25_samePar 9 rfl) ?_
  refine g_gd fun k14 => ?_
  refine r_getr (pc := 14) X fX25_11 k14 q3777 (dl_at t_X25_samePar 10 rfl) ?_
  refine g_iload_n (pc := 17) X (j := 3) (i := 3) (q := 3) (x := a3) rfl rfl (dl_at t_X25_samePar 11 rfl) ?_
  refine g_gd fun k18 => ?_
  refine g_iald (pc := 18) X r3 k18 (dl_at t_X25_samePar 12 rfl) fun g18 => ?_
  refine g_aload_n (pc := 19) X (j := 2) (i := 2) (q := 2) (x := a2) rfl rfl (dl_at t_X25_samePar 13 rfl) ?_
  refine r_getr (pc := 20) X fX25_10 k14 q3775 (dl_at t_X25_samePar 14 rfl) ?_
  refine g_iload_n (pc := 23) X (j := 3) (i := 3) (q := 3) (x := a3) rfl rfl (dl_at t_X25_samePar 15 rfl) ?_
  refine g_gd fun k24 => ?_
  refine g_iald (pc := 24) X r3 k24 (dl_at t_X25_samePar 16 rfl) fun g24 => ?_
  refine g_isub (pc := 25) X g18 g24 (dl_at t_X25_samePar 17 rfl) ?_
  refine g_icmpne (pc := 26) X (r32_w _) (r32_w _) (off := 49) (tgt := 75) rfl (dl_at t_X25_samePar 18 rfl) (fun _ => ?_) (fun _ => ?_)
  · refine g_iconst (pc := 75) X (n := 0) (dl_at t_X25_samePar 47 rfl) ?_
    exact g_zret (pc := 76) X (Or.inl rfl) rfl rfl (dl_at t_X25_samePar 48 rfl)
  refine g_aload_n (pc := 29) X (j := 0) (i := 0) (q := 0) (x := a0) rfl rfl (dl_at t_X25_samePar 19 rfl) ?_
  refine r_getr (pc := 30) X fX25_15 hk q3783 (dl_at t_X25_samePar 20 rfl) ?_
  refine g_iload_n (pc := 33) X (j := 1) (i := 1) (q := 1) (x := a1) rfl rfl (dl_at t_X25_samePar 21 rfl) ?_
  refine g_gd fun k34 => ?_
  refine g_iald (pc := 34) X r1 k34 (dl_at t_X25_samePar 22 rfl) fun g34 => ?_
  refine g_aload_n (pc := 35) X (j := 2) (i := 2) (q := 2) (x := a2) rfl rfl (dl_at t_X25_samePar 23 rfl) ?_
  refine r_getr (pc := 36) X fX25_15 k14 q3783 (dl_at t_X25_samePar 24 rfl) ?_
  refine g_iload_n (pc := 39) X (j := 3) (i := 3) (q := 3) (x := a3) rfl rfl (dl_at t_X25_samePar 25 rfl) ?_
  refine g_gd fun k40 => ?_
  refine g_iald (pc := 40) X r3 k40 (dl_at t_X25_samePar 26 rfl) fun g40 => ?_
  refine g_icmpne (pc := 41) X g34 g40 (off := 34) (tgt := 75) rfl (dl_at t_X25_samePar 27 rfl) (fun _ => ?_) (fun _ => ?_)
  · refine g_iconst (pc := 75) X (n := 0) (dl_at t_X25_samePar 47 rfl) ?_
    exact g_zret (pc := 76) X (Or.inl rfl) rfl rfl (dl_at t_X25_samePar 48 rfl)
  refine g_aload_n (pc := 44) X (j := 0) (i := 0) (q := 0) (x := a0) rfl rfl (dl_at t_X25_samePar 28 rfl) ?_
  refine r_getr (pc := 45) X fX25_21 hk q3793 (dl_at t_X25_samePar 29 rfl) ?_
  refine g_iload_n (pc := 48) X (j := 1) (i := 1) (q := 1) (x := a1) rfl rfl (dl_at t_X25_samePar 30 rfl) ?_
  refine g_gd fun k49 => ?_
  refine g_lald (pc := 49) X r1 k49 (dl_at t_X25_samePar 31 rfl) fun g49 => ?_
  refine g_aload_n (pc := 50) X (j := 2) (i := 2) (q := 2) (x := a2) rfl rfl (dl_at t_X25_samePar 32 rfl) ?_
  refine r_getr (pc := 51) X fX25_21 k14 q3793 (dl_at t_X25_samePar 33 rfl) ?_
  refine g_iload_n (pc := 54) X (j := 3) (i := 3) (q := 3) (x := a3) rfl rfl (dl_at t_X25_samePar 34 rfl) ?_
  refine g_gd fun k55 => ?_
  refine g_lald (pc := 55) X r3 k55 (dl_at t_X25_samePar 35 rfl) fun g55 => ?_
  refine g_lcmp (pc := 56) X g49 g55 (dl_at t_X25_samePar 36 rfl) ?_
  refine g_ifne (pc := 57) X (r32_lcmp _ _) (off := 18) (tgt := 75) rfl (dl_at t_X25_samePar 37 rfl) (fun _ => ?_) (fun _ => ?_)
  · refine g_iconst (pc := 75) X (n := 0) (dl_at t_X25_samePar 47 rfl) ?_
    exact g_zret (pc := 76) X (Or.inl rfl) rfl rfl (dl_at t_X25_samePar 48 rfl)
  refine g_aload_n (pc := 60) X (j := 0) (i := 0) (q := 0) (x := a0) rfl rfl (dl_at t_X25_samePar 38 rfl) ?_
  refine r_getr (pc := 61) X fX25_20 hk q3792 (dl_at t_X25_samePar 39 rfl) ?_
  refine g_iload_n (pc := 64) X (j := 1) (i := 1) (q := 1) (x := a1) rfl rfl (dl_at t_X25_samePar 40 rfl) ?_
  refine g_gd fun k65 => ?_
  refine g_iald (pc := 65) X r1 k65 (dl_at t_X25_samePar 41 rfl) fun g65 => ?_
  refine g_aload_n (pc := 66) X (j := 2) (i := 2) (q := 2) (x := a2) rfl rfl (dl_at t_X25_samePar 42 rfl) ?_
  refine r_getr (pc := 67) X fX25_20 k14 q3792 (dl_at t_X25_samePar 43 rfl) ?_
  refine g_iload_n (pc := 70) X (j := 3) (i := 3) (q := 3) (x := a3) rfl rfl (dl_at t_X25_samePar 44 rfl) ?_
  refine g_gd fun k71 => ?_
  refine g_iald (pc := 71) X r3 k71 (dl_at t_X25_samePar 45 rfl) fun g71 => ?_
  refine g_icmpeq (pc := 72) X g65 g71 (off := 5) (tgt := 77) rfl (dl_at t_X25_samePar 46 rfl) (fun _ => ?_) (fun _ => ?_)
  · refine g_aload_n (pc := 77) X (j := 0) (i := 0) (q := 0) (x := a0) rfl rfl (dl_at t_X25_samePar 49 rfl) ?_
    refine r_getr (pc := 78) X fX25_0 hk q3761 (dl_at t_X25_samePar 50 rfl) ?_
    refine g_aload_n (pc := 81) X (j := 0) (i := 0) (q := 0) (x := a0) rfl rfl (dl_at t_X25_samePar 51 rfl) ?_
    refine r_getr (pc := 82) X fX25_12 hk q3779 (dl_at t_X25_samePar 52 rfl) ?_
    refine g_iload_n (pc := 85) X (j := 1) (i := 1) (q := 1) (x := a1) rfl rfl (dl_at t_X25_samePar 53 rfl) ?_
    refine g_gd fun k86 => ?_
    refine g_iald (pc := 86) X r1 k86 (dl_at t_X25_samePar 54 rfl) fun g86 => ?_
    refine g_iconst (pc := 87) X (n := 2) (dl_at t_X25_samePar 55 rfl) ?_
    refine g_gd fun k88 => ?_
    refine r_callRi (pc := 88) X (fun _ hv => s_X24_of k88 g86 (r32_c rfl) hv) cw_code q4704 q378 (in_Vk X (As := [iv (h (h a0 12) a1), iv 2]) kX24 k88 (Or.inl q4844) q4702 q4703 cw_code q4704 ⟨by decide, by decide⟩ rfl (dl_at t_X25_samePar 56 rfl)) (dl_at t_X25_samePar 56 rfl) (cat24 (st := []) (Nat.le_of_ble_eq_true rfl)) (Nat.le_of_ble_eq_true rfl) (Nat.le_of_ble_eq_true rfl) fun v88 g88 => ?_
    refine g_aload_n (pc := 91) X (j := 2) (i := 2) (q := 2) (x := a2) rfl rfl (dl_at t_X25_samePar 57 rfl) ?_
    refine r_getr (pc := 92) X fX25_0 k14 q3761 (dl_at t_X25_samePar 58 rfl) ?_
    refine g_aload_n (pc := 95) X (j := 2) (i := 2) (q := 2) (x := a2) rfl rfl (dl_at t_X25_samePar 59 rfl) ?_
    refine r_getr (pc := 96) X fX25_12 k14 q3779 (dl_at t_X25_samePar 60 rfl) ?_
    refine g_iload_n (pc := 99) X (j := 3) (i := 3) (q := 3) (x := a3) rfl rfl (dl_at t_X25_samePar 61 rfl) ?_
    refine g_gd fun k100 => ?_
    refine g_iald (pc := 100) X r3 k100 (dl_at t_X25_samePar 62 rfl) fun g100 => ?_
    refine g_iconst (pc := 101) X (n := 2) (dl_at t_X25_samePar 63 rfl) ?_
    refine g_gd fun k102 => ?_
    refine r_callRi (pc := 102) X (fun _ hv => s_X24_of k102 g100 (r32_c rfl) hv) cw_code q4704 q378 (in_Vk X (As := [iv (h (h a2 12) a3), iv 2]) kX24 k102 (Or.inl q4844) q4702 q4703 cw_code q4704 ⟨by decide, by decide⟩ rfl (dl_at t_X25_samePar 64 rfl)) (dl_at t_X25_samePar 64 rfl) (cat24 (st := [iv v88]) (Nat.le_of_ble_eq_true rfl)) (Nat.le_of_ble_eq_true rfl) (Nat.le_of_ble_eq_true rfl) fun v102 g102 => ?_
    refine g_icmpne (pc := 105) X g88 g102 (off := 69) (tgt := 174) rfl (dl_at t_X25_samePar 65 rfl) (fun _ => ?_) (fun _ => ?_)
    · refine g_iconst (pc := 174) X (n := 0) (dl_at t_X25_samePar 100 rfl) ?_
      exact g_zret (pc := 175) X (Or.inl rfl) rfl rfl (dl_at t_X25_samePar 101 rfl)
    refine g_aload_n (pc := 108) X (j := 0) (i := 0) (q := 0) (x := a0) rfl rfl (dl_at t_X25_samePar 66 rfl) ?_
    refine r_getr (pc := 109) X fX25_0 hk q3761 (dl_at t_X25_samePar 67 rfl) ?_
    refine g_aload_n (pc := 112) X (j := 0) (i := 0) (q := 0) (x := a0) rfl rfl (dl_at t_X25_samePar 68 rfl) ?_
    refine r_getr (pc := 113) X fX25_12 hk q3779 (dl_at t_X25_samePar 69 rfl) ?_
    refine g_iload_n (pc := 116) X (j := 1) (i := 1) (q := 1) (x := a1) rfl rfl (dl_at t_X25_samePar 70 rfl) ?_
    refine g_iald (pc := 117) X r1 k86 (dl_at t_X25_samePar 71 rfl) fun g117 => ?_
    refine g_bipush (pc := 118) X (n := 8) rfl (dl_at t_X25_samePar 72 rfl) ?_
    refine r_callRi (pc := 120) X (fun _ hv => s_X24_of k88 g117 (r32_c rfl) hv) cw_code q4704 q378 (in_Vk X (As := [iv (h (h a0 12) a1), iv 8]) kX24 k88 (Or.inl q4844) q4702 q4703 cw_code q4704 ⟨by decide, by decide⟩ rfl (dl_at t_X25_samePar 73 rfl)) (dl_at t_X25_samePar 73 rfl) (cat24 (st := []) (Nat.le_of_ble_eq_true rfl)) (Nat.le_of_ble_eq_true rfl) (Nat.le_of_ble_eq_true rfl) fun v120 g120 => ?_
    refine g_aload_n (pc := 123) X (j := 2) (i := 2) (q := 2) (x := a2) rfl rfl (dl_at t_X25_samePar 74 rfl) ?_
    refine r_getr (pc := 124) X fX25_0 k14 q3761 (dl_at t_X25_samePar 75 rfl) ?_
    refine g_aload_n (pc := 127) X (j := 2) (i := 2) (q := 2) (x := a2) rfl rfl (dl_at t_X25_samePar 76 rfl) ?_
    refine r_getr (pc := 128) X fX25_12 k14 q3779 (dl_at t_X25_samePar 77 rfl) ?_
    refine g_iload_n (pc := 131) X (j := 3) (i := 3) (q := 3) (x := a3) rfl rfl (dl_at t_X25_samePar 78 rfl) ?_
    refine g_iald (pc := 132) X r3 k100 (dl_at t_X25_samePar 79 rfl) fun g132 => ?_
    refine g_bipush (pc := 133) X (n := 8) rfl (dl_at t_X25_samePar 80 rfl) ?_
    refine r_callRi (pc := 135) X (fun _ hv => s_X24_of k102 g132 (r32_c rfl) hv) cw_code q4704 q378 (in_Vk X (As := [iv (h (h a2 12) a3), iv 8]) kX24 k102 (Or.inl q4844) q4702 q4703 cw_code q4704 ⟨by decide, by decide⟩ rfl (dl_at t_X25_samePar 81 rfl)) (dl_at t_X25_samePar 81 rfl) (cat24 (st := [iv v120]) (Nat.le_of_ble_eq_true rfl)) (Nat.le_of_ble_eq_true rfl) (Nat.le_of_ble_eq_true rfl) fun v135 g135 => ?_
    refine g_icmpne (pc := 138) X g120 g135 (off := 36) (tgt := 174) rfl (dl_at t_X25_samePar 82 rfl) (fun _ => ?_) (fun _ => ?_)
    · refine g_iconst (pc := 174) X (n := 0) (dl_at t_X25_samePar 100 rfl) ?_
      exact g_zret (pc := 175) X (Or.inl rfl) rfl rfl (dl_at t_X25_samePar 101 rfl)
    refine g_aload_n (pc := 141) X (j := 0) (i := 0) (q := 0) (x := a0) rfl rfl (dl_at t_X25_samePar 83 rfl) ?_
    refine r_getr (pc := 142) X fX25_0 hk q3761 (dl_at t_X25_samePar 84 rfl) ?_
    refine g_aload_n (pc := 145) X (j := 0) (i := 0) (q := 0) (x := a0) rfl rfl (dl_at t_X25_samePar 85 rfl) ?_
    refine r_getr (pc := 146) X fX25_12 hk q3779 (dl_at t_X25_samePar 86 rfl) ?_
    refine g_iload_n (pc := 149) X (j := 1) (i := 1) (q := 1) (x := a1) rfl rfl (dl_at t_X25_samePar 87 rfl) ?_
    refine g_iald (pc := 150) X r1 k86 (dl_at t_X25_samePar 88 rfl) fun g150 => ?_
    refine g_bipush (pc := 151) X (n := 10) rfl (dl_at t_X25_samePar 89 rfl) ?_
    refine r_callRi (pc := 153) X (fun _ hv => s_X24_of k88 g150 (r32_c rfl) hv) cw_code q4704 q378 (in_Vk X (As := [iv (h (h a0 12) a1), iv 10]) kX24 k88 (Or.inl q4844) q4702 q4703 cw_code q4704 ⟨by decide, by decide⟩ rfl (dl_at t_X25_samePar 90 rfl)) (dl_at t_X25_samePar 90 rfl) (cat24 (st := []) (Nat.le_of_ble_eq_true rfl)) (Nat.le_of_ble_eq_true rfl) (Nat.le_of_ble_eq_true rfl) fun v153 g153 => ?_
    refine g_aload_n (pc := 156) X (j := 2) (i := 2) (q := 2) (x := a2) rfl rfl (dl_at t_X25_samePar 91 rfl) ?_
    refine r_getr (pc := 157) X fX25_0 k14 q3761 (dl_at t_X25_samePar 92 rfl) ?_
    refine g_aload_n (pc := 160) X (j := 2) (i := 2) (q := 2) (x := a2) rfl rfl (dl_at t_X25_samePar 93 rfl) ?_
    refine r_getr (pc := 161) X fX25_12 k14 q3779 (dl_at t_X25_samePar 94 rfl) ?_
    refine g_iload_n (pc := 164) X (j := 3) (i := 3) (q := 3) (x := a3) rfl rfl (dl_at t_X25_samePar 95 rfl) ?_
    refine g_iald (pc := 165) X r3 k100 (dl_at t_X25_samePar 96 rfl) fun g165 => ?_
    refine g_bipush (pc := 166) X (n := 10) rfl (dl_at t_X25_samePar 97 rfl) ?_
    refine r_callRi (pc := 168) X (fun _ hv => s_X24_of k102 g165 (r32_c rfl) hv) cw_code q4704 q378 (in_Vk X (As := [iv (h (h a2 12) a3), iv 10]) kX24 k102 (Or.inl q4844) q4702 q4703 cw_code q4704 ⟨by decide, by decide⟩ rfl (dl_at t_X25_samePar 98 rfl)) (dl_at t_X25_samePar 98 rfl) (cat24 (st := [iv v153]) (Nat.le_of_ble_eq_true rfl)) (Nat.le_of_ble_eq_true rfl) (Nat.le_of_ble_eq_true rfl) fun v168 g168 => ?_
    refine g_icmpeq (pc := 171) X g153 g168 (off := 5) (tgt := 176) rfl (dl_at t_X25_samePar 99 rfl) (fun _ => ?_) (fun _ => ?_)
    · refine g_iconst (pc := 176) X (n := 0) (dl_at t_X25_samePar 102 rfl) ?_
      refine g_ltz (Or.inl rfl) fun x4_177 r4_177 => ?_
      refine g_istoreN (pc := 177) X (i := 4) (x := x4_177) (b := 3) (w := iv a3) (rest := [(0, rv D a0), (1, iv a1), (2, rv D a2)]) (Nat.le_of_ble_eq_true rfl) [3, 0, 1, 2] rfl (by decide) rfl rfl (dl_at t_X25_samePar 103 rfl) ?_
      refine g_ls (ls2 := [(0, rv D a0), (1, iv a1), (2, rv D a2), (3, iv a3), (4, iv x4_177)]) [2, 3, 4, 1, 0] rfl ?_
      refine g_loop1F (fun (q : Int) => [(0, rv D a0), (1, iv a1), (2, rv D a2), (3, iv a3), (4, iv q)]) (fun (q : Int) => h) (fun (q : Int) => r32 q) 267 (fun (y267 : Unit) => [(0, rv D a0), (1, iv a1), (2, rv D a2), (3, iv a3)]) (fun (y267 : Unit) => h) (fun (y267 : Unit) => True) x4_177 (r32_z r4_177) ?_ ?_ (fun _ => rfl)
      · rintro x4_179 r4_179
        try dsimp only
        unfold m_X25_samePar_l179
        refine g_iload (pc := 179) X (i := 4) (q := 4) (x := x4_179) rfl (dl_at t_X25_samePar 104 rfl) ?_
        refine g_aload_n (pc := 181) X (j := 0) (i := 0) (q := 0) (x := a0) rfl rfl (dl_at t_X25_samePar 105 rfl) ?_
        refine r_getr (pc := 182) X fX25_11 hk q3777 (dl_at t_X25_samePar 106 rfl) ?_
        refine g_iload_n (pc := 185) X (j := 1) (i := 1) (q := 1) (x := a1) rfl rfl (dl_at t_X25_samePar 107 rfl) ?_
        refine g_iald (pc := 186) X r1 k5 (dl_at t_X25_samePar 108 rfl) fun g186 => ?_
        refine g_aload_n (pc := 187) X (j := 0) (i := 0) (q := 0) (x := a0) rfl rfl (dl_at t_X25_samePar 109 rfl) ?_
        refine r_getr (pc := 188) X fX25_10 hk q3775 (dl_at t_X25_samePar 110 rfl) ?_
        refine g_iload_n (pc := 191) X (j := 1) (i := 1) (q := 1) (x := a1) rfl rfl (dl_at t_X25_samePar 111 rfl) ?_
        refine g_iald (pc := 192) X r1 k11 (dl_at t_X25_samePar 112 rfl) fun g192 => ?_
        refine g_isub (pc := 193) X g186 g192 (dl_at t_X25_samePar 113 rfl) ?_
        refine g_icmpge (pc := 194) X r4_179 (r32_w _) (off := 73) (tgt := 267) rfl (dl_at t_X25_samePar 114 rfl) (fun _ => ?_) (fun _ => ?_)
        · refine g_ls (ls2 := [(0, rv D a0), (1, iv a1), (2, rv D a2), (3, iv a3)]) [0, 1, 2, 3] rfl ?_
          exact g_at fun Q hQ => hQ trivial
        refine g_aload_n (pc := 197) X (j := 0) (i := 0) (q := 0) (x := a0) rfl rfl (dl_at t_X25_samePar 115 rfl) ?_
        refine r_getr (pc := 198) X fX25_5 hk q3768 (dl_at t_X25_samePar 116 rfl) ?_
        refine g_aload_n (pc := 201) X (j := 0) (i := 0) (q := 0) (x := a0) rfl rfl (dl_at t_X25_samePar 117 rfl) ?_
        refine r_getr (pc := 202) X fX25_10 hk q3775 (dl_at t_X25_samePar 118 rfl) ?_
        refine g_iload_n (pc := 205) X (j := 1) (i := 1) (q := 1) (x := a1) rfl rfl (dl_at t_X25_samePar 119 rfl) ?_
        refine g_iald (pc := 206) X r1 k11 (dl_at t_X25_samePar 120 rfl) fun g206 => ?_
        refine g_iload (pc := 207) X (i := 4) (q := 4) (x := x4_179) rfl (dl_at t_X25_samePar 121 rfl) ?_
        refine g_iadd (pc := 209) X g206 r4_179 (dl_at t_X25_samePar 122 rfl) ?_
        refine g_gd fun k210 => ?_
        refine g_bald (pc := 210) X (r32_w _) k210 (dl_at t_X25_samePar 123 rfl) fun g210 => ?_
        refine g_aload_n (pc := 211) X (j := 2) (i := 2) (q := 2) (x := a2) rfl rfl (dl_at t_X25_samePar 124 rfl) ?_
        refine r_getr (pc := 212) X fX25_5 k14 q3768 (dl_at t_X25_samePar 125 rfl) ?_
        refine g_aload_n (pc := 215) X (j := 2) (i := 2) (q := 2) (x := a2) rfl rfl (dl_at t_X25_samePar 126 rfl) ?_
        refine r_getr (pc := 216) X fX25_10 k14 q3775 (dl_at t_X25_samePar 127 rfl) ?_
        refine g_iload_n (pc := 219) X (j := 3) (i := 3) (q := 3) (x := a3) rfl rfl (dl_at t_X25_samePar 128 rfl) ?_
        refine g_iald (pc := 220) X r3 k24 (dl_at t_X25_samePar 129 rfl) fun g220 => ?_
        refine g_iload (pc := 221) X (i := 4) (q := 4) (x := x4_179) rfl (dl_at t_X25_samePar 130 rfl) ?_
        refine g_iadd (pc := 223) X g220 r4_179 (dl_at t_X25_samePar 131 rfl) ?_
        refine g_gd fun k224 => ?_
        refine g_bald (pc := 224) X (r32_w _) k224 (dl_at t_X25_samePar 132 rfl) fun g224 => ?_
        refine g_icmpne (pc := 225) X (r32_b g210) (r32_b g224) (off := 34) (tgt := 259) rfl (dl_at t_X25_samePar 133 rfl) (fun _ => ?_) (fun _ => ?_)
        · refine g_iconst (pc := 259) X (n := 0) (dl_at t_X25_samePar 153 rfl) ?_
          exact g_at fun Q hQ => (g_zret (pc := 260) X (Or.inl rfl) rfl rfl (dl_at t_X25_samePar 154 rfl)) _ Q rfl hQ
        refine g_aload_n (pc := 228) X (j := 0) (i := 0) (q := 0) (x := a0) rfl rfl (dl_at t_X25_samePar 134 rfl) ?_
        refine r_getr (pc := 229) X fX25_6 hk q3770 (dl_at t_X25_samePar 135 rfl) ?_
        refine g_aload_n (pc := 232) X (j := 0) (i := 0) (q := 0) (x := a0) rfl rfl (dl_at t_X25_samePar 136 rfl) ?_
        refine r_getr (pc := 233) X fX25_10 hk q3775 (dl_at t_X25_samePar 137 rfl) ?_
        refine g_iload_n (pc := 236) X (j := 1) (i := 1) (q := 1) (x := a1) rfl rfl (dl_at t_X25_samePar 138 rfl) ?_
        refine g_iald (pc := 237) X r1 k11 (dl_at t_X25_samePar 139 rfl) fun g237 => ?_
        refine g_iload (pc := 238) X (i := 4) (q := 4) (x := x4_179) rfl (dl_at t_X25_samePar 140 rfl) ?_
        refine g_iadd (pc := 240) X g237 r4_179 (dl_at t_X25_samePar 141 rfl) ?_
        refine g_gd fun k241 => ?_
        refine g_iald (pc := 241) X (r32_w _) k241 (dl_at t_X25_samePar 142 rfl) fun g241 => ?_
        refine g_aload_n (pc := 242) X (j := 2) (i := 2) (q := 2) (x := a2) rfl rfl (dl_at t_X25_samePar 143 rfl) ?_
        refine r_getr (pc := 243) X fX25_6 k14 q3770 (dl_at t_X25_samePar 144 rfl) ?_
        refine g_aload_n (pc := 246) X (j := 2) (i := 2) (q := 2) (x := a2) rfl rfl (dl_at t_X25_samePar 145 rfl) ?_
        refine r_getr (pc := 247) X fX25_10 k14 q3775 (dl_at t_X25_samePar 146 rfl) ?_
        refine g_iload_n (pc := 250) X (j := 3) (i := 3) (q := 3) (x := a3) rfl rfl (dl_at t_X25_samePar 147 rfl) ?_
        refine g_iald (pc := 251) X r3 k24 (dl_at t_X25_samePar 148 rfl) fun g251 => ?_
        refine g_iload (pc := 252) X (i := 4) (q := 4) (x := x4_179) rfl (dl_at t_X25_samePar 149 rfl) ?_
        refine g_iadd (pc := 254) X g251 r4_179 (dl_at t_X25_samePar 150 rfl) ?_
        refine g_gd fun k255 => ?_
        refine g_iald (pc := 255) X (r32_w _) k255 (dl_at t_X25_samePar 151 rfl) fun g255 => ?_
        refine g_icmpeq (pc := 256) X g241 g255 (off := 5) (tgt := 261) rfl (dl_at t_X25_samePar 152 rfl) (fun _ => ?_) (fun _ => ?_)
        · refine r_iincN (pc := 261) X (i := 4) (q := 4) (n := 1) (x := x4_179) (b := 3) (w := iv a3) (rest := [(0, rv D a0), (1, iv a1), (2, rv D a2)]) rfl r4_179 (r32_c rfl) (Nat.le_of_ble_eq_true rfl) [3, 0, 1, 2] rfl (by decide) rfl rfl (dl_at t_X25_samePar 155 rfl) fun x4_261 r4_261 => ?_
          refine g_goto (pc := 264) X (off := (-85)) (tgt := 179) rfl (dl_at t_X25_samePar 156 rfl) ?_
          refine g_ls (ls2 := [(0, rv D a0), (1, iv a1), (2, rv D a2), (3, iv a3), (4, iv x4_261)]) [2, 3, 4, 1, 0] rfl ?_
          exact g_at fun Q hQ => hQ r4_261
        refine g_iconst (pc := 259) X (n := 0) (dl_at t_X25_samePar 153 rfl) ?_
        exact g_at fun Q hQ => (g_zret (pc := 260) X (Or.inl rfl) rfl rfl (dl_at t_X25_samePar 154 rfl)) _ Q rfl hQ
      · rintro _ _
        try dsimp only [sE]
        refine g_iconst (pc := 267) X (n := 0) (dl_at t_X25_samePar 157 rfl) ?_
        refine g_ltz (Or.inl rfl) fun x4_268 r4_268 => ?_
        refine g_istoreN (pc := 268) X (i := 4) (x := x4_268) (b := 3) (w := iv a3) (rest := [(0, rv D a0), (1, iv a1), (2, rv D a2)]) (Nat.le_of_ble_eq_true rfl) [3, 0, 1, 2] rfl (by decide) rfl rfl (dl_at t_X25_samePar 158 rfl) ?_
        refine g_ls (ls2 := [(0, rv D a0), (1, iv a1), (2, rv D a2), (3, iv a3), (4, iv x4_268)]) [2, 3, 4, 1, 0] rfl ?_
        refine g_loop0F (fun (q : Int) => [(0, rv D a0), (1, iv a1), (2, rv D a2), (3, iv a3), (4, iv q)]) (fun (q : Int) => h) (fun (q : Int) => r32 q) x4_268 (r32_z r4_268) ?_ (fun _ => rfl)
        · rintro x4_270 r4_270
          try dsimp only
          unfold m_X25_samePar_l270
          refine g_iload (pc := 270) X (i := 4) (q := 4) (x := x4_270) rfl (dl_at t_X25_samePar 159 rfl) ?_
          refine g_aload_n (pc := 272) X (j := 0) (i := 0) (q := 0) (x := a0) rfl rfl (dl_at t_X25_samePar 160 rfl) ?_
          refine r_getr (pc := 273) X fX25_15 hk q3783 (dl_at t_X25_samePar 161 rfl) ?_
          refine g_iload_n (pc := 276) X (j := 1) (i := 1) (q := 1) (x := a1) rfl rfl (dl_at t_X25_samePar 162 rfl) ?_
          refine g_iald (pc := 277) X r1 k34 (dl_at t_X25_samePar 163 rfl) fun g277 => ?_
          refine g_icmpge (pc := 278) X r4_270 g277 (off := 81) (tgt := 359) rfl (dl_at t_X25_samePar 164 rfl) (fun _ => ?_) (fun _ => ?_)
          · refine g_iconst (pc := 359) X (n := 1) (dl_at t_X25_samePar 211 rfl) ?_
            exact g_at fun Q hQ => (g_zret (pc := 360) X (Or.inr rfl) rfl rfl (dl_at t_X25_samePar 212 rfl)) _ Q rfl hQ
          refine g_aload_n (pc := 281) X (j := 0) (i := 0) (q := 0) (x := a0) rfl rfl (dl_at t_X25_samePar 165 rfl) ?_
          refine r_getr (pc := 282) X fX25_16 hk q3785 (dl_at t_X25_samePar 166 rfl) ?_
          refine g_iload_n (pc := 285) X (j := 1) (i := 1) (q := 1) (x := a1) rfl rfl (dl_at t_X25_samePar 167 rfl) ?_
          refine g_gd fun k286 => ?_
          refine g_iald (pc := 286) X r1 k286 (dl_at t_X25_samePar 168 rfl) fun g286 => ?_
          refine g_iload (pc := 287) X (i := 4) (q := 4) (x := x4_270) rfl (dl_at t_X25_samePar 169 rfl) ?_
          refine g_iadd (pc := 289) X g286 r4_270 (dl_at t_X25_samePar 170 rfl) ?_
          refine g_lti (r32_w _) fun x5_290 r5_290 => ?_
          refine g_istoreN (pc := 290) X (i := 5) (x := x5_290) (b := 4) (w := iv x4_270) (rest := [(0, rv D a0), (1, iv a1), (2, rv D a2), (3, iv a3)]) (Nat.le_of_ble_eq_true rfl) [4, 0, 1, 2, 3] rfl (by decide) rfl rfl (dl_at t_X25_samePar 171 rfl) ?_
          refine g_aload_n (pc := 292) X (j := 2) (i := 2) (q := 4) (x := a2) rfl rfl (dl_at t_X25_samePar 172 rfl) ?_
          refine r_getr (pc := 293) X fX25_16 k14 q3785 (dl_at t_X25_samePar 173 rfl) ?_
          refine g_iload_n (pc := 296) X (j := 3) (i := 3) (q := 5) (x := a3) rfl rfl (dl_at t_X25_samePar 174 rfl) ?_
          refine g_gd fun k297 => ?_
          refine g_iald (pc := 297) X r3 k297 (dl_at t_X25_samePar 175 rfl) fun g297 => ?_
          refine g_iload (pc := 298) X (i := 4) (q := 1) (x := x4_270) rfl (dl_at t_X25_samePar 176 rfl) ?_
          refine g_iadd (pc := 300) X g297 r4_270 (dl_at t_X25_samePar 177 rfl) ?_
          refine g_lti (r32_w _) fun x6_301 r6_301 => ?_
          refine g_istoreN (pc := 301) X (i := 6) (x := x6_301) (b := 5) (w := iv x5_290) (rest := [(4, iv x4_270), (0, rv D a0), (1, iv a1), (2, rv D a2), (3, iv a3)]) (Nat.le_of_ble_eq_true rfl) [0, 1, 2, 3, 4, 5] rfl (by decide) rfl rfl (dl_at t_X25_samePar 178 rfl) ?_
          refine g_aload_n (pc := 303) X (j := 0) (i := 0) (q := 3) (x := a0) rfl rfl (dl_at t_X25_samePar 179 rfl) ?_
          refine r_getr (pc := 304) X fX25_23 hk q3797 (dl_at t_X25_samePar 180 rfl) ?_
          refine g_iload (pc := 307) X (i := 5) (q := 1) (x := x5_290) rfl (dl_at t_X25_samePar 181 rfl) ?_
          refine g_gd fun k309 => ?_
          refine g_iald (pc := 309) X r5_290 k309 (dl_at t_X25_samePar 182 rfl) fun g309 => ?_
          refine g_aload_n (pc := 310) X (j := 2) (i := 2) (q := 5) (x := a2) rfl rfl (dl_at t_X25_samePar 183 rfl) ?_
          refine r_getr (pc := 311) X fX25_23 k14 q3797 (dl_at t_X25_samePar 184 rfl) ?_
          refine g_iload (pc := 314) X (i := 6) (q := 0) (x := x6_301) rfl (dl_at t_X25_samePar 185 rfl) ?_
          refine g_gd fun k316 => ?_
          refine g_iald (pc := 316) X r6_301 k316 (dl_at t_X25_samePar 186 rfl) fun g316 => ?_
          refine g_icmpne (pc := 317) X g309 g316 (off := 34) (tgt := 351) rfl (dl_at t_X25_samePar 187 rfl) (fun _ => ?_) (fun _ => ?_)
          · refine g_iconst (pc := 351) X (n := 0) (dl_at t_X25_samePar 207 rfl) ?_
            exact g_at fun Q hQ => (g_zret (pc := 352) X (Or.inl rfl) rfl rfl (dl_at t_X25_samePar 208 rfl)) _ Q rfl hQ
          refine g_aload_n (pc := 320) X (j := 0) (i := 0) (q := 3) (x := a0) rfl rfl (dl_at t_X25_samePar 188 rfl) ?_
          refine r_getr (pc := 321) X fX25_24 hk q3798 (dl_at t_X25_samePar 189 rfl) ?_
          refine g_iload (pc := 324) X (i := 5) (q := 1) (x := x5_290) rfl (dl_at t_X25_samePar 190 rfl) ?_
          refine g_gd fun k326 => ?_
          refine g_iald (pc := 326) X r5_290 k326 (dl_at t_X25_samePar 191 rfl) fun g326 => ?_
          refine g_aload_n (pc := 327) X (j := 0) (i := 0) (q := 3) (x := a0) rfl rfl (dl_at t_X25_samePar 192 rfl) ?_
          refine r_getr (pc := 328) X fX25_10 hk q3775 (dl_at t_X25_samePar 193 rfl) ?_
          refine g_iload_n (pc := 331) X (j := 1) (i := 1) (q := 4) (x := a1) rfl rfl (dl_at t_X25_samePar 194 rfl) ?_
          refine g_iald (pc := 332) X r1 k11 (dl_at t_X25_samePar 195 rfl) fun g332 => ?_
          refine g_isub (pc := 333) X g326 g332 (dl_at t_X25_samePar 196 rfl) ?_
          refine g_aload_n (pc := 334) X (j := 2) (i := 2) (q := 5) (x := a2) rfl rfl (dl_at t_X25_samePar 197 rfl) ?_
          refine r_getr (pc := 335) X fX25_24 k14 q3798 (dl_at t_X25_samePar 198 rfl) ?_
          refine g_iload (pc := 338) X (i := 6) (q := 0) (x := x6_301) rfl (dl_at t_X25_samePar 199 rfl) ?_
          refine g_gd fun k340 => ?_
          refine g_iald (pc := 340) X r6_301 k340 (dl_at t_X25_samePar 200 rfl) fun g340 => ?_
          refine g_aload_n (pc := 341) X (j := 2) (i := 2) (q := 5) (x := a2) rfl rfl (dl_at t_X25_samePar 201 rfl) ?_
          refine r_getr (pc := 342) X fX25_10 k14 q3775 (dl_at t_X25_samePar 202 rfl) ?_
          refine g_iload_n (pc := 345) X (j := 3) (i := 3) (q := 6) (x := a3) rfl rfl (dl_at t_X25_samePar 203 rfl) ?_
          refine g_iald (pc := 346) X r3 k24 (dl_at t_X25_samePar 204 rfl) fun g346 => ?_
          refine g_isub (pc := 347) X g340 g346 (dl_at t_X25_samePar 205 rfl) ?_
          refine g_icmpeq (pc := 348) X (r32_w _) (r32_w _) (off := 5) (tgt := 353) rfl (dl_at t_X25_samePar 206 rfl) (fun _ => ?_) (fun _ => ?_)
          · refine r_iincN (pc := 353) X (i := 4) (q := 2) (n := 1) (x := x4_270) (b := 3) (w := iv a3) (rest := [(0, rv D a0), (1, iv a1), (2, rv D a2)]) rfl r4_270 (r32_c rfl) (Nat.le_of_ble_eq_true rfl) [6, 3, 4, 5] rfl (by decide) rfl rfl (dl_at t_X25_samePar 209 rfl) fun x4_353 r4_353 => ?_
            refine g_goto (pc := 356) X (off := (-86)) (tgt := 270) rfl (dl_at t_X25_samePar 210 rfl) ?_
            refine g_ls (ls2 := [(0, rv D a0), (1, iv a1), (2, rv D a2), (3, iv a3), (4, iv x4_353)]) [2, 3, 4, 1, 0] rfl ?_
            exact g_at fun Q hQ => hQ r4_353
          refine g_iconst (pc := 351) X (n := 0) (dl_at t_X25_samePar 207 rfl) ?_
          exact g_at fun Q hQ => (g_zret (pc := 352) X (Or.inl rfl) rfl rfl (dl_at t_X25_samePar 208 rfl)) _ Q rfl hQ
    refine g_iconst (pc := 174) X (n := 0) (dl_at t_X25_samePar 100 rfl) ?_
    exact g_zret (pc := 175) X (Or.inl rfl) rfl rfl (dl_at t_X25_samePar 101 rfl)
  refine g_iconst (pc := 75) X (n := 0) (dl_at t_X25_samePar 47 rfl) ?_
  exact g_zret (pc := 76) X (Or.inl rfl) rfl rfl (dl_at t_X25_samePar 48 rfl)
def k_X25_compare : List (Nat × Instr × Nat) := [(0, .aload_n 0, 1), (1, .iconst 0, 1), (2, .putfield 871, 3), (5, .iconst 0, 1), (6, .istore_n 3, 1), (7, .iload_n 3, 1), (8, .aload_n 0, 1), (9, .getfield 372, 3), (12, .if_icmp .ge 68, 3), (15, .iconst 0, 1), (16, .istore 4, 2), (18, .iconst 0, 1), (19, .istore 5, 2), (21, .iload_n 2, 1), (22, .ifCond .eq 33, 3), (25, .iload 5, 2), (27, .aload_n 1, 1), (28, .getfield 372, 3), (31, .if_icmp .ge 24, 3), (34, .iload 4, 2), (36, .ifCond .ne 19, 3), (39, .aload_n 0, 1), (40, .iload_n 3, 1), (41, .aload_n 1, 1), (42, .iload 5, 2), (44, .invokevirtual 874, 3), (47, .istore 4, 2), (49, .iinc 5 1, 3), (52, .goto (-31), 3), (55, .aload_n 0, 1), (56, .dup, 1), (57, .getfield 871, 3), (60, .iload 4, 2), (62, .ifCond .eq 7, 3), (65, .iconst 0, 1), (66, .goto 4, 3), (69, .iconst 1, 1), (70, .iadd, 1), (71, .putfield 871, 3), (74, .iinc 3 1, 3), (77, .goto (-70), 3), (80, .return_, 1)]
theorem t_X25_compare : ∀ q ∈ k_X25_compare, decode cX25_compare q.1 = .ok q.2 := dl_all (by decide +kernel)
noncomputable def m_X25_compare_l21 (a0 a1 a2 x3_7 x4_21 x5_21 : Int) (h_7 : Hp) : Option ((Int × Int) ⊕ ((Int))) :=
  if a2 = 0 then (some (.inr x4_21))
  else (gd (h_7 a1 (-2) = 416) (if (h_7 a1 9) ≤ x5_21 then (some (.inr x4_21))
  else (if x4_21 ≠ 0 then (some (.inr x4_21))
  else ((m_X25_samePar a0 x3_7 a1 x5_21 h_7).bind fun v44 =>
  lt_ (w32 (x5_21 + 1)) fun x5_49 =>
  some (.inl (v44, x5_49))))))
noncomputable def m_X25_compare_j70 (a0 x3_7 s1_70 s2_70 : Int) (h_7 : Hp) : Option ((Int × Hp) ⊕ ((Hp))) :=
  pt h_7 a0 97 (w32 (s1_70 + s2_70)) fun h71 =>
  lt_ (w32 (x3_7 + 1)) fun x3_74 =>
  some (.inl (x3_74, h71))
noncomputable def m_X25_compare_l7 (a0 a1 a2 x3_7 : Int) (h_7 : Hp) : Option ((Int × Hp) ⊕ ((Hp))) :=
  if (h_7 a0 9) ≤ x3_7 then (some (.inr h_7))
  else (lt_ 0 fun x4_16 =>
  lt_ 0 fun x5_19 =>
  (lp (fun (q : Int × Int) => m_X25_compare_l21 a0 a1 a2 x3_7 q.1 q.2 h_7) (x4_16, x5_19)).bind (fun (y55 : Int) => if y55 = 0 then (m_X25_compare_j70 a0 x3_7 (h_7 a0 97) 1 h_7)
  else (m_X25_compare_j70 a0 x3_7 (h_7 a0 97) 0 h_7)))
noncomputable def m_X25_compare (a0 a1 a2 : Int) (h : Hp) : Option (Hp) :=
  pt h a0 97 0 fun h2 =>
  lt_ 0 fun x3_6 =>
  (lp (fun (q : Int × Hp) => m_X25_compare_l7 a0 a1 a2 q.1 q.2) (x3_6, h2)).bind (fun (x : Hp) => some x)
theorem s_X25_compare {l : Launch} [NoTr l] {D : SD} {a0 a1 a2 : Int} {h : Hp} (hk : h a0 (-2) = 416) (r2 : (a2 = 0 ∨ a2 = 1)) {r : Hp} (hm : m_X25_compare a0 a1 a2 h = some r) : Sim l D yX25_compare (Cond.code yX25_compare cX25_compare 6 (Option.none : Option Jvm.ClassFile.FieldType)) 3 116 [rv D a0, rv D a1, iv a2] h 0 ((0, 0), r) := by
  refine Sim.of (fin := fun (v : Hp) => ((0, 0), v)) (lsE := [(0, rv D a0), (1, rv D a1), (2, iv a2)]) hm rfl cwS_code (la_r (la_r (la_i la_n))) (ll_r (ll_r (ll_i ll_n))) ?_
  intro p e s m below meth c X hcw hmm hcc hnm hname
  unfold m_X25_compare
  refine g_aload_n (pc := 0) X (j := 0) (i := 0) (q := 0) (x := a0) rfl rfl (dl_at t_X25_compare 0 rfl) ?_
  refine g_iconst (pc := 1) X (n := 0) (dl_at t_X25_compare 1 rfl) ?_
  refine r_puti (pc := 2) X fX25_97 hk q3909 rfl (dl_at t_X25_compare 2 rfl) (r32_c rfl) (fun h2 E2 => ?_)
  refine g_iconst (pc := 5) X (n := 0) (dl_at t_X25_compare 3 rfl) ?_
  refine g_ltz (Or.inl rfl) fun x3_6 r3_6 => ?_
  refine g_istore_nN (pc := 6) X (j := 3) (i := 3) (x := x3_6) (b := 2) (w := iv a2) (rest := [(0, rv D a0), (1, rv D a1)]) rfl (Nat.le_of_ble_eq_true rfl) [2, 0, 1] rfl (by decide) rfl rfl (dl_at t_X25_compare 4 rfl) ?_
  refine g_ls (ls2 := [(0, rv D a0), (1, rv D a1), (2, iv a2), (3, iv x3_6)]) [2, 3, 1, 0] rfl ?_
  refine g_loop0F (fun (q : Int × Hp) => [(0, rv D a0), (1, rv D a1), (2, iv a2), (3, iv q.1)]) (fun (q : Int × Hp) => q.2) (fun (q : Int × Hp) => r32 q.1 ∧ Ext h2 q.2) (x3_6, h2) ⟨(r32_z r3_6), (Ext.refl _)⟩ ?_ (fun _ => rfl)
  · rintro ⟨x3_7, h_7⟩ ⟨r3_7, E_7⟩
    try dsimp only
    unfold m_X25_compare_l7
    refine g_iload_n (pc := 7) X (j := 3) (i := 3) (q := 3) (x := x3_7) rfl rfl (dl_at t_X25_compare 5 rfl) ?_
    refine g_aload_n (pc := 8) X (j := 0) (i := 0) (q := 0) (x := a0) rfl rfl (dl_at t_X25_compare 6 rfl) ?_
    have k9 := kx (E2.trans E_7) (by decide) hk
    refine r_geti (pc := 9) X fX25_9 k9 q3773 (dl_at t_X25_compare 7 rfl) fun g9 => ?_
    refine g_icmpge (pc := 12) X r3_7 g9 (off := 68) (tgt := 80) rfl (dl_at t_X25_compare 8 rfl) (fun _ => ?_) (fun _ => ?_)
    · exact g_at fun Q hQ => (g_vret (pc := 80) X (v := 0) rfl rfl (dl_at t_X25_compare 41 rfl)) _ Q rfl hQ
    refine g_iconst (pc := 15) X (n := 0) (dl_at t_X25_compare 9 rfl) ?_
    refine g_ltz (Or.inl rfl) fun x4_16 r4_16 => ?_
    refine g_istoreN (pc := 16) X (i := 4) (x := x4_16) (b := 3) (w := iv x3_7) (rest := [(0, rv D a0), (1, rv D a1), (2, iv a2)]) (Nat.le_of_ble_eq_true rfl) [3, 0, 1, 2] rfl (by decide) rfl rfl (dl_at t_X25_compare 10 rfl) ?_
    refine g_iconst (pc := 18) X (n := 0) (dl_at t_X25_compare 11 rfl) ?_
    refine g_ltz (Or.inl rfl) fun x5_19 r5_19 => ?_
    refine g_istoreN (pc := 19) X (i := 5) (x := x5_19) (b := 4) (w := iv x4_16) (rest := [(3, iv x3_7), (0, rv D a0), (1, rv D a1), (2, iv a2)]) (Nat.le_of_ble_eq_true rfl) [0, 1, 2, 3, 4] rfl (by decide) rfl rfl (dl_at t_X25_compare 12 rfl) ?_
    refine g_ls (ls2 := [(0, rv D a0), (1, rv D a1), (2, iv a2), (3, iv x3_7), (4, iv x4_16), (5, iv x5_19)]) [3, 4, 5, 2, 1, 0] rfl ?_
    refine g_loop1 (fun (q : Int × Int) => [(0, rv D a0), (1, rv D a1), (2, iv a2), (3, iv x3_7), (4, iv q.1), (5, iv q.2)]) (fun (q : Int × Int) => h_7) (fun (q : Int × Int) => (q.1 = 0 ∨ q.1 = 1) ∧ r32 q.2) 55 (fun (y55 : Int) => [(0, rv D a0), (1, rv D a1), (2, iv a2), (3, iv x3_7), (4, iv y55)]) (fun (y55 : Int) => h_7) (fun (y55 : Int) => (y55 = 0 ∨ y55 = 1)) (x4_16, x5_19) ⟨r4_16, (r32_z r5_19)⟩ ?_ ?_
    · rintro ⟨x4_21, x5_21⟩ ⟨r4_21, r5_21⟩
      try dsimp only
      unfold m_X25_compare_l21
      refine g_iload_n (pc := 21) X (j := 2) (i := 2) (q := 2) (x := a2) rfl rfl (dl_at t_X25_compare 13 rfl) ?_
      refine g_ifeq (pc := 22) X (r32_z r2) (off := 33) (tgt := 55) rfl (dl_at t_X25_compare 14 rfl) (fun _ => ?_) (fun _ => ?_)
      · refine g_ls (ls2 := [(0, rv D a0), (1, rv D a1), (2, iv a2), (3, iv x3_7), (4, iv x4_21)]) [0, 1, 2, 3, 4] rfl ?_
        exact g_at fun Q hQ => hQ r4_21
      refine g_iload (pc := 25) X (i := 5) (q := 5) (x := x5_21) rfl (dl_at t_X25_compare 15 rfl) ?_
      refine g_aload_n (pc := 27) X (j := 1) (i := 1) (q := 1) (x := a1) rfl rfl (dl_at t_X25_compare 16 rfl) ?_
      refine g_gd fun k28 => ?_
      refine r_geti (pc := 28) X fX25_9 k28 q3773 (dl_at t_X25_compare 17 rfl) fun g28 => ?_
      refine g_icmpge (pc := 31) X r5_21 g28 (off := 24) (tgt := 55) rfl (dl_at t_X25_compare 18 rfl) (fun _ => ?_) (fun _ => ?_)
      · refine g_ls (ls2 := [(0, rv D a0), (1, rv D a1), (2, iv a2), (3, iv x3_7), (4, iv x4_21)]) [0, 1, 2, 3, 4] rfl ?_
        exact g_at fun Q hQ => hQ r4_21
      refine g_iload (pc := 34) X (i := 4) (q := 4) (x := x4_21) rfl (dl_at t_X25_compare 19 rfl) ?_
      refine g_ifne (pc := 36) X (r32_z r4_21) (off := 19) (tgt := 55) rfl (dl_at t_X25_compare 20 rfl) (fun _ => ?_) (fun _ => ?_)
      · refine g_ls (ls2 := [(0, rv D a0), (1, rv D a1), (2, iv a2), (3, iv x3_7), (4, iv x4_21)]) [0, 1, 2, 3, 4] rfl ?_
        exact g_at fun Q hQ => hQ r4_21
      refine g_aload_n (pc := 39) X (j := 0) (i := 0) (q := 0) (x := a0) rfl rfl (dl_at t_X25_compare 21 rfl) ?_
      refine g_iload_n (pc := 40) X (j := 3) (i := 3) (q := 3) (x := x3_7) rfl rfl (dl_at t_X25_compare 22 rfl) ?_
      refine g_aload_n (pc := 41) X (j := 1) (i := 1) (q := 1) (x := a1) rfl rfl (dl_at t_X25_compare 23 rfl) ?_
      refine g_iload (pc := 42) X (i := 5) (q := 5) (x := x5_21) rfl (dl_at t_X25_compare 24 rfl) ?_
      refine r_callRz (pc := 44) X (fun _ hv => s_X25_samePar k9 r3_7 r5_21 hv) cw_code q5141 q379 (in_Vk X (As := [iv x3_7, rv D a1, iv x5_21]) kX25 k9 (Or.inl q5138) q5140 qs348 cw_code q5141 ⟨by decide, by decide⟩ rfl (dl_at t_X25_compare 25 rfl)) (dl_at t_X25_compare 25 rfl) (cat24 (st := []) (Nat.le_of_ble_eq_true rfl)) (Nat.le_of_ble_eq_true rfl) (Nat.le_of_ble_eq_true rfl) fun v44 g44 => ?_
      refine g_istoreN (pc := 47) X (i := 4) (x := v44) (b := 3) (w := iv x3_7) (rest := [(0, rv D a0), (1, rv D a1), (2, iv a2), (5, iv x5_21)]) (Nat.le_of_ble_eq_true rfl) [3, 0, 1, 2, 5] rfl (by decide) rfl rfl (dl_at t_X25_compare 26 rfl) ?_
      refine r_iincN (pc := 49) X (i := 5) (q := 5) (n := 1) (x := x5_21) (b := 4) (w := iv v44) (rest := [(3, iv x3_7), (0, rv D a0), (1, rv D a1), (2, iv a2)]) rfl r5_21 (r32_c rfl) (Nat.le_of_ble_eq_true rfl) [0, 1, 2, 3, 4] rfl (by decide) rfl rfl (dl_at t_X25_compare 27 rfl) fun x5_49 r5_49 => ?_
      refine g_goto (pc := 52) X (off := (-31)) (tgt := 21) rfl (dl_at t_X25_compare 28 rfl) ?_
      refine g_ls (ls2 := [(0, rv D a0), (1, rv D a1), (2, iv a2), (3, iv x3_7), (4, iv v44), (5, iv x5_49)]) [3, 4, 5, 2, 1, 0] rfl ?_
      exact g_at fun Q hQ => hQ ⟨g44, r5_49⟩
    · rintro x4_55 r4_55
      try dsimp only [sE]
      refine g_aload_n (pc := 55) X (j := 0) (i := 0) (q := 0) (x := a0) rfl rfl (dl_at t_X25_compare 29 rfl) ?_
      refine g_dup (pc := 56) X rv_cat (dl_at t_X25_compare 30 rfl) ?_
      refine r_geti (pc := 57) X fX25_97 k9 q3909 (dl_at t_X25_compare 31 rfl) fun g57 => ?_
      refine g_iload (pc := 60) X (i := 4) (q := 4) (x := x4_55) rfl (dl_at t_X25_compare 32 rfl) ?_
      refine g_join (γ := Int × Int) (fun q => r32 q.1 ∧ (q.2 = 0 ∨ q.2 = 1)) 70 (fun q => [(0, rv D a0), (1, rv D a1), (2, iv a2), (3, iv x3_7)]) (fun q => [iv q.2, iv q.1, rv D a0]) (fun q => h_7) (fun q => m_X25_compare_j70 a0 x3_7 q.1 q.2 h_7) ?_ ?_
      · rintro ⟨s1_70, s2_70⟩ ⟨rs1_70, rs2_70⟩
        try dsimp only
        unfold m_X25_compare_j70
        refine g_iadd (pc := 70) X rs1_70 (r32_z rs2_70) (dl_at t_X25_compare 37 rfl) ?_
        refine r_puti (pc := 71) X fX25_97 k9 q3909 rfl (dl_at t_X25_compare 38 rfl) (r32_w _) (fun h71 E71 => ?_)
        refine r_iincN (pc := 74) X (i := 3) (q := 3) (n := 1) (x := x3_7) (b := 2) (w := iv a2) (rest := [(0, rv D a0), (1, rv D a1)]) rfl r3_7 (r32_c rfl) (Nat.le_of_ble_eq_true rfl) [2, 0, 1] rfl (by decide) rfl rfl (dl_at t_X25_compare 39 rfl) fun x3_74 r3_74 => ?_
        refine g_goto (pc := 77) X (off := (-70)) (tgt := 7) rfl (dl_at t_X25_compare 40 rfl) ?_
        refine g_ls (ls2 := [(0, rv D a0), (1, rv D a1), (2, iv a2), (3, iv x3_74)]) [2, 3, 1, 0] rfl ?_
        exact g_at fun Q hQ => hQ ⟨r3_74, (E_7.trans E71)⟩
      intro J70
      refine g_ifeq (pc := 62) X (r32_z r4_55) (off := 7) (tgt := 69) rfl (dl_at t_X25_compare 33 rfl) (fun _ => ?_) (fun _ => ?_)
      · refine g_iconst (pc := 69) X (n := 1) (dl_at t_X25_compare 36 rfl) ?_
        refine g_ls (ls2 := [(0, rv D a0), (1, rv D a1), (2, iv a2), (3, iv x3_7)]) [0, 1, 2, 3] rfl ?_
        exact J70 ((h_7 a0 97), 1) ⟨g57, (Or.inr rfl)⟩
      refine g_iconst (pc := 65) X (n := 0) (dl_at t_X25_compare 34 rfl) ?_
      refine g_goto (pc := 66) X (off := 4) (tgt := 70) rfl (dl_at t_X25_compare 35 rfl) ?_
      refine g_ls (ls2 := [(0, rv D a0), (1, rv D a1), (2, iv a2), (3, iv x3_7)]) [0, 1, 2, 3] rfl ?_
      exact J70 ((h_7 a0 97), 0) ⟨g57, (Or.inl rfl)⟩
