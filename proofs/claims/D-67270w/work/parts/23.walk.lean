set_option maxRecDepth 100000
def k_X24_flags : List (Nat × Instr × Nat) := [(0, .iconst 0, 1), (1, .istore_n 1, 1), (2, .iload_n 1, 1), (3, .aload_n 0, 1), (4, .getfield 12, 3), (7, .getfield 119, 3), (10, .if_icmp .ge 362, 3), (13, .aload_n 0, 1), (14, .getfield 12, 3), (17, .getfield 139, 3), (20, .iload_n 1, 1), (21, .iaload, 1), (22, .istore_n 2, 1), (23, .aload_n 0, 1), (24, .iload_n 1, 1), (25, .invokevirtual 234, 3), (28, .iconst 2, 1), (29, .if_icmp .eq 28, 3), (32, .iload_n 2, 1), (33, .ifCond .lt 20, 3), (36, .aload_n 0, 1), (37, .getfield 44, 3), (40, .iload_n 2, 1), (41, .baload, 1), (42, .ifCond .eq 15, 3), (45, .aload_n 0, 1), (46, .iload_n 2, 1), (47, .invokevirtual 237, 3), (50, .ifCond .ne 7, 3), (53, .iconst 1, 1), (54, .goto 4, 3), (57, .iconst 0, 1), (58, .istore_n 3, 1), (59, .aload_n 0, 1), (60, .getfield 60, 3), (63, .iload_n 1, 1), (64, .iconst 0, 1), (65, .bastore, 1), (66, .aload_n 0, 1), (67, .getfield 63, 3), (70, .iload_n 1, 1), (71, .iconst 0, 1), (72, .bastore, 1), (73, .aload_n 0, 1), (74, .getfield 38, 3), (77, .iload_n 1, 1), (78, .iconst 0, 1), (79, .iastore, 1), (80, .iload_n 2, 1), (81, .ifCond .lt 39, 3), (84, .aload_n 0, 1), (85, .getfield 57, 3), (88, .iload_n 2, 1), (89, .baload, 1), (90, .ifCond .eq 30, 3), (93, .iload_n 3, 1), (94, .ifCond .eq 17, 3), (97, .aload_n 0, 1), (98, .iload_n 1, 1), (99, .invokevirtual 234, 3), (102, .bipush 6, 2), (104, .if_icmp .ne 7, 3), (107, .iconst 1, 1), (108, .goto 4, 3), (111, .iconst 0, 1), (112, .istore_n 3, 1), (113, .aload_n 0, 1), (114, .getfield 60, 3), (117, .iload_n 1, 1), (118, .iload_n 3, 1), (119, .bastore, 1), (120, .iload_n 2, 1), (121, .ifCond .lt 76, 3), (124, .aload_n 0, 1), (125, .getfield 60, 3), (128, .iload_n 2, 1), (129, .baload, 1), (130, .ifCond .eq 67, 3), (133, .iload_n 3, 1), (134, .ifCond .eq 28, 3), (137, .aload_n 0, 1), (138, .iload_n 1, 1), (139, .invokevirtual 234, 3), (142, .bipush 7, 2), (144, .if_icmp .ne 18, 3), (147, .aload_n 0, 1), (148, .getfield 38, 3), (151, .iload_n 2, 1), (152, .iaload, 1), (153, .bipush 8, 2), (155, .if_icmp .ge 7, 3), (158, .iconst 1, 1), (159, .goto 4, 3), (162, .iconst 0, 1), (163, .istore_n 3, 1), (164, .aload_n 0, 1), (165, .getfield 63, 3), (168, .iload_n 1, 1), (169, .iload_n 3, 1), (170, .bastore, 1), (171, .iload_n 3, 1), (172, .ifCond .eq 25, 3), (175, .aload_n 0, 1), (176, .getfield 41, 3), (179, .iload_n 1, 1), (180, .aload_n 0, 1), (181, .getfield 38, 3), (184, .iload_n 2, 1), (185, .iaload, 1), (186, .iastore, 1), (187, .aload_n 0, 1), (188, .getfield 38, 3), (191, .iload_n 2, 1), (192, .dup2, 1), (193, .iaload, 1), (194, .iconst 1, 1), (195, .iadd, 1), (196, .iastore, 1), (197, .aload_n 0, 1), (198, .getfield 44, 3), (201, .iload_n 1, 1), (202, .iload_n 3, 1), (203, .bastore, 1), (204, .aload_n 0, 1), (205, .getfield 48, 3), (208, .iload_n 1, 1), (209, .iload_n 3, 1), (210, .ifCond .eq 38, 3), (213, .iload_n 2, 1), (214, .ifCond .lt 30, 3), (217, .aload_n 0, 1), (218, .getfield 48, 3), (221, .iload_n 2, 1), (222, .baload, 1), (223, .ifCond .eq 25, 3), (226, .aload_n 0, 1), (227, .getfield 51, 3), (230, .iload_n 2, 1), (231, .baload, 1), (232, .ifCond .ne 16, 3), (235, .aload_n 0, 1), (236, .getfield 63, 3), (239, .iload_n 2, 1), (240, .baload, 1), (241, .ifCond .ne 7, 3), (244, .iconst 1, 1), (245, .goto 4, 3), (248, .iconst 0, 1), (249, .bastore, 1), (250, .aload_n 0, 1), (251, .getfield 51, 3), (254, .iload_n 1, 1), (255, .aload_n 0, 1), (256, .getfield 48, 3), (259, .iload_n 1, 1), (260, .baload, 1), (261, .ifCond .eq 16, 3), (264, .aload_n 0, 1), (265, .iload_n 1, 1), (266, .invokevirtual 234, 3), (269, .iconst 3, 1), (270, .if_icmp .ne 7, 3), (273, .iconst 1, 1), (274, .goto 4, 3), (277, .iconst 0, 1), (278, .bastore, 1), (279, .aload_n 0, 1), (280, .getfield 57, 3), (283, .iload_n 1, 1), (284, .aload_n 0, 1), (285, .getfield 48, 3), (288, .iload_n 1, 1), (289, .baload, 1), (290, .ifCond .eq 16, 3), (293, .aload_n 0, 1), (294, .iload_n 1, 1), (295, .invokevirtual 234, 3), (298, .iconst 5, 1), (299, .if_icmp .ne 7, 3), (302, .iconst 1, 1), (303, .goto 4, 3), (306, .iconst 0, 1), (307, .bastore, 1), (308, .aload_n 0, 1), (309, .getfield 54, 3), (312, .iload_n 1, 1), (313, .aload_n 0, 1), (314, .getfield 48, 3), (317, .iload_n 1, 1), (318, .baload, 1), (319, .ifCond .eq 45, 3), (322, .aload_n 0, 1), (323, .iload_n 1, 1), (324, .invokevirtual 234, 3), (327, .iconst 1, 1), (328, .if_icmp .eq 32, 3), (331, .aload_n 0, 1), (332, .iload_n 1, 1), (333, .invokevirtual 234, 3), (336, .iconst 5, 1), (337, .if_icmp .eq 23, 3), (340, .aload_n 0, 1), (341, .iload_n 1, 1), (342, .invokevirtual 234, 3), (345, .bipush 8, 2), (347, .if_icmp .eq 13, 3), (350, .aload_n 0, 1), (351, .iload_n 1, 1), (352, .invokevirtual 234, 3), (355, .bipush 9, 2), (357, .if_icmp .ne 7, 3), (360, .iconst 1, 1), (361, .goto 4, 3), (364, .iconst 0, 1), (365, .bastore, 1), (366, .iinc 1 1, 3), (369, .goto (-367), 3), (372, .return_, 1)]
theorem t_X24_flags : ∀ q ∈ k_X24_flags, decode cX24_flags q.1 = .ok q.2 := dl_all (by decide +kernel)
noncomputable def m_X24_flags_j365 (x1_2 s0_365 s2_365 : Int) (h307 : Hp) : Option ((Int × Hp) ⊕ ((Hp))) :=
  gd (h307 s0_365 (-2) % 16 = 3 ∧ (0 : Int) ≤ x1_2 ∧ x1_2 < h307 s0_365 (-1)) (pt h307 s0_365 x1_2 s2_365 fun h365 =>
  lt_ (w32 (x1_2 + 1)) fun x1_366 =>
  some (.inl (x1_366, h365)))
noncomputable def m_X24_flags_j364 (x1_2 s0_364 : Int) (h307 : Hp) : Option ((Int × Hp) ⊕ ((Hp))) :=
  m_X24_flags_j365 x1_2 s0_364 0 h307
noncomputable def m_X24_flags_j360 (x1_2 s0_360 : Int) (h307 : Hp) : Option ((Int × Hp) ⊕ ((Hp))) :=
  m_X24_flags_j365 x1_2 s0_360 1 h307
noncomputable def m_X24_flags_j307 (a0 x1_2 s0_307 s2_307 : Int) (h278 : Hp) : Option ((Int × Hp) ⊕ ((Hp))) :=
  gd (h278 s0_307 (-2) % 16 = 3 ∧ (0 : Int) ≤ x1_2 ∧ x1_2 < h278 s0_307 (-1)) (pt h278 s0_307 x1_2 s2_307 fun h307 =>
  gd (h307 (h307 a0 10) (-2) % 16 = 3 ∧ (0 : Int) ≤ x1_2 ∧ x1_2 < h307 (h307 a0 10) (-1)) (if (h307 (h307 a0 10) x1_2) = 0 then (m_X24_flags_j364 x1_2 (h307 a0 12) h307)
  else ((m_X24_show a0 x1_2 h307).bind fun v324 =>
  if v324 = 1 then (m_X24_flags_j360 x1_2 (h307 a0 12) h307)
  else ((m_X24_show a0 x1_2 h307).bind fun v333 =>
  if v333 = 5 then (m_X24_flags_j360 x1_2 (h307 a0 12) h307)
  else ((m_X24_show a0 x1_2 h307).bind fun v342 =>
  if v342 = 8 then (m_X24_flags_j360 x1_2 (h307 a0 12) h307)
  else ((m_X24_show a0 x1_2 h307).bind fun v352 =>
  if v352 ≠ 9 then (m_X24_flags_j364 x1_2 (h307 a0 12) h307)
  else (m_X24_flags_j360 x1_2 (h307 a0 12) h307)))))))
noncomputable def m_X24_flags_j306 (a0 x1_2 s0_306 : Int) (h278 : Hp) : Option ((Int × Hp) ⊕ ((Hp))) :=
  m_X24_flags_j307 a0 x1_2 s0_306 0 h278
noncomputable def m_X24_flags_j278 (a0 x1_2 s0_278 s2_278 : Int) (h249 : Hp) : Option ((Int × Hp) ⊕ ((Hp))) :=
  gd (h249 s0_278 (-2) % 16 = 3 ∧ (0 : Int) ≤ x1_2 ∧ x1_2 < h249 s0_278 (-1)) (pt h249 s0_278 x1_2 s2_278 fun h278 =>
  gd (h278 (h278 a0 10) (-2) % 16 = 3 ∧ (0 : Int) ≤ x1_2 ∧ x1_2 < h278 (h278 a0 10) (-1)) (if (h278 (h278 a0 10) x1_2) = 0 then (m_X24_flags_j306 a0 x1_2 (h278 a0 13) h278)
  else ((m_X24_show a0 x1_2 h278).bind fun v295 =>
  if v295 ≠ 5 then (m_X24_flags_j306 a0 x1_2 (h278 a0 13) h278)
  else (m_X24_flags_j307 a0 x1_2 (h278 a0 13) 1 h278))))
noncomputable def m_X24_flags_j277 (a0 x1_2 s0_277 : Int) (h249 : Hp) : Option ((Int × Hp) ⊕ ((Hp))) :=
  m_X24_flags_j278 a0 x1_2 s0_277 0 h249
noncomputable def m_X24_flags_j249 (a0 x1_2 s0_249 s2_249 : Int) (h203 : Hp) : Option ((Int × Hp) ⊕ ((Hp))) :=
  gd (h203 s0_249 (-2) % 16 = 3 ∧ (0 : Int) ≤ x1_2 ∧ x1_2 < h203 s0_249 (-1)) (pt h203 s0_249 x1_2 s2_249 fun h249 =>
  gd (h249 (h249 a0 10) (-2) % 16 = 3 ∧ (0 : Int) ≤ x1_2 ∧ x1_2 < h249 (h249 a0 10) (-1)) (if (h249 (h249 a0 10) x1_2) = 0 then (m_X24_flags_j277 a0 x1_2 (h249 a0 11) h249)
  else ((m_X24_show a0 x1_2 h249).bind fun v266 =>
  if v266 ≠ 3 then (m_X24_flags_j277 a0 x1_2 (h249 a0 11) h249)
  else (m_X24_flags_j278 a0 x1_2 (h249 a0 11) 1 h249))))
noncomputable def m_X24_flags_j248 (a0 x1_2 s0_248 : Int) (h203 : Hp) : Option ((Int × Hp) ⊕ ((Hp))) :=
  m_X24_flags_j249 a0 x1_2 s0_248 0 h203
noncomputable def m_X24_flags_j244 (a0 x1_2 s0_244 : Int) (h203 : Hp) : Option ((Int × Hp) ⊕ ((Hp))) :=
  m_X24_flags_j249 a0 x1_2 s0_244 1 h203
noncomputable def m_X24_flags_j197 (a0 x1_2 x2_22 x3_197 : Int) (h_197 : Hp) : Option ((Int × Hp) ⊕ ((Hp))) :=
  gd (h_197 (h_197 a0 9) (-2) % 16 = 3 ∧ (0 : Int) ≤ x1_2 ∧ x1_2 < h_197 (h_197 a0 9) (-1)) (pt h_197 (h_197 a0 9) x1_2 x3_197 fun h203 =>
  if x3_197 = 0 then (m_X24_flags_j248 a0 x1_2 (h203 a0 10) h203)
  else (if x2_22 < 0 then (m_X24_flags_j244 a0 x1_2 (h203 a0 10) h203)
  else (gd (h203 (h203 a0 10) (-2) % 16 = 3 ∧ (0 : Int) ≤ x2_22 ∧ x2_22 < h203 (h203 a0 10) (-1)) (if (h203 (h203 a0 10) x2_22) = 0 then (m_X24_flags_j248 a0 x1_2 (h203 a0 10) h203)
  else (gd (h203 (h203 a0 11) (-2) % 16 = 3 ∧ (0 : Int) ≤ x2_22 ∧ x2_22 < h203 (h203 a0 11) (-1)) (if (h203 (h203 a0 11) x2_22) ≠ 0 then (m_X24_flags_j248 a0 x1_2 (h203 a0 10) h203)
  else (gd (h203 (h203 a0 15) (-2) % 16 = 3 ∧ (0 : Int) ≤ x2_22 ∧ x2_22 < h203 (h203 a0 15) (-1)) (if (h203 (h203 a0 15) x2_22) ≠ 0 then (m_X24_flags_j248 a0 x1_2 (h203 a0 10) h203)
  else (m_X24_flags_j244 a0 x1_2 (h203 a0 10) h203)))))))))
noncomputable def m_X24_flags_j163 (a0 x1_2 x2_22 s0_163 : Int) (h_120 : Hp) : Option ((Int × Hp) ⊕ ((Hp))) :=
  gd (h_120 (h_120 a0 15) (-2) % 16 = 3 ∧ (0 : Int) ≤ x1_2 ∧ x1_2 < h_120 (h_120 a0 15) (-1)) (pt h_120 (h_120 a0 15) x1_2 s0_163 fun h170 =>
  if s0_163 = 0 then (m_X24_flags_j197 a0 x1_2 x2_22 s0_163 h170)
  else (gd (h170 (h170 a0 7) (-2) % 16 = 1 ∧ (0 : Int) ≤ x2_22 ∧ x2_22 < h170 (h170 a0 7) (-1)) (gd (h170 (h170 a0 8) (-2) % 16 = 1 ∧ (0 : Int) ≤ x1_2 ∧ x1_2 < h170 (h170 a0 8) (-1)) (pt h170 (h170 a0 8) x1_2 (h170 (h170 a0 7) x2_22) fun h186 =>
  gd (h186 (h186 a0 7) (-2) % 16 = 1 ∧ (0 : Int) ≤ x2_22 ∧ x2_22 < h186 (h186 a0 7) (-1)) (pt h186 (h186 a0 7) x2_22 (w32 ((h186 (h186 a0 7) x2_22) + 1)) fun h196 =>
  m_X24_flags_j197 a0 x1_2 x2_22 s0_163 h196)))))
noncomputable def m_X24_flags_j162 (a0 x1_2 x2_22 : Int) (h_120 : Hp) : Option ((Int × Hp) ⊕ ((Hp))) :=
  m_X24_flags_j163 a0 x1_2 x2_22 0 h_120
noncomputable def m_X24_flags_j120 (x2_22 a0 x1_2 x3_120 : Int) (h_120 : Hp) : Option ((Int × Hp) ⊕ ((Hp))) :=
  if x2_22 < 0 then (m_X24_flags_j197 a0 x1_2 x2_22 x3_120 h_120)
  else (gd (h_120 (h_120 a0 14) (-2) % 16 = 3 ∧ (0 : Int) ≤ x2_22 ∧ x2_22 < h_120 (h_120 a0 14) (-1)) (if (h_120 (h_120 a0 14) x2_22) = 0 then (m_X24_flags_j197 a0 x1_2 x2_22 x3_120 h_120)
  else (if x3_120 = 0 then (m_X24_flags_j162 a0 x1_2 x2_22 h_120)
  else ((m_X24_show a0 x1_2 h_120).bind fun v139 =>
  if v139 ≠ 7 then (m_X24_flags_j162 a0 x1_2 x2_22 h_120)
  else (gd (h_120 (h_120 a0 7) (-2) % 16 = 1 ∧ (0 : Int) ≤ x2_22 ∧ x2_22 < h_120 (h_120 a0 7) (-1)) (if 8 ≤ (h_120 (h_120 a0 7) x2_22) then (m_X24_flags_j162 a0 x1_2 x2_22 h_120)
  else (m_X24_flags_j163 a0 x1_2 x2_22 1 h_120)))))))
noncomputable def m_X24_flags_j112 (x2_22 a0 x1_2 s0_112 : Int) (h79 : Hp) : Option ((Int × Hp) ⊕ ((Hp))) :=
  gd (h79 (h79 a0 14) (-2) % 16 = 3 ∧ (0 : Int) ≤ x1_2 ∧ x1_2 < h79 (h79 a0 14) (-1)) (pt h79 (h79 a0 14) x1_2 s0_112 fun h119 =>
  m_X24_flags_j120 x2_22 a0 x1_2 s0_112 h119)
noncomputable def m_X24_flags_j111 (x2_22 a0 x1_2 : Int) (h79 : Hp) : Option ((Int × Hp) ⊕ ((Hp))) :=
  m_X24_flags_j112 x2_22 a0 x1_2 0 h79
noncomputable def m_X24_flags_j58 (x2_22 x1_2 a0 s0_58 : Int) (h_2 : Hp) : Option ((Int × Hp) ⊕ ((Hp))) :=
  gd (h_2 (h_2 a0 14) (-2) % 16 = 3 ∧ (0 : Int) ≤ x1_2 ∧ x1_2 < h_2 (h_2 a0 14) (-1)) (pt h_2 (h_2 a0 14) x1_2 0 fun h65 =>
  gd (h65 (h65 a0 15) (-2) % 16 = 3 ∧ (0 : Int) ≤ x1_2 ∧ x1_2 < h65 (h65 a0 15) (-1)) (pt h65 (h65 a0 15) x1_2 0 fun h72 =>
  gd (h72 (h72 a0 7) (-2) % 16 = 1 ∧ (0 : Int) ≤ x1_2 ∧ x1_2 < h72 (h72 a0 7) (-1)) (pt h72 (h72 a0 7) x1_2 0 fun h79 =>
  if x2_22 < 0 then (m_X24_flags_j120 x2_22 a0 x1_2 s0_58 h79)
  else (gd (h79 (h79 a0 13) (-2) % 16 = 3 ∧ (0 : Int) ≤ x2_22 ∧ x2_22 < h79 (h79 a0 13) (-1)) (if (h79 (h79 a0 13) x2_22) = 0 then (m_X24_flags_j120 x2_22 a0 x1_2 s0_58 h79)
  else (if s0_58 = 0 then (m_X24_flags_j111 x2_22 a0 x1_2 h79)
  else ((m_X24_show a0 x1_2 h79).bind fun v99 =>
  if v99 ≠ 6 then (m_X24_flags_j111 x2_22 a0 x1_2 h79)
  else (m_X24_flags_j112 x2_22 a0 x1_2 1 h79))))))))
noncomputable def m_X24_flags_j57 (x2_22 x1_2 a0 : Int) (h_2 : Hp) : Option ((Int × Hp) ⊕ ((Hp))) :=
  m_X24_flags_j58 x2_22 x1_2 a0 0 h_2
noncomputable def m_X24_flags_j53 (x2_22 x1_2 a0 : Int) (h_2 : Hp) : Option ((Int × Hp) ⊕ ((Hp))) :=
  m_X24_flags_j58 x2_22 x1_2 a0 1 h_2
noncomputable def m_X24_flags_l2 (a0 x1_2 : Int) (h_2 : Hp) : Option ((Int × Hp) ⊕ ((Hp))) :=
  gd (h_2 (h_2 a0 0) (-2) = 384) (if (h_2 (h_2 a0 0) 3) ≤ x1_2 then (some (.inr h_2))
  else (gd (h_2 (h_2 (h_2 a0 0) 11) (-2) % 16 = 1 ∧ (0 : Int) ≤ x1_2 ∧ x1_2 < h_2 (h_2 (h_2 a0 0) 11) (-1)) (lt_ (h_2 (h_2 (h_2 a0 0) 11) x1_2) fun x2_22 =>
  (m_X24_show a0 x1_2 h_2).bind fun v25 =>
  if v25 = 2 then (m_X24_flags_j57 x2_22 x1_2 a0 h_2)
  else (if x2_22 < 0 then (m_X24_flags_j53 x2_22 x1_2 a0 h_2)
  else (gd (h_2 (h_2 a0 9) (-2) % 16 = 3 ∧ (0 : Int) ≤ x2_22 ∧ x2_22 < h_2 (h_2 a0 9) (-1)) (if (h_2 (h_2 a0 9) x2_22) = 0 then (m_X24_flags_j57 x2_22 x1_2 a0 h_2)
  else ((m_X24_isMute a0 x2_22 h_2).bind fun v47 =>
  if v47 ≠ 0 then (m_X24_flags_j57 x2_22 x1_2 a0 h_2)
  else (m_X24_flags_j53 x2_22 x1_2 a0 h_2))))))))
noncomputable def m_X24_flags (a0 : Int) (h : Hp) : Option (Hp) :=
  lt_ 0 fun x1_1 =>
  (lp (fun (q : Int × Hp) => m_X24_flags_l2 a0 q.1 q.2) (x1_1, h)).bind (fun (x : Hp) => some x)
theorem s_X24_flags {l : Launch} [NoTr l] {D : SD} {a0 : Int} {h : Hp} (hk : h a0 (-2) = 400) {r : Hp} (hm : m_X24_flags a0 h = some r) : Sim l D yX24_flags (Cond.code yX24_flags cX24_flags 4 (Option.none : Option Jvm.ClassFile.FieldType)) 2 74 [rv D a0] h 0 ((0, 0), r) := by
  refine Sim.of (fin := fun (v : Hp) => ((0, 0), v)) (lsE := [(0, rv D a0)]) hm rfl cwS_code (la_r la_n) (ll_r ll_n) ?_
  intro p e s m below meth c X hcw hmm hcc hnm hname
  unfold m_X24_flags
  refine g_iconst (pc := 0) X (n := 0) (dl_at t_X24_flags 0 rfl) ?_
  refine g_ltz (Or.inl rfl) fun x1_1 r1_1 => ?_
  refine g_istore_nN (pc := 1) X (j := 1) (i := 1) (x := x1_1) (b := 0) (w := rv D a0) (rest := []) rfl (Nat.le_of_ble_eq_true rfl) [0] rfl (by decide) rv_cat rfl (dl_at t_X24_flags 1 rfl) ?_
  refine g_ls (ls2 := [(0, rv D a0), (1, iv x1_1)]) [1, 0] rfl ?_
  refine g_loop0F (fun (q : Int × Hp) => [(0, rv D a0), (1, iv q.1)]) (fun (q : Int × Hp) => q.2) (fun (q : Int × Hp) => r32 q.1 ∧ Ext h q.2) (x1_1, h) ⟨(r32_z r1_1), (Ext.refl _)⟩ ?_ (fun _ => rfl)
  · rintro ⟨x1_2, h_2⟩ ⟨r1_2, E_2⟩
    try dsimp only
    unfold m_X24_flags_l2
    refine g_iload_n (pc := 2) X (j := 1) (i := 1) (q := 1) (x := x1_2) rfl rfl (dl_at t_X24_flags 2 rfl) ?_
    refine g_aload_n (pc := 3) X (j := 0) (i := 0) (q := 0) (x := a0) rfl rfl (dl_at t_X24_flags 3 rfl) ?_
    have k4 := kx E_2 (by decide) hk
    refine r_getr (pc := 4) X fX24_0 k4 q3642 (dl_at t_X24_flags 4 rfl) ?_
    refine g_gd fun k7 => ?_
    refine r_geti (pc := 7) X fX23_3 k7 q3527 (dl_at t_X24_flags 5 rfl) fun g7 => ?_
    refine g_icmpge (pc := 10) X r1_2 g7 (off := 362) (tgt := 372) rfl (dl_at t_X24_flags 6 rfl) (fun _ => ?_) (fun _ => ?_)
    · exact g_at fun Q hQ => (g_vret (pc := 372) X (v := 0) rfl rfl (dl_at t_X24_flags 217 rfl)) _ Q rfl hQ
    refine g_aload_n (pc := 13) X (j := 0) (i := 0) (q := 0) (x := a0) rfl rfl (dl_at t_X24_flags 7 rfl) ?_
    refine r_getr (pc := 14) X fX24_0 k4 q3642 (dl_at t_X24_flags 8 rfl) ?_
    refine r_getr (pc := 17) X fX23_11 k7 q3547 (dl_at t_X24_flags 9 rfl) ?_
    refine g_iload_n (pc := 20) X (j := 1) (i := 1) (q := 1) (x := x1_2) rfl rfl (dl_at t_X24_flags 10 rfl) ?_
    refine g_gd fun k21 => ?_
    refine g_iald (pc := 21) X r1_2 k21 (dl_at t_X24_flags 11 rfl) fun g21 => ?_
    refine g_lti g21 fun x2_22 r2_22 => ?_
    refine g_istore_nN (pc := 22) X (j := 2) (i := 2) (x := x2_22) (b := 1) (w := iv x1_2) (rest := [(0, rv D a0)]) rfl (Nat.le_of_ble_eq_true rfl) [1, 0] rfl (by decide) rfl rfl (dl_at t_X24_flags 12 rfl) ?_
    refine g_aload_n (pc := 23) X (j := 0) (i := 0) (q := 2) (x := a0) rfl rfl (dl_at t_X24_flags 13 rfl) ?_
    refine g_iload_n (pc := 24) X (j := 1) (i := 1) (q := 1) (x := x1_2) rfl rfl (dl_at t_X24_flags 14 rfl) ?_
    refine r_callRi (pc := 25) X (fun _ hv => s_X24_show k4 r1_2 hv) cw_code q4717 q378 (in_Vk X (As := [iv x1_2]) kX24 k4 (Or.inl q4714) q4715 q4716 cw_code q4717 ⟨by decide, by decide⟩ rfl (dl_at t_X24_flags 15 rfl)) (dl_at t_X24_flags 15 rfl) (cat24 (st := []) (Nat.le_of_ble_eq_true rfl)) (Nat.le_of_ble_eq_true rfl) (Nat.le_of_ble_eq_true rfl) fun v25 g25 => ?_
    refine g_iconst (pc := 28) X (n := 2) (dl_at t_X24_flags 16 rfl) ?_
    refine g_join (γ := Int) (fun q => (q = 0 ∨ q = 1)) 58 (fun q => [(0, rv D a0), (1, iv x1_2), (2, iv x2_22)]) (fun q => [iv q]) (fun q => h_2) (fun q => m_X24_flags_j58 x2_22 x1_2 a0 q h_2) ?_ ?_
    · rintro s0_58 rs0_58
      try dsimp only
      unfold m_X24_flags_j58
      refine g_istore_nN (pc := 58) X (j := 3) (i := 3) (x := s0_58) (b := 2) (w := iv x2_22) (rest := [(0, rv D a0), (1, iv x1_2)]) rfl (Nat.le_of_ble_eq_true rfl) [2, 0, 1] rfl (by decide) rfl rfl (dl_at t_X24_flags 32 rfl) ?_
      refine g_aload_n (pc := 59) X (j := 0) (i := 0) (q := 2) (x := a0) rfl rfl (dl_at t_X24_flags 33 rfl) ?_
      refine r_getr (pc := 60) X fX24_14 k4 q3674 (dl_at t_X24_flags 34 rfl) ?_
      refine g_iload_n (pc := 63) X (j := 1) (i := 1) (q := 3) (x := x1_2) rfl rfl (dl_at t_X24_flags 35 rfl) ?_
      refine g_iconst (pc := 64) X (n := 0) (dl_at t_X24_flags 36 rfl) ?_
      refine g_gd fun k65 => ?_
      refine r_zast (pc := 65) X r1_2 (Or.inl rfl) k65 (dl_at t_X24_flags 37 rfl) (fun h65 E65 => ?_)
      refine g_aload_n (pc := 66) X (j := 0) (i := 0) (q := 2) (x := a0) rfl rfl (dl_at t_X24_flags 38 rfl) ?_
      have k67 := kx E65 (by decide) k4
      refine r_getr (pc := 67) X fX24_15 k67 q3676 (dl_at t_X24_flags 39 rfl) ?_
      refine g_iload_n (pc := 70) X (j := 1) (i := 1) (q := 3) (x := x1_2) rfl rfl (dl_at t_X24_flags 40 rfl) ?_
      refine g_iconst (pc := 71) X (n := 0) (dl_at t_X24_flags 41 rfl) ?_
      refine g_gd fun k72 => ?_
      refine r_zast (pc := 72) X r1_2 (Or.inl rfl) k72 (dl_at t_X24_flags 42 rfl) (fun h72 E72 => ?_)
      refine g_aload_n (pc := 73) X (j := 0) (i := 0) (q := 2) (x := a0) rfl rfl (dl_at t_X24_flags 43 rfl) ?_
      have k74 := kx E72 (by decide) k67
      refine r_getr (pc := 74) X fX24_7 k74 q3657 (dl_at t_X24_flags 44 rfl) ?_
      refine g_iload_n (pc := 77) X (j := 1) (i := 1) (q := 3) (x := x1_2) rfl rfl (dl_at t_X24_flags 45 rfl) ?_
      refine g_iconst (pc := 78) X (n := 0) (dl_at t_X24_flags 46 rfl) ?_
      refine g_gd fun k79 => ?_
      refine r_iast (pc := 79) X r1_2 (r32_c rfl) k79 (dl_at t_X24_flags 47 rfl) (fun h79 E79 => ?_)
      refine g_iload_n (pc := 80) X (j := 2) (i := 2) (q := 1) (x := x2_22) rfl rfl (dl_at t_X24_flags 48 rfl) ?_
      refine g_join (γ := Int × Hp) (fun q => (q.1 = 0 ∨ q.1 = 1) ∧ Ext h79 q.2) 120 (fun q => [(0, rv D a0), (1, iv x1_2), (2, iv x2_22), (3, iv q.1)]) (fun q => []) (fun q => q.2) (fun q => m_X24_flags_j120 x2_22 a0 x1_2 q.1 q.2) ?_ ?_
      · rintro ⟨x3_120, h_120⟩ ⟨r3_120, E_120⟩
        try dsimp only
        unfold m_X24_flags_j120
        refine g_iload_n (pc := 120) X (j := 2) (i := 2) (q := 2) (x := x2_22) rfl rfl (dl_at t_X24_flags 71 rfl) ?_
        refine g_join (γ := Int × Hp) (fun q => (q.1 = 0 ∨ q.1 = 1) ∧ Ext h_120 q.2) 197 (fun q => [(0, rv D a0), (1, iv x1_2), (2, iv x2_22), (3, iv q.1)]) (fun q => []) (fun q => q.2) (fun q => m_X24_flags_j197 a0 x1_2 x2_22 q.1 q.2) ?_ ?_
        · rintro ⟨x3_197, h_197⟩ ⟨r3_197, E_197⟩
          try dsimp only
          unfold m_X24_flags_j197
          refine g_aload_n (pc := 197) X (j := 0) (i := 0) (q := 0) (x := a0) rfl rfl (dl_at t_X24_flags 118 rfl) ?_
          have k198 := kx (E79.trans (E_120.trans E_197)) (by decide) k74
          refine r_getr (pc := 198) X fX24_9 k198 q3662 (dl_at t_X24_flags 119 rfl) ?_
          refine g_iload_n (pc := 201) X (j := 1) (i := 1) (q := 1) (x := x1_2) rfl rfl (dl_at t_X24_flags 120 rfl) ?_
          refine g_iload_n (pc := 202) X (j := 3) (i := 3) (q := 3) (x := x3_197) rfl rfl (dl_at t_X24_flags 121 rfl) ?_
          refine g_gd fun k203 => ?_
          refine r_zast (pc := 203) X r1_2 r3_197 k203 (dl_at t_X24_flags 122 rfl) (fun h203 E203 => ?_)
          refine g_aload_n (pc := 204) X (j := 0) (i := 0) (q := 0) (x := a0) rfl rfl (dl_at t_X24_flags 123 rfl) ?_
          have k205 := kx E203 (by decide) k198
          refine r_getr (pc := 205) X fX24_10 k205 q3665 (dl_at t_X24_flags 124 rfl) ?_
          refine g_iload_n (pc := 208) X (j := 1) (i := 1) (q := 1) (x := x1_2) rfl rfl (dl_at t_X24_flags 125 rfl) ?_
          refine g_iload_n (pc := 209) X (j := 3) (i := 3) (q := 3) (x := x3_197) rfl rfl (dl_at t_X24_flags 126 rfl) ?_
          refine g_join (γ := Int × Int) (fun q => (q.2 = 0 ∨ q.2 = 1)) 249 (fun q => [(0, rv D a0), (1, iv x1_2)]) (fun q => [iv q.2, iv x1_2, rv D q.1]) (fun q => h203) (fun q => m_X24_flags_j249 a0 x1_2 q.1 q.2 h203) ?_ ?_
          · rintro ⟨s0_249, s2_249⟩ rs2_249
            try dsimp only
            unfold m_X24_flags_j249
            refine g_gd fun k249 => ?_
            refine r_zast (pc := 249) X r1_2 rs2_249 k249 (dl_at t_X24_flags 148 rfl) (fun h249 E249 => ?_)
            refine g_aload_n (pc := 250) X (j := 0) (i := 0) (q := 0) (x := a0) rfl rfl (dl_at t_X24_flags 149 rfl) ?_
            have k251 := kx E249 (by decide) k205
            refine r_getr (pc := 251) X fX24_11 k251 q3668 (dl_at t_X24_flags 150 rfl) ?_
            refine g_iload_n (pc := 254) X (j := 1) (i := 1) (q := 1) (x := x1_2) rfl rfl (dl_at t_X24_flags 151 rfl) ?_
            refine g_aload_n (pc := 255) X (j := 0) (i := 0) (q := 0) (x := a0) rfl rfl (dl_at t_X24_flags 152 rfl) ?_
            refine r_getr (pc := 256) X fX24_10 k251 q3665 (dl_at t_X24_flags 153 rfl) ?_
            refine g_iload_n (pc := 259) X (j := 1) (i := 1) (q := 1) (x := x1_2) rfl rfl (dl_at t_X24_flags 154 rfl) ?_
            refine g_gd fun k260 => ?_
            refine g_zald (pc := 260) X r1_2 k260 (dl_at t_X24_flags 155 rfl) fun g260 => ?_
            refine g_join (γ := Int × Int) (fun q => (q.2 = 0 ∨ q.2 = 1)) 278 (fun q => [(0, rv D a0), (1, iv x1_2)]) (fun q => [iv q.2, iv x1_2, rv D q.1]) (fun q => h249) (fun q => m_X24_flags_j278 a0 x1_2 q.1 q.2 h249) ?_ ?_
            · rintro ⟨s0_278, s2_278⟩ rs2_278
              try dsimp only
              unfold m_X24_flags_j278
              refine g_gd fun k278 => ?_
              refine r_zast (pc := 278) X r1_2 rs2_278 k278 (dl_at t_X24_flags 165 rfl) (fun h278 E278 => ?_)
              refine g_aload_n (pc := 279) X (j := 0) (i := 0) (q := 0) (x := a0) rfl rfl (dl_at t_X24_flags 166 rfl) ?_
              have k280 := kx E278 (by decide) k251
              refine r_getr (pc := 280) X fX24_13 k280 q3672 (dl_at t_X24_flags 167 rfl) ?_
              refine g_iload_n (pc := 283) X (j := 1) (i := 1) (q := 1) (x := x1_2) rfl rfl (dl_at t_X24_flags 168 rfl) ?_
              refine g_aload_n (pc := 284) X (j := 0) (i := 0) (q := 0) (x := a0) rfl rfl (dl_at t_X24_flags 169 rfl) ?_
              refine r_getr (pc := 285) X fX24_10 k280 q3665 (dl_at t_X24_flags 170 rfl) ?_
              refine g_iload_n (pc := 288) X (j := 1) (i := 1) (q := 1) (x := x1_2) rfl rfl (dl_at t_X24_flags 171 rfl) ?_
              refine g_gd fun k289 => ?_
              refine g_zald (pc := 289) X r1_2 k289 (dl_at t_X24_flags 172 rfl) fun g289 => ?_
              refine g_join (γ := Int × Int) (fun q => (q.2 = 0 ∨ q.2 = 1)) 307 (fun q => [(0, rv D a0), (1, iv x1_2)]) (fun q => [iv q.2, iv x1_2, rv D q.1]) (fun q => h278) (fun q => m_X24_flags_j307 a0 x1_2 q.1 q.2 h278) ?_ ?_
              · rintro ⟨s0_307, s2_307⟩ rs2_307
                try dsimp only
                unfold m_X24_flags_j307
                refine g_gd fun k307 => ?_
                refine r_zast (pc := 307) X r1_2 rs2_307 k307 (dl_at t_X24_flags 182 rfl) (fun h307 E307 => ?_)
                refine g_aload_n (pc := 308) X (j := 0) (i := 0) (q := 0) (x := a0) rfl rfl (dl_at t_X24_flags 183 rfl) ?_
                have k309 := kx E307 (by decide) k280
                refine r_getr (pc := 309) X fX24_12 k309 q3670 (dl_at t_X24_flags 184 rfl) ?_
                refine g_iload_n (pc := 312) X (j := 1) (i := 1) (q := 1) (x := x1_2) rfl rfl (dl_at t_X24_flags 185 rfl) ?_
                refine g_aload_n (pc := 313) X (j := 0) (i := 0) (q := 0) (x := a0) rfl rfl (dl_at t_X24_flags 186 rfl) ?_
                refine r_getr (pc := 314) X fX24_10 k309 q3665 (dl_at t_X24_flags 187 rfl) ?_
                refine g_iload_n (pc := 317) X (j := 1) (i := 1) (q := 1) (x := x1_2) rfl rfl (dl_at t_X24_flags 188 rfl) ?_
                refine g_gd fun k318 => ?_
                refine g_zald (pc := 318) X r1_2 k318 (dl_at t_X24_flags 189 rfl) fun g318 => ?_
                refine g_join (γ := Int × Int) (fun q => (q.2 = 0 ∨ q.2 = 1)) 365 (fun q => [(0, rv D a0), (1, iv x1_2)]) (fun q => [iv q.2, iv x1_2, rv D q.1]) (fun q => h307) (fun q => m_X24_flags_j365 x1_2 q.1 q.2 h307) ?_ ?_
                · rintro ⟨s0_365, s2_365⟩ rs2_365
                  try dsimp only
                  unfold m_X24_flags_j365
                  refine g_gd fun k365 => ?_
                  refine r_zast (pc := 365) X r1_2 rs2_365 k365 (dl_at t_X24_flags 214 rfl) (fun h365 E365 => ?_)
                  refine r_iincN (pc := 366) X (i := 1) (q := 1) (n := 1) (x := x1_2) (b := 0) (w := rv D a0) (rest := []) rfl r1_2 (r32_c rfl) (Nat.le_of_ble_eq_true rfl) [0] rfl (by decide) rv_cat rfl (dl_at t_X24_flags 215 rfl) fun x1_366 r1_366 => ?_
                  refine g_goto (pc := 369) X (off := (-367)) (tgt := 2) rfl (dl_at t_X24_flags 216 rfl) ?_
                  refine g_ls (ls2 := [(0, rv D a0), (1, iv x1_366)]) [1, 0] rfl ?_
                  exact g_at fun Q hQ => hQ ⟨r1_366, (E_2.trans (E65.trans (E72.trans (E79.trans (E_120.trans (E_197.trans (E203.trans (E249.trans (E278.trans (E307.trans E365))))))))))⟩
                intro J365
                refine g_join (γ := Int) (fun q => True) 364 (fun q => [(0, rv D a0), (1, iv x1_2)]) (fun q => [iv x1_2, rv D q]) (fun q => h307) (fun q => m_X24_flags_j364 x1_2 q h307) ?_ ?_
                · rintro s0_364 _
                  try dsimp only
                  unfold m_X24_flags_j364
                  refine g_iconst (pc := 364) X (n := 0) (dl_at t_X24_flags 213 rfl) ?_
                  exact J365 (s0_364, 0) (Or.inl rfl)
                intro J364
                refine g_ifeq (pc := 319) X (r32_z g318) (off := 45) (tgt := 364) rfl (dl_at t_X24_flags 190 rfl) (fun _ => ?_) (fun _ => ?_)
                · exact J364 (h307 a0 12) trivial
                refine g_aload_n (pc := 322) X (j := 0) (i := 0) (q := 0) (x := a0) rfl rfl (dl_at t_X24_flags 191 rfl) ?_
                refine g_iload_n (pc := 323) X (j := 1) (i := 1) (q := 1) (x := x1_2) rfl rfl (dl_at t_X24_flags 192 rfl) ?_
                refine r_callRi (pc := 324) X (fun _ hv => s_X24_show k309 r1_2 hv) cw_code q4717 q378 (in_Vk X (As := [iv x1_2]) kX24 k309 (Or.inl q4714) q4715 q4716 cw_code q4717 ⟨by decide, by decide⟩ rfl (dl_at t_X24_flags 193 rfl)) (dl_at t_X24_flags 193 rfl) (cat24 (st := [iv x1_2, rv D (h307 a0 12)]) (Nat.le_of_ble_eq_true rfl)) (Nat.le_of_ble_eq_true rfl) (Nat.le_of_ble_eq_true rfl) fun v324 g324 => ?_
                refine g_iconst (pc := 327) X (n := 1) (dl_at t_X24_flags 194 rfl) ?_
                refine g_join (γ := Int) (fun q => True) 360 (fun q => [(0, rv D a0), (1, iv x1_2)]) (fun q => [iv x1_2, rv D q]) (fun q => h307) (fun q => m_X24_flags_j360 x1_2 q h307) ?_ ?_
                · rintro s0_360 _
                  try dsimp only
                  unfold m_X24_flags_j360
                  refine g_iconst (pc := 360) X (n := 1) (dl_at t_X24_flags 211 rfl) ?_
                  refine g_goto (pc := 361) X (off := 4) (tgt := 365) rfl (dl_at t_X24_flags 212 rfl) ?_
                  exact J365 (s0_360, 1) (Or.inr rfl)
                intro J360
                refine g_icmpeq (pc := 328) X g324 (r32_c rfl) (off := 32) (tgt := 360) rfl (dl_at t_X24_flags 195 rfl) (fun _ => ?_) (fun _ => ?_)
                · exact J360 (h307 a0 12) trivial
                refine g_aload_n (pc := 331) X (j := 0) (i := 0) (q := 0) (x := a0) rfl rfl (dl_at t_X24_flags 196 rfl) ?_
                refine g_iload_n (pc := 332) X (j := 1) (i := 1) (q := 1) (x := x1_2) rfl rfl (dl_at t_X24_flags 197 rfl) ?_
                refine r_callRi (pc := 333) X (fun _ hv => s_X24_show k309 r1_2 hv) cw_code q4717 q378 (in_Vk X (As := [iv x1_2]) kX24 k309 (Or.inl q4714) q4715 q4716 cw_code q4717 ⟨by decide, by decide⟩ rfl (dl_at t_X24_flags 198 rfl)) (dl_at t_X24_flags 198 rfl) (cat24 (st := [iv x1_2, rv D (h307 a0 12)]) (Nat.le_of_ble_eq_true rfl)) (Nat.le_of_ble_eq_true rfl) (Nat.le_of_ble_eq_true rfl) fun v333 g333 => ?_
                refine g_iconst (pc := 336) X (n := 5) (dl_at t_X24_flags 199 rfl) ?_
                refine g_icmpeq (pc := 337) X g333 (r32_c rfl) (off := 23) (tgt := 360) rfl (dl_at t_X24_flags 200 rfl) (fun _ => ?_) (fun _ => ?_)
                · exact J360 (h307 a0 12) trivial
                refine g_aload_n (pc := 340) X (j := 0) (i := 0) (q := 0) (x := a0) rfl rfl (dl_at t_X24_flags 201 rfl) ?_
                refine g_iload_n (pc := 341) X (j := 1) (i := 1) (q := 1) (x := x1_2) rfl rfl (dl_at t_X24_flags 202 rfl) ?_
                refine r_callRi (pc := 342) X (fun _ hv => s_X24_show k309 r1_2 hv) cw_code q4717 q378 (in_Vk X (As := [iv x1_2]) kX24 k309 (Or.inl q4714) q4715 q4716 cw_code q4717 ⟨by decide, by decide⟩ rfl (dl_at t_X24_flags 203 rfl)) (dl_at t_X24_flags 203 rfl) (cat24 (st := [iv x1_2, rv D (h307 a0 12)]) (Nat.le_of_ble_eq_true rfl)) (Nat.le_of_ble_eq_true rfl) (Nat.le_of_ble_eq_true rfl) fun v342 g342 => ?_
                refine g_bipush (pc := 345) X (n := 8) rfl (dl_at t_X24_flags 204 rfl) ?_
                refine g_icmpeq (pc := 347) X g342 (r32_c rfl) (off := 13) (tgt := 360) rfl (dl_at t_X24_flags 205 rfl) (fun _ => ?_) (fun _ => ?_)
                · exact J360 (h307 a0 12) trivial
                refine g_aload_n (pc := 350) X (j := 0) (i := 0) (q := 0) (x := a0) rfl rfl (dl_at t_X24_flags 206 rfl) ?_
                refine g_iload_n (pc := 351) X (j := 1) (i := 1) (q := 1) (x := x1_2) rfl rfl (dl_at t_X24_flags 207 rfl) ?_
                refine r_callRi (pc := 352) X (fun _ hv => s_X24_show k309 r1_2 hv) cw_code q4717 q378 (in_Vk X (As := [iv x1_2]) kX24 k309 (Or.inl q4714) q4715 q4716 cw_code q4717 ⟨by decide, by decide⟩ rfl (dl_at t_X24_flags 208 rfl)) (dl_at t_X24_flags 208 rfl) (cat24 (st := [iv x1_2, rv D (h307 a0 12)]) (Nat.le_of_ble_eq_true rfl)) (Nat.le_of_ble_eq_true rfl) (Nat.le_of_ble_eq_true rfl) fun v352 g352 => ?_
                refine g_bipush (pc := 355) X (n := 9) rfl (dl_at t_X24_flags 209 rfl) ?_
                refine g_icmpne (pc := 357) X g352 (r32_c rfl) (off := 7) (tgt := 364) rfl (dl_at t_X24_flags 210 rfl) (fun _ => ?_) (fun _ => ?_)
                · exact J364 (h307 a0 12) trivial
                exact J360 (h307 a0 12) trivial
              intro J307
              refine g_join (γ := Int) (fun q => True) 306 (fun q => [(0, rv D a0), (1, iv x1_2)]) (fun q => [iv x1_2, rv D q]) (fun q => h278) (fun q => m_X24_flags_j306 a0 x1_2 q h278) ?_ ?_
              · rintro s0_306 _
                try dsimp only
                unfold m_X24_flags_j306
                refine g_iconst (pc := 306) X (n := 0) (dl_at t_X24_flags 181 rfl) ?_
                exact J307 (s0_306, 0) (Or.inl rfl)
              intro J306
              refine g_ifeq (pc := 290) X (r32_z g289) (off := 16) (tgt := 306) rfl (dl_at t_X24_flags 173 rfl) (fun _ => ?_) (fun _ => ?_)
              · exact J306 (h278 a0 13) trivial
              refine g_aload_n (pc := 293) X (j := 0) (i := 0) (q := 0) (x := a0) rfl rfl (dl_at t_X24_flags 174 rfl) ?_
              refine g_iload_n (pc := 294) X (j := 1) (i := 1) (q := 1) (x := x1_2) rfl rfl (dl_at t_X24_flags 175 rfl) ?_
              refine r_callRi (pc := 295) X (fun _ hv => s_X24_show k280 r1_2 hv) cw_code q4717 q378 (in_Vk X (As := [iv x1_2]) kX24 k280 (Or.inl q4714) q4715 q4716 cw_code q4717 ⟨by decide, by decide⟩ rfl (dl_at t_X24_flags 176 rfl)) (dl_at t_X24_flags 176 rfl) (cat24 (st := [iv x1_2, rv D (h278 a0 13)]) (Nat.le_of_ble_eq_true rfl)) (Nat.le_of_ble_eq_true rfl) (Nat.le_of_ble_eq_true rfl) fun v295 g295 => ?_
              refine g_iconst (pc := 298) X (n := 5) (dl_at t_X24_flags 177 rfl) ?_
              refine g_icmpne (pc := 299) X g295 (r32_c rfl) (off := 7) (tgt := 306) rfl (dl_at t_X24_flags 178 rfl) (fun _ => ?_) (fun _ => ?_)
              · exact J306 (h278 a0 13) trivial
              refine g_iconst (pc := 302) X (n := 1) (dl_at t_X24_flags 179 rfl) ?_
              refine g_goto (pc := 303) X (off := 4) (tgt := 307) rfl (dl_at t_X24_flags 180 rfl) ?_
              exact J307 ((h278 a0 13), 1) (Or.inr rfl)
            intro J278
            refine g_join (γ := Int) (fun q => True) 277 (fun q => [(0, rv D a0), (1, iv x1_2)]) (fun q => [iv x1_2, rv D q]) (fun q => h249) (fun q => m_X24_flags_j277 a0 x1_2 q h249) ?_ ?_
            · rintro s0_277 _
              try dsimp only
              unfold m_X24_flags_j277
              refine g_iconst (pc := 277) X (n := 0) (dl_at t_X24_flags 164 rfl) ?_
              exact J278 (s0_277, 0) (Or.inl rfl)
            intro J277
            refine g_ifeq (pc := 261) X (r32_z g260) (off := 16) (tgt := 277) rfl (dl_at t_X24_flags 156 rfl) (fun _ => ?_) (fun _ => ?_)
            · exact J277 (h249 a0 11) trivial
            refine g_aload_n (pc := 264) X (j := 0) (i := 0) (q := 0) (x := a0) rfl rfl (dl_at t_X24_flags 157 rfl) ?_
            refine g_iload_n (pc := 265) X (j := 1) (i := 1) (q := 1) (x := x1_2) rfl rfl (dl_at t_X24_flags 158 rfl) ?_
            refine r_callRi (pc := 266) X (fun _ hv => s_X24_show k251 r1_2 hv) cw_code q4717 q378 (in_Vk X (As := [iv x1_2]) kX24 k251 (Or.inl q4714) q4715 q4716 cw_code q4717 ⟨by decide, by decide⟩ rfl (dl_at t_X24_flags 159 rfl)) (dl_at t_X24_flags 159 rfl) (cat24 (st := [iv x1_2, rv D (h249 a0 11)]) (Nat.le_of_ble_eq_true rfl)) (Nat.le_of_ble_eq_true rfl) (Nat.le_of_ble_eq_true rfl) fun v266 g266 => ?_
            refine g_iconst (pc := 269) X (n := 3) (dl_at t_X24_flags 160 rfl) ?_
            refine g_icmpne (pc := 270) X g266 (r32_c rfl) (off := 7) (tgt := 277) rfl (dl_at t_X24_flags 161 rfl) (fun _ => ?_) (fun _ => ?_)
            · exact J277 (h249 a0 11) trivial
            refine g_iconst (pc := 273) X (n := 1) (dl_at t_X24_flags 162 rfl) ?_
            refine g_goto (pc := 274) X (off := 4) (tgt := 278) rfl (dl_at t_X24_flags 163 rfl) ?_
            exact J278 ((h249 a0 11), 1) (Or.inr rfl)
          intro J249
          refine g_join (γ := Int) (fun q => True) 248 (fun q => [(0, rv D a0), (1, iv x1_2)]) (fun q => [iv x1_2, rv D q]) (fun q => h203) (fun q => m_X24_flags_j248 a0 x1_2 q h203) ?_ ?_
          · rintro s0_248 _
            try dsimp only
            unfold m_X24_flags_j248
            refine g_iconst (pc := 248) X (n := 0) (dl_at t_X24_flags 147 rfl) ?_
            exact J249 (s0_248, 0) (Or.inl rfl)
          intro J248
          refine g_ifeq (pc := 210) X (r32_z r3_197) (off := 38) (tgt := 248) rfl (dl_at t_X24_flags 127 rfl) (fun _ => ?_) (fun _ => ?_)
          · refine g_ls (ls2 := [(0, rv D a0), (1, iv x1_2)]) [0, 1] rfl ?_
            exact J248 (h203 a0 10) trivial
          refine g_iload_n (pc := 213) X (j := 2) (i := 2) (q := 2) (x := x2_22) rfl rfl (dl_at t_X24_flags 128 rfl) ?_
          refine g_join (γ := Int) (fun q => True) 244 (fun q => [(0, rv D a0), (1, iv x1_2)]) (fun q => [iv x1_2, rv D q]) (fun q => h203) (fun q => m_X24_flags_j244 a0 x1_2 q h203) ?_ ?_
          · rintro s0_244 _
            try dsimp only
            unfold m_X24_flags_j244
            refine g_iconst (pc := 244) X (n := 1) (dl_at t_X24_flags 145 rfl) ?_
            refine g_goto (pc := 245) X (off := 4) (tgt := 249) rfl (dl_at t_X24_flags 146 rfl) ?_
            exact J249 (s0_244, 1) (Or.inr rfl)
          intro J244
          refine g_iflt (pc := 214) X r2_22 (off := 30) (tgt := 244) rfl (dl_at t_X24_flags 129 rfl) (fun _ => ?_) (fun _ => ?_)
          · refine g_ls (ls2 := [(0, rv D a0), (1, iv x1_2)]) [0, 1] rfl ?_
            exact J244 (h203 a0 10) trivial
          refine g_aload_n (pc := 217) X (j := 0) (i := 0) (q := 0) (x := a0) rfl rfl (dl_at t_X24_flags 130 rfl) ?_
          refine r_getr (pc := 218) X fX24_10 k205 q3665 (dl_at t_X24_flags 131 rfl) ?_
          refine g_iload_n (pc := 221) X (j := 2) (i := 2) (q := 2) (x := x2_22) rfl rfl (dl_at t_X24_flags 132 rfl) ?_
          refine g_gd fun k222 => ?_
          refine g_zald (pc := 222) X r2_22 k222 (dl_at t_X24_flags 133 rfl) fun g222 => ?_
          refine g_ifeq (pc := 223) X (r32_z g222) (off := 25) (tgt := 248) rfl (dl_at t_X24_flags 134 rfl) (fun _ => ?_) (fun _ => ?_)
          · refine g_ls (ls2 := [(0, rv D a0), (1, iv x1_2)]) [0, 1] rfl ?_
            exact J248 (h203 a0 10) trivial
          refine g_aload_n (pc := 226) X (j := 0) (i := 0) (q := 0) (x := a0) rfl rfl (dl_at t_X24_flags 135 rfl) ?_
          refine r_getr (pc := 227) X fX24_11 k205 q3668 (dl_at t_X24_flags 136 rfl) ?_
          refine g_iload_n (pc := 230) X (j := 2) (i := 2) (q := 2) (x := x2_22) rfl rfl (dl_at t_X24_flags 137 rfl) ?_
          refine g_gd fun k231 => ?_
          refine g_zald (pc := 231) X r2_22 k231 (dl_at t_X24_flags 138 rfl) fun g231 => ?_
          refine g_ifne (pc := 232) X (r32_z g231) (off := 16) (tgt := 248) rfl (dl_at t_X24_flags 139 rfl) (fun _ => ?_) (fun _ => ?_)
          · refine g_ls (ls2 := [(0, rv D a0), (1, iv x1_2)]) [0, 1] rfl ?_
            exact J248 (h203 a0 10) trivial
          refine g_aload_n (pc := 235) X (j := 0) (i := 0) (q := 0) (x := a0) rfl rfl (dl_at t_X24_flags 140 rfl) ?_
          refine r_getr (pc := 236) X fX24_15 k205 q3676 (dl_at t_X24_flags 141 rfl) ?_
          refine g_iload_n (pc := 239) X (j := 2) (i := 2) (q := 2) (x := x2_22) rfl rfl (dl_at t_X24_flags 142 rfl) ?_
          refine g_gd fun k240 => ?_
          refine g_zald (pc := 240) X r2_22 k240 (dl_at t_X24_flags 143 rfl) fun g240 => ?_
          refine g_ifne (pc := 241) X (r32_z g240) (off := 7) (tgt := 248) rfl (dl_at t_X24_flags 144 rfl) (fun _ => ?_) (fun _ => ?_)
          · refine g_ls (ls2 := [(0, rv D a0), (1, iv x1_2)]) [0, 1] rfl ?_
            exact J248 (h203 a0 10) trivial
          refine g_ls (ls2 := [(0, rv D a0), (1, iv x1_2)]) [0, 1] rfl ?_
          exact J244 (h203 a0 10) trivial
        intro J197
        refine g_iflt (pc := 121) X r2_22 (off := 76) (tgt := 197) rfl (dl_at t_X24_flags 72 rfl) (fun _ => ?_) (fun _ => ?_)
        · exact J197 (x3_120, h_120) ⟨r3_120, (Ext.refl _)⟩
        refine g_aload_n (pc := 124) X (j := 0) (i := 0) (q := 0) (x := a0) rfl rfl (dl_at t_X24_flags 73 rfl) ?_
        have k125 := kx (E79.trans E_120) (by decide) k74
        refine r_getr (pc := 125) X fX24_14 k125 q3674 (dl_at t_X24_flags 74 rfl) ?_
        refine g_iload_n (pc := 128) X (j := 2) (i := 2) (q := 2) (x := x2_22) rfl rfl (dl_at t_X24_flags 75 rfl) ?_
        refine g_gd fun k129 => ?_
        refine g_zald (pc := 129) X r2_22 k129 (dl_at t_X24_flags 76 rfl) fun g129 => ?_
        refine g_ifeq (pc := 130) X (r32_z g129) (off := 67) (tgt := 197) rfl (dl_at t_X24_flags 77 rfl) (fun _ => ?_) (fun _ => ?_)
        · exact J197 (x3_120, h_120) ⟨r3_120, (Ext.refl _)⟩
        refine g_iload_n (pc := 133) X (j := 3) (i := 3) (q := 3) (x := x3_120) rfl rfl (dl_at t_X24_flags 78 rfl) ?_
        refine g_join (γ := Int) (fun q => (q = 0 ∨ q = 1)) 163 (fun q => [(0, rv D a0), (1, iv x1_2), (2, iv x2_22)]) (fun q => [iv q]) (fun q => h_120) (fun q => m_X24_flags_j163 a0 x1_2 x2_22 q h_120) ?_ ?_
        · rintro s0_163 rs0_163
          try dsimp only
          unfold m_X24_flags_j163
          refine g_istore_nN (pc := 163) X (j := 3) (i := 3) (x := s0_163) (b := 2) (w := iv x2_22) (rest := [(0, rv D a0), (1, iv x1_2)]) rfl (Nat.le_of_ble_eq_true rfl) [2, 0, 1] rfl (by decide) rfl rfl (dl_at t_X24_flags 94 rfl) ?_
          refine g_aload_n (pc := 164) X (j := 0) (i := 0) (q := 2) (x := a0) rfl rfl (dl_at t_X24_flags 95 rfl) ?_
          refine r_getr (pc := 165) X fX24_15 k125 q3676 (dl_at t_X24_flags 96 rfl) ?_
          refine g_iload_n (pc := 168) X (j := 1) (i := 1) (q := 3) (x := x1_2) rfl rfl (dl_at t_X24_flags 97 rfl) ?_
          refine g_iload_n (pc := 169) X (j := 3) (i := 3) (q := 0) (x := s0_163) rfl rfl (dl_at t_X24_flags 98 rfl) ?_
          refine g_gd fun k170 => ?_
          refine r_zast (pc := 170) X r1_2 rs0_163 k170 (dl_at t_X24_flags 99 rfl) (fun h170 E170 => ?_)
          refine g_iload_n (pc := 171) X (j := 3) (i := 3) (q := 0) (x := s0_163) rfl rfl (dl_at t_X24_flags 100 rfl) ?_
          refine g_ifeq (pc := 172) X (r32_z rs0_163) (off := 25) (tgt := 197) rfl (dl_at t_X24_flags 101 rfl) (fun _ => ?_) (fun _ => ?_)
          · refine g_ls (ls2 := [(0, rv D a0), (1, iv x1_2), (2, iv x2_22), (3, iv s0_163)]) [2, 3, 1, 0] rfl ?_
            exact J197 (s0_163, h170) ⟨rs0_163, E170⟩
          refine g_aload_n (pc := 175) X (j := 0) (i := 0) (q := 2) (x := a0) rfl rfl (dl_at t_X24_flags 102 rfl) ?_
          have k176 := kx E170 (by decide) k125
          refine r_getr (pc := 176) X fX24_8 k176 q3660 (dl_at t_X24_flags 103 rfl) ?_
          refine g_iload_n (pc := 179) X (j := 1) (i := 1) (q := 3) (x := x1_2) rfl rfl (dl_at t_X24_flags 104 rfl) ?_
          refine g_aload_n (pc := 180) X (j := 0) (i := 0) (q := 2) (x := a0) rfl rfl (dl_at t_X24_flags 105 rfl) ?_
          refine r_getr (pc := 181) X fX24_7 k176 q3657 (dl_at t_X24_flags 106 rfl) ?_
          refine g_iload_n (pc := 184) X (j := 2) (i := 2) (q := 1) (x := x2_22) rfl rfl (dl_at t_X24_flags 107 rfl) ?_
          refine g_gd fun k185 => ?_
          refine g_iald (pc := 185) X r2_22 k185 (dl_at t_X24_flags 108 rfl) fun g185 => ?_
          refine g_gd fun k186 => ?_
          refine r_iast (pc := 186) X r1_2 g185 k186 (dl_at t_X24_flags 109 rfl) (fun h186 E186 => ?_)
          refine g_aload_n (pc := 187) X (j := 0) (i := 0) (q := 2) (x := a0) rfl rfl (dl_at t_X24_flags 110 rfl) ?_
          have k188 := kx E186 (by decide) k176
          refine r_getr (pc := 188) X fX24_7 k188 q3657 (dl_at t_X24_flags 111 rfl) ?_
          refine g_iload_n (pc := 191) X (j := 2) (i := 2) (q := 1) (x := x2_22) rfl rfl (dl_at t_X24_flags 112 rfl) ?_
          refine g_dup2 (pc := 192) X rfl rv_cat (dl_at t_X24_flags 113 rfl) ?_
          refine g_gd fun k193 => ?_
          refine g_iald (pc := 193) X r2_22 k193 (dl_at t_X24_flags 114 rfl) fun g193 => ?_
          refine g_iconst (pc := 194) X (n := 1) (dl_at t_X24_flags 115 rfl) ?_
          refine g_iadd (pc := 195) X g193 (r32_c rfl) (dl_at t_X24_flags 116 rfl) ?_
          refine r_iast (pc := 196) X r2_22 (r32_w _) k193 (dl_at t_X24_flags 117 rfl) (fun h196 E196 => ?_)
          refine g_ls (ls2 := [(0, rv D a0), (1, iv x1_2), (2, iv x2_22), (3, iv s0_163)]) [2, 3, 1, 0] rfl ?_
          exact J197 (s0_163, h196) ⟨rs0_163, (E170.trans (E186.trans E196))⟩
        intro J163
        refine g_join (γ := Unit) (fun q => True) 162 (fun q => [(0, rv D a0), (1, iv x1_2), (2, iv x2_22)]) (fun q => []) (fun q => h_120) (fun q => m_X24_flags_j162 a0 x1_2 x2_22 h_120) ?_ ?_
        · rintro _ _
          try dsimp only
          unfold m_X24_flags_j162
          refine g_iconst (pc := 162) X (n := 0) (dl_at t_X24_flags 93 rfl) ?_
          exact J163 0 (Or.inl rfl)
        intro J162
        refine g_ifeq (pc := 134) X (r32_z r3_120) (off := 28) (tgt := 162) rfl (dl_at t_X24_flags 79 rfl) (fun _ => ?_) (fun _ => ?_)
        · refine g_ls (ls2 := [(0, rv D a0), (1, iv x1_2), (2, iv x2_22)]) [0, 1, 2] rfl ?_
          exact J162 () trivial
        refine g_aload_n (pc := 137) X (j := 0) (i := 0) (q := 0) (x := a0) rfl rfl (dl_at t_X24_flags 80 rfl) ?_
        refine g_iload_n (pc := 138) X (j := 1) (i := 1) (q := 1) (x := x1_2) rfl rfl (dl_at t_X24_flags 81 rfl) ?_
        refine r_callRi (pc := 139) X (fun _ hv => s_X24_show k125 r1_2 hv) cw_code q4717 q378 (in_Vk X (As := [iv x1_2]) kX24 k125 (Or.inl q4714) q4715 q4716 cw_code q4717 ⟨by decide, by decide⟩ rfl (dl_at t_X24_flags 82 rfl)) (dl_at t_X24_flags 82 rfl) (cat24 (st := []) (Nat.le_of_ble_eq_true rfl)) (Nat.le_of_ble_eq_true rfl) (Nat.le_of_ble_eq_true rfl) fun v139 g139 => ?_
        refine g_bipush (pc := 142) X (n := 7) rfl (dl_at t_X24_flags 83 rfl) ?_
        refine g_icmpne (pc := 144) X g139 (r32_c rfl) (off := 18) (tgt := 162) rfl (dl_at t_X24_flags 84 rfl) (fun _ => ?_) (fun _ => ?_)
        · refine g_ls (ls2 := [(0, rv D a0), (1, iv x1_2), (2, iv x2_22)]) [0, 1, 2] rfl ?_
          exact J162 () trivial
        refine g_aload_n (pc := 147) X (j := 0) (i := 0) (q := 0) (x := a0) rfl rfl (dl_at t_X24_flags 85 rfl) ?_
        refine r_getr (pc := 148) X fX24_7 k125 q3657 (dl_at t_X24_flags 86 rfl) ?_
        refine g_iload_n (pc := 151) X (j := 2) (i := 2) (q := 2) (x := x2_22) rfl rfl (dl_at t_X24_flags 87 rfl) ?_
        refine g_gd fun k152 => ?_
        refine g_iald (pc := 152) X r2_22 k152 (dl_at t_X24_flags 88 rfl) fun g152 => ?_
        refine g_bipush (pc := 153) X (n := 8) rfl (dl_at t_X24_flags 89 rfl) ?_
        refine g_icmpge (pc := 155) X g152 (r32_c rfl) (off := 7) (tgt := 162) rfl (dl_at t_X24_flags 90 rfl) (fun _ => ?_) (fun _ => ?_)
        · refine g_ls (ls2 := [(0, rv D a0), (1, iv x1_2), (2, iv x2_22)]) [0, 1, 2] rfl ?_
          exact J162 () trivial
        refine g_iconst (pc := 158) X (n := 1) (dl_at t_X24_flags 91 rfl) ?_
        refine g_goto (pc := 159) X (off := 4) (tgt := 163) rfl (dl_at t_X24_flags 92 rfl) ?_
        refine g_ls (ls2 := [(0, rv D a0), (1, iv x1_2), (2, iv x2_22)]) [0, 1, 2] rfl ?_
        exact J163 1 (Or.inr rfl)
      intro J120
      refine g_iflt (pc := 81) X r2_22 (off := 39) (tgt := 120) rfl (dl_at t_X24_flags 49 rfl) (fun _ => ?_) (fun _ => ?_)
      · refine g_ls (ls2 := [(0, rv D a0), (1, iv x1_2), (2, iv x2_22), (3, iv s0_58)]) [2, 3, 1, 0] rfl ?_
        exact J120 (s0_58, h79) ⟨rs0_58, (Ext.refl _)⟩
      refine g_aload_n (pc := 84) X (j := 0) (i := 0) (q := 2) (x := a0) rfl rfl (dl_at t_X24_flags 50 rfl) ?_
      have k85 := kx E79 (by decide) k74
      refine r_getr (pc := 85) X fX24_13 k85 q3672 (dl_at t_X24_flags 51 rfl) ?_
      refine g_iload_n (pc := 88) X (j := 2) (i := 2) (q := 1) (x := x2_22) rfl rfl (dl_at t_X24_flags 52 rfl) ?_
      refine g_gd fun k89 => ?_
      refine g_zald (pc := 89) X r2_22 k89 (dl_at t_X24_flags 53 rfl) fun g89 => ?_
      refine g_ifeq (pc := 90) X (r32_z g89) (off := 30) (tgt := 120) rfl (dl_at t_X24_flags 54 rfl) (fun _ => ?_) (fun _ => ?_)
      · refine g_ls (ls2 := [(0, rv D a0), (1, iv x1_2), (2, iv x2_22), (3, iv s0_58)]) [2, 3, 1, 0] rfl ?_
        exact J120 (s0_58, h79) ⟨rs0_58, (Ext.refl _)⟩
      refine g_iload_n (pc := 93) X (j := 3) (i := 3) (q := 0) (x := s0_58) rfl rfl (dl_at t_X24_flags 55 rfl) ?_
      refine g_join (γ := Int) (fun q => (q = 0 ∨ q = 1)) 112 (fun q => [(0, rv D a0), (1, iv x1_2), (2, iv x2_22)]) (fun q => [iv q]) (fun q => h79) (fun q => m_X24_flags_j112 x2_22 a0 x1_2 q h79) ?_ ?_
      · rintro s0_112 rs0_112
        try dsimp only
        unfold m_X24_flags_j112
        refine g_istore_nN (pc := 112) X (j := 3) (i := 3) (x := s0_112) (b := 2) (w := iv x2_22) (rest := [(0, rv D a0), (1, iv x1_2)]) rfl (Nat.le_of_ble_eq_true rfl) [2, 0, 1] rfl (by decide) rfl rfl (dl_at t_X24_flags 65 rfl) ?_
        refine g_aload_n (pc := 113) X (j := 0) (i := 0) (q := 2) (x := a0) rfl rfl (dl_at t_X24_flags 66 rfl) ?_
        refine r_getr (pc := 114) X fX24_14 k85 q3674 (dl_at t_X24_flags 67 rfl) ?_
        refine g_iload_n (pc := 117) X (j := 1) (i := 1) (q := 3) (x := x1_2) rfl rfl (dl_at t_X24_flags 68 rfl) ?_
        refine g_iload_n (pc := 118) X (j := 3) (i := 3) (q := 0) (x := s0_112) rfl rfl (dl_at t_X24_flags 69 rfl) ?_
        refine g_gd fun k119 => ?_
        refine r_zast (pc := 119) X r1_2 rs0_112 k119 (dl_at t_X24_flags 70 rfl) (fun h119 E119 => ?_)
        refine g_ls (ls2 := [(0, rv D a0), (1, iv x1_2), (2, iv x2_22), (3, iv s0_112)]) [2, 3, 1, 0] rfl ?_
        exact J120 (s0_112, h119) ⟨rs0_112, E119⟩
      intro J112
      refine g_join (γ := Unit) (fun q => True) 111 (fun q => [(0, rv D a0), (1, iv x1_2), (2, iv x2_22)]) (fun q => []) (fun q => h79) (fun q => m_X24_flags_j111 x2_22 a0 x1_2 h79) ?_ ?_
      · rintro _ _
        try dsimp only
        unfold m_X24_flags_j111
        refine g_iconst (pc := 111) X (n := 0) (dl_at t_X24_flags 64 rfl) ?_
        exact J112 0 (Or.inl rfl)
      intro J111
      refine g_ifeq (pc := 94) X (r32_z rs0_58) (off := 17) (tgt := 111) rfl (dl_at t_X24_flags 56 rfl) (fun _ => ?_) (fun _ => ?_)
      · refine g_ls (ls2 := [(0, rv D a0), (1, iv x1_2), (2, iv x2_22)]) [2, 3, 1] rfl ?_
        exact J111 () trivial
      refine g_aload_n (pc := 97) X (j := 0) (i := 0) (q := 2) (x := a0) rfl rfl (dl_at t_X24_flags 57 rfl) ?_
      refine g_iload_n (pc := 98) X (j := 1) (i := 1) (q := 3) (x := x1_2) rfl rfl (dl_at t_X24_flags 58 rfl) ?_
      refine r_callRi (pc := 99) X (fun _ hv => s_X24_show k85 r1_2 hv) cw_code q4717 q378 (in_Vk X (As := [iv x1_2]) kX24 k85 (Or.inl q4714) q4715 q4716 cw_code q4717 ⟨by decide, by decide⟩ rfl (dl_at t_X24_flags 59 rfl)) (dl_at t_X24_flags 59 rfl) (cat24 (st := []) (Nat.le_of_ble_eq_true rfl)) (Nat.le_of_ble_eq_true rfl) (Nat.le_of_ble_eq_true rfl) fun v99 g99 => ?_
      refine g_bipush (pc := 102) X (n := 6) rfl (dl_at t_X24_flags 60 rfl) ?_
      refine g_icmpne (pc := 104) X g99 (r32_c rfl) (off := 7) (tgt := 111) rfl (dl_at t_X24_flags 61 rfl) (fun _ => ?_) (fun _ => ?_)
      · refine g_ls (ls2 := [(0, rv D a0), (1, iv x1_2), (2, iv x2_22)]) [2, 3, 1] rfl ?_
        exact J111 () trivial
      refine g_iconst (pc := 107) X (n := 1) (dl_at t_X24_flags 62 rfl) ?_
      refine g_goto (pc := 108) X (off := 4) (tgt := 112) rfl (dl_at t_X24_flags 63 rfl) ?_
      refine g_ls (ls2 := [(0, rv D a0), (1, iv x1_2), (2, iv x2_22)]) [2, 3, 1] rfl ?_
      exact J112 1 (Or.inr rfl)
    intro J58
    refine g_join (γ := Unit) (fun q => True) 57 (fun q => [(0, rv D a0), (1, iv x1_2), (2, iv x2_22)]) (fun q => []) (fun q => h_2) (fun q => m_X24_flags_j57 x2_22 x1_2 a0 h_2) ?_ ?_
    · rintro _ _
      try dsimp only
      unfold m_X24_flags_j57
      refine g_iconst (pc := 57) X (n := 0) (dl_at t_X24_flags 31 rfl) ?_
      exact J58 0 (Or.inl rfl)
    intro J57
    refine g_icmpeq (pc := 29) X g25 (r32_c rfl) (off := 28) (tgt := 57) rfl (dl_at t_X24_flags 17 rfl) (fun _ => ?_) (fun _ => ?_)
    · refine g_ls (ls2 := [(0, rv D a0), (1, iv x1_2), (2, iv x2_22)]) [2, 1, 0] rfl ?_
      exact J57 () trivial
    refine g_iload_n (pc := 32) X (j := 2) (i := 2) (q := 0) (x := x2_22) rfl rfl (dl_at t_X24_flags 18 rfl) ?_
    refine g_join (γ := Unit) (fun q => True) 53 (fun q => [(0, rv D a0), (1, iv x1_2), (2, iv x2_22)]) (fun q => []) (fun q => h_2) (fun q => m_X24_flags_j53 x2_22 x1_2 a0 h_2) ?_ ?_
    · rintro _ _
      try dsimp only
      unfold m_X24_flags_j53
      refine g_iconst (pc := 53) X (n := 1) (dl_at t_X24_flags 29 rfl) ?_
      refine g_goto (pc := 54) X (off := 4) (tgt := 58) rfl (dl_at t_X24_flags 30 rfl) ?_
      exact J58 1 (Or.inr rfl)
    intro J53
    refine g_iflt (pc := 33) X r2_22 (off := 20) (tgt := 53) rfl (dl_at t_X24_flags 19 rfl) (fun _ => ?_) (fun _ => ?_)
    · refine g_ls (ls2 := [(0, rv D a0), (1, iv x1_2), (2, iv x2_22)]) [2, 1, 0] rfl ?_
      exact J53 () trivial
    refine g_aload_n (pc := 36) X (j := 0) (i := 0) (q := 2) (x := a0) rfl rfl (dl_at t_X24_flags 20 rfl) ?_
    refine r_getr (pc := 37) X fX24_9 k4 q3662 (dl_at t_X24_flags 21 rfl) ?_
    refine g_iload_n (pc := 40) X (j := 2) (i := 2) (q := 0) (x := x2_22) rfl rfl (dl_at t_X24_flags 22 rfl) ?_
    refine g_gd fun k41 => ?_
    refine g_zald (pc := 41) X r2_22 k41 (dl_at t_X24_flags 23 rfl) fun g41 => ?_
    refine g_ifeq (pc := 42) X (r32_z g41) (off := 15) (tgt := 57) rfl (dl_at t_X24_flags 24 rfl) (fun _ => ?_) (fun _ => ?_)
    · refine g_ls (ls2 := [(0, rv D a0), (1, iv x1_2), (2, iv x2_22)]) [2, 1, 0] rfl ?_
      exact J57 () trivial
    refine g_aload_n (pc := 45) X (j := 0) (i := 0) (q := 2) (x := a0) rfl rfl (dl_at t_X24_flags 25 rfl) ?_
    refine g_iload_n (pc := 46) X (j := 2) (i := 2) (q := 0) (x := x2_22) rfl rfl (dl_at t_X24_flags 26 rfl) ?_
    refine r_callRz (pc := 47) X (fun _ hv => s_X24_isMute k4 r2_22 hv) cw_code q4721 q378 (in_Vk X (As := [iv x2_22]) kX24 k4 (Or.inl q4718) q4720 qs279 cw_code q4721 ⟨by decide, by decide⟩ rfl (dl_at t_X24_flags 27 rfl)) (dl_at t_X24_flags 27 rfl) (cat24 (st := []) (Nat.le_of_ble_eq_true rfl)) (Nat.le_of_ble_eq_true rfl) (Nat.le_of_ble_eq_true rfl) fun v47 g47 => ?_
    refine g_ifne (pc := 50) X (r32_z g47) (off := 7) (tgt := 57) rfl (dl_at t_X24_flags 28 rfl) (fun _ => ?_) (fun _ => ?_)
    · refine g_ls (ls2 := [(0, rv D a0), (1, iv x1_2), (2, iv x2_22)]) [2, 1, 0] rfl ?_
      exact J57 () trivial
    refine g_ls (ls2 := [(0, rv D a0), (1, iv x1_2), (2, iv x2_22)]) [2, 1, 0] rfl ?_
    exact J53 () trivial
def k_X24_count : List (Nat × Instr × Nat) := [(0, .iconst 0, 1), (1, .istore_n 1, 1), (2, .iload_n 1, 1), (3, .bipush 12, 2), (5, .if_icmp .ge 16, 3), (8, .aload_n 0, 1), (9, .getfield 90, 3), (12, .iload_n 1, 1), (13, .iconst 0, 1), (14, .iastore, 1), (15, .iinc 1 1, 3), (18, .goto (-16), 3), (21, .iconst 0, 1), (22, .istore_n 1, 1), (23, .iload_n 1, 1), (24, .aload_n 0, 1), (25, .getfield 12, 3), (28, .getfield 119, 3), (31, .if_icmp .ge 87, 3), (34, .aload_n 0, 1), (35, .getfield 35, 3), (38, .iload_n 1, 1), (39, .iconst 0, 1), (40, .iastore, 1), (41, .aload_n 0, 1), (42, .getfield 44, 3), (45, .iload_n 1, 1), (46, .baload, 1), (47, .ifCond .ne 6, 3), (50, .goto 62, 3), (53, .aload_n 0, 1), (54, .iload_n 1, 1), (55, .bipush 16, 2), (57, .invokevirtual 227, 3), (60, .istore_n 2, 1), (61, .aload_n 0, 1), (62, .iload_n 1, 1), (63, .bipush 15, 2), (65, .invokevirtual 227, 3), (68, .istore_n 3, 1), (69, .iload_n 2, 1), (70, .ifCond .le 12, 3), (73, .aload_n 0, 1), (74, .getfield 90, 3), (77, .iload_n 2, 1), (78, .iconst 1, 1), (79, .isub, 1), (80, .iconst 0, 1), (81, .iastore, 1), (82, .iload_n 3, 1), (83, .ifCond .le 29, 3), (86, .aload_n 0, 1), (87, .getfield 90, 3), (90, .iload_n 3, 1), (91, .iconst 1, 1), (92, .isub, 1), (93, .dup2, 1), (94, .iaload, 1), (95, .iconst 1, 1), (96, .iadd, 1), (97, .iastore, 1), (98, .aload_n 0, 1), (99, .getfield 35, 3), (102, .iload_n 1, 1), (103, .aload_n 0, 1), (104, .getfield 90, 3), (107, .iload_n 3, 1), (108, .iconst 1, 1), (109, .isub, 1), (110, .iaload, 1), (111, .iastore, 1), (112, .iinc 1 1, 3), (115, .goto (-92), 3), (118, .return_, 1)]
theorem t_X24_count : ∀ q ∈ k_X24_count, decode cX24_count q.1 = .ok q.2 := dl_all (by decide +kernel)
noncomputable def m_X24_count_l2 (a0 x1_2 : Int) (h_2 : Hp) : Option ((Int × Hp) ⊕ ((Hp))) :=
  if 12 ≤ x1_2 then (some (.inr h_2))
  else (gd (h_2 (h_2 a0 24) (-2) % 16 = 1 ∧ (0 : Int) ≤ x1_2 ∧ x1_2 < h_2 (h_2 a0 24) (-1)) (pt h_2 (h_2 a0 24) x1_2 0 fun h14 =>
  lt_ (w32 (x1_2 + 1)) fun x1_15 =>
  some (.inl (x1_15, h14))))
noncomputable def m_X24_count_j112 (x1_23 : Int) (h_112 : Hp) : Option ((Int × Hp) ⊕ ((Hp))) :=
  lt_ (w32 (x1_23 + 1)) fun x1_112 =>
  some (.inl (x1_112, h_112))
noncomputable def m_X24_count_j82 (v65 x1_23 a0 : Int) (h_82 : Hp) : Option ((Int × Hp) ⊕ ((Hp))) :=
  if v65 ≤ 0 then (m_X24_count_j112 x1_23 h_82)
  else (gd (h_82 (h_82 a0 24) (-2) % 16 = 1 ∧ (0 : Int) ≤ (w32 (v65 - 1)) ∧ (w32 (v65 - 1)) < h_82 (h_82 a0 24) (-1)) (pt h_82 (h_82 a0 24) (w32 (v65 - 1)) (w32 ((h_82 (h_82 a0 24) (w32 (v65 - 1))) + 1)) fun h97 =>
  gd (h97 (h97 a0 24) (-2) % 16 = 1 ∧ (0 : Int) ≤ (w32 (v65 - 1)) ∧ (w32 (v65 - 1)) < h97 (h97 a0 24) (-1)) (gd (h97 (h97 a0 6) (-2) % 16 = 1 ∧ (0 : Int) ≤ x1_23 ∧ x1_23 < h97 (h97 a0 6) (-1)) (pt h97 (h97 a0 6) x1_23 (h97 (h97 a0 24) (w32 (v65 - 1))) fun h111 =>
  m_X24_count_j112 x1_23 h111))))
noncomputable def m_X24_count_l23 (a0 x1_23 : Int) (h_23 : Hp) : Option ((Int × Hp) ⊕ ((Hp))) :=
  gd (h_23 (h_23 a0 0) (-2) = 384) (if (h_23 (h_23 a0 0) 3) ≤ x1_23 then (some (.inr h_23))
  else (gd (h_23 (h_23 a0 6) (-2) % 16 = 1 ∧ (0 : Int) ≤ x1_23 ∧ x1_23 < h_23 (h_23 a0 6) (-1)) (pt h_23 (h_23 a0 6) x1_23 0 fun h40 =>
  gd (h40 (h40 a0 9) (-2) % 16 = 3 ∧ (0 : Int) ≤ x1_23 ∧ x1_23 < h40 (h40 a0 9) (-1)) (if (h40 (h40 a0 9) x1_23) ≠ 0 then ((m_X24_of a0 x1_23 16 h40).bind fun v57 =>
  (m_X24_of a0 x1_23 15 h40).bind fun v65 =>
  if v57 ≤ 0 then (m_X24_count_j82 v65 x1_23 a0 h40)
  else (gd (h40 (h40 a0 24) (-2) % 16 = 1 ∧ (0 : Int) ≤ (w32 (v57 - 1)) ∧ (w32 (v57 - 1)) < h40 (h40 a0 24) (-1)) (pt h40 (h40 a0 24) (w32 (v57 - 1)) 0 fun h81 =>
  m_X24_count_j82 v65 x1_23 a0 h81)))
  else (m_X24_count_j112 x1_23 h40)))))
noncomputable def m_X24_count (a0 : Int) (h : Hp) : Option (Hp) :=
  lt_ 0 fun x1_1 =>
  (lp (fun (q : Int × Hp) => m_X24_count_l2 a0 q.1 q.2) (x1_1, h)).bind (fun (y21 : Hp) => lt_ 0 fun x1_22 =>
  (lp (fun (q : Int × Hp) => m_X24_count_l23 a0 q.1 q.2) (x1_22, y21)).bind (fun (x : Hp) => some x))
theorem s_X24_count {l : Launch} [NoTr l] {D : SD} {a0 : Int} {h : Hp} (hk : h a0 (-2) = 400) {r : Hp} (hm : m_X24_count a0 h = some r) : Sim l D yX24_count (Cond.code yX24_count cX24_count 4 (Option.none : Option Jvm.ClassFile.FieldType)) 2 74 [rv D a0] h 0 ((0, 0), r) := by
  refine Sim.of (fin := fun (v : Hp) => ((0, 0), v)) (lsE := [(0, rv D a0)]) hm rfl cwS_code (la_r la_n) (ll_r ll_n) ?_
  intro p e s m below meth c X hcw hmm hcc hnm hname
  unfold m_X24_count
  refine g_iconst (pc := 0) X (n := 0) (dl_at t_X24_count 0 rfl) ?_
  refine g_ltz (Or.inl rfl) fun x1_1 r1_1 => ?_
  refine g_istore_nN (pc := 1) X (j := 1) (i := 1) (x := x1_1) (b := 0) (w := rv D a0) (rest := []) rfl (Nat.le_of_ble_eq_true rfl) [0] rfl (by decide) rv_cat rfl (dl_at t_X24_count 1 rfl) ?_
  refine g_ls (ls2 := [(0, rv D a0), (1, iv x1_1)]) [1, 0] rfl ?_
  refine g_loop1 (fun (q : Int × Hp) => [(0, rv D a0), (1, iv q.1)]) (fun (q : Int × Hp) => q.2) (fun (q : Int × Hp) => r32 q.1 ∧ Ext h q.2) 21 (fun (y21 : Hp) => [(0, rv D a0)]) (fun (y21 : Hp) => y21) (fun (y21 : Hp) => Ext h y21) (x1_1, h) ⟨(r32_z r1_1), (Ext.refl _)⟩ ?_ ?_
  · rintro ⟨x1_2, h_2⟩ ⟨r1_2, E_2⟩
    try dsimp only
    unfold m_X24_count_l2
    refine g_iload_n (pc := 2) X (j := 1) (i := 1) (q := 1) (x := x1_2) rfl rfl (dl_at t_X24_count 2 rfl) ?_
    refine g_bipush (pc := 3) X (n := 12) rfl (dl_at t_X24_count 3 rfl) ?_
    refine g_icmpge (pc := 5) X r1_2 (r32_c rfl) (off := 16) (tgt := 21) rfl (dl_at t_X24_count 4 rfl) (fun _ => ?_) (fun _ => ?_)
    · refine g_ls (ls2 := [(0, rv D a0)]) [0] rfl ?_
      exact g_at fun Q hQ => hQ E_2
    refine g_aload_n (pc := 8) X (j := 0) (i := 0) (q := 0) (x := a0) rfl rfl (dl_at t_X24_count 5 rfl) ?_
    have k9 := kx E_2 (by decide) hk
    refine r_getr (pc := 9) X fX24_24 k9 q3686 (dl_at t_X24_count 6 rfl) ?_
    refine g_iload_n (pc := 12) X (j := 1) (i := 1) (q := 1) (x := x1_2) rfl rfl (dl_at t_X24_count 7 rfl) ?_
    refine g_iconst (pc := 13) X (n := 0) (dl_at t_X24_count 8 rfl) ?_
    refine g_gd fun k14 => ?_
    refine r_iast (pc := 14) X r1_2 (r32_c rfl) k14 (dl_at t_X24_count 9 rfl) (fun h14 E14 => ?_)
    refine r_iincN (pc := 15) X (i := 1) (q := 1) (n := 1) (x := x1_2) (b := 0) (w := rv D a0) (rest := []) rfl r1_2 (r32_c rfl) (Nat.le_of_ble_eq_true rfl) [0] rfl (by decide) rv_cat rfl (dl_at t_X24_count 10 rfl) fun x1_15 r1_15 => ?_
    refine g_goto (pc := 18) X (off := (-16)) (tgt := 2) rfl (dl_at t_X24_count 11 rfl) ?_
    refine g_ls (ls2 := [(0, rv D a0), (1, iv x1_15)]) [1, 0] rfl ?_
    exact g_at fun Q hQ => hQ ⟨r1_15, (E_2.trans E14)⟩
  · rintro h_21 E_21
    try dsimp only [sE]
    refine g_iconst (pc := 21) X (n := 0) (dl_at t_X24_count 12 rfl) ?_
    refine g_ltz (Or.inl rfl) fun x1_22 r1_22 => ?_
    refine g_istore_nN (pc := 22) X (j := 1) (i := 1) (x := x1_22) (b := 0) (w := rv D a0) (rest := []) rfl (Nat.le_of_ble_eq_true rfl) [0] rfl (by decide) rv_cat rfl (dl_at t_X24_count 13 rfl) ?_
    refine g_ls (ls2 := [(0, rv D a0), (1, iv x1_22)]) [1, 0] rfl ?_
    refine g_loop0F (fun (q : Int × Hp) => [(0, rv D a0), (1, iv q.1)]) (fun (q : Int × Hp) => q.2) (fun (q : Int × Hp) => r32 q.1 ∧ Ext h_21 q.2) (x1_22, h_21) ⟨(r32_z r1_22), (Ext.refl _)⟩ ?_ (fun _ => rfl)
    · rintro ⟨x1_23, h_23⟩ ⟨r1_23, E_23⟩
      try dsimp only
      unfold m_X24_count_l23
      refine g_iload_n (pc := 23) X (j := 1) (i := 1) (q := 1) (x := x1_23) rfl rfl (dl_at t_X24_count 14 rfl) ?_
      refine g_aload_n (pc := 24) X (j := 0) (i := 0) (q := 0) (x := a0) rfl rfl (dl_at t_X24_count 15 rfl) ?_
      have k25 := kx (E_21.trans E_23) (by decide) hk
      refine r_getr (pc := 25) X fX24_0 k25 q3642 (dl_at t_X24_count 16 rfl) ?_
      refine g_gd fun k28 => ?_
      refine r_geti (pc := 28) X fX23_3 k28 q3527 (dl_at t_X24_count 17 rfl) fun g28 => ?_
      refine g_icmpge (pc := 31) X r1_23 g28 (off := 87) (tgt := 118) rfl (dl_at t_X24_count 18 rfl) (fun _ => ?_) (fun _ => ?_)
      · exact g_at fun Q hQ => (g_vret (pc := 118) X (v := 0) rfl rfl (dl_at t_X24_count 73 rfl)) _ Q rfl hQ
      refine g_aload_n (pc := 34) X (j := 0) (i := 0) (q := 0) (x := a0) rfl rfl (dl_at t_X24_count 19 rfl) ?_
      refine r_getr (pc := 35) X fX24_6 k25 q3654 (dl_at t_X24_count 20 rfl) ?_
      refine g_iload_n (pc := 38) X (j := 1) (i := 1) (q := 1) (x := x1_23) rfl rfl (dl_at t_X24_count 21 rfl) ?_
      refine g_iconst (pc := 39) X (n := 0) (dl_at t_X24_count 22 rfl) ?_
      refine g_gd fun k40 => ?_
      refine r_iast (pc := 40) X r1_23 (r32_c rfl) k40 (dl_at t_X24_count 23 rfl) (fun h40 E40 => ?_)
      refine g_aload_n (pc := 41) X (j := 0) (i := 0) (q := 0) (x := a0) rfl rfl (dl_at t_X24_count 24 rfl) ?_
      have k42 := kx E40 (by decide) k25
      refine r_getr (pc := 42) X fX24_9 k42 q3662 (dl_at t_X24_count 25 rfl) ?_
      refine g_iload_n (pc := 45) X (j := 1) (i := 1) (q := 1) (x := x1_23) rfl rfl (dl_at t_X24_count 26 rfl) ?_
      refine g_gd fun k46 => ?_
      refine g_zald (pc := 46) X r1_23 k46 (dl_at t_X24_count 27 rfl) fun g46 => ?_
      refine g_join (γ := Hp) (fun q => Ext h40 q) 112 (fun q => [(0, rv D a0), (1, iv x1_23)]) (fun q => []) (fun q => q) (fun q => m_X24_count_j112 x1_23 q) ?_ ?_
      · rintro h_112 E_112
        try dsimp only
        unfold m_X24_count_j112
        refine r_iincN (pc := 112) X (i := 1) (q := 1) (n := 1) (x := x1_23) (b := 0) (w := rv D a0) (rest := []) rfl r1_23 (r32_c rfl) (Nat.le_of_ble_eq_true rfl) [0] rfl (by decide) rv_cat rfl (dl_at t_X24_count 71 rfl) fun x1_112 r1_112 => ?_
        refine g_goto (pc := 115) X (off := (-92)) (tgt := 23) rfl (dl_at t_X24_count 72 rfl) ?_
        refine g_ls (ls2 := [(0, rv D a0), (1, iv x1_112)]) [1, 0] rfl ?_
        exact g_at fun Q hQ => hQ ⟨r1_112, (E_23.trans (E40.trans E_112))⟩
      intro J112
      refine g_ifne (pc := 47) X (r32_z g46) (off := 6) (tgt := 53) rfl (dl_at t_X24_count 28 rfl) (fun _ => ?_) (fun _ => ?_)
      · refine g_aload_n (pc := 53) X (j := 0) (i := 0) (q := 0) (x := a0) rfl rfl (dl_at t_X24_count 30 rfl) ?_
        refine g_iload_n (pc := 54) X (j := 1) (i := 1) (q := 1) (x := x1_23) rfl rfl (dl_at t_X24_count 31 rfl) ?_
        refine g_bipush (pc := 55) X (n := 16) rfl (dl_at t_X24_count 32 rfl) ?_
        refine r_callRi (pc := 57) X (fun _ hv => s_X24_of k42 r1_23 (r32_c rfl) hv) cw_code q4704 q378 (in_Vk X (As := [iv x1_23, iv 16]) kX24 k42 (Or.inl q4701) q4702 q4703 cw_code q4704 ⟨by decide, by decide⟩ rfl (dl_at t_X24_count 33 rfl)) (dl_at t_X24_count 33 rfl) (cat24 (st := []) (Nat.le_of_ble_eq_true rfl)) (Nat.le_of_ble_eq_true rfl) (Nat.le_of_ble_eq_true rfl) fun v57 g57 => ?_
        refine g_istore_nN (pc := 60) X (j := 2) (i := 2) (x := v57) (b := 1) (w := iv x1_23) (rest := [(0, rv D a0)]) rfl (Nat.le_of_ble_eq_true rfl) [1, 0] rfl (by decide) rfl rfl (dl_at t_X24_count 34 rfl) ?_
        refine g_aload_n (pc := 61) X (j := 0) (i := 0) (q := 2) (x := a0) rfl rfl (dl_at t_X24_count 35 rfl) ?_
        refine g_iload_n (pc := 62) X (j := 1) (i := 1) (q := 1) (x := x1_23) rfl rfl (dl_at t_X24_count 36 rfl) ?_
        refine g_bipush (pc := 63) X (n := 15) rfl (dl_at t_X24_count 37 rfl) ?_
        refine r_callRi (pc := 65) X (fun _ hv => s_X24_of k42 r1_23 (r32_c rfl) hv) cw_code q4704 q378 (in_Vk X (As := [iv x1_23, iv 15]) kX24 k42 (Or.inl q4701) q4702 q4703 cw_code q4704 ⟨by decide, by decide⟩ rfl (dl_at t_X24_count 38 rfl)) (dl_at t_X24_count 38 rfl) (cat24 (st := []) (Nat.le_of_ble_eq_true rfl)) (Nat.le_of_ble_eq_true rfl) (Nat.le_of_ble_eq_true rfl) fun v65 g65 => ?_
        refine g_istore_nN (pc := 68) X (j := 3) (i := 3) (x := v65) (b := 2) (w := iv v57) (rest := [(1, iv x1_23), (0, rv D a0)]) rfl (Nat.le_of_ble_eq_true rfl) [0, 1, 2] rfl (by decide) rfl rfl (dl_at t_X24_count 39 rfl) ?_
        refine g_iload_n (pc := 69) X (j := 2) (i := 2) (q := 1) (x := v57) rfl rfl (dl_at t_X24_count 40 rfl) ?_
        refine g_join (γ := Hp) (fun q => Ext h40 q) 82 (fun q => [(0, rv D a0), (1, iv x1_23), (3, iv v65)]) (fun q => []) (fun q => q) (fun q => m_X24_count_j82 v65 x1_23 a0 q) ?_ ?_
        · rintro h_82 E_82
          try dsimp only
          unfold m_X24_count_j82
          refine g_iload_n (pc := 82) X (j := 3) (i := 3) (q := 2) (x := v65) rfl rfl (dl_at t_X24_count 49 rfl) ?_
          refine g_ifle (pc := 83) X g65 (off := 29) (tgt := 112) rfl (dl_at t_X24_count 50 rfl) (fun _ => ?_) (fun _ => ?_)
          · refine g_ls (ls2 := [(0, rv D a0), (1, iv x1_23)]) [0, 1] rfl ?_
            exact J112 h_82 E_82
          refine g_aload_n (pc := 86) X (j := 0) (i := 0) (q := 0) (x := a0) rfl rfl (dl_at t_X24_count 51 rfl) ?_
          have k87 := kx E_82 (by decide) k42
          refine r_getr (pc := 87) X fX24_24 k87 q3686 (dl_at t_X24_count 52 rfl) ?_
          refine g_iload_n (pc := 90) X (j := 3) (i := 3) (q := 2) (x := v65) rfl rfl (dl_at t_X24_count 53 rfl) ?_
          refine g_iconst (pc := 91) X (n := 1) (dl_at t_X24_count 54 rfl) ?_
          refine g_isub (pc := 92) X g65 (r32_c rfl) (dl_at t_X24_count 55 rfl) ?_
          refine g_dup2 (pc := 93) X rfl rv_cat (dl_at t_X24_count 56 rfl) ?_
          refine g_gd fun k94 => ?_
          refine g_iald (pc := 94) X (r32_w _) k94 (dl_at t_X24_count 57 rfl) fun g94 => ?_
          refine g_iconst (pc := 95) X (n := 1) (dl_at t_X24_count 58 rfl) ?_
          refine g_iadd (pc := 96) X g94 (r32_c rfl) (dl_at t_X24_count 59 rfl) ?_
          refine r_iast (pc := 97) X (r32_w _) (r32_w _) k94 (dl_at t_X24_count 60 rfl) (fun h97 E97 => ?_)
          refine g_aload_n (pc := 98) X (j := 0) (i := 0) (q := 0) (x := a0) rfl rfl (dl_at t_X24_count 61 rfl) ?_
          have k99 := kx E97 (by decide) k87
          refine r_getr (pc := 99) X fX24_6 k99 q3654 (dl_at t_X24_count 62 rfl) ?_
          refine g_iload_n (pc := 102) X (j := 1) (i := 1) (q := 1) (x := x1_23) rfl rfl (dl_at t_X24_count 63 rfl) ?_
          refine g_aload_n (pc := 103) X (j := 0) (i := 0) (q := 0) (x := a0) rfl rfl (dl_at t_X24_count 64 rfl) ?_
          refine r_getr (pc := 104) X fX24_24 k99 q3686 (dl_at t_X24_count 65 rfl) ?_
          refine g_iload_n (pc := 107) X (j := 3) (i := 3) (q := 2) (x := v65) rfl rfl (dl_at t_X24_count 66 rfl) ?_
          refine g_iconst (pc := 108) X (n := 1) (dl_at t_X24_count 67 rfl) ?_
          refine g_isub (pc := 109) X g65 (r32_c rfl) (dl_at t_X24_count 68 rfl) ?_
          refine g_gd fun k110 => ?_
          refine g_iald (pc := 110) X (r32_w _) k110 (dl_at t_X24_count 69 rfl) fun g110 => ?_
          refine g_gd fun k111 => ?_
          refine r_iast (pc := 111) X r1_23 g110 k111 (dl_at t_X24_count 70 rfl) (fun h111 E111 => ?_)
          refine g_ls (ls2 := [(0, rv D a0), (1, iv x1_23)]) [0, 1] rfl ?_
          exact J112 h111 (E_82.trans (E97.trans E111))
        intro J82
        refine g_ifle (pc := 70) X g57 (off := 12) (tgt := 82) rfl (dl_at t_X24_count 41 rfl) (fun _ => ?_) (fun _ => ?_)
        · refine g_ls (ls2 := [(0, rv D a0), (1, iv x1_23), (3, iv v65)]) [3, 2, 0] rfl ?_
          exact J82 h40 (Ext.refl _)
        refine g_aload_n (pc := 73) X (j := 0) (i := 0) (q := 3) (x := a0) rfl rfl (dl_at t_X24_count 42 rfl) ?_
        refine r_getr (pc := 74) X fX24_24 k42 q3686 (dl_at t_X24_count 43 rfl) ?_
        refine g_iload_n (pc := 77) X (j := 2) (i := 2) (q := 1) (x := v57) rfl rfl (dl_at t_X24_count 44 rfl) ?_
        refine g_iconst (pc := 78) X (n := 1) (dl_at t_X24_count 45 rfl) ?_
        refine g_isub (pc := 79) X g57 (r32_c rfl) (dl_at t_X24_count 46 rfl) ?_
        refine g_iconst (pc := 80) X (n := 0) (dl_at t_X24_count 47 rfl) ?_
        refine g_gd fun k81 => ?_
        refine r_iast (pc := 81) X (r32_w _) (r32_c rfl) k81 (dl_at t_X24_count 48 rfl) (fun h81 E81 => ?_)
        refine g_ls (ls2 := [(0, rv D a0), (1, iv x1_23), (3, iv v65)]) [3, 2, 0] rfl ?_
        exact J82 h81 E81
      refine g_goto (pc := 50) X (off := 62) (tgt := 112) rfl (dl_at t_X24_count 29 rfl) ?_
      exact J112 h40 (Ext.refl _)
def k_X24_make : List (Nat × Instr × Nat) := [(0, .aload_n 0, 1), (1, .getfield 12, 3), (4, .aload_n 1, 1), (5, .invokevirtual 106, 3), (8, .iconst 0, 1), (9, .istore_n 3, 1), (10, .iload_n 3, 1), (11, .sipush 16384, 3), (14, .if_icmp .ge 21, 3), (17, .aload_n 0, 1), (18, .getfield 18, 3), (21, .iload_n 3, 1), (22, .aload_n 2, 1), (23, .getfield 110, 3), (26, .iload_n 3, 1), (27, .baload, 1), (28, .bastore, 1), (29, .iinc 3 1, 3), (32, .goto (-22), 3), (35, .iconst 0, 1), (36, .istore_n 3, 1), (37, .iload_n 3, 1), (38, .bipush 6, 2), (40, .if_icmp .ge 21, 3), (43, .aload_n 0, 1), (44, .getfield 22, 3), (47, .iload_n 3, 1), (48, .aload_n 2, 1), (49, .getfield 115, 3), (52, .iload_n 3, 1), (53, .iaload, 1), (54, .iastore, 1), (55, .iinc 3 1, 3), (58, .goto (-21), 3), (61, .aload_n 0, 1), (62, .invokevirtual 116, 3), (65, .iconst 0, 1), (66, .istore_n 3, 1), (67, .iload_n 3, 1), (68, .bipush 22, 2), (70, .aload_n 0, 1), (71, .getfield 12, 3), (74, .getfield 119, 3), (77, .imul, 1), (78, .if_icmp .ge 16, 3), (81, .aload_n 0, 1), (82, .getfield 66, 3), (85, .iload_n 3, 1), (86, .iconst (-1), 1), (87, .iastore, 1), (88, .iinc 3 1, 3), (91, .goto (-24), 3), (94, .iconst 0, 1), (95, .istore_n 3, 1), (96, .iload_n 3, 1), (97, .aload_n 0, 1), (98, .getfield 12, 3), (101, .getfield 119, 3), (104, .if_icmp .ge 23, 3), (107, .aload_n 0, 1), (108, .getfield 29, 3), (111, .iload_n 3, 1), (112, .iconst 0, 1), (113, .iastore, 1), (114, .aload_n 0, 1), (115, .getfield 32, 3), (118, .iload_n 3, 1), (119, .iconst 0, 1), (120, .iastore, 1), (121, .iinc 3 1, 3), (124, .goto (-28), 3), (127, .iconst 0, 1), (128, .istore_n 3, 1), (129, .iload_n 3, 1), (130, .aload_n 2, 1), (131, .getfield 123, 3), (134, .if_icmp .ge 15, 3), (137, .aload_n 0, 1), (138, .aload_n 2, 1), (139, .iload_n 3, 1), (140, .invokevirtual 126, 3), (143, .iinc 3 1, 3), (146, .goto (-17), 3), (149, .aload_n 0, 1), (150, .invokevirtual 130, 3), (153, .aload_n 0, 1), (154, .invokevirtual 133, 3), (157, .aload_n 0, 1), (158, .invokevirtual 136, 3), (161, .return_, 1)]
theorem t_X24_make : ∀ q ∈ k_X24_make, decode cX24_make q.1 = .ok q.2 := dl_all (by decide +kernel)
noncomputable def m_X24_make_l10 (a0 a2 x3_10 : Int) (h_10 : Hp) : Option ((Int × Hp) ⊕ ((Hp))) :=
  if 16384 ≤ x3_10 then (some (.inr h_10))
  else (gd (h_10 a2 (-2) = 368) (gd (h_10 (h_10 a2 0) (-2) % 16 = 2 ∧ (0 : Int) ≤ x3_10 ∧ x3_10 < h_10 (h_10 a2 0) (-1)) (gd (h_10 (h_10 a0 1) (-2) % 16 = 2 ∧ (0 : Int) ≤ x3_10 ∧ x3_10 < h_10 (h_10 a0 1) (-1)) (pt h_10 (h_10 a0 1) x3_10 (h_10 (h_10 a2 0) x3_10) fun h28 =>
  lt_ (w32 (x3_10 + 1)) fun x3_29 =>
  some (.inl (x3_29, h28))))))
noncomputable def m_X24_make_l37 (a0 a2 x3_37 : Int) (h_37 : Hp) : Option ((Int × Hp) ⊕ ((Hp))) :=
  if 6 ≤ x3_37 then (some (.inr h_37))
  else (gd (h_37 a2 (-2) = 368) (gd (h_37 (h_37 a2 2) (-2) % 16 = 1 ∧ (0 : Int) ≤ x3_37 ∧ x3_37 < h_37 (h_37 a2 2) (-1)) (gd (h_37 (h_37 a0 2) (-2) % 16 = 1 ∧ (0 : Int) ≤ x3_37 ∧ x3_37 < h_37 (h_37 a0 2) (-1)) (pt h_37 (h_37 a0 2) x3_37 (h_37 (h_37 a2 2) x3_37) fun h54 =>
  lt_ (w32 (x3_37 + 1)) fun x3_55 =>
  some (.inl (x3_55, h54))))))
noncomputable def m_X24_make_l67 (a0 x3_67 : Int) (h_67 : Hp) : Option ((Int × Hp) ⊕ ((Hp))) :=
  gd (h_67 (h_67 a0 0) (-2) = 384) (if (w32 (22 * (h_67 (h_67 a0 0) 3))) ≤ x3_67 then (some (.inr h_67))
  else (gd (h_67 (h_67 a0 16) (-2) % 16 = 1 ∧ (0 : Int) ≤ x3_67 ∧ x3_67 < h_67 (h_67 a0 16) (-1)) (pt h_67 (h_67 a0 16) x3_67 (-1) fun h87 =>
  lt_ (w32 (x3_67 + 1)) fun x3_88 =>
  some (.inl (x3_88, h87)))))
noncomputable def m_X24_make_l96 (a0 x3_96 : Int) (h_96 : Hp) : Option ((Int × Hp) ⊕ ((Hp))) :=
  gd (h_96 (h_96 a0 0) (-2) = 384) (if (h_96 (h_96 a0 0) 3) ≤ x3_96 then (some (.inr h_96))
  else (gd (h_96 (h_96 a0 4) (-2) % 16 = 1 ∧ (0 : Int) ≤ x3_96 ∧ x3_96 < h_96 (h_96 a0 4) (-1)) (pt h_96 (h_96 a0 4) x3_96 0 fun h113 =>
  gd (h113 (h113 a0 5) (-2) % 16 = 1 ∧ (0 : Int) ≤ x3_96 ∧ x3_96 < h113 (h113 a0 5) (-1)) (pt h113 (h113 a0 5) x3_96 0 fun h120 =>
  lt_ (w32 (x3_96 + 1)) fun x3_121 =>
  some (.inl (x3_121, h120))))))
noncomputable def m_X24_make_l129 (a0 a2 x3_129 : Int) (h_129 : Hp) : Option ((Int × Hp) ⊕ ((Hp))) :=
  gd (h_129 a2 (-2) = 368) (if (h_129 a2 3) ≤ x3_129 then ((m_X24_inherit a0 h_129).bind fun h150 =>
  (m_X24_flags a0 h150).bind fun h154 =>
  (m_X24_count a0 h154).bind fun h158 =>
  some (.inr h158))
  else ((m_X24_apply a0 a2 x3_129 h_129).bind fun h140 =>
  lt_ (w32 (x3_129 + 1)) fun x3_143 =>
  some (.inl (x3_143, h140))))
noncomputable def m_X24_make (a0 a1 a2 : Int) (h : Hp) : Option (Hp) :=
  gd (h (h a0 0) (-2) = 384) ((m_X23_copy (h a0 0) a1 h).bind fun h5 =>
  lt_ 0 fun x3_9 =>
  (lp (fun (q : Int × Hp) => m_X24_make_l10 a0 a2 q.1 q.2) (x3_9, h5)).bind (fun (y35 : Hp) => lt_ 0 fun x3_36 =>
  (lp (fun (q : Int × Hp) => m_X24_make_l37 a0 a2 q.1 q.2) (x3_36, y35)).bind (fun (y61 : Hp) => (m_X24_relations a0 y61).bind fun h62 =>
  lt_ 0 fun x3_66 =>
  (lp (fun (q : Int × Hp) => m_X24_make_l67 a0 q.1 q.2) (x3_66, h62)).bind (fun (y94 : Hp) => lt_ 0 fun x3_95 =>
  (lp (fun (q : Int × Hp) => m_X24_make_l96 a0 q.1 q.2) (x3_95, y94)).bind (fun (y127 : Hp) => lt_ 0 fun x3_128 =>
  (lp (fun (q : Int × Hp) => m_X24_make_l129 a0 a2 q.1 q.2) (x3_128, y127)).bind (fun (x : Hp) => some x))))))
theorem s_X24_make {l : Launch} [NoTr l] {D : SD} {a0 a1 a2 : Int} {h : Hp} (hk : h a0 (-2) = 400) {r : Hp} (hm : m_X24_make a0 a1 a2 h = some r) : Sim l D yX24_make (Cond.code yX24_make cX24_make 4 (Option.none : Option Jvm.ClassFile.FieldType)) 4 168 [rv D a0, rv D a1, rv D a2] h 0 ((0, 0), r) := by
  refine Sim.of (fin := fun (v : Hp) => ((0, 0), v)) (lsE := [(0, rv D a0), (1, rv D a1), (2, rv D a2)]) hm rfl cwS_code (la_r (la_r (la_r la_n))) (ll_r (ll_r (ll_r ll_n))) ?_
  intro p e s m below meth c X hcw hmm hcc hnm hname
  unfold m_X24_make
  refine g_aload_n (pc := 0) X (j := 0) (i := 0) (q := 0) (x := a0) rfl rfl (dl_at t_X24_make 0 rfl) ?_
  refine r_getr (pc := 1) X fX24_0 hk q3642 (dl_at t_X24_make 1 rfl) ?_
  refine g_aload_n (pc := 4) X (j := 1) (i := 1) (q := 1) (x := a1) rfl rfl (dl_at t_X24_make 2 rfl) ?_
  refine g_gd fun k5 => ?_
  refine r_callV (pc := 5) X (fun _ hv => s_X23_copy k5 hv) cw_code q4672 q377 (in_Vk X (As := [rv D a1]) kX23 k5 (Or.inl q4669) q4670 q4671 cw_code q4672 ⟨by decide, by decide⟩ rfl (dl_at t_X24_make 3 rfl)) (dl_at t_X24_make 3 rfl) (cat24 (st := []) (Nat.le_of_ble_eq_true rfl)) (Nat.le_of_ble_eq_true rfl) (Nat.le_of_ble_eq_true rfl) fun h5 E5 => ?_
  refine g_iconst (pc := 8) X (n := 0) (dl_at t_X24_make 4 rfl) ?_
  refine g_ltz (Or.inl rfl) fun x3_9 r3_9 => ?_
  refine g_istore_nN (pc := 9) X (j := 3) (i := 3) (x := x3_9) (b := 2) (w := rv D a2) (rest := [(0, rv D a0)]) rfl (Nat.le_of_ble_eq_true rfl) [2, 0] rfl (by decide) rv_cat rfl (dl_at t_X24_make 5 rfl) ?_
  refine g_ls (ls2 := [(0, rv D a0), (2, rv D a2), (3, iv x3_9)]) [2, 1, 0] rfl ?_
  refine g_loop1 (fun (q : Int × Hp) => [(0, rv D a0), (2, rv D a2), (3, iv q.1)]) (fun (q : Int × Hp) => q.2) (fun (q : Int × Hp) => r32 q.1 ∧ Ext h5 q.2) 35 (fun (y35 : Hp) => [(0, rv D a0), (2, rv D a2)]) (fun (y35 : Hp) => y35) (fun (y35 : Hp) => Ext h5 y35) (x3_9, h5) ⟨(r32_z r3_9), (Ext.refl _)⟩ ?_ ?_
  · rintro ⟨x3_10, h_10⟩ ⟨r3_10, E_10⟩
    try dsimp only
    unfold m_X24_make_l10
    refine g_iload_n (pc := 10) X (j := 3) (i := 3) (q := 2) (x := x3_10) rfl rfl (dl_at t_X24_make 6 rfl) ?_
    refine g_sipush (pc := 11) X (n := 16384) rfl (dl_at t_X24_make 7 rfl) ?_
    refine g_icmpge (pc := 14) X r3_10 (r32_c rfl) (off := 21) (tgt := 35) rfl (dl_at t_X24_make 8 rfl) (fun _ => ?_) (fun _ => ?_)
    · refine g_ls (ls2 := [(0, rv D a0), (2, rv D a2)]) [0, 1] rfl ?_
      exact g_at fun Q hQ => hQ E_10
    refine g_aload_n (pc := 17) X (j := 0) (i := 0) (q := 0) (x := a0) rfl rfl (dl_at t_X24_make 9 rfl) ?_
    have k18 := kx (E5.trans E_10) (by decide) hk
    refine r_getr (pc := 18) X fX24_1 k18 q3644 (dl_at t_X24_make 10 rfl) ?_
    refine g_iload_n (pc := 21) X (j := 3) (i := 3) (q := 2) (x := x3_10) rfl rfl (dl_at t_X24_make 11 rfl) ?_
    refine g_aload_n (pc := 22) X (j := 2) (i := 2) (q := 1) (x := a2) rfl rfl (dl_at t_X24_make 12 rfl) ?_
    refine g_gd fun k23 => ?_
    refine r_getr (pc := 23) X fX22_0 k23 q3405 (dl_at t_X24_make 13 rfl) ?_
    refine g_iload_n (pc := 26) X (j := 3) (i := 3) (q := 2) (x := x3_10) rfl rfl (dl_at t_X24_make 14 rfl) ?_
    refine g_gd fun k27 => ?_
    refine g_bald (pc := 27) X r3_10 k27 (dl_at t_X24_make 15 rfl) fun g27 => ?_
    refine g_gd fun k28 => ?_
    refine r_bastB (pc := 28) X r3_10 g27 k28 (dl_at t_X24_make 16 rfl) (fun h28 E28 => ?_)
    refine r_iincN (pc := 29) X (i := 3) (q := 2) (n := 1) (x := x3_10) (b := 2) (w := rv D a2) (rest := [(0, rv D a0)]) rfl r3_10 (r32_c rfl) (Nat.le_of_ble_eq_true rfl) [1, 0] rfl (by decide) rv_cat rfl (dl_at t_X24_make 17 rfl) fun x3_29 r3_29 => ?_
    refine g_goto (pc := 32) X (off := (-22)) (tgt := 10) rfl (dl_at t_X24_make 18 rfl) ?_
    refine g_ls (ls2 := [(0, rv D a0), (2, rv D a2), (3, iv x3_29)]) [2, 1, 0] rfl ?_
    exact g_at fun Q hQ => hQ ⟨r3_29, (E_10.trans E28)⟩
  · rintro h_35 E_35
    try dsimp only [sE]
    refine g_iconst (pc := 35) X (n := 0) (dl_at t_X24_make 19 rfl) ?_
    refine g_ltz (Or.inl rfl) fun x3_36 r3_36 => ?_
    refine g_istore_nN (pc := 36) X (j := 3) (i := 3) (x := x3_36) (b := 2) (w := rv D a2) (rest := [(0, rv D a0)]) rfl (Nat.le_of_ble_eq_true rfl) [1, 0] rfl (by decide) rv_cat rfl (dl_at t_X24_make 20 rfl) ?_
    refine g_ls (ls2 := [(0, rv D a0), (2, rv D a2), (3, iv x3_36)]) [2, 1, 0] rfl ?_
    refine g_loop1 (fun (q : Int × Hp) => [(0, rv D a0), (2, rv D a2), (3, iv q.1)]) (fun (q : Int × Hp) => q.2) (fun (q : Int × Hp) => r32 q.1 ∧ Ext h_35 q.2) 61 (fun (y61 : Hp) => [(0, rv D a0), (2, rv D a2)]) (fun (y61 : Hp) => y61) (fun (y61 : Hp) => Ext h_35 y61) (x3_36, h_35) ⟨(r32_z r3_36), (Ext.refl _)⟩ ?_ ?_
    · rintro ⟨x3_37, h_37⟩ ⟨r3_37, E_37⟩
      try dsimp only
      unfold m_X24_make_l37
      refine g_iload_n (pc := 37) X (j := 3) (i := 3) (q := 2) (x := x3_37) rfl rfl (dl_at t_X24_make 21 rfl) ?_
      refine g_bipush (pc := 38) X (n := 6) rfl (dl_at t_X24_make 22 rfl) ?_
      refine g_icmpge (pc := 40) X r3_37 (r32_c rfl) (off := 21) (tgt := 61) rfl (dl_at t_X24_make 23 rfl) (fun _ => ?_) (fun _ => ?_)
      · refine g_ls (ls2 := [(0, rv D a0), (2, rv D a2)]) [0, 1] rfl ?_
        exact g_at fun Q hQ => hQ E_37
      refine g_aload_n (pc := 43) X (j := 0) (i := 0) (q := 0) (x := a0) rfl rfl (dl_at t_X24_make 24 rfl) ?_
      have k44 := kx (E5.trans (E_35.trans E_37)) (by decide) hk
      refine r_getr (pc := 44) X fX24_2 k44 q3646 (dl_at t_X24_make 25 rfl) ?_
      refine g_iload_n (pc := 47) X (j := 3) (i := 3) (q := 2) (x := x3_37) rfl rfl (dl_at t_X24_make 26 rfl) ?_
      refine g_aload_n (pc := 48) X (j := 2) (i := 2) (q := 1) (x := a2) rfl rfl (dl_at t_X24_make 27 rfl) ?_
      refine g_gd fun k49 => ?_
      refine r_getr (pc := 49) X fX22_2 k49 q3408 (dl_at t_X24_make 28 rfl) ?_
      refine g_iload_n (pc := 52) X (j := 3) (i := 3) (q := 2) (x := x3_37) rfl rfl (dl_at t_X24_make 29 rfl) ?_
      refine g_gd fun k53 => ?_
      refine g_iald (pc := 53) X r3_37 k53 (dl_at t_X24_make 30 rfl) fun g53 => ?_
      refine g_gd fun k54 => ?_
      refine r_iast (pc := 54) X r3_37 g53 k54 (dl_at t_X24_make 31 rfl) (fun h54 E54 => ?_)
      refine r_iincN (pc := 55) X (i := 3) (q := 2) (n := 1) (x := x3_37) (b := 2) (w := rv D a2) (rest := [(0, rv D a0)]) rfl r3_37 (r32_c rfl) (Nat.le_of_ble_eq_true rfl) [1, 0] rfl (by decide) rv_cat rfl (dl_at t_X24_make 32 rfl) fun x3_55 r3_55 => ?_
      refine g_goto (pc := 58) X (off := (-21)) (tgt := 37) rfl (dl_at t_X24_make 33 rfl) ?_
      refine g_ls (ls2 := [(0, rv D a0), (2, rv D a2), (3, iv x3_55)]) [2, 1, 0] rfl ?_
      exact g_at fun Q hQ => hQ ⟨r3_55, (E_37.trans E54)⟩
    · rintro h_61 E_61
      try dsimp only [sE]
      refine g_aload_n (pc := 61) X (j := 0) (i := 0) (q := 0) (x := a0) rfl rfl (dl_at t_X24_make 34 rfl) ?_
      have k62 := kx (E5.trans (E_35.trans E_61)) (by decide) hk
      refine r_callV (pc := 62) X (fun _ hv => s_X24_relations k62 hv) cw_code q4676 q378 (in_Vk X (As := []) kX24 k62 (Or.inl q4673) q4675 qs273 cw_code q4676 ⟨by decide, by decide⟩ rfl (dl_at t_X24_make 35 rfl)) (dl_at t_X24_make 35 rfl) (cat24 (st := []) (Nat.le_of_ble_eq_true rfl)) (Nat.le_of_ble_eq_true rfl) (Nat.le_of_ble_eq_true rfl) fun h62 E62 => ?_
      refine g_iconst (pc := 65) X (n := 0) (dl_at t_X24_make 36 rfl) ?_
      refine g_ltz (Or.inl rfl) fun x3_66 r3_66 => ?_
      refine g_istore_nN (pc := 66) X (j := 3) (i := 3) (x := x3_66) (b := 2) (w := rv D a2) (rest := [(0, rv D a0)]) rfl (Nat.le_of_ble_eq_true rfl) [1, 0] rfl (by decide) rv_cat rfl (dl_at t_X24_make 37 rfl) ?_
      refine g_ls (ls2 := [(0, rv D a0), (2, rv D a2), (3, iv x3_66)]) [2, 1, 0] rfl ?_
      refine g_loop1 (fun (q : Int × Hp) => [(0, rv D a0), (2, rv D a2), (3, iv q.1)]) (fun (q : Int × Hp) => q.2) (fun (q : Int × Hp) => r32 q.1 ∧ Ext h62 q.2) 94 (fun (y94 : Hp) => [(0, rv D a0), (2, rv D a2)]) (fun (y94 : Hp) => y94) (fun (y94 : Hp) => Ext h62 y94) (x3_66, h62) ⟨(r32_z r3_66), (Ext.refl _)⟩ ?_ ?_
      · rintro ⟨x3_67, h_67⟩ ⟨r3_67, E_67⟩
        try dsimp only
        unfold m_X24_make_l67
        refine g_iload_n (pc := 67) X (j := 3) (i := 3) (q := 2) (x := x3_67) rfl rfl (dl_at t_X24_make 38 rfl) ?_
        refine g_bipush (pc := 68) X (n := 22) rfl (dl_at t_X24_make 39 rfl) ?_
        refine g_aload_n (pc := 70) X (j := 0) (i := 0) (q := 0) (x := a0) rfl rfl (dl_at t_X24_make 40 rfl) ?_
        have k71 := kx (E62.trans E_67) (by decide) k62
        refine r_getr (pc := 71) X fX24_0 k71 q3642 (dl_at t_X24_make 41 rfl) ?_
        refine g_gd fun k74 => ?_
        refine r_geti (pc := 74) X fX23_3 k74 q3527 (dl_at t_X24_make 42 rfl) fun g74 => ?_
        refine g_imul (pc := 77) X (r32_c rfl) g74 (dl_at t_X24_make 43 rfl) ?_
        refine g_icmpge (pc := 78) X r3_67 (r32_w _) (off := 16) (tgt := 94) rfl (dl_at t_X24_make 44 rfl) (fun _ => ?_) (fun _ => ?_)
        · refine g_ls (ls2 := [(0, rv D a0), (2, rv D a2)]) [0, 1] rfl ?_
          exact g_at fun Q hQ => hQ E_67
        refine g_aload_n (pc := 81) X (j := 0) (i := 0) (q := 0) (x := a0) rfl rfl (dl_at t_X24_make 45 rfl) ?_
        refine r_getr (pc := 82) X fX24_16 k71 q3678 (dl_at t_X24_make 46 rfl) ?_
        refine g_iload_n (pc := 85) X (j := 3) (i := 3) (q := 2) (x := x3_67) rfl rfl (dl_at t_X24_make 47 rfl) ?_
        refine g_iconst (pc := 86) X (n := (-1)) (dl_at t_X24_make 48 rfl) ?_
        refine g_gd fun k87 => ?_
        refine r_iast (pc := 87) X r3_67 (r32_c rfl) k87 (dl_at t_X24_make 49 rfl) (fun h87 E87 => ?_)
        refine r_iincN (pc := 88) X (i := 3) (q := 2) (n := 1) (x := x3_67) (b := 2) (w := rv D a2) (rest := [(0, rv D a0)]) rfl r3_67 (r32_c rfl) (Nat.le_of_ble_eq_true rfl) [1, 0] rfl (by decide) rv_cat rfl (dl_at t_X24_make 50 rfl) fun x3_88 r3_88 => ?_
        refine g_goto (pc := 91) X (off := (-24)) (tgt := 67) rfl (dl_at t_X24_make 51 rfl) ?_
        refine g_ls (ls2 := [(0, rv D a0), (2, rv D a2), (3, iv x3_88)]) [2, 1, 0] rfl ?_
        exact g_at fun Q hQ => hQ ⟨r3_88, (E_67.trans E87)⟩
      · rintro h_94 E_94
        try dsimp only [sE]
        refine g_iconst (pc := 94) X (n := 0) (dl_at t_X24_make 52 rfl) ?_
        refine g_ltz (Or.inl rfl) fun x3_95 r3_95 => ?_
        refine g_istore_nN (pc := 95) X (j := 3) (i := 3) (x := x3_95) (b := 2) (w := rv D a2) (rest := [(0, rv D a0)]) rfl (Nat.le_of_ble_eq_true rfl) [1, 0] rfl (by decide) rv_cat rfl (dl_at t_X24_make 53 rfl) ?_
        refine g_ls (ls2 := [(0, rv D a0), (2, rv D a2), (3, iv x3_95)]) [2, 1, 0] rfl ?_
        refine g_loop1 (fun (q : Int × Hp) => [(0, rv D a0), (2, rv D a2), (3, iv q.1)]) (fun (q : Int × Hp) => q.2) (fun (q : Int × Hp) => r32 q.1 ∧ Ext h_94 q.2) 127 (fun (y127 : Hp) => [(0, rv D a0), (2, rv D a2)]) (fun (y127 : Hp) => y127) (fun (y127 : Hp) => Ext h_94 y127) (x3_95, h_94) ⟨(r32_z r3_95), (Ext.refl _)⟩ ?_ ?_
        · rintro ⟨x3_96, h_96⟩ ⟨r3_96, E_96⟩
          try dsimp only
          unfold m_X24_make_l96
          refine g_iload_n (pc := 96) X (j := 3) (i := 3) (q := 2) (x := x3_96) rfl rfl (dl_at t_X24_make 54 rfl) ?_
          refine g_aload_n (pc := 97) X (j := 0) (i := 0) (q := 0) (x := a0) rfl rfl (dl_at t_X24_make 55 rfl) ?_
          have k98 := kx (E62.trans (E_94.trans E_96)) (by decide) k62
          refine r_getr (pc := 98) X fX24_0 k98 q3642 (dl_at t_X24_make 56 rfl) ?_
          refine g_gd fun k101 => ?_
          refine r_geti (pc := 101) X fX23_3 k101 q3527 (dl_at t_X24_make 57 rfl) fun g101 => ?_
          refine g_icmpge (pc := 104) X r3_96 g101 (off := 23) (tgt := 127) rfl (dl_at t_X24_make 58 rfl) (fun _ => ?_) (fun _ => ?_)
          · refine g_ls (ls2 := [(0, rv D a0), (2, rv D a2)]) [0, 1] rfl ?_
            exact g_at fun Q hQ => hQ E_96
          refine g_aload_n (pc := 107) X (j := 0) (i := 0) (q := 0) (x := a0) rfl rfl (dl_at t_X24_make 59 rfl) ?_
          refine r_getr (pc := 108) X fX24_4 k98 q3650 (dl_at t_X24_make 60 rfl) ?_
          refine g_iload_n (pc := 111) X (j := 3) (i := 3) (q := 2) (x := x3_96) rfl rfl (dl_at t_X24_make 61 rfl) ?_
          refine g_iconst (pc := 112) X (n := 0) (dl_at t_X24_make 62 rfl) ?_
          refine g_gd fun k113 => ?_
          refine r_iast (pc := 113) X r3_96 (r32_c rfl) k113 (dl_at t_X24_make 63 rfl) (fun h113 E113 => ?_)
          refine g_aload_n (pc := 114) X (j := 0) (i := 0) (q := 0) (x := a0) rfl rfl (dl_at t_X24_make 64 rfl) ?_
          have k115 := kx E113 (by decide) k98
          refine r_getr (pc := 115) X fX24_5 k115 q3652 (dl_at t_X24_make 65 rfl) ?_
          refine g_iload_n (pc := 118) X (j := 3) (i := 3) (q := 2) (x := x3_96) rfl rfl (dl_at t_X24_make 66 rfl) ?_
          refine g_iconst (pc := 119) X (n := 0) (dl_at t_X24_make 67 rfl) ?_
          refine g_gd fun k120 => ?_
          refine r_iast (pc := 120) X r3_96 (r32_c rfl) k120 (dl_at t_X24_make 68 rfl) (fun h120 E120 => ?_)
          refine r_iincN (pc := 121) X (i := 3) (q := 2) (n := 1) (x := x3_96) (b := 2) (w := rv D a2) (rest := [(0, rv D a0)]) rfl r3_96 (r32_c rfl) (Nat.le_of_ble_eq_true rfl) [1, 0] rfl (by decide) rv_cat rfl (dl_at t_X24_make 69 rfl) fun x3_121 r3_121 => ?_
          refine g_goto (pc := 124) X (off := (-28)) (tgt := 96) rfl (dl_at t_X24_make 70 rfl) ?_
          refine g_ls (ls2 := [(0, rv D a0), (2, rv D a2), (3, iv x3_121)]) [2, 1, 0] rfl ?_
          exact g_at fun Q hQ => hQ ⟨r3_121, (E_96.trans (E113.trans E120))⟩
        · rintro h_127 E_127
          try dsimp only [sE]
          refine g_iconst (pc := 127) X (n := 0) (dl_at t_X24_make 71 rfl) ?_
          refine g_ltz (Or.inl rfl) fun x3_128 r3_128 => ?_
          refine g_istore_nN (pc := 128) X (j := 3) (i := 3) (x := x3_128) (b := 2) (w := rv D a2) (rest := [(0, rv D a0)]) rfl (Nat.le_of_ble_eq_true rfl) [1, 0] rfl (by decide) rv_cat rfl (dl_at t_X24_make 72 rfl) ?_
          refine g_ls (ls2 := [(0, rv D a0), (2, rv D a2), (3, iv x3_128)]) [2, 1, 0] rfl ?_
          refine g_loop0F (fun (q : Int × Hp) => [(0, rv D a0), (2, rv D a2), (3, iv q.1)]) (fun (q : Int × Hp) => q.2) (fun (q : Int × Hp) => r32 q.1 ∧ Ext h_127 q.2) (x3_128, h_127) ⟨(r32_z r3_128), (Ext.refl _)⟩ ?_ (fun _ => rfl)
          · rintro ⟨x3_129, h_129⟩ ⟨r3_129, E_129⟩
            try dsimp only
            unfold m_X24_make_l129
            refine g_iload_n (pc := 129) X (j := 3) (i := 3) (q := 2) (x := x3_129) rfl rfl (dl_at t_X24_make 73 rfl) ?_
            refine g_aload_n (pc := 130) X (j := 2) (i := 2) (q := 1) (x := a2) rfl rfl (dl_at t_X24_make 74 rfl) ?_
            refine g_gd fun k131 => ?_
            refine r_geti (pc := 131) X fX22_3 k131 q3410 (dl_at t_X24_make 75 rfl) fun g131 => ?_
            refine g_icmpge (pc := 134) X r3_129 g131 (off := 15) (tgt := 149) rfl (dl_at t_X24_make 76 rfl) (fun _ => ?_) (fun _ => ?_)
            · refine g_aload_n (pc := 149) X (j := 0) (i := 0) (q := 0) (x := a0) rfl rfl (dl_at t_X24_make 83 rfl) ?_
              have k150 := kx (E62.trans (E_94.trans (E_127.trans E_129))) (by decide) k62
              refine r_callV (pc := 150) X (fun _ hv => s_X24_inherit k150 hv) cw_code q4697 q378 (in_Vk X (As := []) kX24 k150 (Or.inl q4694) q4696 qs277 cw_code q4697 ⟨by decide, by decide⟩ rfl (dl_at t_X24_make 84 rfl)) (dl_at t_X24_make 84 rfl) (cat24 (st := []) (Nat.le_of_ble_eq_true rfl)) (Nat.le_of_ble_eq_true rfl) (Nat.le_of_ble_eq_true rfl) fun h150 E150 => ?_
              refine g_aload_n (pc := 153) X (j := 0) (i := 0) (q := 0) (x := a0) rfl rfl (dl_at t_X24_make 85 rfl) ?_
              have k154 := kx E150 (by decide) k150
              refine r_callV (pc := 154) X (fun _ hv => s_X24_flags k154 hv) cw_code q4713 q378 (in_Vk X (As := []) kX24 k154 (Or.inl q4710) q4712 qs278 cw_code q4713 ⟨by decide, by decide⟩ rfl (dl_at t_X24_make 86 rfl)) (dl_at t_X24_make 86 rfl) (cat24 (st := []) (Nat.le_of_ble_eq_true rfl)) (Nat.le_of_ble_eq_true rfl) (Nat.le_of_ble_eq_true rfl) fun h154 E154 => ?_
              refine g_aload_n (pc := 157) X (j := 0) (i := 0) (q := 0) (x := a0) rfl rfl (dl_at t_X24_make 87 rfl) ?_
              have k158 := kx E154 (by decide) k154
              refine r_callV (pc := 158) X (fun _ hv => s_X24_count k158 hv) cw_code q4725 q378 (in_Vk X (As := []) kX24 k158 (Or.inl q4722) q4724 qs280 cw_code q4725 ⟨by decide, by decide⟩ rfl (dl_at t_X24_make 88 rfl)) (dl_at t_X24_make 88 rfl) (cat24 (st := []) (Nat.le_of_ble_eq_true rfl)) (Nat.le_of_ble_eq_true rfl) (Nat.le_of_ble_eq_true rfl) fun h158 E158 => ?_
              exact g_at fun Q hQ => (g_vret (pc := 161) X (v := 0) rfl rfl (dl_at t_X24_make 89 rfl)) _ Q rfl hQ
            refine g_aload_n (pc := 137) X (j := 0) (i := 0) (q := 0) (x := a0) rfl rfl (dl_at t_X24_make 77 rfl) ?_
            refine g_aload_n (pc := 138) X (j := 2) (i := 2) (q := 1) (x := a2) rfl rfl (dl_at t_X24_make 78 rfl) ?_
            refine g_iload_n (pc := 139) X (j := 3) (i := 3) (q := 2) (x := x3_129) rfl rfl (dl_at t_X24_make 79 rfl) ?_
            have k140 := kx (E62.trans (E_94.trans (E_127.trans E_129))) (by decide) k62
            refine r_callV (pc := 140) X (fun _ hv => s_X24_apply k140 r3_129 hv) cw_code q4680 q378 (in_Vk X (As := [rv D a2, iv x3_129]) kX24 k140 (Or.inl q4677) q4679 qs274 cw_code q4680 ⟨by decide, by decide⟩ rfl (dl_at t_X24_make 80 rfl)) (dl_at t_X24_make 80 rfl) (cat24 (st := []) (Nat.le_of_ble_eq_true rfl)) (Nat.le_of_ble_eq_true rfl) (Nat.le_of_ble_eq_true rfl) fun h140 E140 => ?_
            refine r_iincN (pc := 143) X (i := 3) (q := 2) (n := 1) (x := x3_129) (b := 2) (w := rv D a2) (rest := [(0, rv D a0)]) rfl r3_129 (r32_c rfl) (Nat.le_of_ble_eq_true rfl) [1, 0] rfl (by decide) rv_cat rfl (dl_at t_X24_make 81 rfl) fun x3_143 r3_143 => ?_
            refine g_goto (pc := 146) X (off := (-17)) (tgt := 129) rfl (dl_at t_X24_make 82 rfl) ?_
            refine g_ls (ls2 := [(0, rv D a0), (2, rv D a2), (3, iv x3_143)]) [2, 1, 0] rfl ?_
            exact g_at fun Q hQ => hQ ⟨r3_143, (E_129.trans E140)⟩
def k_X23_fieldOf_2 : List (Nat × Instr × Nat) := [(0, .bipush 6, 2), (2, .iload_n 1, 1), (3, .imul, 1), (4, .istore_n 3, 1), (5, .iload_n 3, 1), (6, .bipush 6, 2), (8, .iload_n 1, 1), (9, .imul, 1), (10, .aload_n 0, 1), (11, .getfield 40, 3), (14, .iload_n 1, 1), (15, .iaload, 1), (16, .iadd, 1), (17, .if_icmp .ge 34, 3), (20, .aload_n 0, 1), (21, .getfield 9, 3), (24, .aload_n 0, 1), (25, .getfield 49, 3), (28, .iload_n 3, 1), (29, .iaload, 1), (30, .aload_n 0, 1), (31, .getfield 52, 3), (34, .iload_n 3, 1), (35, .iaload, 1), (36, .aload_n 2, 1), (37, .invokestatic 140, 3), (40, .ifCond .eq 5, 3), (43, .iload_n 3, 1), (44, .ireturn, 1), (45, .iinc 3 1, 3), (48, .goto (-43), 3), (51, .iconst (-1), 1), (52, .ireturn, 1)]
theorem t_X23_fieldOf_2 : ∀ q ∈ k_X23_fieldOf_2, decode cX23_fieldOf_2 q.1 = .ok q.2 := dl_all (by decide +kernel)
noncomputable def m_X23_fieldOf_2_l5 (a0 a1 a2 x3_5 : Int) (h : Hp) : Option ((Int) ⊕ ((Int))) :=
  gd (h (h a0 14) (-2) % 16 = 1 ∧ (0 : Int) ≤ a1 ∧ a1 < h (h a0 14) (-1)) (if (w32 ((w32 (6 * a1)) + (h (h a0 14) a1))) ≤ x3_5 then (some (.inr (-1)))
  else (gd (h (h a0 17) (-2) % 16 = 1 ∧ (0 : Int) ≤ x3_5 ∧ x3_5 < h (h a0 17) (-1)) (gd (h (h a0 18) (-2) % 16 = 1 ∧ (0 : Int) ≤ x3_5 ∧ x3_5 < h (h a0 18) (-1)) ((m_X18_is (h a0 0) (h (h a0 17) x3_5) (h (h a0 18) x3_5) a2 h).bind fun v37 =>
  if v37 = 0 then (lt_ (w32 (x3_5 + 1)) fun x3_45 =>
  some (.inl x3_45))
  else (some (.inr x3_5))))))
noncomputable def m_X23_fieldOf_2 (a0 a1 a2 : Int) (h : Hp) : Option (Int) :=
  lt_ (w32 (6 * a1)) fun x3_4 =>
  (lp (fun (q : Int) => m_X23_fieldOf_2_l5 a0 a1 a2 q h) x3_4).bind (fun (x : Int) => some x)
theorem s_X23_fieldOf_2 {l : Launch} [NoTr l] {D : SD} {a0 a1 a2 : Int} {h : Hp} (hk : h a0 (-2) = 384) (r1 : r32 a1) {r : Int} (hm : m_X23_fieldOf_2 a0 a1 a2 h = some r) : Sim l D yX23_fieldOf_2 (Cond.code yX23_fieldOf_2 cX23_fieldOf_2 4 (Option.some Jvm.ClassFile.FieldType.int)) 5 240 [rv D a0, iv a1, rv D a2] h 1 ((0, r), h) := by
  refine Sim.of (fin := fun (v : Int) => ((0, v), h)) (lsE := [(0, rv D a0), (1, iv a1), (2, rv D a2)]) hm rfl cwS_code (la_r (la_i (la_r la_n))) (ll_r (ll_i (ll_r ll_n))) ?_
  intro p e s m below meth c X hcw hmm hcc hnm hname
  unfold m_X23_fieldOf_2
  refine g_bipush (pc := 0) X (n := 6) rfl (dl_at t_X23_fieldOf_2 0 rfl) ?_
  refine g_iload_n (pc := 2) X (j := 1) (i := 1) (q := 1) (x := a1) rfl rfl (dl_at t_X23_fieldOf_2 1 rfl) ?_
  refine g_imul (pc := 3) X (r32_c rfl) r1 (dl_at t_X23_fieldOf_2 2 rfl) ?_
  refine g_lti (r32_w _) fun x3_4 r3_4 => ?_
  refine g_istore_nN (pc := 4) X (j := 3) (i := 3) (x := x3_4) (b := 2) (w := rv D a2) (rest := [(0, rv D a0), (1, iv a1)]) rfl (Nat.le_of_ble_eq_true rfl) [2, 0, 1] rfl (by decide) rv_cat rfl (dl_at t_X23_fieldOf_2 3 rfl) ?_
  refine g_ls (ls2 := [(0, rv D a0), (1, iv a1), (2, rv D a2), (3, iv x3_4)]) [2, 3, 1, 0] rfl ?_
  refine g_loop0F (fun (q : Int) => [(0, rv D a0), (1, iv a1), (2, rv D a2), (3, iv q)]) (fun (q : Int) => h) (fun (q : Int) => r32 q) x3_4 r3_4 ?_ (fun _ => rfl)
  · rintro x3_5 r3_5
    try dsimp only
    unfold m_X23_fieldOf_2_l5
    refine g_iload_n (pc := 5) X (j := 3) (i := 3) (q := 3) (x := x3_5) rfl rfl (dl_at t_X23_fieldOf_2 4 rfl) ?_
    refine g_bipush (pc := 6) X (n := 6) rfl (dl_at t_X23_fieldOf_2 5 rfl) ?_
    refine g_iload_n (pc := 8) X (j := 1) (i := 1) (q := 1) (x := a1) rfl rfl (dl_at t_X23_fieldOf_2 6 rfl) ?_
    refine g_imul (pc := 9) X (r32_c rfl) r1 (dl_at t_X23_fieldOf_2 7 rfl) ?_
    refine g_aload_n (pc := 10) X (j := 0) (i := 0) (q := 0) (x := a0) rfl rfl (dl_at t_X23_fieldOf_2 8 rfl) ?_
    refine r_getr (pc := 11) X fX23_14 hk q3554 (dl_at t_X23_fieldOf_2 9 rfl) ?_
    refine g_iload_n (pc := 14) X (j := 1) (i := 1) (q := 1) (x := a1) rfl rfl (dl_at t_X23_fieldOf_2 10 rfl) ?_
    refine g_gd fun k15 => ?_
    refine g_iald (pc := 15) X r1 k15 (dl_at t_X23_fieldOf_2 11 rfl) fun g15 => ?_
    refine g_iadd (pc := 16) X (r32_w _) g15 (dl_at t_X23_fieldOf_2 12 rfl) ?_
    refine g_icmpge (pc := 17) X r3_5 (r32_w _) (off := 34) (tgt := 51) rfl (dl_at t_X23_fieldOf_2 13 rfl) (fun _ => ?_) (fun _ => ?_)
    · refine g_iconst (pc := 51) X (n := (-1)) (dl_at t_X23_fieldOf_2 31 rfl) ?_
      exact g_at fun Q hQ => (g_iret (pc := 52) X (r32_c rfl) rfl rfl (dl_at t_X23_fieldOf_2 32 rfl)) _ Q rfl hQ
    refine g_aload_n (pc := 20) X (j := 0) (i := 0) (q := 0) (x := a0) rfl rfl (dl_at t_X23_fieldOf_2 14 rfl) ?_
    refine r_getr (pc := 21) X fX23_0 hk q3516 (dl_at t_X23_fieldOf_2 15 rfl) ?_
    refine g_aload_n (pc := 24) X (j := 0) (i := 0) (q := 0) (x := a0) rfl rfl (dl_at t_X23_fieldOf_2 16 rfl) ?_
    refine r_getr (pc := 25) X fX23_17 hk q3562 (dl_at t_X23_fieldOf_2 17 rfl) ?_
    refine g_iload_n (pc := 28) X (j := 3) (i := 3) (q := 3) (x := x3_5) rfl rfl (dl_at t_X23_fieldOf_2 18 rfl) ?_
    refine g_gd fun k29 => ?_
    refine g_iald (pc := 29) X r3_5 k29 (dl_at t_X23_fieldOf_2 19 rfl) fun g29 => ?_
    refine g_aload_n (pc := 30) X (j := 0) (i := 0) (q := 0) (x := a0) rfl rfl (dl_at t_X23_fieldOf_2 20 rfl) ?_
    refine r_getr (pc := 31) X fX23_18 hk q3563 (dl_at t_X23_fieldOf_2 21 rfl) ?_
    refine g_iload_n (pc := 34) X (j := 3) (i := 3) (q := 3) (x := x3_5) rfl rfl (dl_at t_X23_fieldOf_2 22 rfl) ?_
    refine g_gd fun k35 => ?_
    refine g_iald (pc := 35) X r3_5 k35 (dl_at t_X23_fieldOf_2 23 rfl) fun g35 => ?_
    refine g_aload_n (pc := 36) X (j := 2) (i := 2) (q := 2) (x := a2) rfl rfl (dl_at t_X23_fieldOf_2 24 rfl) ?_
    refine r_callRz (pc := 37) X (fun _ hv => s_X18_is g29 g35 hv) cw_code q4367 q372 (in_Sc X (As := [rv D (h a0 0), iv (h (h a0 17) x3_5), iv (h (h a0 18) x3_5), rv D a2]) (Or.inr ⟨_, nw_in q4584 rfl⟩) q4366 q372 q4367 ⟨by decide, by decide⟩ rfl (dl_at t_X23_fieldOf_2 25 rfl)) (dl_at t_X23_fieldOf_2 25 rfl) (cat24 (st := []) (Nat.le_of_ble_eq_true rfl)) (Nat.le_of_ble_eq_true rfl) (Nat.le_of_ble_eq_true rfl) fun v37 g37 => ?_
    refine g_ifeq (pc := 40) X (r32_z g37) (off := 5) (tgt := 45) rfl (dl_at t_X23_fieldOf_2 26 rfl) (fun _ => ?_) (fun _ => ?_)
    · refine r_iincN (pc := 45) X (i := 3) (q := 3) (n := 1) (x := x3_5) (b := 2) (w := rv D a2) (rest := [(0, rv D a0), (1, iv a1)]) rfl r3_5 (r32_c rfl) (Nat.le_of_ble_eq_true rfl) [2, 0, 1] rfl (by decide) rv_cat rfl (dl_at t_X23_fieldOf_2 29 rfl) fun x3_45 r3_45 => ?_
      refine g_goto (pc := 48) X (off := (-43)) (tgt := 5) rfl (dl_at t_X23_fieldOf_2 30 rfl) ?_
      refine g_ls (ls2 := [(0, rv D a0), (1, iv a1), (2, rv D a2), (3, iv x3_45)]) [2, 3, 1, 0] rfl ?_
      exact g_at fun Q hQ => hQ r3_45
    refine g_iload_n (pc := 43) X (j := 3) (i := 3) (q := 3) (x := x3_5) rfl rfl (dl_at t_X23_fieldOf_2 27 rfl) ?_
    exact g_at fun Q hQ => (g_iret (pc := 44) X r3_5 rfl rfl (dl_at t_X23_fieldOf_2 28 rfl)) _ Q rfl hQ
def k_X24_hasLabel : List (Nat × Instr × Nat) := [(0, .aload_n 0, 1), (1, .getfield 32, 3), (4, .iload_n 1, 1), (5, .iaload, 1), (6, .aload_n 0, 1), (7, .getfield 29, 3), (10, .iload_n 1, 1), (11, .iaload, 1), (12, .if_icmp .le 33, 3), (15, .aload_n 0, 1), (16, .iload_n 1, 1), (17, .invokevirtual 237, 3), (20, .ifCond .ne 25, 3), (23, .aload_n 0, 1), (24, .getfield 57, 3), (27, .iload_n 1, 1), (28, .baload, 1), (29, .ifCond .ne 16, 3), (32, .aload_n 0, 1), (33, .getfield 60, 3), (36, .iload_n 1, 1), (37, .baload, 1), (38, .ifCond .ne 7, 3), (41, .iconst 1, 1), (42, .goto 4, 3), (45, .iconst 0, 1), (46, .ireturn, 1)]
theorem t_X24_hasLabel : ∀ q ∈ k_X24_hasLabel, decode cX24_hasLabel q.1 = .ok q.2 := dl_all (by decide +kernel)
noncomputable def m_X24_hasLabel (a0 a1 : Int) (h : Hp) : Option (Int) :=
  gd (h (h a0 5) (-2) % 16 = 1 ∧ (0 : Int) ≤ a1 ∧ a1 < h (h a0 5) (-1)) (gd (h (h a0 4) (-2) % 16 = 1 ∧ (0 : Int) ≤ a1 ∧ a1 < h (h a0 4) (-1)) (if (h (h a0 5) a1) ≤ (h (h a0 4) a1) then (some 0)
  else ((m_X24_isMute a0 a1 h).bind fun v17 =>
  if v17 ≠ 0 then (some 0)
  else (gd (h (h a0 13) (-2) % 16 = 3 ∧ (0 : Int) ≤ a1 ∧ a1 < h (h a0 13) (-1)) (if (h (h a0 13) a1) ≠ 0 then (some 0)
  else (gd (h (h a0 14) (-2) % 16 = 3 ∧ (0 : Int) ≤ a1 ∧ a1 < h (h a0 14) (-1)) (if (h (h a0 14) a1) ≠ 0 then (some 0)
  else (some 1))))))))
theorem s_X24_hasLabel {l : Launch} [NoTr l] {D : SD} {a0 a1 : Int} {h : Hp} (hk : h a0 (-2) = 400) (r1 : r32 a1) {r : Int} (hm : m_X24_hasLabel a0 a1 h = some r) : Sim l D yX24_hasLabel (Cond.code yX24_hasLabel cX24_hasLabel 2 (Option.some Jvm.ClassFile.FieldType.boolean)) 2 74 [rv D a0, iv a1] h 3 ((0, r), h) := by
  refine Sim.of (fin := fun (v : Int) => ((0, v), h)) (lsE := [(0, rv D a0), (1, iv a1)]) hm rfl cwS_code (la_r (la_i la_n)) (ll_r (ll_i ll_n)) ?_
  intro p e s m below meth c X hcw hmm hcc hnm hname
  unfold m_X24_hasLabel
  refine g_aload_n (pc := 0) X (j := 0) (i := 0) (q := 0) (x := a0) rfl rfl (dl_at t_X24_hasLabel 0 rfl) ?_
  refine r_getr (pc := 1) X fX24_5 hk q3652 (dl_at t_X24_hasLabel 1 rfl) ?_
  refine g_iload_n (pc := 4) X (j := 1) (i := 1) (q := 1) (x := a1) rfl rfl (dl_at t_X24_hasLabel 2 rfl) ?_
  refine g_gd fun k5 => ?_
  refine g_iald (pc := 5) X r1 k5 (dl_at t_X24_hasLabel 3 rfl) fun g5 => ?_
  refine g_aload_n (pc := 6) X (j := 0) (i := 0) (q := 0) (x := a0) rfl rfl (dl_at t_X24_hasLabel 4 rfl) ?_
  refine r_getr (pc := 7) X fX24_4 hk q3650 (dl_at t_X24_hasLabel 5 rfl) ?_
  refine g_iload_n (pc := 10) X (j := 1) (i := 1) (q := 1) (x := a1) rfl rfl (dl_at t_X24_hasLabel 6 rfl) ?_
  refine g_gd fun k11 => ?_
  refine g_iald (pc := 11) X r1 k11 (dl_at t_X24_hasLabel 7 rfl) fun g11 => ?_
  refine g_icmple (pc := 12) X g5 g11 (off := 33) (tgt := 45) rfl (dl_at t_X24_hasLabel 8 rfl) (fun _ => ?_) (fun _ => ?_)
  · refine g_iconst (pc := 45) X (n := 0) (dl_at t_X24_hasLabel 25 rfl) ?_
    exact g_zret (pc := 46) X (Or.inl rfl) rfl rfl (dl_at t_X24_hasLabel 26 rfl)
  refine g_aload_n (pc := 15) X (j := 0) (i := 0) (q := 0) (x := a0) rfl rfl (dl_at t_X24_hasLabel 9 rfl) ?_
  refine g_iload_n (pc := 16) X (j := 1) (i := 1) (q := 1) (x := a1) rfl rfl (dl_at t_X24_hasLabel 10 rfl) ?_
  refine r_callRz (pc := 17) X (fun _ hv => s_X24_isMute hk r1 hv) cw_code q4721 q378 (in_Vk X (As := [iv a1]) kX24 hk (Or.inl q4718) q4720 qs279 cw_code q4721 ⟨by decide, by decide⟩ rfl (dl_at t_X24_hasLabel 11 rfl)) (dl_at t_X24_hasLabel 11 rfl) (cat24 (st := []) (Nat.le_of_ble_eq_true rfl)) (Nat.le_of_ble_eq_true rfl) (Nat.le_of_ble_eq_true rfl) fun v17 g17 => ?_
  refine g_ifne (pc := 20) X (r32_z g17) (off := 25) (tgt := 45) rfl (dl_at t_X24_hasLabel 12 rfl) (fun _ => ?_) (fun _ => ?_)
  · refine g_iconst (pc := 45) X (n := 0) (dl_at t_X24_hasLabel 25 rfl) ?_
    exact g_zret (pc := 46) X (Or.inl rfl) rfl rfl (dl_at t_X24_hasLabel 26 rfl)
  refine g_aload_n (pc := 23) X (j := 0) (i := 0) (q := 0) (x := a0) rfl rfl (dl_at t_X24_hasLabel 13 rfl) ?_
  refine r_getr (pc := 24) X fX24_13 hk q3672 (dl_at t_X24_hasLabel 14 rfl) ?_
  refine g_iload_n (pc := 27) X (j := 1) (i := 1) (q := 1) (x := a1) rfl rfl (dl_at t_X24_hasLabel 15 rfl) ?_
  refine g_gd fun k28 => ?_
  refine g_zald (pc := 28) X r1 k28 (dl_at t_X24_hasLabel 16 rfl) fun g28 => ?_
  refine g_ifne (pc := 29) X (r32_z g28) (off := 16) (tgt := 45) rfl (dl_at t_X24_hasLabel 17 rfl) (fun _ => ?_) (fun _ => ?_)
  · refine g_iconst (pc := 45) X (n := 0) (dl_at t_X24_hasLabel 25 rfl) ?_
    exact g_zret (pc := 46) X (Or.inl rfl) rfl rfl (dl_at t_X24_hasLabel 26 rfl)
  refine g_aload_n (pc := 32) X (j := 0) (i := 0) (q := 0) (x := a0) rfl rfl (dl_at t_X24_hasLabel 18 rfl) ?_
  refine r_getr (pc := 33) X fX24_14 hk q3674 (dl_at t_X24_hasLabel 19 rfl) ?_
  refine g_iload_n (pc := 36) X (j := 1) (i := 1) (q := 1) (x := a1) rfl rfl (dl_at t_X24_hasLabel 20 rfl) ?_
  refine g_gd fun k37 => ?_
  refine g_zald (pc := 37) X r1 k37 (dl_at t_X24_hasLabel 21 rfl) fun g37 => ?_
  refine g_ifne (pc := 38) X (r32_z g37) (off := 7) (tgt := 45) rfl (dl_at t_X24_hasLabel 22 rfl) (fun _ => ?_) (fun _ => ?_)
  · refine g_iconst (pc := 45) X (n := 0) (dl_at t_X24_hasLabel 25 rfl) ?_
    exact g_zret (pc := 46) X (Or.inl rfl) rfl rfl (dl_at t_X24_hasLabel 26 rfl)
  refine g_iconst (pc := 41) X (n := 1) (dl_at t_X24_hasLabel 23 rfl) ?_
  refine g_goto (pc := 42) X (off := 4) (tgt := 46) rfl (dl_at t_X24_hasLabel 24 rfl) ?_
  exact g_zret (pc := 46) X (Or.inr rfl) rfl rfl (dl_at t_X24_hasLabel 26 rfl)
def k_X24_put : List (Nat × Instr × Nat) := [(0, .aload_n 0, 1), (1, .getfield 93, 3), (4, .iload_n 1, 1), (5, .iload_n 2, 1), (6, .i2b, 1), (7, .bastore, 1), (8, .iload_n 1, 1), (9, .iconst 1, 1), (10, .iadd, 1), (11, .ireturn, 1)]
theorem t_X24_put : ∀ q ∈ k_X24_put, decode cX24_put q.1 = .ok q.2 := dl_all (by decide +kernel)
noncomputable def m_X24_put (a0 a1 a2 : Int) (h : Hp) : Option (Int × Hp) :=
  gd (h (h a0 25) (-2) % 16 = 2 ∧ (0 : Int) ≤ a1 ∧ a1 < h (h a0 25) (-1)) (pt h (h a0 25) a1 (w8 a2) fun h7 =>
  some ((w32 (a1 + 1)), h7))
theorem s_X24_put {l : Launch} [NoTr l] {D : SD} {a0 a1 a2 : Int} {h : Hp} (hk : h a0 (-2) = 400) (r1 : r32 a1) (r2 : r32 a2) {r : Int × Hp} (hm : m_X24_put a0 a1 a2 h = some r) : Sim l D yX24_put (Cond.code yX24_put cX24_put 3 (Option.some Jvm.ClassFile.FieldType.int)) 0 0 [rv D a0, iv a1, iv a2] h 1 ((0, r.1), r.2) := by
  refine Sim.of (fin := fun (v : Int × Hp) => ((0, v.1), v.2)) (lsE := [(0, rv D a0), (1, iv a1), (2, iv a2)]) hm rfl cwS_code (la_r (la_i (la_i la_n))) (ll_r (ll_i (ll_i ll_n))) ?_
  intro p e s m below meth c X hcw hmm hcc hnm hname
  unfold m_X24_put
  refine g_aload_n (pc := 0) X (j := 0) (i := 0) (q := 0) (x := a0) rfl rfl (dl_at t_X24_put 0 rfl) ?_
  refine r_getr (pc := 1) X fX24_25 hk q3687 (dl_at t_X24_put 1 rfl) ?_
  refine g_iload_n (pc := 4) X (j := 1) (i := 1) (q := 1) (x := a1) rfl rfl (dl_at t_X24_put 2 rfl) ?_
  refine g_iload_n (pc := 5) X (j := 2) (i := 2) (q := 2) (x := a2) rfl rfl (dl_at t_X24_put 3 rfl) ?_
  refine g_i2b (pc := 6) X r2 (dl_at t_X24_put 4 rfl) ?_
  refine g_gd fun k7 => ?_
  refine r_bastB (pc := 7) X r1 (b_w8 _) k7 (dl_at t_X24_put 5 rfl) (fun h7 E7 => ?_)
  refine g_iload_n (pc := 8) X (j := 1) (i := 1) (q := 1) (x := a1) rfl rfl (dl_at t_X24_put 6 rfl) ?_
  refine g_iconst (pc := 9) X (n := 1) (dl_at t_X24_put 7 rfl) ?_
  refine g_iadd (pc := 10) X r1 (r32_c rfl) (dl_at t_X24_put 8 rfl) ?_
  exact g_iret (pc := 11) X (r32_w _) rfl rfl (dl_at t_X24_put 9 rfl)
def k_X24_roman : List (Nat × Instr × Nat) := [(0, .iconst 0, 1), (1, .istore_n 2, 1), (2, .iload_n 1, 1), (3, .istore_n 3, 1), (4, .ldc 246, 2), (6, .astore 4, 2), (8, .iconst 0, 1), (9, .istore 5, 2), (11, .iload 5, 2), (13, .bipush 7, 2), (15, .if_icmp .ge 198, 3), (18, .iload_n 3, 1), (19, .aload_n 0, 1), (20, .getfield 96, 3), (23, .iload 5, 2), (25, .iaload, 1), (26, .idiv, 1), (27, .istore 6, 2), (29, .iload_n 3, 1), (30, .aload_n 0, 1), (31, .getfield 96, 3), (34, .iload 5, 2), (36, .iaload, 1), (37, .irem, 1), (38, .istore_n 3, 1), (39, .aload 4, 2), (41, .iload 5, 2), (43, .invokevirtual 248, 3), (46, .istore 7, 2), (48, .iload 5, 2), (50, .ifCond .le 15, 3), (53, .aload 4, 2), (55, .iload 5, 2), (57, .iconst 1, 1), (58, .isub, 1), (59, .invokevirtual 248, 3), (62, .goto 4, 3), (65, .iconst 0, 1), (66, .istore 8, 2), (68, .iload 5, 2), (70, .ifCond .le 15, 3), (73, .aload 4, 2), (75, .iload 5, 2), (77, .iconst 2, 1), (78, .isub, 1), (79, .invokevirtual 248, 3), (82, .goto 4, 3), (85, .iconst 0, 1), (86, .istore 9, 2), (88, .iload 5, 2), (90, .ifCond .ne 30, 3), (93, .iconst 0, 1), (94, .istore 10, 2), (96, .iload 10, 2), (98, .iload 6, 2), (100, .if_icmp .ge 17, 3), (103, .aload_n 0, 1), (104, .iload_n 2, 1), (105, .iload 7, 2), (107, .invokevirtual 254, 3), (110, .istore_n 2, 1), (111, .iinc 10 1, 3), (114, .goto (-18), 3), (117, .goto 90, 3), (120, .iload 6, 2), (122, .bipush 9, 2), (124, .if_icmp .ne 20, 3), (127, .aload_n 0, 1), (128, .aload_n 0, 1), (129, .iload_n 2, 1), (130, .iload 7, 2), (132, .invokevirtual 254, 3), (135, .iload 9, 2), (137, .invokevirtual 254, 3), (140, .istore_n 2, 1), (141, .goto 66, 3), (144, .iload 6, 2), (146, .iconst 4, 1), (147, .if_icmp .ne 20, 3), (150, .aload_n 0, 1), (151, .aload_n 0, 1), (152, .iload_n 2, 1), (153, .iload 7, 2), (155, .invokevirtual 254, 3), (158, .iload 8, 2), (160, .invokevirtual 254, 3), (163, .istore_n 2, 1), (164, .goto 43, 3), (167, .iload 6, 2), (169, .iconst 5, 1), (170, .if_icmp .lt 11, 3), (173, .aload_n 0, 1), (174, .iload_n 2, 1), (175, .iload 8, 2), (177, .invokevirtual 254, 3), (180, .istore_n 2, 1), (181, .iconst 0, 1), (182, .istore 10, 2), (184, .iload 10, 2), (186, .iload 6, 2), (188, .iconst 5, 1), (189, .irem, 1), (190, .if_icmp .ge 17, 3), (193, .aload_n 0, 1), (194, .iload_n 2, 1), (195, .iload 7, 2), (197, .invokevirtual 254, 3), (200, .istore_n 2, 1), (201, .iinc 10 1, 3), (204, .goto (-20), 3), (207, .iinc 5 2, 3), (210, .goto (-199), 3), (213, .iload_n 2, 1), (214, .ireturn, 1)]
theorem t_X24_roman : ∀ q ∈ k_X24_roman, decode cX24_roman q.1 = .ok q.2 := dl_all (by decide +kernel)
noncomputable def m_X24_roman_j207 (x3_38 x5_11 x2_207 : Int) (h_207 : Hp) : Option ((Int × Int × Int × Hp) ⊕ ((Int × Hp))) :=
  lt_ (w32 (x5_11 + 2)) fun x5_207 =>
  some (.inl (x2_207, x3_38, x5_207, h_207))
noncomputable def m_X24_roman_l184 (a0 x6_27 v43 x2_184 x10_184 : Int) (h_184 : Hp) : Option ((Int × Int × Hp) ⊕ ((Int × Hp))) :=
  if (Int.tmod x6_27 5) ≤ x10_184 then (some (.inr (x2_184, h_184)))
  else (bW (m_X24_put a0 x2_184 v43 h_184) fun v197 h197 =>
  lt_ (w32 (x10_184 + 1)) fun x10_201 =>
  some (.inl (v197, x10_201, h197)))
noncomputable def m_X24_roman_j181 (a0 x3_38 x5_11 x6_27 v43 x2_181 : Int) (h_181 : Hp) : Option ((Int × Int × Int × Hp) ⊕ ((Int × Hp))) :=
  lt_ 0 fun x10_182 =>
  (lp (fun (q : Int × Int × Hp) => m_X24_roman_l184 a0 x6_27 v43 q.1 q.2.1 q.2.2) (x2_181, x10_182, h_181)).bind (fun (y207 : Int × Hp) => m_X24_roman_j207 x3_38 x5_11 y207.1 y207.2)
noncomputable def m_X24_roman_l96 (a0 x6_27 v43 x2_96 x10_96 : Int) (h_96 : Hp) : Option ((Int × Int × Hp) ⊕ ((Int × Hp))) :=
  if x6_27 ≤ x10_96 then (some (.inr (x2_96, h_96)))
  else (bW (m_X24_put a0 x2_96 v43 h_96) fun v107 h107 =>
  lt_ (w32 (x10_96 + 1)) fun x10_111 =>
  some (.inl (v107, x10_111, h107)))
noncomputable def m_X24_roman_j86 (s0_66 v43 a0 x2_11 x3_38 x5_11 x6_27 s0_86 : Int) (h_11 : Hp) : Option ((Int × Int × Int × Hp) ⊕ ((Int × Hp))) :=
  if x5_11 ≠ 0 then (if x6_27 ≠ 9 then (if x6_27 ≠ 4 then (if x6_27 < 5 then (m_X24_roman_j181 a0 x3_38 x5_11 x6_27 v43 x2_11 h_11)
  else (bW (m_X24_put a0 x2_11 s0_66 h_11) fun v177 h177 =>
  m_X24_roman_j181 a0 x3_38 x5_11 x6_27 v43 v177 h177))
  else (bW (m_X24_put a0 x2_11 v43 h_11) fun v155 h155 =>
  bW (m_X24_put a0 v155 s0_66 h155) fun v160 h160 =>
  m_X24_roman_j207 x3_38 x5_11 v160 h160))
  else (bW (m_X24_put a0 x2_11 v43 h_11) fun v132 h132 =>
  bW (m_X24_put a0 v132 s0_86 h132) fun v137 h137 =>
  m_X24_roman_j207 x3_38 x5_11 v137 h137))
  else (lt_ 0 fun x10_94 =>
  (lp (fun (q : Int × Int × Hp) => m_X24_roman_l96 a0 x6_27 v43 q.1 q.2.1 q.2.2) (x2_11, x10_94, h_11)).bind (fun (y207_1 : Int × Hp) => m_X24_roman_j207 x3_38 x5_11 y207_1.1 y207_1.2))
noncomputable def m_X24_roman_j66 (v43 x6_27 x3_38 x2_11 x5_11 a0 x4_6 s0_66 : Int) (h_11 : Hp) : Option ((Int × Int × Int × Hp) ⊕ ((Int × Hp))) :=
  if x5_11 ≤ 0 then (m_X24_roman_j86 s0_66 v43 a0 x2_11 x3_38 x5_11 x6_27 0 h_11)
  else ((x_sat x4_6 (w32 (x5_11 - 2))).bind fun v79 =>
  m_X24_roman_j86 s0_66 v43 a0 x2_11 x3_38 x5_11 x6_27 v79 h_11)
noncomputable def m_X24_roman_l11 (a0 x4_6 x2_11 x3_11 x5_11 : Int) (h_11 : Hp) : Option ((Int × Int × Int × Hp) ⊕ ((Int × Hp))) :=
  if 7 ≤ x5_11 then (some (.inr (x2_11, h_11)))
  else (gd (h_11 (h_11 a0 26) (-2) % 16 = 1 ∧ (0 : Int) ≤ x5_11 ∧ x5_11 < h_11 (h_11 a0 26) (-1)) (gd ((h_11 (h_11 a0 26) x5_11) ≠ 0) (lt_ (w32 (Int.tdiv x3_11 (h_11 (h_11 a0 26) x5_11))) fun x6_27 =>
  gd ((h_11 (h_11 a0 26) x5_11) ≠ 0) (lt_ (Int.tmod x3_11 (h_11 (h_11 a0 26) x5_11)) fun x3_38 =>
  (x_sat x4_6 x5_11).bind fun v43 =>
  if x5_11 ≤ 0 then (m_X24_roman_j66 v43 x6_27 x3_38 x2_11 x5_11 a0 x4_6 0 h_11)
  else ((x_sat x4_6 (w32 (x5_11 - 1))).bind fun v59 =>
  m_X24_roman_j66 v43 x6_27 x3_38 x2_11 x5_11 a0 x4_6 v59 h_11)))))
noncomputable def m_X24_roman (a0 a1 : Int) (h : Hp) : Option (Int × Hp) :=
  lt_ 0 fun x2_1 =>
  lt_ (-104) fun x4_6 =>
  lt_ 0 fun x5_9 =>
  (lp (fun (q : Int × Int × Int × Hp) => m_X24_roman_l11 a0 x4_6 q.1 q.2.1 q.2.2.1 q.2.2.2) (x2_1, a1, x5_9, h)).bind (fun (x : Int × Hp) => some x)
theorem s_X24_roman {l : Launch} [NoTr l] {D : SD} {a0 a1 : Int} {h : Hp} (hk : h a0 (-2) = 400) (r1 : r32 a1) {r : Int × Hp} (hm : m_X24_roman a0 a1 h = some r) : Sim l D yX24_roman (Cond.code yX24_roman cX24_roman 11 (Option.some Jvm.ClassFile.FieldType.int)) 4 200 [rv D a0, iv a1] h 1 ((0, r.1), r.2) := by
  refine Sim.of (fin := fun (v : Int × Hp) => ((0, v.1), v.2)) (lsE := [(0, rv D a0), (1, iv a1)]) hm rfl cwS_code (la_r (la_i la_n)) (ll_r (ll_i ll_n)) ?_
  intro p e s m below meth c X hcw hmm hcc hnm hname
  unfold m_X24_roman
  refine g_iconst (pc := 0) X (n := 0) (dl_at t_X24_roman 0 rfl) ?_
  refine g_ltz (Or.inl rfl) fun x2_1 r2_1 => ?_
  refine g_istore_nN (pc := 1) X (j := 2) (i := 2) (x := x2_1) (b := 1) (w := iv a1) (rest := [(0, rv D a0)]) rfl (Nat.le_of_ble_eq_true rfl) [1, 0] rfl (by decide) rfl rfl (dl_at t_X24_roman 1 rfl) ?_
  refine g_iload_n (pc := 2) X (j := 1) (i := 1) (q := 1) (x := a1) rfl rfl (dl_at t_X24_roman 2 rfl) ?_
  refine g_istore_nN (pc := 3) X (j := 3) (i := 3) (x := a1) (b := 2) (w := iv x2_1) (rest := [(0, rv D a0)]) rfl (Nat.le_of_ble_eq_true rfl) [0, 2] rfl (by decide) rfl rfl (dl_at t_X24_roman 3 rfl) ?_
  refine g_ldcS (pc := 4) X (index := 246) (id := (-104)) 102 rfl rfl (dl_at t_X24_roman 4 rfl) ?_
  refine g_ltr fun x4_6 => ?_
  refine g_astoreN (pc := 6) X (i := 4) (x := x4_6) (b := 3) (w := iv a1) (rest := [(2, iv x2_1), (0, rv D a0)]) (Nat.le_of_ble_eq_true rfl) [0, 1, 2] rfl (by decide) rfl rfl (dl_at t_X24_roman 5 rfl) ?_
  refine g_iconst (pc := 8) X (n := 0) (dl_at t_X24_roman 6 rfl) ?_
  refine g_ltz (Or.inl rfl) fun x5_9 r5_9 => ?_
  refine g_istoreN (pc := 9) X (i := 5) (x := x5_9) (b := 4) (w := rv D x4_6) (rest := [(3, iv a1), (2, iv x2_1), (0, rv D a0)]) (Nat.le_of_ble_eq_true rfl) [0, 1, 2, 3] rfl (by decide) rv_cat rfl (dl_at t_X24_roman 7 rfl) ?_
  refine g_ls (ls2 := [(0, rv D a0), (2, iv x2_1), (3, iv a1), (4, rv D x4_6), (5, iv x5_9)]) [4, 3, 2, 1, 0] rfl ?_
  refine g_loop0F (fun (q : Int × Int × Int × Hp) => [(0, rv D a0), (2, iv q.1), (3, iv q.2.1), (4, rv D x4_6), (5, iv q.2.2.1)]) (fun (q : Int × Int × Int × Hp) => q.2.2.2) (fun (q : Int × Int × Int × Hp) => r32 q.1 ∧ r32 q.2.1 ∧ r32 q.2.2.1 ∧ Ext h q.2.2.2) (x2_1, a1, x5_9, h) ⟨(r32_z r2_1), r1, (r32_z r5_9), (Ext.refl _)⟩ ?_ (fun _ => rfl)
  · rintro ⟨x2_11, x3_11, x5_11, h_11⟩ ⟨r2_11, r3_11, r5_11, E_11⟩
    try dsimp only
    unfold m_X24_roman_l11
    refine g_iload (pc := 11) X (i := 5) (q := 4) (x := x5_11) rfl (dl_at t_X24_roman 8 rfl) ?_
    refine g_bipush (pc := 13) X (n := 7) rfl (dl_at t_X24_roman 9 rfl) ?_
    refine g_icmpge (pc := 15) X r5_11 (r32_c rfl) (off := 198) (tgt := 213) rfl (dl_at t_X24_roman 10 rfl) (fun _ => ?_) (fun _ => ?_)
    · refine g_iload_n (pc := 213) X (j := 2) (i := 2) (q := 1) (x := x2_11) rfl rfl (dl_at t_X24_roman 112 rfl) ?_
      exact g_at fun Q hQ => (g_iret (pc := 214) X r2_11 rfl rfl (dl_at t_X24_roman 113 rfl)) _ Q rfl hQ
    refine g_iload_n (pc := 18) X (j := 3) (i := 3) (q := 2) (x := x3_11) rfl rfl (dl_at t_X24_roman 11 rfl) ?_
    refine g_aload_n (pc := 19) X (j := 0) (i := 0) (q := 0) (x := a0) rfl rfl (dl_at t_X24_roman 12 rfl) ?_
    have k20 := kx E_11 (by decide) hk
    refine r_getr (pc := 20) X fX24_26 k20 q3688 (dl_at t_X24_roman 13 rfl) ?_
    refine g_iload (pc := 23) X (i := 5) (q := 4) (x := x5_11) rfl (dl_at t_X24_roman 14 rfl) ?_
    refine g_gd fun k25 => ?_
    refine g_iald (pc := 25) X r5_11 k25 (dl_at t_X24_roman 15 rfl) fun g25 => ?_
    refine g_gd fun z26 => ?_
    refine g_idiv (pc := 26) X r3_11 g25 z26 (dl_at t_X24_roman 16 rfl) ?_
    refine g_lti (r32_w _) fun x6_27 r6_27 => ?_
    refine g_istoreN (pc := 27) X (i := 6) (x := x6_27) (b := 5) (w := iv x5_11) (rest := [(0, rv D a0), (2, iv x2_11), (3, iv x3_11), (4, rv D x4_6)]) (Nat.le_of_ble_eq_true rfl) [4, 0, 1, 2, 3] rfl (by decide) rfl rfl (dl_at t_X24_roman 17 rfl) ?_
    refine g_iload_n (pc := 29) X (j := 3) (i := 3) (q := 4) (x := x3_11) rfl rfl (dl_at t_X24_roman 18 rfl) ?_
    refine g_aload_n (pc := 30) X (j := 0) (i := 0) (q := 2) (x := a0) rfl rfl (dl_at t_X24_roman 19 rfl) ?_
    refine r_getr (pc := 31) X fX24_26 k20 q3688 (dl_at t_X24_roman 20 rfl) ?_
    refine g_iload (pc := 34) X (i := 5) (q := 1) (x := x5_11) rfl (dl_at t_X24_roman 21 rfl) ?_
    refine g_iald (pc := 36) X r5_11 k25 (dl_at t_X24_roman 22 rfl) fun g36 => ?_
    refine g_gd fun z37 => ?_
    refine g_irem (pc := 37) X r3_11 g36 z37 (dl_at t_X24_roman 23 rfl) ?_
    refine g_lti (r32_tmod r3_11) fun x3_38 r3_38 => ?_
    refine g_istore_nN (pc := 38) X (j := 3) (i := 3) (x := x3_38) (b := 2) (w := iv x2_11) (rest := [(6, iv x6_27), (5, iv x5_11), (0, rv D a0), (4, rv D x4_6)]) rfl (Nat.le_of_ble_eq_true rfl) [3, 0, 1, 2, 5] rfl (by decide) rfl rfl (dl_at t_X24_roman 24 rfl) ?_
    refine g_aload (pc := 39) X (i := 4) (q := 5) (x := x4_6) rfl (dl_at t_X24_roman 25 rfl) ?_
    refine g_iload (pc := 41) X (i := 5) (q := 3) (x := x5_11) rfl (dl_at t_X24_roman 26 rfl) ?_
    refine r_sat (pc := 43) X r5_11 q4757 (cat24 (st := []) (Nat.le_of_ble_eq_true rfl)) (Nat.le_of_ble_eq_true rfl) (Nat.le_of_ble_eq_true rfl) (dl_at t_X24_roman 27 rfl) fun v43 g43 => ?_
    refine g_istoreN (pc := 46) X (i := 7) (x := v43) (b := 6) (w := iv x6_27) (rest := [(3, iv x3_38), (2, iv x2_11), (5, iv x5_11), (0, rv D a0), (4, rv D x4_6)]) (Nat.le_of_ble_eq_true rfl) [2, 0, 1, 3, 4, 5] rfl (by decide) rfl rfl (dl_at t_X24_roman 28 rfl) ?_
    refine g_iload (pc := 48) X (i := 5) (q := 4) (x := x5_11) rfl (dl_at t_X24_roman 29 rfl) ?_
    refine g_join (γ := Int) (fun q => r32 q) 66 (fun q => [(0, rv D a0), (2, iv x2_11), (3, iv x3_38), (4, rv D x4_6), (5, iv x5_11), (6, iv x6_27), (7, iv v43)]) (fun q => [iv q]) (fun q => h_11) (fun q => m_X24_roman_j66 v43 x6_27 x3_38 x2_11 x5_11 a0 x4_6 q h_11) ?_ ?_
    · rintro s0_66 rs0_66
      try dsimp only
      unfold m_X24_roman_j66
      refine g_istoreN (pc := 66) X (i := 8) (x := s0_66) (b := 7) (w := iv v43) (rest := [(0, rv D a0), (2, iv x2_11), (3, iv x3_38), (4, rv D x4_6), (5, iv x5_11), (6, iv x6_27)]) (Nat.le_of_ble_eq_true rfl) [6, 0, 1, 2, 3, 4, 5] rfl (by decide) rfl rfl (dl_at t_X24_roman 38 rfl) ?_
      refine g_iload (pc := 68) X (i := 5) (q := 6) (x := x5_11) rfl (dl_at t_X24_roman 39 rfl) ?_
      refine g_join (γ := Int) (fun q => r32 q) 86 (fun q => [(0, rv D a0), (2, iv x2_11), (3, iv x3_38), (4, rv D x4_6), (5, iv x5_11), (6, iv x6_27), (7, iv v43), (8, iv s0_66)]) (fun q => [iv q]) (fun q => h_11) (fun q => m_X24_roman_j86 s0_66 v43 a0 x2_11 x3_38 x5_11 x6_27 q h_11) ?_ ?_
      · rintro s0_86 rs0_86
        try dsimp only
        unfold m_X24_roman_j86
        refine g_istoreN (pc := 86) X (i := 9) (x := s0_86) (b := 8) (w := iv s0_66) (rest := [(0, rv D a0), (2, iv x2_11), (3, iv x3_38), (4, rv D x4_6), (5, iv x5_11), (6, iv x6_27), (7, iv v43)]) (Nat.le_of_ble_eq_true rfl) [7, 0, 1, 2, 3, 4, 5, 6] rfl (by decide) rfl rfl (dl_at t_X24_roman 48 rfl) ?_
        refine g_iload (pc := 88) X (i := 5) (q := 6) (x := x5_11) rfl (dl_at t_X24_roman 49 rfl) ?_
        refine g_join (γ := Int × Hp) (fun q => r32 q.1 ∧ Ext h_11 q.2) 207 (fun q => [(0, rv D a0), (2, iv q.1), (3, iv x3_38), (4, rv D x4_6), (5, iv x5_11)]) (fun q => []) (fun q => q.2) (fun q => m_X24_roman_j207 x3_38 x5_11 q.1 q.2) ?_ ?_
        · rintro ⟨x2_207, h_207⟩ ⟨r2_207, E_207⟩
          try dsimp only
          unfold m_X24_roman_j207
          refine r_iincN (pc := 207) X (i := 5) (q := 4) (n := 2) (x := x5_11) (b := 4) (w := rv D x4_6) (rest := [(0, rv D a0), (2, iv x2_207), (3, iv x3_38)]) rfl r5_11 (r32_c rfl) (Nat.le_of_ble_eq_true rfl) [3, 0, 1, 2] rfl (by decide) rv_cat rfl (dl_at t_X24_roman 110 rfl) fun x5_207 r5_207 => ?_
          refine g_goto (pc := 210) X (off := (-199)) (tgt := 11) rfl (dl_at t_X24_roman 111 rfl) ?_
          refine g_ls (ls2 := [(0, rv D a0), (2, iv x2_207), (3, iv x3_38), (4, rv D x4_6), (5, iv x5_207)]) [2, 3, 4, 1, 0] rfl ?_
          exact g_at fun Q hQ => hQ ⟨r2_207, r3_38, r5_207, (E_11.trans E_207)⟩
        intro J207
        refine g_ifne (pc := 90) X r5_11 (off := 30) (tgt := 120) rfl (dl_at t_X24_roman 50 rfl) (fun _ => ?_) (fun _ => ?_)
        · refine g_iload (pc := 120) X (i := 6) (q := 7) (x := x6_27) rfl (dl_at t_X24_roman 64 rfl) ?_
          refine g_bipush (pc := 122) X (n := 9) rfl (dl_at t_X24_roman 65 rfl) ?_
          refine g_icmpne (pc := 124) X r6_27 (r32_c rfl) (off := 20) (tgt := 144) rfl (dl_at t_X24_roman 66 rfl) (fun _ => ?_) (fun _ => ?_)
          · refine g_iload (pc := 144) X (i := 6) (q := 7) (x := x6_27) rfl (dl_at t_X24_roman 76 rfl) ?_
            refine g_iconst (pc := 146) X (n := 4) (dl_at t_X24_roman 77 rfl) ?_
            refine g_icmpne (pc := 147) X r6_27 (r32_c rfl) (off := 20) (tgt := 167) rfl (dl_at t_X24_roman 78 rfl) (fun _ => ?_) (fun _ => ?_)
            · refine g_iload (pc := 167) X (i := 6) (q := 7) (x := x6_27) rfl (dl_at t_X24_roman 88 rfl) ?_
              refine g_iconst (pc := 169) X (n := 5) (dl_at t_X24_roman 89 rfl) ?_
              refine g_join (γ := Int × Hp) (fun q => r32 q.1 ∧ Ext h_11 q.2) 181 (fun q => [(0, rv D a0), (2, iv q.1), (3, iv x3_38), (4, rv D x4_6), (5, iv x5_11), (6, iv x6_27), (7, iv v43)]) (fun q => []) (fun q => q.2) (fun q => m_X24_roman_j181 a0 x3_38 x5_11 x6_27 v43 q.1 q.2) ?_ ?_
              · rintro ⟨x2_181, h_181⟩ ⟨r2_181, E_181⟩
                try dsimp only
                unfold m_X24_roman_j181
                refine g_iconst (pc := 181) X (n := 0) (dl_at t_X24_roman 96 rfl) ?_
                refine g_ltz (Or.inl rfl) fun x10_182 r10_182 => ?_
                refine g_istore (pc := 182) X (i := 10) (x := x10_182) (rest := [(0, rv D a0), (2, iv x2_181), (3, iv x3_38), (4, rv D x4_6), (5, iv x5_11), (6, iv x6_27), (7, iv v43)]) (Nat.le_of_ble_eq_true rfl) [0, 1, 2, 3, 4, 5, 6] rfl rfl (dl_at t_X24_roman 97 rfl) ?_
                refine g_ls (ls2 := [(0, rv D a0), (2, iv x2_181), (3, iv x3_38), (4, rv D x4_6), (5, iv x5_11), (6, iv x6_27), (7, iv v43), (10, iv x10_182)]) [1, 2, 3, 4, 5, 6, 7, 0] rfl ?_
                refine g_loop1 (fun (q : Int × Int × Hp) => [(0, rv D a0), (2, iv q.1), (3, iv x3_38), (4, rv D x4_6), (5, iv x5_11), (6, iv x6_27), (7, iv v43), (10, iv q.2.1)]) (fun (q : Int × Int × Hp) => q.2.2) (fun (q : Int × Int × Hp) => r32 q.1 ∧ r32 q.2.1 ∧ Ext h_181 q.2.2) 207 (fun (y207 : Int × Hp) => [(0, rv D a0), (2, iv y207.1), (3, iv x3_38), (4, rv D x4_6), (5, iv x5_11)]) (fun (y207 : Int × Hp) => y207.2) (fun (y207 : Int × Hp) => r32 y207.1 ∧ Ext h_181 y207.2) (x2_181, x10_182, h_181) ⟨r2_181, (r32_z r10_182), (Ext.refl _)⟩ ?_ ?_
                · rintro ⟨x2_184, x10_184, h_184⟩ ⟨r2_184, r10_184, E_184⟩
                  try dsimp only
                  unfold m_X24_roman_l184
                  refine g_iload (pc := 184) X (i := 10) (q := 7) (x := x10_184) rfl (dl_at t_X24_roman 98 rfl) ?_
                  refine g_iload (pc := 186) X (i := 6) (q := 5) (x := x6_27) rfl (dl_at t_X24_roman 99 rfl) ?_
                  refine g_iconst (pc := 188) X (n := 5) (dl_at t_X24_roman 100 rfl) ?_
                  refine g_irem (pc := 189) X r6_27 (r32_c rfl) (by decide) (dl_at t_X24_roman 101 rfl) ?_
                  refine g_icmpge (pc := 190) X r10_184 (r32_tmod r6_27) (off := 17) (tgt := 207) rfl (dl_at t_X24_roman 102 rfl) (fun _ => ?_) (fun _ => ?_)
                  · refine g_ls (ls2 := [(0, rv D a0), (2, iv x2_184), (3, iv x3_38), (4, rv D x4_6), (5, iv x5_11)]) [0, 1, 2, 3, 4] rfl ?_
                    exact g_at fun Q hQ => hQ ⟨r2_184, E_184⟩
                  refine g_aload_n (pc := 193) X (j := 0) (i := 0) (q := 0) (x := a0) rfl rfl (dl_at t_X24_roman 103 rfl) ?_
                  refine g_iload_n (pc := 194) X (j := 2) (i := 2) (q := 1) (x := x2_184) rfl rfl (dl_at t_X24_roman 104 rfl) ?_
                  refine g_iload (pc := 195) X (i := 7) (q := 6) (x := v43) rfl (dl_at t_X24_roman 105 rfl) ?_
                  have k197 := kx (E_181.trans E_184) (by decide) k20
                  refine r_callWi (pc := 197) X (fun _ hv => s_X24_put k197 r2_184 g43 hv) cw_code q4761 q378 (in_Vk X (As := [iv x2_184, iv v43]) kX24 k197 (Or.inl q4758) q4760 qs284 cw_code q4761 ⟨by decide, by decide⟩ rfl (dl_at t_X24_roman 106 rfl)) (dl_at t_X24_roman 106 rfl) (cat24 (st := []) (Nat.le_of_ble_eq_true rfl)) (Nat.le_of_ble_eq_true rfl) (Nat.le_of_ble_eq_true rfl) fun v197 h197 g197 E197 => ?_
                  refine g_istore_n (pc := 200) X (j := 2) (i := 2) (x := v197) (rest := [(0, rv D a0), (3, iv x3_38), (4, rv D x4_6), (5, iv x5_11), (6, iv x6_27), (7, iv v43), (10, iv x10_184)]) rfl (Nat.le_of_ble_eq_true rfl) [0, 2, 3, 4, 5, 6, 7] rfl rfl (dl_at t_X24_roman 107 rfl) ?_
                  refine r_iinc (pc := 201) X (i := 10) (q := 7) (n := 1) (x := x10_184) (rest := [(2, iv v197), (0, rv D a0), (3, iv x3_38), (4, rv D x4_6), (5, iv x5_11), (6, iv x6_27), (7, iv v43)]) rfl r10_184 (r32_c rfl) (Nat.le_of_ble_eq_true rfl) [0, 1, 2, 3, 4, 5, 6] rfl rfl (dl_at t_X24_roman 108 rfl) fun x10_201 r10_201 => ?_
                  refine g_goto (pc := 204) X (off := (-20)) (tgt := 184) rfl (dl_at t_X24_roman 109 rfl) ?_
                  refine g_ls (ls2 := [(0, rv D a0), (2, iv v197), (3, iv x3_38), (4, rv D x4_6), (5, iv x5_11), (6, iv x6_27), (7, iv v43), (10, iv x10_201)]) [2, 1, 3, 4, 5, 6, 7, 0] rfl ?_
                  exact g_at fun Q hQ => hQ ⟨g197, r10_201, (E_184.trans E197)⟩
                · rintro ⟨x2_207_1, h_207_1⟩ ⟨r2_207_1, E_207_1⟩
                  try dsimp only [sE]
                  exact J207 (x2_207_1, h_207_1) ⟨r2_207_1, (E_181.trans E_207_1)⟩
              intro J181
              refine g_icmplt (pc := 170) X r6_27 (r32_c rfl) (off := 11) (tgt := 181) rfl (dl_at t_X24_roman 90 rfl) (fun _ => ?_) (fun _ => ?_)
              · refine g_ls (ls2 := [(0, rv D a0), (2, iv x2_11), (3, iv x3_38), (4, rv D x4_6), (5, iv x5_11), (6, iv x6_27), (7, iv v43)]) [2, 3, 4, 5, 6, 7, 8] rfl ?_
                exact J181 (x2_11, h_11) ⟨r2_11, (Ext.refl _)⟩
              refine g_aload_n (pc := 173) X (j := 0) (i := 0) (q := 2) (x := a0) rfl rfl (dl_at t_X24_roman 91 rfl) ?_
              refine g_iload_n (pc := 174) X (j := 2) (i := 2) (q := 3) (x := x2_11) rfl rfl (dl_at t_X24_roman 92 rfl) ?_
              refine g_iload (pc := 175) X (i := 8) (q := 1) (x := s0_66) rfl (dl_at t_X24_roman 93 rfl) ?_
              refine r_callWi (pc := 177) X (fun _ hv => s_X24_put k20 r2_11 rs0_66 hv) cw_code q4761 q378 (in_Vk X (As := [iv x2_11, iv s0_66]) kX24 k20 (Or.inl q4758) q4760 qs284 cw_code q4761 ⟨by decide, by decide⟩ rfl (dl_at t_X24_roman 94 rfl)) (dl_at t_X24_roman 94 rfl) (cat24 (st := []) (Nat.le_of_ble_eq_true rfl)) (Nat.le_of_ble_eq_true rfl) (Nat.le_of_ble_eq_true rfl) fun v177 h177 g177 E177 => ?_
              refine g_istore_n (pc := 180) X (j := 2) (i := 2) (x := v177) (rest := [(0, rv D a0), (3, iv x3_38), (4, rv D x4_6), (5, iv x5_11), (6, iv x6_27), (7, iv v43)]) rfl (Nat.le_of_ble_eq_true rfl) [2, 4, 5, 6, 7, 8] rfl rfl (dl_at t_X24_roman 95 rfl) ?_
              refine g_ls (ls2 := [(0, rv D a0), (2, iv v177), (3, iv x3_38), (4, rv D x4_6), (5, iv x5_11), (6, iv x6_27), (7, iv v43)]) [1, 0, 2, 3, 4, 5, 6] rfl ?_
              exact J181 (v177, h177) ⟨g177, E177⟩
            refine g_aload_n (pc := 150) X (j := 0) (i := 0) (q := 2) (x := a0) rfl rfl (dl_at t_X24_roman 79 rfl) ?_
            refine g_aload_n (pc := 151) X (j := 0) (i := 0) (q := 2) (x := a0) rfl rfl (dl_at t_X24_roman 80 rfl) ?_
            refine g_iload_n (pc := 152) X (j := 2) (i := 2) (q := 3) (x := x2_11) rfl rfl (dl_at t_X24_roman 81 rfl) ?_
            refine g_iload (pc := 153) X (i := 7) (q := 8) (x := v43) rfl (dl_at t_X24_roman 82 rfl) ?_
            refine r_callWi (pc := 155) X (fun _ hv => s_X24_put k20 r2_11 g43 hv) cw_code q4761 q378 (in_Vk X (As := [iv x2_11, iv v43]) kX24 k20 (Or.inl q4758) q4760 qs284 cw_code q4761 ⟨by decide, by decide⟩ rfl (dl_at t_X24_roman 83 rfl)) (dl_at t_X24_roman 83 rfl) (cat24 (st := [rv D a0]) (Nat.le_of_ble_eq_true rfl)) (Nat.le_of_ble_eq_true rfl) (Nat.le_of_ble_eq_true rfl) fun v155 h155 g155 E155 => ?_
            refine g_iload (pc := 158) X (i := 8) (q := 1) (x := s0_66) rfl (dl_at t_X24_roman 84 rfl) ?_
            have k160 := kx E155 (by decide) k20
            refine r_callWi (pc := 160) X (fun _ hv => s_X24_put k160 g155 rs0_66 hv) cw_code q4761 q378 (in_Vk X (As := [iv v155, iv s0_66]) kX24 k160 (Or.inl q4758) q4760 qs284 cw_code q4761 ⟨by decide, by decide⟩ rfl (dl_at t_X24_roman 85 rfl)) (dl_at t_X24_roman 85 rfl) (cat24 (st := []) (Nat.le_of_ble_eq_true rfl)) (Nat.le_of_ble_eq_true rfl) (Nat.le_of_ble_eq_true rfl) fun v160 h160 g160 E160 => ?_
            refine g_istore_n (pc := 163) X (j := 2) (i := 2) (x := v160) (rest := [(0, rv D a0), (3, iv x3_38), (4, rv D x4_6), (5, iv x5_11)]) rfl (Nat.le_of_ble_eq_true rfl) [2, 4, 5, 6] rfl rfl (dl_at t_X24_roman 86 rfl) ?_
            refine g_goto (pc := 164) X (off := 43) (tgt := 207) rfl (dl_at t_X24_roman 87 rfl) ?_
            refine g_ls (ls2 := [(0, rv D a0), (2, iv v160), (3, iv x3_38), (4, rv D x4_6), (5, iv x5_11)]) [1, 0, 2, 3, 4] rfl ?_
            exact J207 (v160, h160) ⟨g160, (E155.trans E160)⟩
          refine g_aload_n (pc := 127) X (j := 0) (i := 0) (q := 2) (x := a0) rfl rfl (dl_at t_X24_roman 67 rfl) ?_
          refine g_aload_n (pc := 128) X (j := 0) (i := 0) (q := 2) (x := a0) rfl rfl (dl_at t_X24_roman 68 rfl) ?_
          refine g_iload_n (pc := 129) X (j := 2) (i := 2) (q := 3) (x := x2_11) rfl rfl (dl_at t_X24_roman 69 rfl) ?_
          refine g_iload (pc := 130) X (i := 7) (q := 8) (x := v43) rfl (dl_at t_X24_roman 70 rfl) ?_
          refine r_callWi (pc := 132) X (fun _ hv => s_X24_put k20 r2_11 g43 hv) cw_code q4761 q378 (in_Vk X (As := [iv x2_11, iv v43]) kX24 k20 (Or.inl q4758) q4760 qs284 cw_code q4761 ⟨by decide, by decide⟩ rfl (dl_at t_X24_roman 71 rfl)) (dl_at t_X24_roman 71 rfl) (cat24 (st := [rv D a0]) (Nat.le_of_ble_eq_true rfl)) (Nat.le_of_ble_eq_true rfl) (Nat.le_of_ble_eq_true rfl) fun v132 h132 g132 E132 => ?_
          refine g_iload (pc := 135) X (i := 9) (q := 0) (x := s0_86) rfl (dl_at t_X24_roman 72 rfl) ?_
          have k137 := kx E132 (by decide) k20
          refine r_callWi (pc := 137) X (fun _ hv => s_X24_put k137 g132 rs0_86 hv) cw_code q4761 q378 (in_Vk X (As := [iv v132, iv s0_86]) kX24 k137 (Or.inl q4758) q4760 qs284 cw_code q4761 ⟨by decide, by decide⟩ rfl (dl_at t_X24_roman 73 rfl)) (dl_at t_X24_roman 73 rfl) (cat24 (st := []) (Nat.le_of_ble_eq_true rfl)) (Nat.le_of_ble_eq_true rfl) (Nat.le_of_ble_eq_true rfl) fun v137 h137 g137 E137 => ?_
          refine g_istore_n (pc := 140) X (j := 2) (i := 2) (x := v137) (rest := [(0, rv D a0), (3, iv x3_38), (4, rv D x4_6), (5, iv x5_11)]) rfl (Nat.le_of_ble_eq_true rfl) [2, 4, 5, 6] rfl rfl (dl_at t_X24_roman 74 rfl) ?_
          refine g_goto (pc := 141) X (off := 66) (tgt := 207) rfl (dl_at t_X24_roman 75 rfl) ?_
          refine g_ls (ls2 := [(0, rv D a0), (2, iv v137), (3, iv x3_38), (4, rv D x4_6), (5, iv x5_11)]) [1, 0, 2, 3, 4] rfl ?_
          exact J207 (v137, h137) ⟨g137, (E132.trans E137)⟩
        refine g_iconst (pc := 93) X (n := 0) (dl_at t_X24_roman 51 rfl) ?_
        refine g_ltz (Or.inl rfl) fun x10_94 r10_94 => ?_
        refine g_istore (pc := 94) X (i := 10) (x := x10_94) (rest := [(0, rv D a0), (2, iv x2_11), (3, iv x3_38), (4, rv D x4_6), (5, iv x5_11), (6, iv x6_27), (7, iv v43)]) (Nat.le_of_ble_eq_true rfl) [2, 3, 4, 5, 6, 7, 8] rfl rfl (dl_at t_X24_roman 52 rfl) ?_
        refine g_ls (ls2 := [(0, rv D a0), (2, iv x2_11), (3, iv x3_38), (4, rv D x4_6), (5, iv x5_11), (6, iv x6_27), (7, iv v43), (10, iv x10_94)]) [1, 2, 3, 4, 5, 6, 7, 0] rfl ?_
        refine g_loop1 (fun (q : Int × Int × Hp) => [(0, rv D a0), (2, iv q.1), (3, iv x3_38), (4, rv D x4_6), (5, iv x5_11), (6, iv x6_27), (7, iv v43), (10, iv q.2.1)]) (fun (q : Int × Int × Hp) => q.2.2) (fun (q : Int × Int × Hp) => r32 q.1 ∧ r32 q.2.1 ∧ Ext h_11 q.2.2) 207 (fun (y207_1 : Int × Hp) => [(0, rv D a0), (2, iv y207_1.1), (3, iv x3_38), (4, rv D x4_6), (5, iv x5_11)]) (fun (y207_1 : Int × Hp) => y207_1.2) (fun (y207_1 : Int × Hp) => r32 y207_1.1 ∧ Ext h_11 y207_1.2) (x2_11, x10_94, h_11) ⟨r2_11, (r32_z r10_94), (Ext.refl _)⟩ ?_ ?_
        · rintro ⟨x2_96, x10_96, h_96⟩ ⟨r2_96, r10_96, E_96⟩
          try dsimp only
          unfold m_X24_roman_l96
          refine g_iload (pc := 96) X (i := 10) (q := 7) (x := x10_96) rfl (dl_at t_X24_roman 53 rfl) ?_
          refine g_iload (pc := 98) X (i := 6) (q := 5) (x := x6_27) rfl (dl_at t_X24_roman 54 rfl) ?_
          refine g_icmpge (pc := 100) X r10_96 r6_27 (off := 17) (tgt := 117) rfl (dl_at t_X24_roman 55 rfl) (fun _ => ?_) (fun _ => ?_)
          · refine g_goto (pc := 117) X (off := 90) (tgt := 207) rfl (dl_at t_X24_roman 63 rfl) ?_
            refine g_ls (ls2 := [(0, rv D a0), (2, iv x2_96), (3, iv x3_38), (4, rv D x4_6), (5, iv x5_11)]) [0, 1, 2, 3, 4] rfl ?_
            exact g_at fun Q hQ => hQ ⟨r2_96, E_96⟩
          refine g_aload_n (pc := 103) X (j := 0) (i := 0) (q := 0) (x := a0) rfl rfl (dl_at t_X24_roman 56 rfl) ?_
          refine g_iload_n (pc := 104) X (j := 2) (i := 2) (q := 1) (x := x2_96) rfl rfl (dl_at t_X24_roman 57 rfl) ?_
          refine g_iload (pc := 105) X (i := 7) (q := 6) (x := v43) rfl (dl_at t_X24_roman 58 rfl) ?_
          have k107 := kx E_96 (by decide) k20
          refine r_callWi (pc := 107) X (fun _ hv => s_X24_put k107 r2_96 g43 hv) cw_code q4761 q378 (in_Vk X (As := [iv x2_96, iv v43]) kX24 k107 (Or.inl q4758) q4760 qs284 cw_code q4761 ⟨by decide, by decide⟩ rfl (dl_at t_X24_roman 59 rfl)) (dl_at t_X24_roman 59 rfl) (cat24 (st := []) (Nat.le_of_ble_eq_true rfl)) (Nat.le_of_ble_eq_true rfl) (Nat.le_of_ble_eq_true rfl) fun v107 h107 g107 E107 => ?_
          refine g_istore_n (pc := 110) X (j := 2) (i := 2) (x := v107) (rest := [(0, rv D a0), (3, iv x3_38), (4, rv D x4_6), (5, iv x5_11), (6, iv x6_27), (7, iv v43), (10, iv x10_96)]) rfl (Nat.le_of_ble_eq_true rfl) [0, 2, 3, 4, 5, 6, 7] rfl rfl (dl_at t_X24_roman 60 rfl) ?_
          refine r_iinc (pc := 111) X (i := 10) (q := 7) (n := 1) (x := x10_96) (rest := [(2, iv v107), (0, rv D a0), (3, iv x3_38), (4, rv D x4_6), (5, iv x5_11), (6, iv x6_27), (7, iv v43)]) rfl r10_96 (r32_c rfl) (Nat.le_of_ble_eq_true rfl) [0, 1, 2, 3, 4, 5, 6] rfl rfl (dl_at t_X24_roman 61 rfl) fun x10_111 r10_111 => ?_
          refine g_goto (pc := 114) X (off := (-18)) (tgt := 96) rfl (dl_at t_X24_roman 62 rfl) ?_
          refine g_ls (ls2 := [(0, rv D a0), (2, iv v107), (3, iv x3_38), (4, rv D x4_6), (5, iv x5_11), (6, iv x6_27), (7, iv v43), (10, iv x10_111)]) [2, 1, 3, 4, 5, 6, 7, 0] rfl ?_
          exact g_at fun Q hQ => hQ ⟨g107, r10_111, (E_96.trans E107)⟩
        · rintro ⟨x2_207_2, h_207_2⟩ ⟨r2_207_2, E_207_2⟩
          try dsimp only [sE]
          exact J207 (x2_207_2, h_207_2) ⟨r2_207_2, E_207_2⟩
      intro J86
      refine g_ifle (pc := 70) X r5_11 (off := 15) (tgt := 85) rfl (dl_at t_X24_roman 40 rfl) (fun _ => ?_) (fun _ => ?_)
      · refine g_iconst (pc := 85) X (n := 0) (dl_at t_X24_roman 47 rfl) ?_
        refine g_ls (ls2 := [(0, rv D a0), (2, iv x2_11), (3, iv x3_38), (4, rv D x4_6), (5, iv x5_11), (6, iv x6_27), (7, iv v43), (8, iv s0_66)]) [2, 3, 4, 5, 6, 7, 1, 0] rfl ?_
        exact J86 0 (r32_c rfl)
      refine g_aload (pc := 73) X (i := 4) (q := 5) (x := x4_6) rfl (dl_at t_X24_roman 41 rfl) ?_
      refine g_iload (pc := 75) X (i := 5) (q := 6) (x := x5_11) rfl (dl_at t_X24_roman 42 rfl) ?_
      refine g_iconst (pc := 77) X (n := 2) (dl_at t_X24_roman 43 rfl) ?_
      refine g_isub (pc := 78) X r5_11 (r32_c rfl) (dl_at t_X24_roman 44 rfl) ?_
      refine r_sat (pc := 79) X (r32_w _) q4757 (cat24 (st := []) (Nat.le_of_ble_eq_true rfl)) (Nat.le_of_ble_eq_true rfl) (Nat.le_of_ble_eq_true rfl) (dl_at t_X24_roman 45 rfl) fun v79 g79 => ?_
      refine g_goto (pc := 82) X (off := 4) (tgt := 86) rfl (dl_at t_X24_roman 46 rfl) ?_
      refine g_ls (ls2 := [(0, rv D a0), (2, iv x2_11), (3, iv x3_38), (4, rv D x4_6), (5, iv x5_11), (6, iv x6_27), (7, iv v43), (8, iv s0_66)]) [2, 3, 4, 5, 6, 7, 1, 0] rfl ?_
      exact J86 v79 g79
    intro J66
    refine g_ifle (pc := 50) X r5_11 (off := 15) (tgt := 65) rfl (dl_at t_X24_roman 30 rfl) (fun _ => ?_) (fun _ => ?_)
    · refine g_iconst (pc := 65) X (n := 0) (dl_at t_X24_roman 37 rfl) ?_
      refine g_ls (ls2 := [(0, rv D a0), (2, iv x2_11), (3, iv x3_38), (4, rv D x4_6), (5, iv x5_11), (6, iv x6_27), (7, iv v43)]) [5, 3, 2, 6, 4, 1, 0] rfl ?_
      exact J66 0 (r32_c rfl)
    refine g_aload (pc := 53) X (i := 4) (q := 6) (x := x4_6) rfl (dl_at t_X24_roman 31 rfl) ?_
    refine g_iload (pc := 55) X (i := 5) (q := 4) (x := x5_11) rfl (dl_at t_X24_roman 32 rfl) ?_
    refine g_iconst (pc := 57) X (n := 1) (dl_at t_X24_roman 33 rfl) ?_
    refine g_isub (pc := 58) X r5_11 (r32_c rfl) (dl_at t_X24_roman 34 rfl) ?_
    refine r_sat (pc := 59) X (r32_w _) q4757 (cat24 (st := []) (Nat.le_of_ble_eq_true rfl)) (Nat.le_of_ble_eq_true rfl) (Nat.le_of_ble_eq_true rfl) (dl_at t_X24_roman 35 rfl) fun v59 g59 => ?_
    refine g_goto (pc := 62) X (off := 4) (tgt := 66) rfl (dl_at t_X24_roman 36 rfl) ?_
    refine g_ls (ls2 := [(0, rv D a0), (2, iv x2_11), (3, iv x3_38), (4, rv D x4_6), (5, iv x5_11), (6, iv x6_27), (7, iv v43)]) [5, 3, 2, 6, 4, 1, 0] rfl ?_
    exact J66 v59 g59
def k_X24_letters : List (Nat × Instr × Nat) := [(0, .iconst 0, 1), (1, .istore_n 2, 1), (2, .iload_n 1, 1), (3, .istore_n 3, 1), (4, .iload_n 3, 1), (5, .ifCond .le 34, 3), (8, .iinc 3 (-1), 3), (11, .aload_n 0, 1), (12, .getfield 93, 3), (15, .bipush 39, 2), (17, .iload_n 2, 1), (18, .isub, 1), (19, .bipush 97, 2), (21, .iload_n 3, 1), (22, .bipush 26, 2), (24, .irem, 1), (25, .iadd, 1), (26, .i2b, 1), (27, .bastore, 1), (28, .iinc 2 1, 3), (31, .iload_n 3, 1), (32, .bipush 26, 2), (34, .idiv, 1), (35, .istore_n 3, 1), (36, .goto (-32), 3), (39, .iconst 0, 1), (40, .istore 4, 2), (42, .iload 4, 2), (44, .iload_n 2, 1), (45, .if_icmp .ge 28, 3), (48, .aload_n 0, 1), (49, .getfield 93, 3), (52, .iload 4, 2), (54, .aload_n 0, 1), (55, .getfield 93, 3), (58, .bipush 40, 2), (60, .iload_n 2, 1), (61, .isub, 1), (62, .iload 4, 2), (64, .iadd, 1), (65, .baload, 1), (66, .bastore, 1), (67, .iinc 4 1, 3), (70, .goto (-28), 3), (73, .iload_n 2, 1), (74, .ireturn, 1)]
theorem t_X24_letters : ∀ q ∈ k_X24_letters, decode cX24_letters q.1 = .ok q.2 := dl_all (by decide +kernel)
noncomputable def m_X24_letters_l4 (a0 x2_4 x3_4 : Int) (h_4 : Hp) : Option ((Int × Int × Hp) ⊕ ((Int × Hp))) :=
  if x3_4 ≤ 0 then (some (.inr (x2_4, h_4)))
  else (lt_ (w32 (x3_4 + (-1))) fun x3_8 =>
  gd (h_4 (h_4 a0 25) (-2) % 16 = 2 ∧ (0 : Int) ≤ (w32 (39 - x2_4)) ∧ (w32 (39 - x2_4)) < h_4 (h_4 a0 25) (-1)) (pt h_4 (h_4 a0 25) (w32 (39 - x2_4)) (w8 (w32 (97 + (Int.tmod x3_8 26)))) fun h27 =>
  lt_ (w32 (x2_4 + 1)) fun x2_28 =>
  lt_ (w32 (Int.tdiv x3_8 26)) fun x3_35 =>
  some (.inl (x2_28, x3_35, h27))))
noncomputable def m_X24_letters_l42 (a0 x2_39 x4_42 : Int) (h_42 : Hp) : Option ((Int × Hp) ⊕ ((Int × Hp))) :=
  if x2_39 ≤ x4_42 then (some (.inr (x2_39, h_42)))
  else (gd (h_42 (h_42 a0 25) (-2) % 16 = 2 ∧ (0 : Int) ≤ (w32 ((w32 (40 - x2_39)) + x4_42)) ∧ (w32 ((w32 (40 - x2_39)) + x4_42)) < h_42 (h_42 a0 25) (-1)) (gd (h_42 (h_42 a0 25) (-2) % 16 = 2 ∧ (0 : Int) ≤ x4_42 ∧ x4_42 < h_42 (h_42 a0 25) (-1)) (pt h_42 (h_42 a0 25) x4_42 (h_42 (h_42 a0 25) (w32 ((w32 (40 - x2_39)) + x4_42))) fun h66 =>
  lt_ (w32 (x4_42 + 1)) fun x4_67 =>
  some (.inl (x4_67, h66)))))
noncomputable def m_X24_letters (a0 a1 : Int) (h : Hp) : Option (Int × Hp) :=
  lt_ 0 fun x2_1 =>
  (lp (fun (q : Int × Int × Hp) => m_X24_letters_l4 a0 q.1 q.2.1 q.2.2) (x2_1, a1, h)).bind (fun (y39 : Int × Hp) => lt_ 0 fun x4_40 =>
  (lp (fun (q : Int × Hp) => m_X24_letters_l42 a0 y39.1 q.1 q.2) (x4_40, y39.2)).bind (fun (x : Int × Hp) => some x))
theorem s_X24_letters {l : Launch} [NoTr l] {D : SD} {a0 a1 : Int} {h : Hp} (hk : h a0 (-2) = 400) (r1 : r32 a1) {r : Int × Hp} (hm : m_X24_letters a0 a1 h = some r) : Sim l D yX24_letters (Cond.code yX24_letters cX24_letters 5 (Option.some Jvm.ClassFile.FieldType.int)) 0 0 [rv D a0, iv a1] h 1 ((0, r.1), r.2) := by
  refine Sim.of (fin := fun (v : Int × Hp) => ((0, v.1), v.2)) (lsE := [(0, rv D a0), (1, iv a1)]) hm rfl cwS_code (la_r (la_i la_n)) (ll_r (ll_i ll_n)) ?_
  intro p e s m below meth c X hcw hmm hcc hnm hname
  unfold m_X24_letters
  refine g_iconst (pc := 0) X (n := 0) (dl_at t_X24_letters 0 rfl) ?_
  refine g_ltz (Or.inl rfl) fun x2_1 r2_1 => ?_
  refine g_istore_nN (pc := 1) X (j := 2) (i := 2) (x := x2_1) (b := 1) (w := iv a1) (rest := [(0, rv D a0)]) rfl (Nat.le_of_ble_eq_true rfl) [1, 0] rfl (by decide) rfl rfl (dl_at t_X24_letters 1 rfl) ?_
  refine g_iload_n (pc := 2) X (j := 1) (i := 1) (q := 1) (x := a1) rfl rfl (dl_at t_X24_letters 2 rfl) ?_
  refine g_istore_nN (pc := 3) X (j := 3) (i := 3) (x := a1) (b := 2) (w := iv x2_1) (rest := [(0, rv D a0)]) rfl (Nat.le_of_ble_eq_true rfl) [0, 2] rfl (by decide) rfl rfl (dl_at t_X24_letters 3 rfl) ?_
  refine g_ls (ls2 := [(0, rv D a0), (2, iv x2_1), (3, iv a1)]) [2, 1, 0] rfl ?_
  refine g_loop1 (fun (q : Int × Int × Hp) => [(0, rv D a0), (2, iv q.1), (3, iv q.2.1)]) (fun (q : Int × Int × Hp) => q.2.2) (fun (q : Int × Int × Hp) => r32 q.1 ∧ r32 q.2.1 ∧ Ext h q.2.2) 39 (fun (y39 : Int × Hp) => [(0, rv D a0), (2, iv y39.1)]) (fun (y39 : Int × Hp) => y39.2) (fun (y39 : Int × Hp) => r32 y39.1 ∧ Ext h y39.2) (x2_1, a1, h) ⟨(r32_z r2_1), r1, (Ext.refl _)⟩ ?_ ?_
  · rintro ⟨x2_4, x3_4, h_4⟩ ⟨r2_4, r3_4, E_4⟩
    try dsimp only
    unfold m_X24_letters_l4
    refine g_iload_n (pc := 4) X (j := 3) (i := 3) (q := 2) (x := x3_4) rfl rfl (dl_at t_X24_letters 4 rfl) ?_
    refine g_ifle (pc := 5) X r3_4 (off := 34) (tgt := 39) rfl (dl_at t_X24_letters 5 rfl) (fun _ => ?_) (fun _ => ?_)
    · refine g_ls (ls2 := [(0, rv D a0), (2, iv x2_4)]) [0, 1] rfl ?_
      exact g_at fun Q hQ => hQ ⟨r2_4, E_4⟩
    refine r_iincN (pc := 8) X (i := 3) (q := 2) (n := (-1)) (x := x3_4) (b := 2) (w := iv x2_4) (rest := [(0, rv D a0)]) rfl r3_4 (r32_c rfl) (Nat.le_of_ble_eq_true rfl) [1, 0] rfl (by decide) rfl rfl (dl_at t_X24_letters 6 rfl) fun x3_8 r3_8 => ?_
    refine g_aload_n (pc := 11) X (j := 0) (i := 0) (q := 2) (x := a0) rfl rfl (dl_at t_X24_letters 7 rfl) ?_
    have k12 := kx E_4 (by decide) hk
    refine r_getr (pc := 12) X fX24_25 k12 q3687 (dl_at t_X24_letters 8 rfl) ?_
    refine g_bipush (pc := 15) X (n := 39) rfl (dl_at t_X24_letters 9 rfl) ?_
    refine g_iload_n (pc := 17) X (j := 2) (i := 2) (q := 1) (x := x2_4) rfl rfl (dl_at t_X24_letters 10 rfl) ?_
    refine g_isub (pc := 18) X (r32_c rfl) r2_4 (dl_at t_X24_letters 11 rfl) ?_
    refine g_bipush (pc := 19) X (n := 97) rfl (dl_at t_X24_letters 12 rfl) ?_
    refine g_iload_n (pc := 21) X (j := 3) (i := 3) (q := 0) (x := x3_8) rfl rfl (dl_at t_X24_letters 13 rfl) ?_
    refine g_bipush (pc := 22) X (n := 26) rfl (dl_at t_X24_letters 14 rfl) ?_
    refine g_irem (pc := 24) X r3_8 (r32_c rfl) (by decide) (dl_at t_X24_letters 15 rfl) ?_
    refine g_iadd (pc := 25) X (r32_c rfl) (r32_tmod r3_8) (dl_at t_X24_letters 16 rfl) ?_
    refine g_i2b (pc := 26) X (r32_w _) (dl_at t_X24_letters 17 rfl) ?_
    refine g_gd fun k27 => ?_
    refine r_bastB (pc := 27) X (r32_w _) (b_w8 _) k27 (dl_at t_X24_letters 18 rfl) (fun h27 E27 => ?_)
    refine r_iinc (pc := 28) X (i := 2) (q := 1) (n := 1) (x := x2_4) (rest := [(3, iv x3_8), (0, rv D a0)]) rfl r2_4 (r32_c rfl) (Nat.le_of_ble_eq_true rfl) [0, 2] rfl rfl (dl_at t_X24_letters 19 rfl) fun x2_28 r2_28 => ?_
    refine g_iload_n (pc := 31) X (j := 3) (i := 3) (q := 1) (x := x3_8) rfl rfl (dl_at t_X24_letters 20 rfl) ?_
    refine g_bipush (pc := 32) X (n := 26) rfl (dl_at t_X24_letters 21 rfl) ?_
    refine g_idiv (pc := 34) X r3_8 (r32_c rfl) (by decide) (dl_at t_X24_letters 22 rfl) ?_
    refine g_lti (r32_w _) fun x3_35 r3_35 => ?_
    refine g_istore_nN (pc := 35) X (j := 3) (i := 3) (x := x3_35) (b := 2) (w := iv x2_28) (rest := [(0, rv D a0)]) rfl (Nat.le_of_ble_eq_true rfl) [0, 2] rfl (by decide) rfl rfl (dl_at t_X24_letters 23 rfl) ?_
    refine g_goto (pc := 36) X (off := (-32)) (tgt := 4) rfl (dl_at t_X24_letters 24 rfl) ?_
    refine g_ls (ls2 := [(0, rv D a0), (2, iv x2_28), (3, iv x3_35)]) [2, 1, 0] rfl ?_
    exact g_at fun Q hQ => hQ ⟨r2_28, r3_35, (E_4.trans E27)⟩
  · rintro ⟨x2_39, h_39⟩ ⟨r2_39, E_39⟩
    try dsimp only [sE]
    refine g_iconst (pc := 39) X (n := 0) (dl_at t_X24_letters 25 rfl) ?_
    refine g_ltz (Or.inl rfl) fun x4_40 r4_40 => ?_
    refine g_istore (pc := 40) X (i := 4) (x := x4_40) (rest := [(0, rv D a0), (2, iv x2_39)]) (Nat.le_of_ble_eq_true rfl) [0, 1] rfl rfl (dl_at t_X24_letters 26 rfl) ?_
    refine g_ls (ls2 := [(0, rv D a0), (2, iv x2_39), (4, iv x4_40)]) [1, 2, 0] rfl ?_
    refine g_loop0F (fun (q : Int × Hp) => [(0, rv D a0), (2, iv x2_39), (4, iv q.1)]) (fun (q : Int × Hp) => q.2) (fun (q : Int × Hp) => r32 q.1 ∧ Ext h_39 q.2) (x4_40, h_39) ⟨(r32_z r4_40), (Ext.refl _)⟩ ?_ (fun _ => rfl)
    · rintro ⟨x4_42, h_42⟩ ⟨r4_42, E_42⟩
      try dsimp only
      unfold m_X24_letters_l42
      refine g_iload (pc := 42) X (i := 4) (q := 2) (x := x4_42) rfl (dl_at t_X24_letters 27 rfl) ?_
      refine g_iload_n (pc := 44) X (j := 2) (i := 2) (q := 1) (x := x2_39) rfl rfl (dl_at t_X24_letters 28 rfl) ?_
      refine g_icmpge (pc := 45) X r4_42 r2_39 (off := 28) (tgt := 73) rfl (dl_at t_X24_letters 29 rfl) (fun _ => ?_) (fun _ => ?_)
      · refine g_iload_n (pc := 73) X (j := 2) (i := 2) (q := 1) (x := x2_39) rfl rfl (dl_at t_X24_letters 44 rfl) ?_
        exact g_at fun Q hQ => (g_iret (pc := 74) X r2_39 rfl rfl (dl_at t_X24_letters 45 rfl)) _ Q rfl hQ
      refine g_aload_n (pc := 48) X (j := 0) (i := 0) (q := 0) (x := a0) rfl rfl (dl_at t_X24_letters 30 rfl) ?_
      have k49 := kx (E_39.trans E_42) (by decide) hk
      refine r_getr (pc := 49) X fX24_25 k49 q3687 (dl_at t_X24_letters 31 rfl) ?_
      refine g_iload (pc := 52) X (i := 4) (q := 2) (x := x4_42) rfl (dl_at t_X24_letters 32 rfl) ?_
      refine g_aload_n (pc := 54) X (j := 0) (i := 0) (q := 0) (x := a0) rfl rfl (dl_at t_X24_letters 33 rfl) ?_
      refine r_getr (pc := 55) X fX24_25 k49 q3687 (dl_at t_X24_letters 34 rfl) ?_
      refine g_bipush (pc := 58) X (n := 40) rfl (dl_at t_X24_letters 35 rfl) ?_
      refine g_iload_n (pc := 60) X (j := 2) (i := 2) (q := 1) (x := x2_39) rfl rfl (dl_at t_X24_letters 36 rfl) ?_
      refine g_isub (pc := 61) X (r32_c rfl) r2_39 (dl_at t_X24_letters 37 rfl) ?_
      refine g_iload (pc := 62) X (i := 4) (q := 2) (x := x4_42) rfl (dl_at t_X24_letters 38 rfl) ?_
      refine g_iadd (pc := 64) X (r32_w _) r4_42 (dl_at t_X24_letters 39 rfl) ?_
      refine g_gd fun k65 => ?_
      refine g_bald (pc := 65) X (r32_w _) k65 (dl_at t_X24_letters 40 rfl) fun g65 => ?_
      refine g_gd fun k66 => ?_
      refine r_bastB (pc := 66) X r4_42 g65 k66 (dl_at t_X24_letters 41 rfl) (fun h66 E66 => ?_)
      refine r_iinc (pc := 67) X (i := 4) (q := 2) (n := 1) (x := x4_42) (rest := [(0, rv D a0), (2, iv x2_39)]) rfl r4_42 (r32_c rfl) (Nat.le_of_ble_eq_true rfl) [0, 1] rfl rfl (dl_at t_X24_letters 42 rfl) fun x4_67 r4_67 => ?_
      refine g_goto (pc := 70) X (off := (-28)) (tgt := 42) rfl (dl_at t_X24_letters 43 rfl) ?_
      refine g_ls (ls2 := [(0, rv D a0), (2, iv x2_39), (4, iv x4_67)]) [1, 2, 0] rfl ?_
      exact g_at fun Q hQ => hQ ⟨r4_67, (E_42.trans E66)⟩
def k_X24_form : List (Nat × Instr × Nat) := [(0, .iload_n 2, 1), (1, .iconst 1, 1), (2, .if_icmp .ne 21, 3), (5, .iload_n 1, 1), (6, .iconst 1, 1), (7, .if_icmp .lt 16, 3), (10, .iload_n 1, 1), (11, .sipush 3999, 3), (14, .if_icmp .gt 9, 3), (17, .aload_n 0, 1), (18, .iload_n 1, 1), (19, .invokevirtual 240, 3), (22, .ireturn, 1), (23, .iload_n 2, 1), (24, .iconst 2, 1), (25, .if_icmp .ne 14, 3), (28, .iload_n 1, 1), (29, .iconst 1, 1), (30, .if_icmp .lt 9, 3), (33, .aload_n 0, 1), (34, .iload_n 1, 1), (35, .invokevirtual 243, 3), (38, .ireturn, 1), (39, .iconst 0, 1), (40, .istore_n 3, 1), (41, .iload_n 1, 1), (42, .istore 4, 2), (44, .aload_n 0, 1), (45, .getfield 93, 3), (48, .bipush 39, 2), (50, .iload_n 3, 1), (51, .isub, 1), (52, .bipush 48, 2), (54, .iload 4, 2), (56, .bipush 10, 2), (58, .irem, 1), (59, .iadd, 1), (60, .i2b, 1), (61, .bastore, 1), (62, .iinc 3 1, 3), (65, .iload 4, 2), (67, .bipush 10, 2), (69, .idiv, 1), (70, .istore 4, 2), (72, .iload 4, 2), (74, .ifCond .gt (-30), 3), (77, .iconst 0, 1), (78, .istore 5, 2), (80, .iload 5, 2), (82, .iload_n 3, 1), (83, .if_icmp .ge 28, 3), (86, .aload_n 0, 1), (87, .getfield 93, 3), (90, .iload 5, 2), (92, .aload_n 0, 1), (93, .getfield 93, 3), (96, .bipush 40, 2), (98, .iload_n 3, 1), (99, .isub, 1), (100, .iload 5, 2), (102, .iadd, 1), (103, .baload, 1), (104, .bastore, 1), (105, .iinc 5 1, 3), (108, .goto (-28), 3), (111, .iload_n 3, 1), (112, .ireturn, 1)]
theorem t_X24_form : ∀ q ∈ k_X24_form, decode cX24_form q.1 = .ok q.2 := dl_all (by decide +kernel)
noncomputable def m_X24_form_l44 (a0 x3_44 x4_44 : Int) (h_44 : Hp) : Option ((Int × Int × Hp) ⊕ ((Int × Hp))) :=
  gd (h_44 (h_44 a0 25) (-2) % 16 = 2 ∧ (0 : Int) ≤ (w32 (39 - x3_44)) ∧ (w32 (39 - x3_44)) < h_44 (h_44 a0 25) (-1)) (pt h_44 (h_44 a0 25) (w32 (39 - x3_44)) (w8 (w32 (48 + (Int.tmod x4_44 10)))) fun h61 =>
  lt_ (w32 (x3_44 + 1)) fun x3_62 =>
  lt_ (w32 (Int.tdiv x4_44 10)) fun x4_70 =>
  if 0 < x4_70 then (some (.inl (x3_62, x4_70, h61)))
  else (some (.inr (x3_62, h61))))
noncomputable def m_X24_form_l80 (a0 x3_77 x5_80 : Int) (h_80 : Hp) : Option ((Int × Hp) ⊕ ((Int × Hp))) :=
  if x3_77 ≤ x5_80 then (some (.inr (x3_77, h_80)))
  else (gd (h_80 (h_80 a0 25) (-2) % 16 = 2 ∧ (0 : Int) ≤ (w32 ((w32 (40 - x3_77)) + x5_80)) ∧ (w32 ((w32 (40 - x3_77)) + x5_80)) < h_80 (h_80 a0 25) (-1)) (gd (h_80 (h_80 a0 25) (-2) % 16 = 2 ∧ (0 : Int) ≤ x5_80 ∧ x5_80 < h_80 (h_80 a0 25) (-1)) (pt h_80 (h_80 a0 25) x5_80 (h_80 (h_80 a0 25) (w32 ((w32 (40 - x3_77)) + x5_80))) fun h104 =>
  lt_ (w32 (x5_80 + 1)) fun x5_105 =>
  some (.inl (x5_105, h104)))))
noncomputable def m_X24_form_j39 (a0 a1 : Int) (h : Hp) : Option (Int × Hp) :=
  lt_ 0 fun x3_40 =>
  (lp (fun (q : Int × Int × Hp) => m_X24_form_l44 a0 q.1 q.2.1 q.2.2) (x3_40, a1, h)).bind (fun (y77 : Int × Hp) => lt_ 0 fun x5_78 =>
  (lp (fun (q : Int × Hp) => m_X24_form_l80 a0 y77.1 q.1 q.2) (x5_78, y77.2)).bind (fun (x : Int × Hp) => some x))
noncomputable def m_X24_form_j23 (a0 a1 a2 : Int) (h : Hp) : Option (Int × Hp) :=
  if a2 ≠ 2 then (m_X24_form_j39 a0 a1 h)
  else (if a1 < 1 then (m_X24_form_j39 a0 a1 h)
  else (bW (m_X24_letters a0 a1 h) fun v35 h35 =>
  some (v35, h35)))
noncomputable def m_X24_form (a0 a1 a2 : Int) (h : Hp) : Option (Int × Hp) :=
  if a2 ≠ 1 then (m_X24_form_j23 a0 a1 a2 h)
  else (if a1 < 1 then (m_X24_form_j23 a0 a1 a2 h)
  else (if 3999 < a1 then (m_X24_form_j23 a0 a1 a2 h)
  else (bW (m_X24_roman a0 a1 h) fun v19 h19 =>
  some (v19, h19))))
theorem s_X24_form {l : Launch} [NoTr l] {D : SD} {a0 a1 a2 : Int} {h : Hp} (hk : h a0 (-2) = 400) (r1 : r32 a1) (r2 : r32 a2) {r : Int × Hp} (hm : m_X24_form a0 a1 a2 h = some r) : Sim l D yX24_form (Cond.code yX24_form cX24_form 6 (Option.some Jvm.ClassFile.FieldType.int)) 5 246 [rv D a0, iv a1, iv a2] h 1 ((0, r.1), r.2) := by
  refine Sim.of (fin := fun (v : Int × Hp) => ((0, v.1), v.2)) (lsE := [(0, rv D a0), (1, iv a1), (2, iv a2)]) hm rfl cwS_code (la_r (la_i (la_i la_n))) (ll_r (ll_i (ll_i ll_n))) ?_
  intro p e s m below meth c X hcw hmm hcc hnm hname
  unfold m_X24_form
  refine g_iload_n (pc := 0) X (j := 2) (i := 2) (q := 2) (x := a2) rfl rfl (dl_at t_X24_form 0 rfl) ?_
  refine g_iconst (pc := 1) X (n := 1) (dl_at t_X24_form 1 rfl) ?_
  refine g_join (γ := Unit) (fun q => True) 23 (fun q => [(0, rv D a0), (1, iv a1), (2, iv a2)]) (fun q => []) (fun q => h) (fun q => m_X24_form_j23 a0 a1 a2 h) ?_ ?_
  · rintro _ _
    try dsimp only
    unfold m_X24_form_j23
    refine g_iload_n (pc := 23) X (j := 2) (i := 2) (q := 2) (x := a2) rfl rfl (dl_at t_X24_form 13 rfl) ?_
    refine g_iconst (pc := 24) X (n := 2) (dl_at t_X24_form 14 rfl) ?_
    refine g_join (γ := Unit) (fun q => True) 39 (fun q => [(0, rv D a0), (1, iv a1)]) (fun q => []) (fun q => h) (fun q => m_X24_form_j39 a0 a1 h) ?_ ?_
    · rintro _ _
      try dsimp only
      unfold m_X24_form_j39
      refine g_iconst (pc := 39) X (n := 0) (dl_at t_X24_form 23 rfl) ?_
      refine g_ltz (Or.inl rfl) fun x3_40 r3_40 => ?_
      refine g_istore_n (pc := 40) X (j := 3) (i := 3) (x := x3_40) (rest := [(0, rv D a0), (1, iv a1)]) rfl (Nat.le_of_ble_eq_true rfl) [0, 1] rfl rfl (dl_at t_X24_form 24 rfl) ?_
      refine g_iload_n (pc := 41) X (j := 1) (i := 1) (q := 2) (x := a1) rfl rfl (dl_at t_X24_form 25 rfl) ?_
      refine g_istoreN (pc := 42) X (i := 4) (x := a1) (b := 3) (w := iv x3_40) (rest := [(0, rv D a0)]) (Nat.le_of_ble_eq_true rfl) [0, 1] rfl (by decide) rfl rfl (dl_at t_X24_form 26 rfl) ?_
      refine g_ls (ls2 := [(0, rv D a0), (3, iv x3_40), (4, iv a1)]) [2, 1, 0] rfl ?_
      refine g_loop1 (fun (q : Int × Int × Hp) => [(0, rv D a0), (3, iv q.1), (4, iv q.2.1)]) (fun (q : Int × Int × Hp) => q.2.2) (fun (q : Int × Int × Hp) => r32 q.1 ∧ r32 q.2.1 ∧ Ext h q.2.2) 77 (fun (y77 : Int × Hp) => [(0, rv D a0), (3, iv y77.1)]) (fun (y77 : Int × Hp) => y77.2) (fun (y77 : Int × Hp) => r32 y77.1 ∧ Ext h y77.2) (x3_40, a1, h) ⟨(r32_z r3_40), r1, (Ext.refl _)⟩ ?_ ?_
      · rintro ⟨x3_44, x4_44, h_44⟩ ⟨r3_44, r4_44, E_44⟩
        try dsimp only
        unfold m_X24_form_l44
        refine g_aload_n (pc := 44) X (j := 0) (i := 0) (q := 0) (x := a0) rfl rfl (dl_at t_X24_form 27 rfl) ?_
        have k45 := kx E_44 (by decide) hk
        refine r_getr (pc := 45) X fX24_25 k45 q3687 (dl_at t_X24_form 28 rfl) ?_
        refine g_bipush (pc := 48) X (n := 39) rfl (dl_at t_X24_form 29 rfl) ?_
        refine g_iload_n (pc := 50) X (j := 3) (i := 3) (q := 1) (x := x3_44) rfl rfl (dl_at t_X24_form 30 rfl) ?_
        refine g_isub (pc := 51) X (r32_c rfl) r3_44 (dl_at t_X24_form 31 rfl) ?_
        refine g_bipush (pc := 52) X (n := 48) rfl (dl_at t_X24_form 32 rfl) ?_
        refine g_iload (pc := 54) X (i := 4) (q := 2) (x := x4_44) rfl (dl_at t_X24_form 33 rfl) ?_
        refine g_bipush (pc := 56) X (n := 10) rfl (dl_at t_X24_form 34 rfl) ?_
        refine g_irem (pc := 58) X r4_44 (r32_c rfl) (by decide) (dl_at t_X24_form 35 rfl) ?_
        refine g_iadd (pc := 59) X (r32_c rfl) (r32_tmod r4_44) (dl_at t_X24_form 36 rfl) ?_
        refine g_i2b (pc := 60) X (r32_w _) (dl_at t_X24_form 37 rfl) ?_
        refine g_gd fun k61 => ?_
        refine r_bastB (pc := 61) X (r32_w _) (b_w8 _) k61 (dl_at t_X24_form 38 rfl) (fun h61 E61 => ?_)
        refine r_iinc (pc := 62) X (i := 3) (q := 1) (n := 1) (x := x3_44) (rest := [(0, rv D a0), (4, iv x4_44)]) rfl r3_44 (r32_c rfl) (Nat.le_of_ble_eq_true rfl) [0, 2] rfl rfl (dl_at t_X24_form 39 rfl) fun x3_62 r3_62 => ?_
        refine g_iload (pc := 65) X (i := 4) (q := 2) (x := x4_44) rfl (dl_at t_X24_form 40 rfl) ?_
        refine g_bipush (pc := 67) X (n := 10) rfl (dl_at t_X24_form 41 rfl) ?_
        refine g_idiv (pc := 69) X r4_44 (r32_c rfl) (by decide) (dl_at t_X24_form 42 rfl) ?_
        refine g_lti (r32_w _) fun x4_70 r4_70 => ?_
        refine g_istoreN (pc := 70) X (i := 4) (x := x4_70) (b := 3) (w := iv x3_62) (rest := [(0, rv D a0)]) (Nat.le_of_ble_eq_true rfl) [0, 1] rfl (by decide) rfl rfl (dl_at t_X24_form 43 rfl) ?_
        refine g_iload (pc := 72) X (i := 4) (q := 0) (x := x4_70) rfl (dl_at t_X24_form 44 rfl) ?_
        refine g_ifgt (pc := 74) X r4_70 (off := (-30)) (tgt := 44) rfl (dl_at t_X24_form 45 rfl) (fun _ => ?_) (fun _ => ?_)
        · refine g_ls (ls2 := [(0, rv D a0), (3, iv x3_62), (4, iv x4_70)]) [2, 1, 0] rfl ?_
          exact g_at fun Q hQ => hQ ⟨r3_62, r4_70, (E_44.trans E61)⟩
        refine g_ls (ls2 := [(0, rv D a0), (3, iv x3_62)]) [2, 1] rfl ?_
        exact g_at fun Q hQ => hQ ⟨r3_62, (E_44.trans E61)⟩
      · rintro ⟨x3_77, h_77⟩ ⟨r3_77, E_77⟩
        try dsimp only [sE]
        refine g_iconst (pc := 77) X (n := 0) (dl_at t_X24_form 46 rfl) ?_
        refine g_ltz (Or.inl rfl) fun x5_78 r5_78 => ?_
        refine g_istore (pc := 78) X (i := 5) (x := x5_78) (rest := [(0, rv D a0), (3, iv x3_77)]) (Nat.le_of_ble_eq_true rfl) [0, 1] rfl rfl (dl_at t_X24_form 47 rfl) ?_
        refine g_ls (ls2 := [(0, rv D a0), (3, iv x3_77), (5, iv x5_78)]) [1, 2, 0] rfl ?_
        refine g_loop0F (fun (q : Int × Hp) => [(0, rv D a0), (3, iv x3_77), (5, iv q.1)]) (fun (q : Int × Hp) => q.2) (fun (q : Int × Hp) => r32 q.1 ∧ Ext h_77 q.2) (x5_78, h_77) ⟨(r32_z r5_78), (Ext.refl _)⟩ ?_ (fun _ => rfl)
        · rintro ⟨x5_80, h_80⟩ ⟨r5_80, E_80⟩
          try dsimp only
          unfold m_X24_form_l80
          refine g_iload (pc := 80) X (i := 5) (q := 2) (x := x5_80) rfl (dl_at t_X24_form 48 rfl) ?_
          refine g_iload_n (pc := 82) X (j := 3) (i := 3) (q := 1) (x := x3_77) rfl rfl (dl_at t_X24_form 49 rfl) ?_
          refine g_icmpge (pc := 83) X r5_80 r3_77 (off := 28) (tgt := 111) rfl (dl_at t_X24_form 50 rfl) (fun _ => ?_) (fun _ => ?_)
          · refine g_iload_n (pc := 111) X (j := 3) (i := 3) (q := 1) (x := x3_77) rfl rfl (dl_at t_X24_form 65 rfl) ?_
            exact g_at fun Q hQ => (g_iret (pc := 112) X r3_77 rfl rfl (dl_at t_X24_form 66 rfl)) _ Q rfl hQ
          refine g_aload_n (pc := 86) X (j := 0) (i := 0) (q := 0) (x := a0) rfl rfl (dl_at t_X24_form 51 rfl) ?_
          have k87 := kx (E_77.trans E_80) (by decide) hk
          refine r_getr (pc := 87) X fX24_25 k87 q3687 (dl_at t_X24_form 52 rfl) ?_
          refine g_iload (pc := 90) X (i := 5) (q := 2) (x := x5_80) rfl (dl_at t_X24_form 53 rfl) ?_
          refine g_aload_n (pc := 92) X (j := 0) (i := 0) (q := 0) (x := a0) rfl rfl (dl_at t_X24_form 54 rfl) ?_
          refine r_getr (pc := 93) X fX24_25 k87 q3687 (dl_at t_X24_form 55 rfl) ?_
          refine g_bipush (pc := 96) X (n := 40) rfl (dl_at t_X24_form 56 rfl) ?_
          refine g_iload_n (pc := 98) X (j := 3) (i := 3) (q := 1) (x := x3_77) rfl rfl (dl_at t_X24_form 57 rfl) ?_
          refine g_isub (pc := 99) X (r32_c rfl) r3_77 (dl_at t_X24_form 58 rfl) ?_
          refine g_iload (pc := 100) X (i := 5) (q := 2) (x := x5_80) rfl (dl_at t_X24_form 59 rfl) ?_
          refine g_iadd (pc := 102) X (r32_w _) r5_80 (dl_at t_X24_form 60 rfl) ?_
          refine g_gd fun k103 => ?_
          refine g_bald (pc := 103) X (r32_w _) k103 (dl_at t_X24_form 61 rfl) fun g103 => ?_
          refine g_gd fun k104 => ?_
          refine r_bastB (pc := 104) X r5_80 g103 k104 (dl_at t_X24_form 62 rfl) (fun h104 E104 => ?_)
          refine r_iinc (pc := 105) X (i := 5) (q := 2) (n := 1) (x := x5_80) (rest := [(0, rv D a0), (3, iv x3_77)]) rfl r5_80 (r32_c rfl) (Nat.le_of_ble_eq_true rfl) [0, 1] rfl rfl (dl_at t_X24_form 63 rfl) fun x5_105 r5_105 => ?_
          refine g_goto (pc := 108) X (off := (-28)) (tgt := 80) rfl (dl_at t_X24_form 64 rfl) ?_
          refine g_ls (ls2 := [(0, rv D a0), (3, iv x3_77), (5, iv x5_105)]) [1, 2, 0] rfl ?_
          exact g_at fun Q hQ => hQ ⟨r5_105, (E_80.trans E104)⟩
    intro J39
    refine g_icmpne (pc := 25) X r2 (r32_c rfl) (off := 14) (tgt := 39) rfl (dl_at t_X24_form 15 rfl) (fun _ => ?_) (fun _ => ?_)
    · refine g_ls (ls2 := [(0, rv D a0), (1, iv a1)]) [0, 1] rfl ?_
      exact J39 () trivial
    refine g_iload_n (pc := 28) X (j := 1) (i := 1) (q := 1) (x := a1) rfl rfl (dl_at t_X24_form 16 rfl) ?_
    refine g_iconst (pc := 29) X (n := 1) (dl_at t_X24_form 17 rfl) ?_
    refine g_icmplt (pc := 30) X r1 (r32_c rfl) (off := 9) (tgt := 39) rfl (dl_at t_X24_form 18 rfl) (fun _ => ?_) (fun _ => ?_)
    · refine g_ls (ls2 := [(0, rv D a0), (1, iv a1)]) [0, 1] rfl ?_
      exact J39 () trivial
    refine g_aload_n (pc := 33) X (j := 0) (i := 0) (q := 0) (x := a0) rfl rfl (dl_at t_X24_form 19 rfl) ?_
    refine g_iload_n (pc := 34) X (j := 1) (i := 1) (q := 1) (x := a1) rfl rfl (dl_at t_X24_form 20 rfl) ?_
    refine r_callWi (pc := 35) X (fun _ hv => s_X24_letters hk r1 hv) cw_code q4765 q378 (in_Vk X (As := [iv a1]) kX24 hk (Or.inl q4762) q4764 qs285 cw_code q4765 ⟨by decide, by decide⟩ rfl (dl_at t_X24_form 21 rfl)) (dl_at t_X24_form 21 rfl) (cat24 (st := []) (Nat.le_of_ble_eq_true rfl)) (Nat.le_of_ble_eq_true rfl) (Nat.le_of_ble_eq_true rfl) fun v35 h35 g35 E35 => ?_
    exact g_iret (pc := 38) X g35 rfl rfl (dl_at t_X24_form 22 rfl)
  intro J23
  refine g_icmpne (pc := 2) X r2 (r32_c rfl) (off := 21) (tgt := 23) rfl (dl_at t_X24_form 2 rfl) (fun _ => ?_) (fun _ => ?_)
  · exact J23 () trivial
  refine g_iload_n (pc := 5) X (j := 1) (i := 1) (q := 1) (x := a1) rfl rfl (dl_at t_X24_form 3 rfl) ?_
  refine g_iconst (pc := 6) X (n := 1) (dl_at t_X24_form 4 rfl) ?_
  refine g_icmplt (pc := 7) X r1 (r32_c rfl) (off := 16) (tgt := 23) rfl (dl_at t_X24_form 5 rfl) (fun _ => ?_) (fun _ => ?_)
  · exact J23 () trivial
  refine g_iload_n (pc := 10) X (j := 1) (i := 1) (q := 1) (x := a1) rfl rfl (dl_at t_X24_form 6 rfl) ?_
  refine g_sipush (pc := 11) X (n := 3999) rfl (dl_at t_X24_form 7 rfl) ?_
  refine g_icmpgt (pc := 14) X r1 (r32_c rfl) (off := 9) (tgt := 23) rfl (dl_at t_X24_form 8 rfl) (fun _ => ?_) (fun _ => ?_)
  · exact J23 () trivial
  refine g_aload_n (pc := 17) X (j := 0) (i := 0) (q := 0) (x := a0) rfl rfl (dl_at t_X24_form 9 rfl) ?_
  refine g_iload_n (pc := 18) X (j := 1) (i := 1) (q := 1) (x := a1) rfl rfl (dl_at t_X24_form 10 rfl) ?_
  refine r_callWi (pc := 19) X (fun _ hv => s_X24_roman hk r1 hv) cw_code q4755 q378 (in_Vk X (As := [iv a1]) kX24 hk (Or.inl q4752) q4754 qs283 cw_code q4755 ⟨by decide, by decide⟩ rfl (dl_at t_X24_form 11 rfl)) (dl_at t_X24_form 11 rfl) (cat24 (st := []) (Nat.le_of_ble_eq_true rfl)) (Nat.le_of_ble_eq_true rfl) (Nat.le_of_ble_eq_true rfl) fun v19 h19 g19 E19 => ?_
  exact g_iret (pc := 22) X g19 rfl rfl (dl_at t_X24_form 12 rfl)
def k_X24_say : List (Nat × Instr × Nat) := [(0, .aload_n 0, 1), (1, .getfield 257, 3), (4, .bipush 40, 2), (6, .if_icmp .le 4, 3), (9, .return_, 1), (10, .iload_n 1, 1), (11, .invokestatic 260, 3), (14, .ifCond .eq 20, 3), (17, .aload_n 0, 1), (18, .aload_n 0, 1), (19, .getfield 257, 3), (22, .ifCond .le 7, 3), (25, .iconst 1, 1), (26, .goto 4, 3), (29, .iconst 0, 1), (30, .putfield 263, 3), (33, .return_, 1), (34, .aload_n 0, 1), (35, .getfield 263, 3), (38, .ifCond .eq 29, 3), (41, .aload_n 0, 1), (42, .getfield 99, 3), (45, .aload_n 0, 1), (46, .getfield 257, 3), (49, .bipush 32, 2), (51, .bastore, 1), (52, .aload_n 0, 1), (53, .dup, 1), (54, .getfield 257, 3), (57, .iconst 1, 1), (58, .iadd, 1), (59, .putfield 257, 3), (62, .aload_n 0, 1), (63, .iconst 0, 1), (64, .putfield 263, 3), (67, .aload_n 0, 1), (68, .getfield 257, 3), (71, .bipush 40, 2), (73, .if_icmp .gt 24, 3), (76, .aload_n 0, 1), (77, .getfield 99, 3), (80, .aload_n 0, 1), (81, .getfield 257, 3), (84, .iload_n 1, 1), (85, .i2b, 1), (86, .bastore, 1), (87, .aload_n 0, 1), (88, .dup, 1), (89, .getfield 257, 3), (92, .iconst 1, 1), (93, .iadd, 1), (94, .putfield 257, 3), (97, .return_, 1)]
theorem t_X24_say : ∀ q ∈ k_X24_say, decode cX24_say q.1 = .ok q.2 := dl_all (by decide +kernel)
noncomputable def m_X24_say_j67 (a0 a1 : Int) (h_67 : Hp) : Option (Hp) :=
  if 40 < (h_67 a0 28) then (some h_67)
  else (gd (h_67 (h_67 a0 27) (-2) % 16 = 2 ∧ (0 : Int) ≤ (h_67 a0 28) ∧ (h_67 a0 28) < h_67 (h_67 a0 27) (-1)) (pt h_67 (h_67 a0 27) (h_67 a0 28) (w8 a1) fun h86 =>
  pt h86 a0 28 (w32 ((h86 a0 28) + 1)) fun h94 =>
  some h94))
noncomputable def m_X24_say (a0 a1 : Int) (h : Hp) : Option (Hp) :=
  if (h a0 28) ≤ 40 then ((m_X18_isBlank a1).bind fun v11 =>
  if v11 = 0 then (if (h a0 29) = 0 then (m_X24_say_j67 a0 a1 h)
  else (gd (h (h a0 27) (-2) % 16 = 2 ∧ (0 : Int) ≤ (h a0 28) ∧ (h a0 28) < h (h a0 27) (-1)) (pt h (h a0 27) (h a0 28) (w8 32) fun h51 =>
  pt h51 a0 28 (w32 ((h51 a0 28) + 1)) fun h59 =>
  pt h59 a0 29 0 fun h64 =>
  m_X24_say_j67 a0 a1 h64)))
  else (if (h a0 28) ≤ 0 then (pt h a0 29 0 fun h30 =>
  some h30)
  else (pt h a0 29 1 fun h30_1 =>
  some h30_1)))
  else (some h)
theorem s_X24_say {l : Launch} [NoTr l] {D : SD} {a0 a1 : Int} {h : Hp} (hk : h a0 (-2) = 400) (r1 : r32 a1) {r : Hp} (hm : m_X24_say a0 a1 h = some r) : Sim l D yX24_say (Cond.code yX24_say cX24_say 2 (Option.none : Option Jvm.ClassFile.FieldType)) 1 36 [rv D a0, iv a1] h 0 ((0, 0), r) := by
  refine Sim.of (fin := fun (v : Hp) => ((0, 0), v)) (lsE := [(0, rv D a0), (1, iv a1)]) hm rfl cwS_code (la_r (la_i la_n)) (ll_r (ll_i ll_n)) ?_
  intro p e s m below meth c X hcw hmm hcc hnm hname
  unfold m_X24_say
  refine g_aload_n (pc := 0) X (j := 0) (i := 0) (q := 0) (x := a0) rfl rfl (dl_at t_X24_say 0 rfl) ?_
  refine r_geti (pc := 1) X fX24_28 hk q3690 (dl_at t_X24_say 1 rfl) fun g1 => ?_
  refine g_bipush (pc := 4) X (n := 40) rfl (dl_at t_X24_say 2 rfl) ?_
  refine g_icmple (pc := 6) X g1 (r32_c rfl) (off := 4) (tgt := 10) rfl (dl_at t_X24_say 3 rfl) (fun _ => ?_) (fun _ => ?_)
  · refine g_iload_n (pc := 10) X (j := 1) (i := 1) (q := 1) (x := a1) rfl rfl (dl_at t_X24_say 5 rfl) ?_
    refine r_callRz (pc := 11) X (fun _ hv => s_X18_isBlank r1 hv) cw_code q4349 q372 (in_Sc X (As := [iv a1]) (Or.inr ⟨_, nw_in q4770 rfl⟩) q4348 q372 q4349 ⟨by decide, by decide⟩ rfl (dl_at t_X24_say 6 rfl)) (dl_at t_X24_say 6 rfl) (cat24 (st := []) (Nat.le_of_ble_eq_true rfl)) (Nat.le_of_ble_eq_true rfl) (Nat.le_of_ble_eq_true rfl) fun v11 g11 => ?_
    refine g_ifeq (pc := 14) X (r32_z g11) (off := 20) (tgt := 34) rfl (dl_at t_X24_say 7 rfl) (fun _ => ?_) (fun _ => ?_)
    · refine g_aload_n (pc := 34) X (j := 0) (i := 0) (q := 0) (x := a0) rfl rfl (dl_at t_X24_say 17 rfl) ?_
      refine r_getz (pc := 35) X fX24_29 hk q3691 (dl_at t_X24_say 18 rfl) fun g35 => ?_
      refine g_join (γ := Hp) (fun q => Ext h q) 67 (fun q => [(0, rv D a0), (1, iv a1)]) (fun q => []) (fun q => q) (fun q => m_X24_say_j67 a0 a1 q) ?_ ?_
      · rintro h_67 E_67
        try dsimp only
        unfold m_X24_say_j67
        refine g_aload_n (pc := 67) X (j := 0) (i := 0) (q := 0) (x := a0) rfl rfl (dl_at t_X24_say 35 rfl) ?_
        have k68 := kx E_67 (by decide) hk
        refine r_geti (pc := 68) X fX24_28 k68 q3690 (dl_at t_X24_say 36 rfl) fun g68 => ?_
        refine g_bipush (pc := 71) X (n := 40) rfl (dl_at t_X24_say 37 rfl) ?_
        refine g_icmpgt (pc := 73) X g68 (r32_c rfl) (off := 24) (tgt := 97) rfl (dl_at t_X24_say 38 rfl) (fun _ => ?_) (fun _ => ?_)
        · exact g_vret (pc := 97) X (v := 0) rfl rfl (dl_at t_X24_say 52 rfl)
        refine g_aload_n (pc := 76) X (j := 0) (i := 0) (q := 0) (x := a0) rfl rfl (dl_at t_X24_say 39 rfl) ?_
        refine r_getr (pc := 77) X fX24_27 k68 q3689 (dl_at t_X24_say 40 rfl) ?_
        refine g_aload_n (pc := 80) X (j := 0) (i := 0) (q := 0) (x := a0) rfl rfl (dl_at t_X24_say 41 rfl) ?_
        refine r_geti (pc := 81) X fX24_28 k68 q3690 (dl_at t_X24_say 42 rfl) fun g81 => ?_
        refine g_iload_n (pc := 84) X (j := 1) (i := 1) (q := 1) (x := a1) rfl rfl (dl_at t_X24_say 43 rfl) ?_
        refine g_i2b (pc := 85) X r1 (dl_at t_X24_say 44 rfl) ?_
        refine g_gd fun k86 => ?_
        refine r_bastB (pc := 86) X g81 (b_w8 _) k86 (dl_at t_X24_say 45 rfl) (fun h86 E86 => ?_)
        refine g_aload_n (pc := 87) X (j := 0) (i := 0) (q := 0) (x := a0) rfl rfl (dl_at t_X24_say 46 rfl) ?_
        refine g_dup (pc := 88) X rv_cat (dl_at t_X24_say 47 rfl) ?_
        have k89 := kx E86 (by decide) k68
        refine r_geti (pc := 89) X fX24_28 k89 q3690 (dl_at t_X24_say 48 rfl) fun g89 => ?_
        refine g_iconst (pc := 92) X (n := 1) (dl_at t_X24_say 49 rfl) ?_
        refine g_iadd (pc := 93) X g89 (r32_c rfl) (dl_at t_X24_say 50 rfl) ?_
        refine r_puti (pc := 94) X fX24_28 k89 q3690 rfl (dl_at t_X24_say 51 rfl) (r32_w _) (fun h94 E94 => ?_)
        exact g_vret (pc := 97) X (v := 0) rfl rfl (dl_at t_X24_say 52 rfl)
      intro J67
      refine g_ifeq (pc := 38) X (r32_z g35) (off := 29) (tgt := 67) rfl (dl_at t_X24_say 19 rfl) (fun _ => ?_) (fun _ => ?_)
      · exact J67 h (Ext.refl _)
      refine g_aload_n (pc := 41) X (j := 0) (i := 0) (q := 0) (x := a0) rfl rfl (dl_at t_X24_say 20 rfl) ?_
      refine r_getr (pc := 42) X fX24_27 hk q3689 (dl_at t_X24_say 21 rfl) ?_
      refine g_aload_n (pc := 45) X (j := 0) (i := 0) (q := 0) (x := a0) rfl rfl (dl_at t_X24_say 22 rfl) ?_
      refine r_geti (pc := 46) X fX24_28 hk q3690 (dl_at t_X24_say 23 rfl) fun g46 => ?_
      refine g_bipush (pc := 49) X (n := 32) rfl (dl_at t_X24_say 24 rfl) ?_
      refine g_gd fun k51 => ?_
      refine r_bast (pc := 51) X g46 (r32_c rfl) k51 (dl_at t_X24_say 25 rfl) (fun h51 E51 => ?_)
      refine g_aload_n (pc := 52) X (j := 0) (i := 0) (q := 0) (x := a0) rfl rfl (dl_at t_X24_say 26 rfl) ?_
      refine g_dup (pc := 53) X rv_cat (dl_at t_X24_say 27 rfl) ?_
      have k54 := kx E51 (by decide) hk
      refine r_geti (pc := 54) X fX24_28 k54 q3690 (dl_at t_X24_say 28 rfl) fun g54 => ?_
      refine g_iconst (pc := 57) X (n := 1) (dl_at t_X24_say 29 rfl) ?_
      refine g_iadd (pc := 58) X g54 (r32_c rfl) (dl_at t_X24_say 30 rfl) ?_
      refine r_puti (pc := 59) X fX24_28 k54 q3690 rfl (dl_at t_X24_say 31 rfl) (r32_w _) (fun h59 E59 => ?_)
      refine g_aload_n (pc := 62) X (j := 0) (i := 0) (q := 0) (x := a0) rfl rfl (dl_at t_X24_say 32 rfl) ?_
      refine g_iconst (pc := 63) X (n := 0) (dl_at t_X24_say 33 rfl) ?_
      have k64 := kx E59 (by decide) k54
      refine r_putz (pc := 64) X fX24_29 k64 q3691 rfl (dl_at t_X24_say 34 rfl) (Or.inl rfl) (fun h64 E64 => ?_)
      exact J67 h64 (E51.trans (E59.trans E64))
    refine g_aload_n (pc := 17) X (j := 0) (i := 0) (q := 0) (x := a0) rfl rfl (dl_at t_X24_say 8 rfl) ?_
    refine g_aload_n (pc := 18) X (j := 0) (i := 0) (q := 0) (x := a0) rfl rfl (dl_at t_X24_say 9 rfl) ?_
    refine r_geti (pc := 19) X fX24_28 hk q3690 (dl_at t_X24_say 10 rfl) fun g19 => ?_
    refine g_ifle (pc := 22) X g19 (off := 7) (tgt := 29) rfl (dl_at t_X24_say 11 rfl) (fun _ => ?_) (fun _ => ?_)
    · refine g_iconst (pc := 29) X (n := 0) (dl_at t_X24_say 14 rfl) ?_
      refine r_putz (pc := 30) X fX24_29 hk q3691 rfl (dl_at t_X24_say 15 rfl) (Or.inl rfl) (fun h30 E30 => ?_)
      exact g_vret (pc := 33) X (v := 0) rfl rfl (dl_at t_X24_say 16 rfl)
    refine g_iconst (pc := 25) X (n := 1) (dl_at t_X24_say 12 rfl) ?_
    refine g_goto (pc := 26) X (off := 4) (tgt := 30) rfl (dl_at t_X24_say 13 rfl) ?_
    refine r_putz (pc := 30) X fX24_29 hk q3691 rfl (dl_at t_X24_say 15 rfl) (Or.inr rfl) (fun h30_1 E30_1 => ?_)
    exact g_vret (pc := 33) X (v := 0) rfl rfl (dl_at t_X24_say 16 rfl)
  exact g_vret (pc := 9) X (v := 0) rfl rfl (dl_at t_X24_say 4 rfl)
def k_X24_sayLabel : List (Nat × Instr × Nat) := [(0, .aload_n 0, 1), (1, .iload_n 1, 1), (2, .invokevirtual 267, 3), (5, .ifCond .ne 4, 3), (8, .return_, 1), (9, .aload_n 0, 1), (10, .aload_n 0, 1), (11, .getfield 35, 3), (14, .iload_n 1, 1), (15, .iaload, 1), (16, .aload_n 0, 1), (17, .iload_n 1, 1), (18, .bipush 18, 2), (20, .invokevirtual 227, 3), (23, .invokevirtual 270, 3), (26, .istore_n 2, 1), (27, .aload_n 0, 1), (28, .getfield 29, 3), (31, .iload_n 1, 1), (32, .iaload, 1), (33, .istore_n 3, 1), (34, .iload_n 3, 1), (35, .aload_n 0, 1), (36, .getfield 32, 3), (39, .iload_n 1, 1), (40, .iaload, 1), (41, .if_icmp .ge 59, 3), (44, .aload_n 0, 1), (45, .getfield 18, 3), (48, .iload_n 3, 1), (49, .baload, 1), (50, .bipush 35, 2), (52, .if_icmp .eq 16, 3), (55, .aload_n 0, 1), (56, .aload_n 0, 1), (57, .getfield 18, 3), (60, .iload_n 3, 1), (61, .baload, 1), (62, .invokevirtual 273, 3), (65, .goto 29, 3), (68, .iconst 0, 1), (69, .istore 4, 2), (71, .iload 4, 2), (73, .iload_n 2, 1), (74, .if_icmp .ge 20, 3), (77, .aload_n 0, 1), (78, .aload_n 0, 1), (79, .getfield 93, 3), (82, .iload 4, 2), (84, .baload, 1), (85, .invokevirtual 273, 3), (88, .iinc 4 1, 3), (91, .goto (-20), 3), (94, .iinc 3 1, 3), (97, .goto (-63), 3), (100, .return_, 1)]
theorem t_X24_sayLabel : ∀ q ∈ k_X24_sayLabel, decode cX24_sayLabel q.1 = .ok q.2 := dl_all (by decide +kernel)
noncomputable def m_X24_sayLabel_j94 (x3_34 : Int) (h_94 : Hp) : Option ((Int × Hp) ⊕ ((Hp))) :=
  lt_ (w32 (x3_34 + 1)) fun x3_94 =>
  some (.inl (x3_94, h_94))
noncomputable def m_X24_sayLabel_l71 (a0 v23 x4_71 : Int) (h_71 : Hp) : Option ((Int × Hp) ⊕ ((Hp))) :=
  if v23 ≤ x4_71 then (some (.inr h_71))
  else (gd (h_71 (h_71 a0 25) (-2) % 16 = 2 ∧ (0 : Int) ≤ x4_71 ∧ x4_71 < h_71 (h_71 a0 25) (-1)) ((m_X24_say a0 (h_71 (h_71 a0 25) x4_71) h_71).bind fun h85 =>
  lt_ (w32 (x4_71 + 1)) fun x4_88 =>
  some (.inl (x4_88, h85))))
noncomputable def m_X24_sayLabel_l34 (a0 a1 v23 x3_34 : Int) (h_34 : Hp) : Option ((Int × Hp) ⊕ ((Hp))) :=
  gd (h_34 (h_34 a0 5) (-2) % 16 = 1 ∧ (0 : Int) ≤ a1 ∧ a1 < h_34 (h_34 a0 5) (-1)) (if (h_34 (h_34 a0 5) a1) ≤ x3_34 then (some (.inr h_34))
  else (gd (h_34 (h_34 a0 1) (-2) % 16 = 2 ∧ (0 : Int) ≤ x3_34 ∧ x3_34 < h_34 (h_34 a0 1) (-1)) (if (h_34 (h_34 a0 1) x3_34) = 35 then (lt_ 0 fun x4_69 =>
  (lp (fun (q : Int × Hp) => m_X24_sayLabel_l71 a0 v23 q.1 q.2) (x4_69, h_34)).bind (fun (y94 : Hp) => m_X24_sayLabel_j94 x3_34 y94))
  else ((m_X24_say a0 (h_34 (h_34 a0 1) x3_34) h_34).bind fun h62 =>
  m_X24_sayLabel_j94 x3_34 h62))))
noncomputable def m_X24_sayLabel (a0 a1 : Int) (h : Hp) : Option (Hp) :=
  (m_X24_hasLabel a0 a1 h).bind fun v2 =>
  if v2 ≠ 0 then (gd (h (h a0 6) (-2) % 16 = 1 ∧ (0 : Int) ≤ a1 ∧ a1 < h (h a0 6) (-1)) ((m_X24_of a0 a1 18 h).bind fun v20 =>
  bW (m_X24_form a0 (h (h a0 6) a1) v20 h) fun v23 h23 =>
  gd (h23 (h23 a0 4) (-2) % 16 = 1 ∧ (0 : Int) ≤ a1 ∧ a1 < h23 (h23 a0 4) (-1)) (lt_ (h23 (h23 a0 4) a1) fun x3_33 =>
  (lp (fun (q : Int × Hp) => m_X24_sayLabel_l34 a0 a1 v23 q.1 q.2) (x3_33, h23)).bind (fun (x : Hp) => some x))))
  else (some h)
theorem s_X24_sayLabel {l : Launch} [NoTr l] {D : SD} {a0 a1 : Int} {h : Hp} (hk : h a0 (-2) = 400) (r1 : r32 a1) {r : Hp} (hm : m_X24_sayLabel a0 a1 h = some r) : Sim l D yX24_sayLabel (Cond.code yX24_sayLabel cX24_sayLabel 5 (Option.none : Option Jvm.ClassFile.FieldType)) 6 287 [rv D a0, iv a1] h 0 ((0, 0), r) := by
  refine Sim.of (fin := fun (v : Hp) => ((0, 0), v)) (lsE := [(0, rv D a0), (1, iv a1)]) hm rfl cwS_code (la_r (la_i la_n)) (ll_r (ll_i ll_n)) ?_
  intro p e s m below meth c X hcw hmm hcc hnm hname
  unfold m_X24_sayLabel
  refine g_aload_n (pc := 0) X (j := 0) (i := 0) (q := 0) (x := a0) rfl rfl (dl_at t_X24_sayLabel 0 rfl) ?_
  refine g_iload_n (pc := 1) X (j := 1) (i := 1) (q := 1) (x := a1) rfl rfl (dl_at t_X24_sayLabel 1 rfl) ?_
  refine r_callRz (pc := 2) X (fun _ hv => s_X24_hasLabel hk r1 hv) cw_code q4747 q378 (in_Vk X (As := [iv a1]) kX24 hk (Or.inl q4744) q4745 q4746 cw_code q4747 ⟨by decide, by decide⟩ rfl (dl_at t_X24_sayLabel 2 rfl)) (dl_at t_X24_sayLabel 2 rfl) (cat24 (st := []) (Nat.le_of_ble_eq_true rfl)) (Nat.le_of_ble_eq_true rfl) (Nat.le_of_ble_eq_true rfl) fun v2 g2 => ?_
  refine g_ifne (pc := 5) X (r32_z g2) (off := 4) (tgt := 9) rfl (dl_at t_X24_sayLabel 3 rfl) (fun _ => ?_) (fun _ => ?_)
  · refine g_aload_n (pc := 9) X (j := 0) (i := 0) (q := 0) (x := a0) rfl rfl (dl_at t_X24_sayLabel 5 rfl) ?_
    refine g_aload_n (pc := 10) X (j := 0) (i := 0) (q := 0) (x := a0) rfl rfl (dl_at t_X24_sayLabel 6 rfl) ?_
    refine r_getr (pc := 11) X fX24_6 hk q3654 (dl_at t_X24_sayLabel 7 rfl) ?_
    refine g_iload_n (pc := 14) X (j := 1) (i := 1) (q := 1) (x := a1) rfl rfl (dl_at t_X24_sayLabel 8 rfl) ?_
    refine g_gd fun k15 => ?_
    refine g_iald (pc := 15) X r1 k15 (dl_at t_X24_sayLabel 9 rfl) fun g15 => ?_
    refine g_aload_n (pc := 16) X (j := 0) (i := 0) (q := 0) (x := a0) rfl rfl (dl_at t_X24_sayLabel 10 rfl) ?_
    refine g_iload_n (pc := 17) X (j := 1) (i := 1) (q := 1) (x := a1) rfl rfl (dl_at t_X24_sayLabel 11 rfl) ?_
    refine g_bipush (pc := 18) X (n := 18) rfl (dl_at t_X24_sayLabel 12 rfl) ?_
    refine r_callRi (pc := 20) X (fun _ hv => s_X24_of hk r1 (r32_c rfl) hv) cw_code q4704 q378 (in_Vk X (As := [iv a1, iv 18]) kX24 hk (Or.inl q4701) q4702 q4703 cw_code q4704 ⟨by decide, by decide⟩ rfl (dl_at t_X24_sayLabel 13 rfl)) (dl_at t_X24_sayLabel 13 rfl) (cat24 (st := [iv (h (h a0 6) a1), rv D a0]) (Nat.le_of_ble_eq_true rfl)) (Nat.le_of_ble_eq_true rfl) (Nat.le_of_ble_eq_true rfl) fun v20 g20 => ?_
    refine r_callWi (pc := 23) X (fun _ hv => s_X24_form hk g15 g20 hv) cw_code q4751 q378 (in_Vk X (As := [iv (h (h a0 6) a1), iv v20]) kX24 hk (Or.inl q4748) q4749 q4750 cw_code q4751 ⟨by decide, by decide⟩ rfl (dl_at t_X24_sayLabel 14 rfl)) (dl_at t_X24_sayLabel 14 rfl) (cat24 (st := []) (Nat.le_of_ble_eq_true rfl)) (Nat.le_of_ble_eq_true rfl) (Nat.le_of_ble_eq_true rfl) fun v23 h23 g23 E23 => ?_
    refine g_istore_nN (pc := 26) X (j := 2) (i := 2) (x := v23) (b := 1) (w := iv a1) (rest := [(0, rv D a0)]) rfl (Nat.le_of_ble_eq_true rfl) [1, 0] rfl (by decide) rfl rfl (dl_at t_X24_sayLabel 15 rfl) ?_
    refine g_aload_n (pc := 27) X (j := 0) (i := 0) (q := 2) (x := a0) rfl rfl (dl_at t_X24_sayLabel 16 rfl) ?_
    have k28 := kx E23 (by decide) hk
    refine r_getr (pc := 28) X fX24_4 k28 q3650 (dl_at t_X24_sayLabel 17 rfl) ?_
    refine g_iload_n (pc := 31) X (j := 1) (i := 1) (q := 1) (x := a1) rfl rfl (dl_at t_X24_sayLabel 18 rfl) ?_
    refine g_gd fun k32 => ?_
    refine g_iald (pc := 32) X r1 k32 (dl_at t_X24_sayLabel 19 rfl) fun g32 => ?_
    refine g_lti g32 fun x3_33 r3_33 => ?_
    refine g_istore_nN (pc := 33) X (j := 3) (i := 3) (x := x3_33) (b := 2) (w := iv v23) (rest := [(1, iv a1), (0, rv D a0)]) rfl (Nat.le_of_ble_eq_true rfl) [0, 1, 2] rfl (by decide) rfl rfl (dl_at t_X24_sayLabel 20 rfl) ?_
    refine g_ls (ls2 := [(0, rv D a0), (1, iv a1), (2, iv v23), (3, iv x3_33)]) [3, 2, 1, 0] rfl ?_
    refine g_loop0F (fun (q : Int × Hp) => [(0, rv D a0), (1, iv a1), (2, iv v23), (3, iv q.1)]) (fun (q : Int × Hp) => q.2) (fun (q : Int × Hp) => r32 q.1 ∧ Ext h23 q.2) (x3_33, h23) ⟨r3_33, (Ext.refl _)⟩ ?_ (fun _ => rfl)
    · rintro ⟨x3_34, h_34⟩ ⟨r3_34, E_34⟩
      try dsimp only
      unfold m_X24_sayLabel_l34
      refine g_iload_n (pc := 34) X (j := 3) (i := 3) (q := 3) (x := x3_34) rfl rfl (dl_at t_X24_sayLabel 21 rfl) ?_
      refine g_aload_n (pc := 35) X (j := 0) (i := 0) (q := 0) (x := a0) rfl rfl (dl_at t_X24_sayLabel 22 rfl) ?_
      have k36 := kx E_34 (by decide) k28
      refine r_getr (pc := 36) X fX24_5 k36 q3652 (dl_at t_X24_sayLabel 23 rfl) ?_
      refine g_iload_n (pc := 39) X (j := 1) (i := 1) (q := 1) (x := a1) rfl rfl (dl_at t_X24_sayLabel 24 rfl) ?_
      refine g_gd fun k40 => ?_
      refine g_iald (pc := 40) X r1 k40 (dl_at t_X24_sayLabel 25 rfl) fun g40 => ?_
      refine g_icmpge (pc := 41) X r3_34 g40 (off := 59) (tgt := 100) rfl (dl_at t_X24_sayLabel 26 rfl) (fun _ => ?_) (fun _ => ?_)
      · exact g_at fun Q hQ => (g_vret (pc := 100) X (v := 0) rfl rfl (dl_at t_X24_sayLabel 55 rfl)) _ Q rfl hQ
      refine g_aload_n (pc := 44) X (j := 0) (i := 0) (q := 0) (x := a0) rfl rfl (dl_at t_X24_sayLabel 27 rfl) ?_
      refine r_getr (pc := 45) X fX24_1 k36 q3644 (dl_at t_X24_sayLabel 28 rfl) ?_
      refine g_iload_n (pc := 48) X (j := 3) (i := 3) (q := 3) (x := x3_34) rfl rfl (dl_at t_X24_sayLabel 29 rfl) ?_
      refine g_gd fun k49 => ?_
      refine g_bald (pc := 49) X r3_34 k49 (dl_at t_X24_sayLabel 30 rfl) fun g49 => ?_
      refine g_bipush (pc := 50) X (n := 35) rfl (dl_at t_X24_sayLabel 31 rfl) ?_
      refine g_join (γ := Hp) (fun q => Ext h_34 q) 94 (fun q => [(0, rv D a0), (1, iv a1), (2, iv v23), (3, iv x3_34)]) (fun q => []) (fun q => q) (fun q => m_X24_sayLabel_j94 x3_34 q) ?_ ?_
      · rintro h_94 E_94
        try dsimp only
        unfold m_X24_sayLabel_j94
        refine r_iincN (pc := 94) X (i := 3) (q := 3) (n := 1) (x := x3_34) (b := 2) (w := iv v23) (rest := [(0, rv D a0), (1, iv a1)]) rfl r3_34 (r32_c rfl) (Nat.le_of_ble_eq_true rfl) [2, 0, 1] rfl (by decide) rfl rfl (dl_at t_X24_sayLabel 53 rfl) fun x3_94 r3_94 => ?_
        refine g_goto (pc := 97) X (off := (-63)) (tgt := 34) rfl (dl_at t_X24_sayLabel 54 rfl) ?_
        refine g_ls (ls2 := [(0, rv D a0), (1, iv a1), (2, iv v23), (3, iv x3_94)]) [2, 3, 1, 0] rfl ?_
        exact g_at fun Q hQ => hQ ⟨r3_94, (E_34.trans E_94)⟩
      intro J94
      refine g_icmpeq (pc := 52) X (r32_b g49) (r32_c rfl) (off := 16) (tgt := 68) rfl (dl_at t_X24_sayLabel 32 rfl) (fun _ => ?_) (fun _ => ?_)
      · refine g_iconst (pc := 68) X (n := 0) (dl_at t_X24_sayLabel 40 rfl) ?_
        refine g_ltz (Or.inl rfl) fun x4_69 r4_69 => ?_
        refine g_istoreN (pc := 69) X (i := 4) (x := x4_69) (b := 3) (w := iv x3_34) (rest := [(0, rv D a0), (1, iv a1), (2, iv v23)]) (Nat.le_of_ble_eq_true rfl) [3, 0, 1, 2] rfl (by decide) rfl rfl (dl_at t_X24_sayLabel 41 rfl) ?_
        refine g_ls (ls2 := [(0, rv D a0), (1, iv a1), (2, iv v23), (3, iv x3_34), (4, iv x4_69)]) [2, 3, 4, 1, 0] rfl ?_
        refine g_loop1 (fun (q : Int × Hp) => [(0, rv D a0), (1, iv a1), (2, iv v23), (3, iv x3_34), (4, iv q.1)]) (fun (q : Int × Hp) => q.2) (fun (q : Int × Hp) => r32 q.1 ∧ Ext h_34 q.2) 94 (fun (y94 : Hp) => [(0, rv D a0), (1, iv a1), (2, iv v23), (3, iv x3_34)]) (fun (y94 : Hp) => y94) (fun (y94 : Hp) => Ext h_34 y94) (x4_69, h_34) ⟨(r32_z r4_69), (Ext.refl _)⟩ ?_ ?_
        · rintro ⟨x4_71, h_71⟩ ⟨r4_71, E_71⟩
          try dsimp only
          unfold m_X24_sayLabel_l71
          refine g_iload (pc := 71) X (i := 4) (q := 4) (x := x4_71) rfl (dl_at t_X24_sayLabel 42 rfl) ?_
          refine g_iload_n (pc := 73) X (j := 2) (i := 2) (q := 2) (x := v23) rfl rfl (dl_at t_X24_sayLabel 43 rfl) ?_
          refine g_icmpge (pc := 74) X r4_71 g23 (off := 20) (tgt := 94) rfl (dl_at t_X24_sayLabel 44 rfl) (fun _ => ?_) (fun _ => ?_)
          · refine g_ls (ls2 := [(0, rv D a0), (1, iv a1), (2, iv v23), (3, iv x3_34)]) [0, 1, 2, 3] rfl ?_
            exact g_at fun Q hQ => hQ E_71
          refine g_aload_n (pc := 77) X (j := 0) (i := 0) (q := 0) (x := a0) rfl rfl (dl_at t_X24_sayLabel 45 rfl) ?_
          refine g_aload_n (pc := 78) X (j := 0) (i := 0) (q := 0) (x := a0) rfl rfl (dl_at t_X24_sayLabel 46 rfl) ?_
          have k79 := kx E_71 (by decide) k36
          refine r_getr (pc := 79) X fX24_25 k79 q3687 (dl_at t_X24_sayLabel 47 rfl) ?_
          refine g_iload (pc := 82) X (i := 4) (q := 4) (x := x4_71) rfl (dl_at t_X24_sayLabel 48 rfl) ?_
          refine g_gd fun k84 => ?_
          refine g_bald (pc := 84) X r4_71 k84 (dl_at t_X24_sayLabel 49 rfl) fun g84 => ?_
          refine r_callV (pc := 85) X (fun _ hv => s_X24_say k79 (r32_b g84) hv) cw_code q4769 q378 (in_Vk X (As := [iv (h_71 (h_71 a0 25) x4_71)]) kX24 k79 (Or.inl q4766) q4768 qs286 cw_code q4769 ⟨by decide, by decide⟩ rfl (dl_at t_X24_sayLabel 50 rfl)) (dl_at t_X24_sayLabel 50 rfl) (cat24 (st := []) (Nat.le_of_ble_eq_true rfl)) (Nat.le_of_ble_eq_true rfl) (Nat.le_of_ble_eq_true rfl) fun h85 E85 => ?_
          refine r_iincN (pc := 88) X (i := 4) (q := 4) (n := 1) (x := x4_71) (b := 3) (w := iv x3_34) (rest := [(0, rv D a0), (1, iv a1), (2, iv v23)]) rfl r4_71 (r32_c rfl) (Nat.le_of_ble_eq_true rfl) [3, 0, 1, 2] rfl (by decide) rfl rfl (dl_at t_X24_sayLabel 51 rfl) fun x4_88 r4_88 => ?_
          refine g_goto (pc := 91) X (off := (-20)) (tgt := 71) rfl (dl_at t_X24_sayLabel 52 rfl) ?_
          refine g_ls (ls2 := [(0, rv D a0), (1, iv a1), (2, iv v23), (3, iv x3_34), (4, iv x4_88)]) [2, 3, 4, 1, 0] rfl ?_
          exact g_at fun Q hQ => hQ ⟨r4_88, (E_71.trans E85)⟩
        · rintro h_94_1 E_94_1
          try dsimp only [sE]
          exact J94 h_94_1 E_94_1
      refine g_aload_n (pc := 55) X (j := 0) (i := 0) (q := 0) (x := a0) rfl rfl (dl_at t_X24_sayLabel 33 rfl) ?_
      refine g_aload_n (pc := 56) X (j := 0) (i := 0) (q := 0) (x := a0) rfl rfl (dl_at t_X24_sayLabel 34 rfl) ?_
      refine r_getr (pc := 57) X fX24_1 k36 q3644 (dl_at t_X24_sayLabel 35 rfl) ?_
      refine g_iload_n (pc := 60) X (j := 3) (i := 3) (q := 3) (x := x3_34) rfl rfl (dl_at t_X24_sayLabel 36 rfl) ?_
      refine g_bald (pc := 61) X r3_34 k49 (dl_at t_X24_sayLabel 37 rfl) fun g61 => ?_
      refine r_callV (pc := 62) X (fun _ hv => s_X24_say k36 (r32_b g61) hv) cw_code q4769 q378 (in_Vk X (As := [iv (h_34 (h_34 a0 1) x3_34)]) kX24 k36 (Or.inl q4766) q4768 qs286 cw_code q4769 ⟨by decide, by decide⟩ rfl (dl_at t_X24_sayLabel 38 rfl)) (dl_at t_X24_sayLabel 38 rfl) (cat24 (st := []) (Nat.le_of_ble_eq_true rfl)) (Nat.le_of_ble_eq_true rfl) (Nat.le_of_ble_eq_true rfl) fun h62 E62 => ?_
      refine g_goto (pc := 65) X (off := 29) (tgt := 94) rfl (dl_at t_X24_sayLabel 39 rfl) ?_
      exact J94 h62 E62
  exact g_vret (pc := 8) X (v := 0) rfl rfl (dl_at t_X24_sayLabel 4 rfl)
def k_X24_speaks : List (Nat × Instr × Nat) := [(0, .iload_n 1, 1), (1, .ifCond .lt 29, 3), (4, .aload_n 0, 1), (5, .iload_n 1, 1), (6, .invokevirtual 237, 3), (9, .ifCond .ne 25, 3), (12, .aload_n 0, 1), (13, .getfield 57, 3), (16, .iload_n 1, 1), (17, .baload, 1), (18, .ifCond .ne 16, 3), (21, .aload_n 0, 1), (22, .getfield 60, 3), (25, .iload_n 1, 1), (26, .baload, 1), (27, .ifCond .ne 7, 3), (30, .iconst 1, 1), (31, .goto 4, 3), (34, .iconst 0, 1), (35, .ireturn, 1)]
theorem t_X24_speaks : ∀ q ∈ k_X24_speaks, decode cX24_speaks q.1 = .ok q.2 := dl_all (by decide +kernel)
noncomputable def m_X24_speaks (a0 a1 : Int) (h : Hp) : Option (Int) :=
  if a1 < 0 then (some 1)
  else ((m_X24_isMute a0 a1 h).bind fun v6 =>
  if v6 ≠ 0 then (some 0)
  else (gd (h (h a0 13) (-2) % 16 = 3 ∧ (0 : Int) ≤ a1 ∧ a1 < h (h a0 13) (-1)) (if (h (h a0 13) a1) ≠ 0 then (some 0)
  else (gd (h (h a0 14) (-2) % 16 = 3 ∧ (0 : Int) ≤ a1 ∧ a1 < h (h a0 14) (-1)) (if (h (h a0 14) a1) ≠ 0 then (some 0)
  else (some 1))))))
theorem s_X24_speaks {l : Launch} [NoTr l] {D : SD} {a0 a1 : Int} {h : Hp} (hk : h a0 (-2) = 400) (r1 : r32 a1) {r : Int} (hm : m_X24_speaks a0 a1 h = some r) : Sim l D yX24_speaks (Cond.code yX24_speaks cX24_speaks 2 (Option.some Jvm.ClassFile.FieldType.boolean)) 2 74 [rv D a0, iv a1] h 3 ((0, r), h) := by
  refine Sim.of (fin := fun (v : Int) => ((0, v), h)) (lsE := [(0, rv D a0), (1, iv a1)]) hm rfl cwS_code (la_r (la_i la_n)) (ll_r (ll_i ll_n)) ?_
  intro p e s m below meth c X hcw hmm hcc hnm hname
  unfold m_X24_speaks
  refine g_iload_n (pc := 0) X (j := 1) (i := 1) (q := 1) (x := a1) rfl rfl (dl_at t_X24_speaks 0 rfl) ?_
  refine g_iflt (pc := 1) X r1 (off := 29) (tgt := 30) rfl (dl_at t_X24_speaks 1 rfl) (fun _ => ?_) (fun _ => ?_)
  · refine g_iconst (pc := 30) X (n := 1) (dl_at t_X24_speaks 16 rfl) ?_
    refine g_goto (pc := 31) X (off := 4) (tgt := 35) rfl (dl_at t_X24_speaks 17 rfl) ?_
    exact g_zret (pc := 35) X (Or.inr rfl) rfl rfl (dl_at t_X24_speaks 19 rfl)
  refine g_aload_n (pc := 4) X (j := 0) (i := 0) (q := 0) (x := a0) rfl rfl (dl_at t_X24_speaks 2 rfl) ?_
  refine g_iload_n (pc := 5) X (j := 1) (i := 1) (q := 1) (x := a1) rfl rfl (dl_at t_X24_speaks 3 rfl) ?_
  refine r_callRz (pc := 6) X (fun _ hv => s_X24_isMute hk r1 hv) cw_code q4721 q378 (in_Vk X (As := [iv a1]) kX24 hk (Or.inl q4718) q4720 qs279 cw_code q4721 ⟨by decide, by decide⟩ rfl (dl_at t_X24_speaks 4 rfl)) (dl_at t_X24_speaks 4 rfl) (cat24 (st := []) (Nat.le_of_ble_eq_true rfl)) (Nat.le_of_ble_eq_true rfl) (Nat.le_of_ble_eq_true rfl) fun v6 g6 => ?_
  refine g_ifne (pc := 9) X (r32_z g6) (off := 25) (tgt := 34) rfl (dl_at t_X24_speaks 5 rfl) (fun _ => ?_) (fun _ => ?_)
  · refine g_iconst (pc := 34) X (n := 0) (dl_at t_X24_speaks 18 rfl) ?_
    exact g_zret (pc := 35) X (Or.inl rfl) rfl rfl (dl_at t_X24_speaks 19 rfl)
  refine g_aload_n (pc := 12) X (j := 0) (i := 0) (q := 0) (x := a0) rfl rfl (dl_at t_X24_speaks 6 rfl) ?_
  refine r_getr (pc := 13) X fX24_13 hk q3672 (dl_at t_X24_speaks 7 rfl) ?_
  refine g_iload_n (pc := 16) X (j := 1) (i := 1) (q := 1) (x := a1) rfl rfl (dl_at t_X24_speaks 8 rfl) ?_
  refine g_gd fun k17 => ?_
  refine g_zald (pc := 17) X r1 k17 (dl_at t_X24_speaks 9 rfl) fun g17 => ?_
  refine g_ifne (pc := 18) X (r32_z g17) (off := 16) (tgt := 34) rfl (dl_at t_X24_speaks 10 rfl) (fun _ => ?_) (fun _ => ?_)
  · refine g_iconst (pc := 34) X (n := 0) (dl_at t_X24_speaks 18 rfl) ?_
    exact g_zret (pc := 35) X (Or.inl rfl) rfl rfl (dl_at t_X24_speaks 19 rfl)
  refine g_aload_n (pc := 21) X (j := 0) (i := 0) (q := 0) (x := a0) rfl rfl (dl_at t_X24_speaks 11 rfl) ?_
  refine r_getr (pc := 22) X fX24_14 hk q3674 (dl_at t_X24_speaks 12 rfl) ?_
  refine g_iload_n (pc := 25) X (j := 1) (i := 1) (q := 1) (x := a1) rfl rfl (dl_at t_X24_speaks 13 rfl) ?_
  refine g_gd fun k26 => ?_
  refine g_zald (pc := 26) X r1 k26 (dl_at t_X24_speaks 14 rfl) fun g26 => ?_
  refine g_ifne (pc := 27) X (r32_z g26) (off := 7) (tgt := 34) rfl (dl_at t_X24_speaks 15 rfl) (fun _ => ?_) (fun _ => ?_)
  · refine g_iconst (pc := 34) X (n := 0) (dl_at t_X24_speaks 18 rfl) ?_
    exact g_zret (pc := 35) X (Or.inl rfl) rfl rfl (dl_at t_X24_speaks 19 rfl)
  refine g_iconst (pc := 30) X (n := 1) (dl_at t_X24_speaks 16 rfl) ?_
  refine g_goto (pc := 31) X (off := 4) (tgt := 35) rfl (dl_at t_X24_speaks 17 rfl) ?_
  exact g_zret (pc := 35) X (Or.inr rfl) rfl rfl (dl_at t_X24_speaks 19 rfl)
def k_X24_title : List (Nat × Instr × Nat) := [(0, .aload_n 0, 1), (1, .iconst 0, 1), (2, .putfield 257, 3), (5, .aload_n 0, 1), (6, .iconst 0, 1), (7, .putfield 263, 3), (10, .aload_n 0, 1), (11, .getfield 44, 3), (14, .iload_n 1, 1), (15, .baload, 1), (16, .ifCond .ne 5, 3), (19, .iconst 0, 1), (20, .ireturn, 1), (21, .aload_n 0, 1), (22, .iload_n 1, 1), (23, .invokevirtual 277, 3), (26, .iload_n 1, 1), (27, .istore_n 2, 1), (28, .aload_n 0, 1), (29, .getfield 12, 3), (32, .getfield 280, 3), (35, .iload_n 1, 1), (36, .iaload, 1), (37, .iconst 1, 1), (38, .iadd, 1), (39, .istore_n 3, 1), (40, .iload_n 3, 1), (41, .aload_n 0, 1), (42, .getfield 12, 3), (45, .getfield 283, 3), (48, .iload_n 1, 1), (49, .iaload, 1), (50, .if_icmp .ge 196, 3), (53, .aload_n 0, 1), (54, .getfield 12, 3), (57, .getfield 145, 3), (60, .iload_n 3, 1), (61, .iaload, 1), (62, .iconst 1, 1), (63, .if_icmp .ne 60, 3), (66, .aload_n 0, 1), (67, .getfield 12, 3), (70, .getfield 148, 3), (73, .iload_n 3, 1), (74, .iaload, 1), (75, .istore 4, 2), (77, .aload_n 0, 1), (78, .getfield 44, 3), (81, .iload 4, 2), (83, .baload, 1), (84, .ifCond .eq 13, 3), (87, .aload_n 0, 1), (88, .iload 4, 2), (90, .invokevirtual 234, 3), (93, .iconst 3, 1), (94, .if_icmp .ne 17, 3), (97, .aload_n 0, 1), (98, .getfield 12, 3), (101, .getfield 283, 3), (104, .iload 4, 2), (106, .iaload, 1), (107, .istore_n 3, 1), (108, .goto 12, 3), (111, .iload 4, 2), (113, .istore_n 2, 1), (114, .aload_n 0, 1), (115, .iload 4, 2), (117, .invokevirtual 277, 3), (120, .goto 120, 3), (123, .aload_n 0, 1), (124, .getfield 12, 3), (127, .getfield 145, 3), (130, .iload_n 3, 1), (131, .iaload, 1), (132, .iconst 2, 1), (133, .if_icmp .ne 16, 3), (136, .aload_n 0, 1), (137, .getfield 12, 3), (140, .getfield 139, 3), (143, .iload_n 2, 1), (144, .iaload, 1), (145, .istore_n 2, 1), (146, .goto 94, 3), (149, .aload_n 0, 1), (150, .iload_n 2, 1), (151, .invokevirtual 286, 3), (154, .ifCond .eq 86, 3), (157, .aload_n 0, 1), (158, .getfield 12, 3), (161, .getfield 145, 3), (164, .iload_n 3, 1), (165, .iaload, 1), (166, .iconst 3, 1), (167, .if_icmp .ne 19, 3), (170, .aload_n 0, 1), (171, .aload_n 0, 1), (172, .getfield 12, 3), (175, .getfield 148, 3), (178, .iload_n 3, 1), (179, .iaload, 1), (180, .invokevirtual 273, 3), (183, .goto 57, 3), (186, .aload_n 0, 1), (187, .getfield 12, 3), (190, .getfield 148, 3), (193, .iload_n 3, 1), (194, .iaload, 1), (195, .istore 4, 2), (197, .iload 4, 2), (199, .aload_n 0, 1), (200, .getfield 12, 3), (203, .getfield 289, 3), (206, .iload_n 3, 1), (207, .iaload, 1), (208, .if_icmp .ge 32, 3), (211, .aload_n 0, 1), (212, .getfield 257, 3), (215, .bipush 40, 2), (217, .if_icmp .gt 23, 3), (220, .aload_n 0, 1), (221, .aload_n 0, 1), (222, .getfield 12, 3), (225, .getfield 157, 3), (228, .iload 4, 2), (230, .baload, 1), (231, .invokevirtual 273, 3), (234, .iinc 4 1, 3), (237, .goto (-40), 3), (240, .iinc 3 1, 3), (243, .goto (-203), 3), (246, .aload_n 0, 1), (247, .getfield 257, 3), (250, .bipush 40, 2), (252, .if_icmp .le 8, 3), (255, .bipush 40, 2), (257, .goto 7, 3), (260, .aload_n 0, 1), (261, .getfield 257, 3), (264, .istore_n 3, 1), (265, .iload_n 3, 1), (266, .ifCond .le 22, 3), (269, .aload_n 0, 1), (270, .getfield 99, 3), (273, .iload_n 3, 1), (274, .iconst 1, 1), (275, .isub, 1), (276, .baload, 1), (277, .bipush 32, 2), (279, .if_icmp .ne 9, 3), (282, .iload_n 3, 1), (283, .iconst 1, 1), (284, .isub, 1), (285, .goto 4, 3), (288, .iload_n 3, 1), (289, .ireturn, 1)]
theorem t_X24_title : ∀ q ∈ k_X24_title, decode cX24_title q.1 = .ok q.2 := dl_all (by decide +kernel)
noncomputable def m_X24_title_j240 (x2_240 x3_240 : Int) (h_240 : Hp) : Option ((Int × Int × Hp) ⊕ ((Hp))) :=
  lt_ (w32 (x3_240 + 1)) fun x3_240_1 =>
  some (.inl (x2_240, x3_240_1, h_240))
noncomputable def m_X24_title_l197 (a0 x3_40 x4_197 : Int) (h_197 : Hp) : Option ((Int × Hp) ⊕ ((Hp))) :=
  gd (h_197 (h_197 a0 0) (-2) = 384) (gd (h_197 (h_197 (h_197 a0 0) 8) (-2) % 16 = 1 ∧ (0 : Int) ≤ x3_40 ∧ x3_40 < h_197 (h_197 (h_197 a0 0) 8) (-1)) (if (h_197 (h_197 (h_197 a0 0) 8) x3_40) ≤ x4_197 then (some (.inr h_197))
  else (if 40 < (h_197 a0 28) then (some (.inr h_197))
  else (gd (h_197 (h_197 (h_197 a0 0) 0) (-2) % 16 = 2 ∧ (0 : Int) ≤ x4_197 ∧ x4_197 < h_197 (h_197 (h_197 a0 0) 0) (-1)) ((m_X24_say a0 (h_197 (h_197 (h_197 a0 0) 0) x4_197) h_197).bind fun h231 =>
  lt_ (w32 (x4_197 + 1)) fun x4_234 =>
  some (.inl (x4_234, h231)))))))
noncomputable def m_X24_title_j97 (x4_75 a0 x2_40 : Int) (h_40 : Hp) : Option ((Int × Int × Hp) ⊕ ((Hp))) :=
  gd (h_40 (h_40 (h_40 a0 0) 16) (-2) % 16 = 1 ∧ (0 : Int) ≤ x4_75 ∧ x4_75 < h_40 (h_40 (h_40 a0 0) 16) (-1)) (lt_ (h_40 (h_40 (h_40 a0 0) 16) x4_75) fun x3_107 =>
  m_X24_title_j240 x2_40 x3_107 h_40)
noncomputable def m_X24_title_l40 (a0 a1 x2_40 x3_40 : Int) (h_40 : Hp) : Option ((Int × Int × Hp) ⊕ ((Hp))) :=
  gd (h_40 (h_40 a0 0) (-2) = 384) (gd (h_40 (h_40 (h_40 a0 0) 16) (-2) % 16 = 1 ∧ (0 : Int) ≤ a1 ∧ a1 < h_40 (h_40 (h_40 a0 0) 16) (-1)) (if (h_40 (h_40 (h_40 a0 0) 16) a1) ≤ x3_40 then (some (.inr h_40))
  else (gd (h_40 (h_40 (h_40 a0 0) 6) (-2) % 16 = 1 ∧ (0 : Int) ≤ x3_40 ∧ x3_40 < h_40 (h_40 (h_40 a0 0) 6) (-1)) (if (h_40 (h_40 (h_40 a0 0) 6) x3_40) ≠ 1 then (if (h_40 (h_40 (h_40 a0 0) 6) x3_40) ≠ 2 then ((m_X24_speaks a0 x2_40 h_40).bind fun v151 =>
  if v151 = 0 then (m_X24_title_j240 x2_40 x3_40 h_40)
  else (if (h_40 (h_40 (h_40 a0 0) 6) x3_40) ≠ 3 then (gd (h_40 (h_40 (h_40 a0 0) 7) (-2) % 16 = 1 ∧ (0 : Int) ≤ x3_40 ∧ x3_40 < h_40 (h_40 (h_40 a0 0) 7) (-1)) (lt_ (h_40 (h_40 (h_40 a0 0) 7) x3_40) fun x4_195 =>
  (lp (fun (q : Int × Hp) => m_X24_title_l197 a0 x3_40 q.1 q.2) (x4_195, h_40)).bind (fun (y240 : Hp) => m_X24_title_j240 x2_40 x3_40 y240)))
  else (gd (h_40 (h_40 (h_40 a0 0) 7) (-2) % 16 = 1 ∧ (0 : Int) ≤ x3_40 ∧ x3_40 < h_40 (h_40 (h_40 a0 0) 7) (-1)) ((m_X24_say a0 (h_40 (h_40 (h_40 a0 0) 7) x3_40) h_40).bind fun h180 =>
  m_X24_title_j240 x2_40 x3_40 h180))))
  else (gd (h_40 (h_40 (h_40 a0 0) 11) (-2) % 16 = 1 ∧ (0 : Int) ≤ x2_40 ∧ x2_40 < h_40 (h_40 (h_40 a0 0) 11) (-1)) (lt_ (h_40 (h_40 (h_40 a0 0) 11) x2_40) fun x2_145 =>
  m_X24_title_j240 x2_145 x3_40 h_40)))
  else (gd (h_40 (h_40 (h_40 a0 0) 7) (-2) % 16 = 1 ∧ (0 : Int) ≤ x3_40 ∧ x3_40 < h_40 (h_40 (h_40 a0 0) 7) (-1)) (lt_ (h_40 (h_40 (h_40 a0 0) 7) x3_40) fun x4_75 =>
  gd (h_40 (h_40 a0 9) (-2) % 16 = 3 ∧ (0 : Int) ≤ x4_75 ∧ x4_75 < h_40 (h_40 a0 9) (-1)) (if (h_40 (h_40 a0 9) x4_75) = 0 then (m_X24_title_j97 x4_75 a0 x2_40 h_40)
  else ((m_X24_show a0 x4_75 h_40).bind fun v90 =>
  if v90 ≠ 3 then ((m_X24_sayLabel a0 x4_75 h_40).bind fun h117 =>
  m_X24_title_j240 x4_75 x3_40 h117)
  else (m_X24_title_j97 x4_75 a0 x2_40 h_40)))))))))
noncomputable def m_X24_title_j264 (a0 s0_264 : Int) (h_246 : Hp) : Option (Int × Hp) :=
  if s0_264 ≤ 0 then (some (s0_264, h_246))
  else (gd (h_246 (h_246 a0 27) (-2) % 16 = 2 ∧ (0 : Int) ≤ (w32 (s0_264 - 1)) ∧ (w32 (s0_264 - 1)) < h_246 (h_246 a0 27) (-1)) (if (h_246 (h_246 a0 27) (w32 (s0_264 - 1))) ≠ 32 then (some (s0_264, h_246))
  else (some ((w32 (s0_264 - 1)), h_246))))
noncomputable def m_X24_title (a0 a1 : Int) (h : Hp) : Option (Int × Hp) :=
  pt h a0 28 0 fun h2 =>
  pt h2 a0 29 0 fun h7 =>
  gd (h7 (h7 a0 9) (-2) % 16 = 3 ∧ (0 : Int) ≤ a1 ∧ a1 < h7 (h7 a0 9) (-1)) (if (h7 (h7 a0 9) a1) ≠ 0 then ((m_X24_sayLabel a0 a1 h7).bind fun h23 =>
  gd (h23 (h23 a0 0) (-2) = 384) (gd (h23 (h23 (h23 a0 0) 15) (-2) % 16 = 1 ∧ (0 : Int) ≤ a1 ∧ a1 < h23 (h23 (h23 a0 0) 15) (-1)) (lt_ (w32 ((h23 (h23 (h23 a0 0) 15) a1) + 1)) fun x3_39 =>
  (lp (fun (q : Int × Int × Hp) => m_X24_title_l40 a0 a1 q.1 q.2.1 q.2.2) (a1, x3_39, h23)).bind (fun (y246 : Hp) => if (y246 a0 28) ≤ 40 then (m_X24_title_j264 a0 (y246 a0 28) y246)
  else (m_X24_title_j264 a0 40 y246)))))
  else (some (0, h7)))
theorem s_X24_title {l : Launch} [NoTr l] {D : SD} {a0 a1 : Int} {h : Hp} (hk : h a0 (-2) = 400) (r1 : r32 a1) {r : Int × Hp} (hm : m_X24_title a0 a1 h = some r) : Sim l D yX24_title (Cond.code yX24_title cX24_title 5 (Option.some Jvm.ClassFile.FieldType.int)) 7 327 [rv D a0, iv a1] h 1 ((0, r.1), r.2) := by
  refine Sim.of (fin := fun (v : Int × Hp) => ((0, v.1), v.2)) (lsE := [(0, rv D a0), (1, iv a1)]) hm rfl cwS_code (la_r (la_i la_n)) (ll_r (ll_i ll_n)) ?_
  intro p e s m below meth c X hcw hmm hcc hnm hname
  unfold m_X24_title
  refine g_aload_n (pc := 0) X (j := 0) (i := 0) (q := 0) (x := a0) rfl rfl (dl_at t_X24_title 0 rfl) ?_
  refine g_iconst (pc := 1) X (n := 0) (dl_at t_X24_title 1 rfl) ?_
  refine r_puti (pc := 2) X fX24_28 hk q3690 rfl (dl_at t_X24_title 2 rfl) (r32_c rfl) (fun h2 E2 => ?_)
  refine g_aload_n (pc := 5) X (j := 0) (i := 0) (q := 0) (x := a0) rfl rfl (dl_at t_X24_title 3 rfl) ?_
  refine g_iconst (pc := 6) X (n := 0) (dl_at t_X24_title 4 rfl) ?_
  have k7 := kx E2 (by decide) hk
  refine r_putz (pc := 7) X fX24_29 k7 q3691 rfl (dl_at t_X24_title 5 rfl) (Or.inl rfl) (fun h7 E7 => ?_)
  refine g_aload_n (pc := 10) X (j := 0) (i := 0) (q := 0) (x := a0) rfl rfl (dl_at t_X24_title 6 rfl) ?_
  have k11 := kx E7 (by decide) k7
  refine r_getr (pc := 11) X fX24_9 k11 q3662 (dl_at t_X24_title 7 rfl) ?_
  refine g_iload_n (pc := 14) X (j := 1) (i := 1) (q := 1) (x := a1) rfl rfl (dl_at t_X24_title 8 rfl) ?_
  refine g_gd fun k15 => ?_
  refine g_zald (pc := 15) X r1 k15 (dl_at t_X24_title 9 rfl) fun g15 => ?_
  refine g_ifne (pc := 16) X (r32_z g15) (off := 5) (tgt := 21) rfl (dl_at t_X24_title 10 rfl) (fun _ => ?_) (fun _ => ?_)
  · refine g_aload_n (pc := 21) X (j := 0) (i := 0) (q := 0) (x := a0) rfl rfl (dl_at t_X24_title 13 rfl) ?_
    refine g_iload_n (pc := 22) X (j := 1) (i := 1) (q := 1) (x := a1) rfl rfl (dl_at t_X24_title 14 rfl) ?_
    refine r_callV (pc := 23) X (fun _ hv => s_X24_sayLabel k11 r1 hv) cw_code q4743 q378 (in_Vk X (As := [iv a1]) kX24 k11 (Or.inl q4740) q4742 qs282 cw_code q4743 ⟨by decide, by decide⟩ rfl (dl_at t_X24_title 15 rfl)) (dl_at t_X24_title 15 rfl) (cat24 (st := []) (Nat.le_of_ble_eq_true rfl)) (Nat.le_of_ble_eq_true rfl) (Nat.le_of_ble_eq_true rfl) fun h23 E23 => ?_
    refine g_iload_n (pc := 26) X (j := 1) (i := 1) (q := 1) (x := a1) rfl rfl (dl_at t_X24_title 16 rfl) ?_
    refine g_istore_nN (pc := 27) X (j := 2) (i := 2) (x := a1) (b := 1) (w := iv a1) (rest := [(0, rv D a0)]) rfl (Nat.le_of_ble_eq_true rfl) [1, 0] rfl (by decide) rfl rfl (dl_at t_X24_title 17 rfl) ?_
    refine g_aload_n (pc := 28) X (j := 0) (i := 0) (q := 2) (x := a0) rfl rfl (dl_at t_X24_title 18 rfl) ?_
    have k29 := kx E23 (by decide) k11
    refine r_getr (pc := 29) X fX24_0 k29 q3642 (dl_at t_X24_title 19 rfl) ?_
    refine g_gd fun k32 => ?_
    refine r_getr (pc := 32) X fX23_15 k32 q3557 (dl_at t_X24_title 20 rfl) ?_
    refine g_iload_n (pc := 35) X (j := 1) (i := 1) (q := 1) (x := a1) rfl rfl (dl_at t_X24_title 21 rfl) ?_
    refine g_gd fun k36 => ?_
    refine g_iald (pc := 36) X r1 k36 (dl_at t_X24_title 22 rfl) fun g36 => ?_
    refine g_iconst (pc := 37) X (n := 1) (dl_at t_X24_title 23 rfl) ?_
    refine g_iadd (pc := 38) X g36 (r32_c rfl) (dl_at t_X24_title 24 rfl) ?_
    refine g_lti (r32_w _) fun x3_39 r3_39 => ?_
    refine g_istore_nN (pc := 39) X (j := 3) (i := 3) (x := x3_39) (b := 2) (w := iv a1) (rest := [(1, iv a1), (0, rv D a0)]) rfl (Nat.le_of_ble_eq_true rfl) [0, 1, 2] rfl (by decide) rfl rfl (dl_at t_X24_title 25 rfl) ?_
    refine g_ls (ls2 := [(0, rv D a0), (1, iv a1), (2, iv a1), (3, iv x3_39)]) [3, 2, 1, 0] rfl ?_
    refine g_loop1 (fun (q : Int × Int × Hp) => [(0, rv D a0), (1, iv a1), (2, iv q.1), (3, iv q.2.1)]) (fun (q : Int × Int × Hp) => q.2.2) (fun (q : Int × Int × Hp) => r32 q.1 ∧ r32 q.2.1 ∧ Ext h23 q.2.2) 246 (fun (y246 : Hp) => [(0, rv D a0)]) (fun (y246 : Hp) => y246) (fun (y246 : Hp) => Ext h23 y246) (a1, x3_39, h23) ⟨r1, r3_39, (Ext.refl _)⟩ ?_ ?_
    · rintro ⟨x2_40, x3_40, h_40⟩ ⟨r2_40, r3_40, E_40⟩
      try dsimp only
      unfold m_X24_title_l40
      refine g_iload_n (pc := 40) X (j := 3) (i := 3) (q := 3) (x := x3_40) rfl rfl (dl_at t_X24_title 26 rfl) ?_
      refine g_aload_n (pc := 41) X (j := 0) (i := 0) (q := 0) (x := a0) rfl rfl (dl_at t_X24_title 27 rfl) ?_
      have k42 := kx E_40 (by decide) k29
      refine r_getr (pc := 42) X fX24_0 k42 q3642 (dl_at t_X24_title 28 rfl) ?_
      refine g_gd fun k45 => ?_
      refine r_getr (pc := 45) X fX23_16 k45 q3560 (dl_at t_X24_title 29 rfl) ?_
      refine g_iload_n (pc := 48) X (j := 1) (i := 1) (q := 1) (x := a1) rfl rfl (dl_at t_X24_title 30 rfl) ?_
      refine g_gd fun k49 => ?_
      refine g_iald (pc := 49) X r1 k49 (dl_at t_X24_title 31 rfl) fun g49 => ?_
      refine g_icmpge (pc := 50) X r3_40 g49 (off := 196) (tgt := 246) rfl (dl_at t_X24_title 32 rfl) (fun _ => ?_) (fun _ => ?_)
      · refine g_ls (ls2 := [(0, rv D a0)]) [0] rfl ?_
        exact g_at fun Q hQ => hQ E_40
      refine g_aload_n (pc := 53) X (j := 0) (i := 0) (q := 0) (x := a0) rfl rfl (dl_at t_X24_title 33 rfl) ?_
      refine r_getr (pc := 54) X fX24_0 k42 q3642 (dl_at t_X24_title 34 rfl) ?_
      refine r_getr (pc := 57) X fX23_6 k45 q3534 (dl_at t_X24_title 35 rfl) ?_
      refine g_iload_n (pc := 60) X (j := 3) (i := 3) (q := 3) (x := x3_40) rfl rfl (dl_at t_X24_title 36 rfl) ?_
      refine g_gd fun k61 => ?_
      refine g_iald (pc := 61) X r3_40 k61 (dl_at t_X24_title 37 rfl) fun g61 => ?_
      refine g_iconst (pc := 62) X (n := 1) (dl_at t_X24_title 38 rfl) ?_
      refine g_join (γ := Int × Int × Hp) (fun q => r32 q.1 ∧ r32 q.2.1 ∧ Ext h_40 q.2.2) 240 (fun q => [(0, rv D a0), (1, iv a1), (2, iv q.1), (3, iv q.2.1)]) (fun q => []) (fun q => q.2.2) (fun q => m_X24_title_j240 q.1 q.2.1 q.2.2) ?_ ?_
      · rintro ⟨x2_240, x3_240, h_240⟩ ⟨r2_240, r3_240, E_240⟩
        try dsimp only
        unfold m_X24_title_j240
        refine r_iincN (pc := 240) X (i := 3) (q := 3) (n := 1) (x := x3_240) (b := 2) (w := iv x2_240) (rest := [(0, rv D a0), (1, iv a1)]) rfl r3_240 (r32_c rfl) (Nat.le_of_ble_eq_true rfl) [2, 0, 1] rfl (by decide) rfl rfl (dl_at t_X24_title 128 rfl) fun x3_240_1 r3_240_1 => ?_
        refine g_goto (pc := 243) X (off := (-203)) (tgt := 40) rfl (dl_at t_X24_title 129 rfl) ?_
        refine g_ls (ls2 := [(0, rv D a0), (1, iv a1), (2, iv x2_240), (3, iv x3_240_1)]) [2, 3, 1, 0] rfl ?_
        exact g_at fun Q hQ => hQ ⟨r2_240, r3_240_1, (E_40.trans E_240)⟩
      intro J240
      refine g_icmpne (pc := 63) X g61 (r32_c rfl) (off := 60) (tgt := 123) rfl (dl_at t_X24_title 39 rfl) (fun _ => ?_) (fun _ => ?_)
      · refine g_aload_n (pc := 123) X (j := 0) (i := 0) (q := 0) (x := a0) rfl rfl (dl_at t_X24_title 69 rfl) ?_
        refine r_getr (pc := 124) X fX24_0 k42 q3642 (dl_at t_X24_title 70 rfl) ?_
        refine r_getr (pc := 127) X fX23_6 k45 q3534 (dl_at t_X24_title 71 rfl) ?_
        refine g_iload_n (pc := 130) X (j := 3) (i := 3) (q := 3) (x := x3_40) rfl rfl (dl_at t_X24_title 72 rfl) ?_
        refine g_iald (pc := 131) X r3_40 k61 (dl_at t_X24_title 73 rfl) fun g131 => ?_
        refine g_iconst (pc := 132) X (n := 2) (dl_at t_X24_title 74 rfl) ?_
        refine g_icmpne (pc := 133) X g131 (r32_c rfl) (off := 16) (tgt := 149) rfl (dl_at t_X24_title 75 rfl) (fun _ => ?_) (fun _ => ?_)
        · refine g_aload_n (pc := 149) X (j := 0) (i := 0) (q := 0) (x := a0) rfl rfl (dl_at t_X24_title 83 rfl) ?_
          refine g_iload_n (pc := 150) X (j := 2) (i := 2) (q := 2) (x := x2_40) rfl rfl (dl_at t_X24_title 84 rfl) ?_
          refine r_callRz (pc := 151) X (fun _ hv => s_X24_speaks k42 r2_40 hv) cw_code q4774 q378 (in_Vk X (As := [iv x2_40]) kX24 k42 (Or.inl q4771) q4772 q4773 cw_code q4774 ⟨by decide, by decide⟩ rfl (dl_at t_X24_title 85 rfl)) (dl_at t_X24_title 85 rfl) (cat24 (st := []) (Nat.le_of_ble_eq_true rfl)) (Nat.le_of_ble_eq_true rfl) (Nat.le_of_ble_eq_true rfl) fun v151 g151 => ?_
          refine g_ifeq (pc := 154) X (r32_z g151) (off := 86) (tgt := 240) rfl (dl_at t_X24_title 86 rfl) (fun _ => ?_) (fun _ => ?_)
          · exact J240 (x2_40, x3_40, h_40) ⟨r2_40, r3_40, (Ext.refl _)⟩
          refine g_aload_n (pc := 157) X (j := 0) (i := 0) (q := 0) (x := a0) rfl rfl (dl_at t_X24_title 87 rfl) ?_
          refine r_getr (pc := 158) X fX24_0 k42 q3642 (dl_at t_X24_title 88 rfl) ?_
          refine r_getr (pc := 161) X fX23_6 k45 q3534 (dl_at t_X24_title 89 rfl) ?_
          refine g_iload_n (pc := 164) X (j := 3) (i := 3) (q := 3) (x := x3_40) rfl rfl (dl_at t_X24_title 90 rfl) ?_
          refine g_iald (pc := 165) X r3_40 k61 (dl_at t_X24_title 91 rfl) fun g165 => ?_
          refine g_iconst (pc := 166) X (n := 3) (dl_at t_X24_title 92 rfl) ?_
          refine g_icmpne (pc := 167) X g165 (r32_c rfl) (off := 19) (tgt := 186) rfl (dl_at t_X24_title 93 rfl) (fun _ => ?_) (fun _ => ?_)
          · refine g_aload_n (pc := 186) X (j := 0) (i := 0) (q := 0) (x := a0) rfl rfl (dl_at t_X24_title 102 rfl) ?_
            refine r_getr (pc := 187) X fX24_0 k42 q3642 (dl_at t_X24_title 103 rfl) ?_
            refine r_getr (pc := 190) X fX23_7 k45 q3537 (dl_at t_X24_title 104 rfl) ?_
            refine g_iload_n (pc := 193) X (j := 3) (i := 3) (q := 3) (x := x3_40) rfl rfl (dl_at t_X24_title 105 rfl) ?_
            refine g_gd fun k194 => ?_
            refine g_iald (pc := 194) X r3_40 k194 (dl_at t_X24_title 106 rfl) fun g194 => ?_
            refine g_lti g194 fun x4_195 r4_195 => ?_
            refine g_istoreN (pc := 195) X (i := 4) (x := x4_195) (b := 3) (w := iv x3_40) (rest := [(0, rv D a0), (1, iv a1), (2, iv x2_40)]) (Nat.le_of_ble_eq_true rfl) [3, 0, 1, 2] rfl (by decide) rfl rfl (dl_at t_X24_title 107 rfl) ?_
            refine g_ls (ls2 := [(0, rv D a0), (1, iv a1), (2, iv x2_40), (3, iv x3_40), (4, iv x4_195)]) [2, 3, 4, 1, 0] rfl ?_
            refine g_loop1 (fun (q : Int × Hp) => [(0, rv D a0), (1, iv a1), (2, iv x2_40), (3, iv x3_40), (4, iv q.1)]) (fun (q : Int × Hp) => q.2) (fun (q : Int × Hp) => r32 q.1 ∧ Ext h_40 q.2) 240 (fun (y240 : Hp) => [(0, rv D a0), (1, iv a1), (2, iv x2_40), (3, iv x3_40)]) (fun (y240 : Hp) => y240) (fun (y240 : Hp) => Ext h_40 y240) (x4_195, h_40) ⟨r4_195, (Ext.refl _)⟩ ?_ ?_
            · rintro ⟨x4_197, h_197⟩ ⟨r4_197, E_197⟩
              try dsimp only
              unfold m_X24_title_l197
              refine g_iload (pc := 197) X (i := 4) (q := 4) (x := x4_197) rfl (dl_at t_X24_title 108 rfl) ?_
              refine g_aload_n (pc := 199) X (j := 0) (i := 0) (q := 0) (x := a0) rfl rfl (dl_at t_X24_title 109 rfl) ?_
              have k200 := kx E_197 (by decide) k42
              refine r_getr (pc := 200) X fX24_0 k200 q3642 (dl_at t_X24_title 110 rfl) ?_
              refine g_gd fun k203 => ?_
              refine r_getr (pc := 203) X fX23_8 k203 q3541 (dl_at t_X24_title 111 rfl) ?_
              refine g_iload_n (pc := 206) X (j := 3) (i := 3) (q := 3) (x := x3_40) rfl rfl (dl_at t_X24_title 112 rfl) ?_
              refine g_gd fun k207 => ?_
              refine g_iald (pc := 207) X r3_40 k207 (dl_at t_X24_title 113 rfl) fun g207 => ?_
              refine g_icmpge (pc := 208) X r4_197 g207 (off := 32) (tgt := 240) rfl (dl_at t_X24_title 114 rfl) (fun _ => ?_) (fun _ => ?_)
              · refine g_ls (ls2 := [(0, rv D a0), (1, iv a1), (2, iv x2_40), (3, iv x3_40)]) [0, 1, 2, 3] rfl ?_
                exact g_at fun Q hQ => hQ E_197
              refine g_aload_n (pc := 211) X (j := 0) (i := 0) (q := 0) (x := a0) rfl rfl (dl_at t_X24_title 115 rfl) ?_
              refine r_geti (pc := 212) X fX24_28 k200 q3690 (dl_at t_X24_title 116 rfl) fun g212 => ?_
              refine g_bipush (pc := 215) X (n := 40) rfl (dl_at t_X24_title 117 rfl) ?_
              refine g_icmpgt (pc := 217) X g212 (r32_c rfl) (off := 23) (tgt := 240) rfl (dl_at t_X24_title 118 rfl) (fun _ => ?_) (fun _ => ?_)
              · refine g_ls (ls2 := [(0, rv D a0), (1, iv a1), (2, iv x2_40), (3, iv x3_40)]) [0, 1, 2, 3] rfl ?_
                exact g_at fun Q hQ => hQ E_197
              refine g_aload_n (pc := 220) X (j := 0) (i := 0) (q := 0) (x := a0) rfl rfl (dl_at t_X24_title 119 rfl) ?_
              refine g_aload_n (pc := 221) X (j := 0) (i := 0) (q := 0) (x := a0) rfl rfl (dl_at t_X24_title 120 rfl) ?_
              refine r_getr (pc := 222) X fX24_0 k200 q3642 (dl_at t_X24_title 121 rfl) ?_
              refine r_getr (pc := 225) X fX23_0 k203 q3518 (dl_at t_X24_title 122 rfl) ?_
              refine g_iload (pc := 228) X (i := 4) (q := 4) (x := x4_197) rfl (dl_at t_X24_title 123 rfl) ?_
              refine g_gd fun k230 => ?_
              refine g_bald (pc := 230) X r4_197 k230 (dl_at t_X24_title 124 rfl) fun g230 => ?_
              refine r_callV (pc := 231) X (fun _ hv => s_X24_say k200 (r32_b g230) hv) cw_code q4769 q378 (in_Vk X (As := [iv (h_197 (h_197 (h_197 a0 0) 0) x4_197)]) kX24 k200 (Or.inl q4766) q4768 qs286 cw_code q4769 ⟨by decide, by decide⟩ rfl (dl_at t_X24_title 125 rfl)) (dl_at t_X24_title 125 rfl) (cat24 (st := []) (Nat.le_of_ble_eq_true rfl)) (Nat.le_of_ble_eq_true rfl) (Nat.le_of_ble_eq_true rfl) fun h231 E231 => ?_
              refine r_iincN (pc := 234) X (i := 4) (q := 4) (n := 1) (x := x4_197) (b := 3) (w := iv x3_40) (rest := [(0, rv D a0), (1, iv a1), (2, iv x2_40)]) rfl r4_197 (r32_c rfl) (Nat.le_of_ble_eq_true rfl) [3, 0, 1, 2] rfl (by decide) rfl rfl (dl_at t_X24_title 126 rfl) fun x4_234 r4_234 => ?_
              refine g_goto (pc := 237) X (off := (-40)) (tgt := 197) rfl (dl_at t_X24_title 127 rfl) ?_
              refine g_ls (ls2 := [(0, rv D a0), (1, iv a1), (2, iv x2_40), (3, iv x3_40), (4, iv x4_234)]) [2, 3, 4, 1, 0] rfl ?_
              exact g_at fun Q hQ => hQ ⟨r4_234, (E_197.trans E231)⟩
            · rintro h_240_1 E_240_1
              try dsimp only [sE]
              exact J240 (x2_40, x3_40, h_240_1) ⟨r2_40, r3_40, E_240_1⟩
          refine g_aload_n (pc := 170) X (j := 0) (i := 0) (q := 0) (x := a0) rfl rfl (dl_at t_X24_title 94 rfl) ?_
          refine g_aload_n (pc := 171) X (j := 0) (i := 0) (q := 0) (x := a0) rfl rfl (dl_at t_X24_title 95 rfl) ?_
          refine r_getr (pc := 172) X fX24_0 k42 q3642 (dl_at t_X24_title 96 rfl) ?_
          refine r_getr (pc := 175) X fX23_7 k45 q3537 (dl_at t_X24_title 97 rfl) ?_
          refine g_iload_n (pc := 178) X (j := 3) (i := 3) (q := 3) (x := x3_40) rfl rfl (dl_at t_X24_title 98 rfl) ?_
          refine g_gd fun k179 => ?_
          refine g_iald (pc := 179) X r3_40 k179 (dl_at t_X24_title 99 rfl) fun g179 => ?_
          refine r_callV (pc := 180) X (fun _ hv => s_X24_say k42 g179 hv) cw_code q4769 q378 (in_Vk X (As := [iv (h_40 (h_40 (h_40 a0 0) 7) x3_40)]) kX24 k42 (Or.inl q4766) q4768 qs286 cw_code q4769 ⟨by decide, by decide⟩ rfl (dl_at t_X24_title 100 rfl)) (dl_at t_X24_title 100 rfl) (cat24 (st := []) (Nat.le_of_ble_eq_true rfl)) (Nat.le_of_ble_eq_true rfl) (Nat.le_of_ble_eq_true rfl) fun h180 E180 => ?_
          refine g_goto (pc := 183) X (off := 57) (tgt := 240) rfl (dl_at t_X24_title 101 rfl) ?_
          exact J240 (x2_40, x3_40, h180) ⟨r2_40, r3_40, E180⟩
        refine g_aload_n (pc := 136) X (j := 0) (i := 0) (q := 0) (x := a0) rfl rfl (dl_at t_X24_title 76 rfl) ?_
        refine r_getr (pc := 137) X fX24_0 k42 q3642 (dl_at t_X24_title 77 rfl) ?_
        refine r_getr (pc := 140) X fX23_11 k45 q3547 (dl_at t_X24_title 78 rfl) ?_
        refine g_iload_n (pc := 143) X (j := 2) (i := 2) (q := 2) (x := x2_40) rfl rfl (dl_at t_X24_title 79 rfl) ?_
        refine g_gd fun k144 => ?_
        refine g_iald (pc := 144) X r2_40 k144 (dl_at t_X24_title 80 rfl) fun g144 => ?_
        refine g_lti g144 fun x2_145 r2_145 => ?_
        refine g_istore_nN (pc := 145) X (j := 2) (i := 2) (x := x2_145) (b := 1) (w := iv a1) (rest := [(0, rv D a0), (3, iv x3_40)]) rfl (Nat.le_of_ble_eq_true rfl) [1, 0, 3] rfl (by decide) rfl rfl (dl_at t_X24_title 81 rfl) ?_
        refine g_goto (pc := 146) X (off := 94) (tgt := 240) rfl (dl_at t_X24_title 82 rfl) ?_
        refine g_ls (ls2 := [(0, rv D a0), (1, iv a1), (2, iv x2_145), (3, iv x3_40)]) [2, 1, 0, 3] rfl ?_
        exact J240 (x2_145, x3_40, h_40) ⟨r2_145, r3_40, (Ext.refl _)⟩
      refine g_aload_n (pc := 66) X (j := 0) (i := 0) (q := 0) (x := a0) rfl rfl (dl_at t_X24_title 40 rfl) ?_
      refine r_getr (pc := 67) X fX24_0 k42 q3642 (dl_at t_X24_title 41 rfl) ?_
      refine r_getr (pc := 70) X fX23_7 k45 q3537 (dl_at t_X24_title 42 rfl) ?_
      refine g_iload_n (pc := 73) X (j := 3) (i := 3) (q := 3) (x := x3_40) rfl rfl (dl_at t_X24_title 43 rfl) ?_
      refine g_gd fun k74 => ?_
      refine g_iald (pc := 74) X r3_40 k74 (dl_at t_X24_title 44 rfl) fun g74 => ?_
      refine g_lti g74 fun x4_75 r4_75 => ?_
      refine g_istoreN (pc := 75) X (i := 4) (x := x4_75) (b := 3) (w := iv x3_40) (rest := [(0, rv D a0), (1, iv a1), (2, iv x2_40)]) (Nat.le_of_ble_eq_true rfl) [3, 0, 1, 2] rfl (by decide) rfl rfl (dl_at t_X24_title 45 rfl) ?_
      refine g_aload_n (pc := 77) X (j := 0) (i := 0) (q := 2) (x := a0) rfl rfl (dl_at t_X24_title 46 rfl) ?_
      refine r_getr (pc := 78) X fX24_9 k42 q3662 (dl_at t_X24_title 47 rfl) ?_
      refine g_iload (pc := 81) X (i := 4) (q := 0) (x := x4_75) rfl (dl_at t_X24_title 48 rfl) ?_
      refine g_gd fun k83 => ?_
      refine g_zald (pc := 83) X r4_75 k83 (dl_at t_X24_title 49 rfl) fun g83 => ?_
      refine g_join (γ := Unit) (fun q => True) 97 (fun q => [(0, rv D a0), (1, iv a1), (2, iv x2_40), (4, iv x4_75)]) (fun q => []) (fun q => h_40) (fun q => m_X24_title_j97 x4_75 a0 x2_40 h_40) ?_ ?_
      · rintro _ _
        try dsimp only
        unfold m_X24_title_j97
        refine g_aload_n (pc := 97) X (j := 0) (i := 0) (q := 0) (x := a0) rfl rfl (dl_at t_X24_title 56 rfl) ?_
        refine r_getr (pc := 98) X fX24_0 k42 q3642 (dl_at t_X24_title 57 rfl) ?_
        refine r_getr (pc := 101) X fX23_16 k45 q3560 (dl_at t_X24_title 58 rfl) ?_
        refine g_iload (pc := 104) X (i := 4) (q := 3) (x := x4_75) rfl (dl_at t_X24_title 59 rfl) ?_
        refine g_gd fun k106 => ?_
        refine g_iald (pc := 106) X r4_75 k106 (dl_at t_X24_title 60 rfl) fun g106 => ?_
        refine g_lti g106 fun x3_107 r3_107 => ?_
        refine g_istore_nN (pc := 107) X (j := 3) (i := 3) (x := x3_107) (b := 2) (w := iv x2_40) (rest := [(0, rv D a0), (1, iv a1)]) rfl (Nat.le_of_ble_eq_true rfl) [2, 0, 1] rfl (by decide) rfl rfl (dl_at t_X24_title 61 rfl) ?_
        refine g_goto (pc := 108) X (off := 12) (tgt := 120) rfl (dl_at t_X24_title 62 rfl) ?_
        refine g_goto (pc := 120) X (off := 120) (tgt := 240) rfl (dl_at t_X24_title 68 rfl) ?_
        refine g_ls (ls2 := [(0, rv D a0), (1, iv a1), (2, iv x2_40), (3, iv x3_107)]) [2, 3, 1, 0] rfl ?_
        exact J240 (x2_40, x3_107, h_40) ⟨r2_40, r3_107, (Ext.refl _)⟩
      intro J97
      refine g_ifeq (pc := 84) X (r32_z g83) (off := 13) (tgt := 97) rfl (dl_at t_X24_title 50 rfl) (fun _ => ?_) (fun _ => ?_)
      · refine g_ls (ls2 := [(0, rv D a0), (1, iv a1), (2, iv x2_40), (4, iv x4_75)]) [2, 3, 4, 0] rfl ?_
        exact J97 () trivial
      refine g_aload_n (pc := 87) X (j := 0) (i := 0) (q := 2) (x := a0) rfl rfl (dl_at t_X24_title 51 rfl) ?_
      refine g_iload (pc := 88) X (i := 4) (q := 0) (x := x4_75) rfl (dl_at t_X24_title 52 rfl) ?_
      refine r_callRi (pc := 90) X (fun _ hv => s_X24_show k42 r4_75 hv) cw_code q4717 q378 (in_Vk X (As := [iv x4_75]) kX24 k42 (Or.inl q4714) q4715 q4716 cw_code q4717 ⟨by decide, by decide⟩ rfl (dl_at t_X24_title 53 rfl)) (dl_at t_X24_title 53 rfl) (cat24 (st := []) (Nat.le_of_ble_eq_true rfl)) (Nat.le_of_ble_eq_true rfl) (Nat.le_of_ble_eq_true rfl) fun v90 g90 => ?_
      refine g_iconst (pc := 93) X (n := 3) (dl_at t_X24_title 54 rfl) ?_
      refine g_icmpne (pc := 94) X g90 (r32_c rfl) (off := 17) (tgt := 111) rfl (dl_at t_X24_title 55 rfl) (fun _ => ?_) (fun _ => ?_)
      · refine g_iload (pc := 111) X (i := 4) (q := 0) (x := x4_75) rfl (dl_at t_X24_title 63 rfl) ?_
        refine g_istore_nN (pc := 113) X (j := 2) (i := 2) (x := x4_75) (b := 1) (w := iv a1) (rest := [(4, iv x4_75), (3, iv x3_40), (0, rv D a0)]) rfl (Nat.le_of_ble_eq_true rfl) [3, 0, 1, 2] rfl (by decide) rfl rfl (dl_at t_X24_title 64 rfl) ?_
        refine g_aload_n (pc := 114) X (j := 0) (i := 0) (q := 4) (x := a0) rfl rfl (dl_at t_X24_title 65 rfl) ?_
        refine g_iload (pc := 115) X (i := 4) (q := 2) (x := x4_75) rfl (dl_at t_X24_title 66 rfl) ?_
        refine r_callV (pc := 117) X (fun _ hv => s_X24_sayLabel k42 r4_75 hv) cw_code q4743 q378 (in_Vk X (As := [iv x4_75]) kX24 k42 (Or.inl q4740) q4742 qs282 cw_code q4743 ⟨by decide, by decide⟩ rfl (dl_at t_X24_title 67 rfl)) (dl_at t_X24_title 67 rfl) (cat24 (st := []) (Nat.le_of_ble_eq_true rfl)) (Nat.le_of_ble_eq_true rfl) (Nat.le_of_ble_eq_true rfl) fun h117 E117 => ?_
        refine g_goto (pc := 120) X (off := 120) (tgt := 240) rfl (dl_at t_X24_title 68 rfl) ?_
        refine g_ls (ls2 := [(0, rv D a0), (1, iv a1), (2, iv x4_75), (3, iv x3_40)]) [4, 1, 0, 3] rfl ?_
        exact J240 (x4_75, x3_40, h117) ⟨r4_75, r3_40, E117⟩
      refine g_ls (ls2 := [(0, rv D a0), (1, iv a1), (2, iv x2_40), (4, iv x4_75)]) [2, 3, 4, 0] rfl ?_
      exact J97 () trivial
    · rintro h_246 E_246
      try dsimp only [sE]
      refine g_aload_n (pc := 246) X (j := 0) (i := 0) (q := 0) (x := a0) rfl rfl (dl_at t_X24_title 130 rfl) ?_
      have k247 := kx E_246 (by decide) k29
      refine r_geti (pc := 247) X fX24_28 k247 q3690 (dl_at t_X24_title 131 rfl) fun g247 => ?_
      refine g_bipush (pc := 250) X (n := 40) rfl (dl_at t_X24_title 132 rfl) ?_
      refine g_join (γ := Int) (fun q => r32 q) 264 (fun q => [(0, rv D a0)]) (fun q => [iv q]) (fun q => h_246) (fun q => m_X24_title_j264 a0 q h_246) ?_ ?_
      · rintro s0_264 rs0_264
        try dsimp only
        unfold m_X24_title_j264
        refine g_istore_n (pc := 264) X (j := 3) (i := 3) (x := s0_264) (rest := [(0, rv D a0)]) rfl (Nat.le_of_ble_eq_true rfl) [0] rfl rfl (dl_at t_X24_title 138 rfl) ?_
        refine g_iload_n (pc := 265) X (j := 3) (i := 3) (q := 0) (x := s0_264) rfl rfl (dl_at t_X24_title 139 rfl) ?_
        refine g_ifle (pc := 266) X rs0_264 (off := 22) (tgt := 288) rfl (dl_at t_X24_title 140 rfl) (fun _ => ?_) (fun _ => ?_)
        · refine g_iload_n (pc := 288) X (j := 3) (i := 3) (q := 0) (x := s0_264) rfl rfl (dl_at t_X24_title 153 rfl) ?_
          exact g_iret (pc := 289) X rs0_264 rfl rfl (dl_at t_X24_title 154 rfl)
        refine g_aload_n (pc := 269) X (j := 0) (i := 0) (q := 1) (x := a0) rfl rfl (dl_at t_X24_title 141 rfl) ?_
        refine r_getr (pc := 270) X fX24_27 k247 q3689 (dl_at t_X24_title 142 rfl) ?_
        refine g_iload_n (pc := 273) X (j := 3) (i := 3) (q := 0) (x := s0_264) rfl rfl (dl_at t_X24_title 143 rfl) ?_
        refine g_iconst (pc := 274) X (n := 1) (dl_at t_X24_title 144 rfl) ?_
        refine g_isub (pc := 275) X rs0_264 (r32_c rfl) (dl_at t_X24_title 145 rfl) ?_
        refine g_gd fun k276 => ?_
        refine g_bald (pc := 276) X (r32_w _) k276 (dl_at t_X24_title 146 rfl) fun g276 => ?_
        refine g_bipush (pc := 277) X (n := 32) rfl (dl_at t_X24_title 147 rfl) ?_
        refine g_icmpne (pc := 279) X (r32_b g276) (r32_c rfl) (off := 9) (tgt := 288) rfl (dl_at t_X24_title 148 rfl) (fun _ => ?_) (fun _ => ?_)
        · refine g_iload_n (pc := 288) X (j := 3) (i := 3) (q := 0) (x := s0_264) rfl rfl (dl_at t_X24_title 153 rfl) ?_
          exact g_iret (pc := 289) X rs0_264 rfl rfl (dl_at t_X24_title 154 rfl)
        refine g_iload_n (pc := 282) X (j := 3) (i := 3) (q := 0) (x := s0_264) rfl rfl (dl_at t_X24_title 149 rfl) ?_
        refine g_iconst (pc := 283) X (n := 1) (dl_at t_X24_title 150 rfl) ?_
        refine g_isub (pc := 284) X rs0_264 (r32_c rfl) (dl_at t_X24_title 151 rfl) ?_
        refine g_goto (pc := 285) X (off := 4) (tgt := 289) rfl (dl_at t_X24_title 152 rfl) ?_
        exact g_iret (pc := 289) X (r32_w _) rfl rfl (dl_at t_X24_title 154 rfl)
      intro J264
      refine g_icmple (pc := 252) X g247 (r32_c rfl) (off := 8) (tgt := 260) rfl (dl_at t_X24_title 133 rfl) (fun _ => ?_) (fun _ => ?_)
      · refine g_aload_n (pc := 260) X (j := 0) (i := 0) (q := 0) (x := a0) rfl rfl (dl_at t_X24_title 136 rfl) ?_
        refine r_geti (pc := 261) X fX24_28 k247 q3690 (dl_at t_X24_title 137 rfl) fun g261 => ?_
        exact J264 (h_246 a0 28) g261
      refine g_bipush (pc := 255) X (n := 40) rfl (dl_at t_X24_title 134 rfl) ?_
      refine g_goto (pc := 257) X (off := 7) (tgt := 264) rfl (dl_at t_X24_title 135 rfl) ?_
      exact J264 40 (r32_c rfl)
  refine g_iconst (pc := 19) X (n := 0) (dl_at t_X24_title 11 rfl) ?_
  exact g_iret (pc := 20) X (r32_c rfl) rfl rfl (dl_at t_X24_title 12 rfl)
def k_X24_titleByte : List (Nat × Instr × Nat) := [(0, .aload_n 0, 1), (1, .getfield 99, 3), (4, .iload_n 1, 1), (5, .baload, 1), (6, .ireturn, 1)]
theorem t_X24_titleByte : ∀ q ∈ k_X24_titleByte, decode cX24_titleByte q.1 = .ok q.2 := dl_all (by decide +kernel)
noncomputable def m_X24_titleByte (a0 a1 : Int) (h : Hp) : Option (Int) :=
  gd (h (h a0 27) (-2) % 16 = 2 ∧ (0 : Int) ≤ a1 ∧ a1 < h (h a0 27) (-1)) (some (h (h a0 27) a1))
theorem s_X24_titleByte {l : Launch} [NoTr l] {D : SD} {a0 a1 : Int} {h : Hp} (hk : h a0 (-2) = 400) (r1 : r32 a1) {r : Int} (hm : m_X24_titleByte a0 a1 h = some r) : Sim l D yX24_titleByte (Cond.code yX24_titleByte cX24_titleByte 2 (Option.some Jvm.ClassFile.FieldType.int)) 0 0 [rv D a0, iv a1] h 1 ((0, r), h) := by
  refine Sim.of (fin := fun (v : Int) => ((0, v), h)) (lsE := [(0, rv D a0), (1, iv a1)]) hm rfl cwS_code (la_r (la_i la_n)) (ll_r (ll_i ll_n)) ?_
  intro p e s m below meth c X hcw hmm hcc hnm hname
  unfold m_X24_titleByte
  refine g_aload_n (pc := 0) X (j := 0) (i := 0) (q := 0) (x := a0) rfl rfl (dl_at t_X24_titleByte 0 rfl) ?_
  refine r_getr (pc := 1) X fX24_27 hk q3689 (dl_at t_X24_titleByte 1 rfl) ?_
  refine g_iload_n (pc := 4) X (j := 1) (i := 1) (q := 1) (x := a1) rfl rfl (dl_at t_X24_titleByte 2 rfl) ?_
  refine g_gd fun k5 => ?_
  refine g_bald (pc := 5) X r1 k5 (dl_at t_X24_titleByte 3 rfl) fun g5 => ?_
  exact g_iret (pc := 6) X (r32_b g5) rfl rfl (dl_at t_X24_titleByte 4 rfl)
def k_X25_entryLong : List (Nat × Instr × Nat) := [(0, .aload_n 0, 1), (1, .getfield 190, 3), (4, .iload_n 1, 1), (5, .iaload, 1), (6, .aload_n 0, 1), (7, .getfield 187, 3), (10, .iload_n 1, 1), (11, .iaload, 1), (12, .isub, 1), (13, .ireturn, 1)]
theorem t_X25_entryLong : ∀ q ∈ k_X25_entryLong, decode cX25_entryLong q.1 = .ok q.2 := dl_all (by decide +kernel)
noncomputable def m_X25_entryLong (a0 a1 : Int) (h : Hp) : Option (Int) :=
  gd (h (h a0 68) (-2) % 16 = 1 ∧ (0 : Int) ≤ a1 ∧ a1 < h (h a0 68) (-1)) (gd (h (h a0 67) (-2) % 16 = 1 ∧ (0 : Int) ≤ a1 ∧ a1 < h (h a0 67) (-1)) (some (w32 ((h (h a0 68) a1) - (h (h a0 67) a1)))))
theorem s_X25_entryLong {l : Launch} [NoTr l] {D : SD} {a0 a1 : Int} {h : Hp} (hk : h a0 (-2) = 416) (r1 : r32 a1) {r : Int} (hm : m_X25_entryLong a0 a1 h = some r) : Sim l D yX25_entryLong (Cond.code yX25_entryLong cX25_entryLong 2 (Option.some Jvm.ClassFile.FieldType.int)) 0 0 [rv D a0, iv a1] h 1 ((0, r), h) := by
  refine Sim.of (fin := fun (v : Int) => ((0, v), h)) (lsE := [(0, rv D a0), (1, iv a1)]) hm rfl cwS_code (la_r (la_i la_n)) (ll_r (ll_i ll_n)) ?_
  intro p e s m below meth c X hcw hmm hcc hnm hname
  unfold m_X25_entryLong
  refine g_aload_n (pc := 0) X (j := 0) (i := 0) (q := 0) (x := a0) rfl rfl (dl_at t_X25_entryLong 0 rfl) ?_
  refine r_getr (pc := 1) X fX25_68 hk q3866 (dl_at t_X25_entryLong 1 rfl) ?_
  refine g_iload_n (pc := 4) X (j := 1) (i := 1) (q := 1) (x := a1) rfl rfl (dl_at t_X25_entryLong 2 rfl) ?_
  refine g_gd fun k5 => ?_
  refine g_iald (pc := 5) X r1 k5 (dl_at t_X25_entryLong 3 rfl) fun g5 => ?_
  refine g_aload_n (pc := 6) X (j := 0) (i := 0) (q := 0) (x := a0) rfl rfl (dl_at t_X25_entryLong 4 rfl) ?_
  refine r_getr (pc := 7) X fX25_67 hk q3865 (dl_at t_X25_entryLong 5 rfl) ?_
  refine g_iload_n (pc := 10) X (j := 1) (i := 1) (q := 1) (x := a1) rfl rfl (dl_at t_X25_entryLong 6 rfl) ?_
  refine g_gd fun k11 => ?_
  refine g_iald (pc := 11) X r1 k11 (dl_at t_X25_entryLong 7 rfl) fun g11 => ?_
  refine g_isub (pc := 12) X g5 g11 (dl_at t_X25_entryLong 8 rfl) ?_
  exact g_iret (pc := 13) X (r32_w _) rfl rfl (dl_at t_X25_entryLong 9 rfl)
def k_X25_entryByte : List (Nat × Instr × Nat) := [(0, .aload_n 0, 1), (1, .getfield 199, 3), (4, .iload_n 1, 1), (5, .baload, 1), (6, .ifCond .eq 19, 3), (9, .aload_n 0, 1), (10, .getfield 202, 3), (13, .aload_n 0, 1), (14, .getfield 187, 3), (17, .iload_n 1, 1), (18, .iaload, 1), (19, .iload_n 2, 1), (20, .iadd, 1), (21, .baload, 1), (22, .goto 19, 3), (25, .aload_n 0, 1), (26, .getfield 342, 3), (29, .getfield 399, 3), (32, .aload_n 0, 1), (33, .getfield 187, 3), (36, .iload_n 1, 1), (37, .iaload, 1), (38, .iload_n 2, 1), (39, .iadd, 1), (40, .baload, 1), (41, .ireturn, 1)]
theorem t_X25_entryByte : ∀ q ∈ k_X25_entryByte, decode cX25_entryByte q.1 = .ok q.2 := dl_all (by decide +kernel)
noncomputable def m_X25_entryByte (a0 a1 a2 : Int) (h : Hp) : Option (Int) :=
  gd (h (h a0 71) (-2) % 16 = 3 ∧ (0 : Int) ≤ a1 ∧ a1 < h (h a0 71) (-1)) (if (h (h a0 71) a1) = 0 then (gd (h (h a0 1) (-2) = 384) (gd (h (h a0 67) (-2) % 16 = 1 ∧ (0 : Int) ≤ a1 ∧ a1 < h (h a0 67) (-1)) (gd (h (h (h a0 1) 0) (-2) % 16 = 2 ∧ (0 : Int) ≤ (w32 ((h (h a0 67) a1) + a2)) ∧ (w32 ((h (h a0 67) a1) + a2)) < h (h (h a0 1) 0) (-1)) (some (h (h (h a0 1) 0) (w32 ((h (h a0 67) a1) + a2)))))))
  else (gd (h (h a0 67) (-2) % 16 = 1 ∧ (0 : Int) ≤ a1 ∧ a1 < h (h a0 67) (-1)) (gd (h (h a0 72) (-2) % 16 = 2 ∧ (0 : Int) ≤ (w32 ((h (h a0 67) a1) + a2)) ∧ (w32 ((h (h a0 67) a1) + a2)) < h (h a0 72) (-1)) (some (h (h a0 72) (w32 ((h (h a0 67) a1) + a2)))))))
theorem s_X25_entryByte {l : Launch} [NoTr l] {D : SD} {a0 a1 a2 : Int} {h : Hp} (hk : h a0 (-2) = 416) (r1 : r32 a1) (r2 : r32 a2) {r : Int} (hm : m_X25_entryByte a0 a1 a2 h = some r) : Sim l D yX25_entryByte (Cond.code yX25_entryByte cX25_entryByte 3 (Option.some Jvm.ClassFile.FieldType.int)) 0 0 [rv D a0, iv a1, iv a2] h 1 ((0, r), h) := by
  refine Sim.of (fin := fun (v : Int) => ((0, v), h)) (lsE := [(0, rv D a0), (1, iv a1), (2, iv a2)]) hm rfl cwS_code (la_r (la_i (la_i la_n))) (ll_r (ll_i (ll_i ll_n))) ?_
  intro p e s m below meth c X hcw hmm hcc hnm hname
  unfold m_X25_entryByte
  refine g_aload_n (pc := 0) X (j := 0) (i := 0) (q := 0) (x := a0) rfl rfl (dl_at t_X25_entryByte 0 rfl) ?_
  refine r_getr (pc := 1) X fX25_71 hk q3869 (dl_at t_X25_entryByte 1 rfl) ?_
  refine g_iload_n (pc := 4) X (j := 1) (i := 1) (q := 1) (x := a1) rfl rfl (dl_at t_X25_entryByte 2 rfl) ?_
  refine g_gd fun k5 => ?_
  refine g_zald (pc := 5) X r1 k5 (dl_at t_X25_entryByte 3 rfl) fun g5 => ?_
  refine g_ifeq (pc := 6) X (r32_z g5) (off := 19) (tgt := 25) rfl (dl_at t_X25_entryByte 4 rfl) (fun _ => ?_) (fun _ => ?_)
  · refine g_aload_n (pc := 25) X (j := 0) (i := 0) (q := 0) (x := a0) rfl rfl (dl_at t_X25_entryByte 15 rfl) ?_
    refine r_getr (pc := 26) X fX25_1 hk q3763 (dl_at t_X25_entryByte 16 rfl) ?_
    refine g_gd fun k29 => ?_
    refine r_getr (pc := 29) X fX23_0 k29 q3517 (dl_at t_X25_entryByte 17 rfl) ?_
    refine g_aload_n (pc := 32) X (j := 0) (i := 0) (q := 0) (x := a0) rfl rfl (dl_at t_X25_entryByte 18 rfl) ?_
    refine r_getr (pc := 33) X fX25_67 hk q3865 (dl_at t_X25_entryByte 19 rfl) ?_
    refine g_iload_n (pc := 36) X (j := 1) (i := 1) (q := 1) (x := a1) rfl rfl (dl_at t_X25_entryByte 20 rfl) ?_
    refine g_gd fun k37 => ?_
    refine g_iald (pc := 37) X r1 k37 (dl_at t_X25_entryByte 21 rfl) fun g37 => ?_
    refine g_iload_n (pc := 38) X (j := 2) (i := 2) (q := 2) (x := a2) rfl rfl (dl_at t_X25_entryByte 22 rfl) ?_
    refine g_iadd (pc := 39) X g37 r2 (dl_at t_X25_entryByte 23 rfl) ?_
    refine g_gd fun k40 => ?_
    refine g_bald (pc := 40) X (r32_w _) k40 (dl_at t_X25_entryByte 24 rfl) fun g40 => ?_
    exact g_iret (pc := 41) X (r32_b g40) rfl rfl (dl_at t_X25_entryByte 25 rfl)
  refine g_aload_n (pc := 9) X (j := 0) (i := 0) (q := 0) (x := a0) rfl rfl (dl_at t_X25_entryByte 5 rfl) ?_
  refine r_getr (pc := 10) X fX25_72 hk q3870 (dl_at t_X25_entryByte 6 rfl) ?_
  refine g_aload_n (pc := 13) X (j := 0) (i := 0) (q := 0) (x := a0) rfl rfl (dl_at t_X25_entryByte 7 rfl) ?_
  refine r_getr (pc := 14) X fX25_67 hk q3865 (dl_at t_X25_entryByte 8 rfl) ?_
  refine g_iload_n (pc := 17) X (j := 1) (i := 1) (q := 1) (x := a1) rfl rfl (dl_at t_X25_entryByte 9 rfl) ?_
  refine g_gd fun k18 => ?_
  refine g_iald (pc := 18) X r1 k18 (dl_at t_X25_entryByte 10 rfl) fun g18 => ?_
  refine g_iload_n (pc := 19) X (j := 2) (i := 2) (q := 2) (x := a2) rfl rfl (dl_at t_X25_entryByte 11 rfl) ?_
  refine g_iadd (pc := 20) X g18 r2 (dl_at t_X25_entryByte 12 rfl) ?_
  refine g_gd fun k21 => ?_
  refine g_bald (pc := 21) X (r32_w _) k21 (dl_at t_X25_entryByte 13 rfl) fun g21 => ?_
  refine g_goto (pc := 22) X (off := 19) (tgt := 41) rfl (dl_at t_X25_entryByte 14 rfl) ?_
  exact g_iret (pc := 41) X (r32_b g21) rfl rfl (dl_at t_X25_entryByte 25 rfl)
def k_X25_sameEntry : List (Nat × Instr × Nat) := [(0, .aload_n 0, 1), (1, .iload_n 1, 1), (2, .invokevirtual 402, 3), (5, .aload_n 0, 1), (6, .iload_n 2, 1), (7, .invokevirtual 402, 3), (10, .if_icmp .eq 5, 3), (13, .iconst 0, 1), (14, .ireturn, 1), (15, .iconst 0, 1), (16, .istore_n 3, 1), (17, .iload_n 3, 1), (18, .aload_n 0, 1), (19, .iload_n 1, 1), (20, .invokevirtual 402, 3), (23, .if_icmp .ge 26, 3), (26, .aload_n 0, 1), (27, .iload_n 1, 1), (28, .iload_n 3, 1), (29, .invokevirtual 405, 3), (32, .aload_n 0, 1), (33, .iload_n 2, 1), (34, .iload_n 3, 1), (35, .invokevirtual 405, 3), (38, .if_icmp .eq 5, 3), (41, .iconst 0, 1), (42, .ireturn, 1), (43, .iinc 3 1, 3), (46, .goto (-29), 3), (49, .iconst 1, 1), (50, .ireturn, 1)]
theorem t_X25_sameEntry : ∀ q ∈ k_X25_sameEntry, decode cX25_sameEntry q.1 = .ok q.2 := dl_all (by decide +kernel)
noncomputable def m_X25_sameEntry_l17 (a0 a1 a2 x3_17 : Int) (h : Hp) : Option ((Int) ⊕ ((Int))) :=
  (m_X25_entryLong a0 a1 h).bind fun v20 =>
  if v20 ≤ x3_17 then (some (.inr 1))
  else ((m_X25_entryByte a0 a1 x3_17 h).bind fun v29 =>
  (m_X25_entryByte a0 a2 x3_17 h).bind fun v35 =>
  if v29 = v35 then (lt_ (w32 (x3_17 + 1)) fun x3_43 =>
  some (.inl x3_43))
  else (some (.inr 0)))
noncomputable def m_X25_sameEntry (a0 a1 a2 : Int) (h : Hp) : Option (Int) :=
  (m_X25_entryLong a0 a1 h).bind fun v2 =>
  (m_X25_entryLong a0 a2 h).bind fun v7 =>
  if v2 = v7 then (lt_ 0 fun x3_16 =>
  (lp (fun (q : Int) => m_X25_sameEntry_l17 a0 a1 a2 q h) x3_16).bind (fun (x : Int) => some x))
  else (some 0)
theorem s_X25_sameEntry {l : Launch} [NoTr l] {D : SD} {a0 a1 a2 : Int} {h : Hp} (hk : h a0 (-2) = 416) (r1 : r32 a1) (r2 : r32 a2) {r : Int} (hm : m_X25_sameEntry a0 a1 a2 h = some r) : Sim l D yX25_sameEntry (Cond.code yX25_sameEntry cX25_sameEntry 4 (Option.some Jvm.ClassFile.FieldType.boolean)) 1 38 [rv D a0, iv a1, iv a2] h 3 ((0, r), h) := by
  refine Sim.of (fin := fun (v : Int) => ((0, v), h)) (lsE := [(0, rv D a0), (1, iv a1), (2, iv a2)]) hm rfl cwS_code (la_r (la_i (la_i la_n))) (ll_r (ll_i (ll_i ll_n))) ?_
  intro p e s m below meth c X hcw hmm hcc hnm hname
  unfold m_X25_sameEntry
  refine g_aload_n (pc := 0) X (j := 0) (i := 0) (q := 0) (x := a0) rfl rfl (dl_at t_X25_sameEntry 0 rfl) ?_
  refine g_iload_n (pc := 1) X (j := 1) (i := 1) (q := 1) (x := a1) rfl rfl (dl_at t_X25_sameEntry 1 rfl) ?_
  refine r_callRi (pc := 2) X (fun _ hv => s_X25_entryLong hk r1 hv) cw_code q4782 q379 (in_Vk X (As := [iv a1]) kX25 hk (Or.inl q4779) q4781 qs287 cw_code q4782 ⟨by decide, by decide⟩ rfl (dl_at t_X25_sameEntry 2 rfl)) (dl_at t_X25_sameEntry 2 rfl) (cat24 (st := []) (Nat.le_of_ble_eq_true rfl)) (Nat.le_of_ble_eq_true rfl) (Nat.le_of_ble_eq_true rfl) fun v2 g2 => ?_
  refine g_aload_n (pc := 5) X (j := 0) (i := 0) (q := 0) (x := a0) rfl rfl (dl_at t_X25_sameEntry 3 rfl) ?_
  refine g_iload_n (pc := 6) X (j := 2) (i := 2) (q := 2) (x := a2) rfl rfl (dl_at t_X25_sameEntry 4 rfl) ?_
  refine r_callRi (pc := 7) X (fun _ hv => s_X25_entryLong hk r2 hv) cw_code q4782 q379 (in_Vk X (As := [iv a2]) kX25 hk (Or.inl q4779) q4781 qs287 cw_code q4782 ⟨by decide, by decide⟩ rfl (dl_at t_X25_sameEntry 5 rfl)) (dl_at t_X25_sameEntry 5 rfl) (cat24 (st := [iv v2]) (Nat.le_of_ble_eq_true rfl)) (Nat.le_of_ble_eq_true rfl) (Nat.le_of_ble_eq_true rfl) fun v7 g7 => ?_
  refine g_icmpeq (pc := 10) X g2 g7 (off := 5) (tgt := 15) rfl (dl_at t_X25_sameEntry 6 rfl) (fun _ => ?_) (fun _ => ?_)
  · refine g_iconst (pc := 15) X (n := 0) (dl_at t_X25_sameEntry 9 rfl) ?_
    refine g_ltz (Or.inl rfl) fun x3_16 r3_16 => ?_
    refine g_istore_nN (pc := 16) X (j := 3) (i := 3) (x := x3_16) (b := 2) (w := iv a2) (rest := [(0, rv D a0), (1, iv a1)]) rfl (Nat.le_of_ble_eq_true rfl) [2, 0, 1] rfl (by decide) rfl rfl (dl_at t_X25_sameEntry 10 rfl) ?_
    refine g_ls (ls2 := [(0, rv D a0), (1, iv a1), (2, iv a2), (3, iv x3_16)]) [2, 3, 1, 0] rfl ?_
    refine g_loop0F (fun (q : Int) => [(0, rv D a0), (1, iv a1), (2, iv a2), (3, iv q)]) (fun (q : Int) => h) (fun (q : Int) => r32 q) x3_16 (r32_z r3_16) ?_ (fun _ => rfl)
    · rintro x3_17 r3_17
      try dsimp only
      unfold m_X25_sameEntry_l17
      refine g_iload_n (pc := 17) X (j := 3) (i := 3) (q := 3) (x := x3_17) rfl rfl (dl_at t_X25_sameEntry 11 rfl) ?_
      refine g_aload_n (pc := 18) X (j := 0) (i := 0) (q := 0) (x := a0) rfl rfl (dl_at t_X25_sameEntry 12 rfl) ?_
      refine g_iload_n (pc := 19) X (j := 1) (i := 1) (q := 1) (x := a1) rfl rfl (dl_at t_X25_sameEntry 13 rfl) ?_
      refine r_callRi (pc := 20) X (fun _ hv => s_X25_entryLong hk r1 hv) cw_code q4782 q379 (in_Vk X (As := [iv a1]) kX25 hk (Or.inl q4779) q4781 qs287 cw_code q4782 ⟨by decide, by decide⟩ rfl (dl_at t_X25_sameEntry 14 rfl)) (dl_at t_X25_sameEntry 14 rfl) (cat24 (st := [iv x3_17]) (Nat.le_of_ble_eq_true rfl)) (Nat.le_of_ble_eq_true rfl) (Nat.le_of_ble_eq_true rfl) fun v20 g20 => ?_
      refine g_icmpge (pc := 23) X r3_17 g20 (off := 26) (tgt := 49) rfl (dl_at t_X25_sameEntry 15 rfl) (fun _ => ?_) (fun _ => ?_)
      · refine g_iconst (pc := 49) X (n := 1) (dl_at t_X25_sameEntry 29 rfl) ?_
        exact g_at fun Q hQ => (g_zret (pc := 50) X (Or.inr rfl) rfl rfl (dl_at t_X25_sameEntry 30 rfl)) _ Q rfl hQ
      refine g_aload_n (pc := 26) X (j := 0) (i := 0) (q := 0) (x := a0) rfl rfl (dl_at t_X25_sameEntry 16 rfl) ?_
      refine g_iload_n (pc := 27) X (j := 1) (i := 1) (q := 1) (x := a1) rfl rfl (dl_at t_X25_sameEntry 17 rfl) ?_
      refine g_iload_n (pc := 28) X (j := 3) (i := 3) (q := 3) (x := x3_17) rfl rfl (dl_at t_X25_sameEntry 18 rfl) ?_
      refine r_callRi (pc := 29) X (fun _ hv => s_X25_entryByte hk r1 r3_17 hv) cw_code q4790 q379 (in_Vk X (As := [iv a1, iv x3_17]) kX25 hk (Or.inl q4787) q4789 qs289 cw_code q4790 ⟨by decide, by decide⟩ rfl (dl_at t_X25_sameEntry 19 rfl)) (dl_at t_X25_sameEntry 19 rfl) (cat24 (st := []) (Nat.le_of_ble_eq_true rfl)) (Nat.le_of_ble_eq_true rfl) (Nat.le_of_ble_eq_true rfl) fun v29 g29 => ?_
      refine g_aload_n (pc := 32) X (j := 0) (i := 0) (q := 0) (x := a0) rfl rfl (dl_at t_X25_sameEntry 20 rfl) ?_
      refine g_iload_n (pc := 33) X (j := 2) (i := 2) (q := 2) (x := a2) rfl rfl (dl_at t_X25_sameEntry 21 rfl) ?_
      refine g_iload_n (pc := 34) X (j := 3) (i := 3) (q := 3) (x := x3_17) rfl rfl (dl_at t_X25_sameEntry 22 rfl) ?_
      refine r_callRi (pc := 35) X (fun _ hv => s_X25_entryByte hk r2 r3_17 hv) cw_code q4790 q379 (in_Vk X (As := [iv a2, iv x3_17]) kX25 hk (Or.inl q4787) q4789 qs289 cw_code q4790 ⟨by decide, by decide⟩ rfl (dl_at t_X25_sameEntry 23 rfl)) (dl_at t_X25_sameEntry 23 rfl) (cat24 (st := [iv v29]) (Nat.le_of_ble_eq_true rfl)) (Nat.le_of_ble_eq_true rfl) (Nat.le_of_ble_eq_true rfl) fun v35 g35 => ?_
      refine g_icmpeq (pc := 38) X g29 g35 (off := 5) (tgt := 43) rfl (dl_at t_X25_sameEntry 24 rfl) (fun _ => ?_) (fun _ => ?_)
      · refine r_iincN (pc := 43) X (i := 3) (q := 3) (n := 1) (x := x3_17) (b := 2) (w := iv a2) (rest := [(0, rv D a0), (1, iv a1)]) rfl r3_17 (r32_c rfl) (Nat.le_of_ble_eq_true rfl) [2, 0, 1] rfl (by decide) rfl rfl (dl_at t_X25_sameEntry 27 rfl) fun x3_43 r3_43 => ?_
        refine g_goto (pc := 46) X (off := (-29)) (tgt := 17) rfl (dl_at t_X25_sameEntry 28 rfl) ?_
        refine g_ls (ls2 := [(0, rv D a0), (1, iv a1), (2, iv a2), (3, iv x3_43)]) [2, 3, 1, 0] rfl ?_
        exact g_at fun Q hQ => hQ r3_43
      refine g_iconst (pc := 41) X (n := 0) (dl_at t_X25_sameEntry 25 rfl) ?_
      exact g_at fun Q hQ => (g_zret (pc := 42) X (Or.inl rfl) rfl rfl (dl_at t_X25_sameEntry 26 rfl)) _ Q rfl hQ
  refine g_iconst (pc := 13) X (n := 0) (dl_at t_X25_sameEntry 7 rfl) ?_
  exact g_zret (pc := 14) X (Or.inl rfl) rfl rfl (dl_at t_X25_sameEntry 8 rfl)
def k_X18_small : List (Nat × Instr × Nat) := [(0, .iload_n 0, 1), (1, .bipush 65, 2), (3, .if_icmp .lt 16, 3), (6, .iload_n 0, 1), (7, .bipush 90, 2), (9, .if_icmp .gt 10, 3), (12, .iload_n 0, 1), (13, .bipush 32, 2), (15, .iadd, 1), (16, .goto 4, 3), (19, .iload_n 0, 1), (20, .ireturn, 1)]
theorem t_X18_small : ∀ q ∈ k_X18_small, decode cX18_small q.1 = .ok q.2 := dl_all (by decide +kernel)
noncomputable def m_X18_small (a0 : Int) : Option (Int) :=
  if a0 < 65 then (some a0)
  else (if 90 < a0 then (some a0)
  else (some (w32 (a0 + 32))))
theorem s_X18_small {l : Launch} [NoTr l] {D : SD} {a0 : Int} {h : Hp} (r0 : r32 a0) {r : Int} (hm : m_X18_small a0 = some r) : Sim l D yX18_small (Cond.code yX18_small cX18_small 1 (Option.some Jvm.ClassFile.FieldType.int)) 0 0 [iv a0] h 1 ((0, r), h) := by
  refine Sim.of (fin := fun (v : Int) => ((0, v), h)) (lsE := [(0, iv a0)]) hm rfl cwS_code (la_i la_n) (ll_i ll_n) ?_
  intro p e s m below meth c X hcw hmm hcc hnm hname
  unfold m_X18_small
  refine g_iload_n (pc := 0) X (j := 0) (i := 0) (q := 0) (x := a0) rfl rfl (dl_at t_X18_small 0 rfl) ?_
  refine g_bipush (pc := 1) X (n := 65) rfl (dl_at t_X18_small 1 rfl) ?_
  refine g_icmplt (pc := 3) X r0 (r32_c rfl) (off := 16) (tgt := 19) rfl (dl_at t_X18_small 2 rfl) (fun _ => ?_) (fun _ => ?_)
  · refine g_iload_n (pc := 19) X (j := 0) (i := 0) (q := 0) (x := a0) rfl rfl (dl_at t_X18_small 10 rfl) ?_
    exact g_iret (pc := 20) X r0 rfl rfl (dl_at t_X18_small 11 rfl)
  refine g_iload_n (pc := 6) X (j := 0) (i := 0) (q := 0) (x := a0) rfl rfl (dl_at t_X18_small 3 rfl) ?_
  refine g_bipush (pc := 7) X (n := 90) rfl (dl_at t_X18_small 4 rfl) ?_
  refine g_icmpgt (pc := 9) X r0 (r32_c rfl) (off := 10) (tgt := 19) rfl (dl_at t_X18_small 5 rfl) (fun _ => ?_) (fun _ => ?_)
  · refine g_iload_n (pc := 19) X (j := 0) (i := 0) (q := 0) (x := a0) rfl rfl (dl_at t_X18_small 10 rfl) ?_
    exact g_iret (pc := 20) X r0 rfl rfl (dl_at t_X18_small 11 rfl)
  refine g_iload_n (pc := 12) X (j := 0) (i := 0) (q := 0) (x := a0) rfl rfl (dl_at t_X18_small 6 rfl) ?_
  refine g_bipush (pc := 13) X (n := 32) rfl (dl_at t_X18_small 7 rfl) ?_
  refine g_iadd (pc := 15) X r0 (r32_c rfl) (dl_at t_X18_small 8 rfl) ?_
  refine g_goto (pc := 16) X (off := 4) (tgt := 20) rfl (dl_at t_X18_small 9 rfl) ?_
  exact g_iret (pc := 20) X (r32_w _) rfl rfl (dl_at t_X18_small 11 rfl)
def k_X25_isBefore : List (Nat × Instr × Nat) := [(0, .aload_n 0, 1), (1, .iload_n 1, 1), (2, .invokevirtual 402, 3), (5, .aload_n 0, 1), (6, .iload_n 2, 1), (7, .invokevirtual 402, 3), (10, .invokestatic 409, 3), (13, .istore_n 3, 1), (14, .iconst 0, 1), (15, .istore 4, 2), (17, .iload 4, 2), (19, .iload_n 3, 1), (20, .if_icmp .ge 53, 3), (23, .aload_n 0, 1), (24, .iload_n 1, 1), (25, .iload 4, 2), (27, .invokevirtual 405, 3), (30, .invokestatic 414, 3), (33, .istore 5, 2), (35, .aload_n 0, 1), (36, .iload_n 2, 1), (37, .iload 4, 2), (39, .invokevirtual 405, 3), (42, .invokestatic 414, 3), (45, .istore 6, 2), (47, .iload 5, 2), (49, .iload 6, 2), (51, .if_icmp .eq 16, 3), (54, .iload 5, 2), (56, .iload 6, 2), (58, .if_icmp .ge 7, 3), (61, .iconst 1, 1), (62, .goto 4, 3), (65, .iconst 0, 1), (66, .ireturn, 1), (67, .iinc 4 1, 3), (70, .goto (-53), 3), (73, .aload_n 0, 1), (74, .iload_n 1, 1), (75, .invokevirtual 402, 3), (78, .aload_n 0, 1), (79, .iload_n 2, 1), (80, .invokevirtual 402, 3), (83, .if_icmp .eq 22, 3), (86, .aload_n 0, 1), (87, .iload_n 1, 1), (88, .invokevirtual 402, 3), (91, .aload_n 0, 1), (92, .iload_n 2, 1), (93, .invokevirtual 402, 3), (96, .if_icmp .ge 7, 3), (99, .iconst 1, 1), (100, .goto 4, 3), (103, .iconst 0, 1), (104, .ireturn, 1), (105, .iconst 0, 1), (106, .istore 4, 2), (108, .iload 4, 2), (110, .iload_n 3, 1), (111, .if_icmp .ge 49, 3), (114, .aload_n 0, 1), (115, .iload_n 1, 1), (116, .iload 4, 2), (118, .invokevirtual 405, 3), (121, .aload_n 0, 1), (122, .iload_n 2, 1), (123, .iload 4, 2), (125, .invokevirtual 405, 3), (128, .if_icmp .eq 26, 3), (131, .aload_n 0, 1), (132, .iload_n 1, 1), (133, .iload 4, 2), (135, .invokevirtual 405, 3), (138, .aload_n 0, 1), (139, .iload_n 2, 1), (140, .iload 4, 2), (142, .invokevirtual 405, 3), (145, .if_icmp .ge 7, 3), (148, .iconst 1, 1), (149, .goto 4, 3), (152, .iconst 0, 1), (153, .ireturn, 1), (154, .iinc 4 1, 3), (157, .goto (-49), 3), (160, .iconst 0, 1), (161, .ireturn, 1)]
theorem t_X25_isBefore : ∀ q ∈ k_X25_isBefore, decode cX25_isBefore q.1 = .ok q.2 := dl_all (by decide +kernel)
noncomputable def m_X25_isBefore_l17 (a0 a1 a2 x3_13 x4_17 : Int) (h : Hp) : Option ((Int) ⊕ ((Unit) ⊕ ((Int × Int)))) :=
  if x3_13 ≤ x4_17 then (some (.inr (.inl ())))
  else ((m_X25_entryByte a0 a1 x4_17 h).bind fun v27 =>
  (m_X18_small v27).bind fun v30 =>
  (m_X25_entryByte a0 a2 x4_17 h).bind fun v39 =>
  (m_X18_small v39).bind fun v42 =>
  if v30 = v42 then (lt_ (w32 (x4_17 + 1)) fun x4_67 =>
  some (.inl x4_67))
  else (some (.inr (.inr (v30, v42)))))
noncomputable def m_X25_isBefore_l108 (a0 a1 a2 x3_13 x4_108 : Int) (h : Hp) : Option ((Int) ⊕ ((Int) ⊕ ((Int)))) :=
  if x3_13 ≤ x4_108 then (some (.inr (.inr 0)))
  else ((m_X25_entryByte a0 a1 x4_108 h).bind fun v118 =>
  (m_X25_entryByte a0 a2 x4_108 h).bind fun v125 =>
  if v118 = v125 then (lt_ (w32 (x4_108 + 1)) fun x4_154 =>
  some (.inl x4_154))
  else (some (.inr (.inl x4_108))))
noncomputable def m_X25_isBefore (a0 a1 a2 : Int) (h : Hp) : Option (Int) :=
  (m_X25_entryLong a0 a1 h).bind fun v2 =>
  (m_X25_entryLong a0 a2 h).bind fun v7 =>
  lt_ (min_ v2 v7) fun x3_13 =>
  lt_ 0 fun x4_15 =>
  (lp (fun (q : Int) => m_X25_isBefore_l17 a0 a1 a2 x3_13 q h) x4_15).bind (sE (fun (_ : Unit) => (m_X25_entryLong a0 a1 h).bind fun v75 =>
  (m_X25_entryLong a0 a2 h).bind fun v80 =>
  if v75 = v80 then (lt_ 0 fun x4_106 =>
  (lp (fun (q : Int) => m_X25_isBefore_l108 a0 a1 a2 x3_13 q h) x4_106).bind (sE (fun (y131 : Int) => (m_X25_entryByte a0 a1 y131 h).bind fun v135 =>
  (m_X25_entryByte a0 a2 y131 h).bind fun v142 =>
  if v142 ≤ v135 then (some 0)
  else (some 1)) (fun (x : Int) => some x)))
  else ((m_X25_entryLong a0 a1 h).bind fun v88 =>
  (m_X25_entryLong a0 a2 h).bind fun v93 =>
  if v93 ≤ v88 then (some 0)
  else (some 1))) (fun (y54 : Int × Int) => if y54.2 ≤ y54.1 then (some 0)
  else (some 1)))
theorem s_X25_isBefore {l : Launch} [NoTr l] {D : SD} {a0 a1 a2 : Int} {h : Hp} (hk : h a0 (-2) = 416) (r1 : r32 a1) (r2 : r32 a2) {r : Int} (hm : m_X25_isBefore a0 a1 a2 h = some r) : Sim l D yX25_isBefore (Cond.code yX25_isBefore cX25_isBefore 7 (Option.some Jvm.ClassFile.FieldType.boolean)) 1 40 [rv D a0, iv a1, iv a2] h 3 ((0, r), h) := by
  refine Sim.of (fin := fun (v : Int) => ((0, v), h)) (lsE := [(0, rv D a0), (1, iv a1), (2, iv a2)]) hm rfl cwS_code (la_r (la_i (la_i la_n))) (ll_r (ll_i (ll_i ll_n))) ?_
  intro p e s m below meth c X hcw hmm hcc hnm hname
  unfold m_X25_isBefore
  refine g_aload_n (pc := 0) X (j := 0) (i := 0) (q := 0) (x := a0) rfl rfl (dl_at t_X25_isBefore 0 rfl) ?_
  refine g_iload_n (pc := 1) X (j := 1) (i := 1) (q := 1) (x := a1) rfl rfl (dl_at t_X25_isBefore 1 rfl) ?_
  refine r_callRi (pc := 2) X (fun _ hv => s_X25_entryLong hk r1 hv) cw_code q4782 q379 (in_Vk X (As := [iv a1]) kX25 hk (Or.inl q4779) q4781 qs287 cw_code q4782 ⟨by decide, by decide⟩ rfl (dl_at t_X25_isBefore 2 rfl)) (dl_at t_X25_isBefore 2 rfl) (cat24 (st := []) (Nat.le_of_ble_eq_true rfl)) (Nat.le_of_ble_eq_true rfl) (Nat.le_of_ble_eq_true rfl) fun v2 g2 => ?_
  refine g_aload_n (pc := 5) X (j := 0) (i := 0) (q := 0) (x := a0) rfl rfl (dl_at t_X25_isBefore 3 rfl) ?_
  refine g_iload_n (pc := 6) X (j := 2) (i := 2) (q := 2) (x := a2) rfl rfl (dl_at t_X25_isBefore 4 rfl) ?_
  refine r_callRi (pc := 7) X (fun _ hv => s_X25_entryLong hk r2 hv) cw_code q4782 q379 (in_Vk X (As := [iv a2]) kX25 hk (Or.inl q4779) q4781 qs287 cw_code q4782 ⟨by decide, by decide⟩ rfl (dl_at t_X25_isBefore 5 rfl)) (dl_at t_X25_isBefore 5 rfl) (cat24 (st := [iv v2]) (Nat.le_of_ble_eq_true rfl)) (Nat.le_of_ble_eq_true rfl) (Nat.le_of_ble_eq_true rfl) fun v7 g7 => ?_
  refine g_mmin (pc := 10) X g2 g7 q4810 q4811 q398 q4812 (cat24 (st := []) (Nat.le_of_ble_eq_true rfl)) (Nat.le_of_ble_eq_true rfl) (Nat.le_of_ble_eq_true rfl) (dl_at t_X25_isBefore 6 rfl) ?_
  refine g_lti (r32_min g2 g7) fun x3_13 r3_13 => ?_
  refine g_istore_nN (pc := 13) X (j := 3) (i := 3) (x := x3_13) (b := 2) (w := iv a2) (rest := [(0, rv D a0), (1, iv a1)]) rfl (Nat.le_of_ble_eq_true rfl) [2, 0, 1] rfl (by decide) rfl rfl (dl_at t_X25_isBefore 7 rfl) ?_
  refine g_iconst (pc := 14) X (n := 0) (dl_at t_X25_isBefore 8 rfl) ?_
  refine g_ltz (Or.inl rfl) fun x4_15 r4_15 => ?_
  refine g_istoreN (pc := 15) X (i := 4) (x := x4_15) (b := 3) (w := iv x3_13) (rest := [(2, iv a2), (0, rv D a0), (1, iv a1)]) (Nat.le_of_ble_eq_true rfl) [0, 1, 2, 3] rfl (by decide) rfl rfl (dl_at t_X25_isBefore 9 rfl) ?_
  refine g_ls (ls2 := [(0, rv D a0), (1, iv a1), (2, iv a2), (3, iv x3_13), (4, iv x4_15)]) [3, 4, 2, 1, 0] rfl ?_
  refine g_loop2 (fun (q : Int) => [(0, rv D a0), (1, iv a1), (2, iv a2), (3, iv x3_13), (4, iv q)]) (fun (q : Int) => h) (fun (q : Int) => r32 q) 73 (fun (y73 : Unit) => [(0, rv D a0), (1, iv a1), (2, iv a2), (3, iv x3_13)]) (fun (y73 : Unit) => h) (fun (y73 : Unit) => True) 54 (fun (y54 : Int × Int) => [(5, iv y54.1), (6, iv y54.2)]) (fun (y54 : Int × Int) => h) (fun (y54 : Int × Int) => r32 y54.1 ∧ r32 y54.2) x4_15 (r32_z r4_15) ?_ ?_ ?_
  · rintro x4_17 r4_17
    try dsimp only
    unfold m_X25_isBefore_l17
    refine g_iload (pc := 17) X (i := 4) (q := 4) (x := x4_17) rfl (dl_at t_X25_isBefore 10 rfl) ?_
    refine g_iload_n (pc := 19) X (j := 3) (i := 3) (q := 3) (x := x3_13) rfl rfl (dl_at t_X25_isBefore 11 rfl) ?_
    refine g_icmpge (pc := 20) X r4_17 r3_13 (off := 53) (tgt := 73) rfl (dl_at t_X25_isBefore 12 rfl) (fun _ => ?_) (fun _ => ?_)
    · refine g_ls (ls2 := [(0, rv D a0), (1, iv a1), (2, iv a2), (3, iv x3_13)]) [0, 1, 2, 3] rfl ?_
      exact g_at fun Q hQ => hQ trivial
    refine g_aload_n (pc := 23) X (j := 0) (i := 0) (q := 0) (x := a0) rfl rfl (dl_at t_X25_isBefore 13 rfl) ?_
    refine g_iload_n (pc := 24) X (j := 1) (i := 1) (q := 1) (x := a1) rfl rfl (dl_at t_X25_isBefore 14 rfl) ?_
    refine g_iload (pc := 25) X (i := 4) (q := 4) (x := x4_17) rfl (dl_at t_X25_isBefore 15 rfl) ?_
    refine r_callRi (pc := 27) X (fun _ hv => s_X25_entryByte hk r1 r4_17 hv) cw_code q4790 q379 (in_Vk X (As := [iv a1, iv x4_17]) kX25 hk (Or.inl q4787) q4789 qs289 cw_code q4790 ⟨by decide, by decide⟩ rfl (dl_at t_X25_isBefore 16 rfl)) (dl_at t_X25_isBefore 16 rfl) (cat24 (st := []) (Nat.le_of_ble_eq_true rfl)) (Nat.le_of_ble_eq_true rfl) (Nat.le_of_ble_eq_true rfl) fun v27 g27 => ?_
    refine r_callRi (pc := 30) X (fun _ hv => s_X18_small g27 hv) cw_code q4815 q372 (in_Sc X (As := [iv v27]) (Or.inr ⟨_, nw_in q4813 rfl⟩) q4814 q372 q4815 ⟨by decide, by decide⟩ rfl (dl_at t_X25_isBefore 17 rfl)) (dl_at t_X25_isBefore 17 rfl) (cat24 (st := []) (Nat.le_of_ble_eq_true rfl)) (Nat.le_of_ble_eq_true rfl) (Nat.le_of_ble_eq_true rfl) fun v30 g30 => ?_
    refine g_istoreN (pc := 33) X (i := 5) (x := v30) (b := 4) (w := iv x4_17) (rest := [(0, rv D a0), (1, iv a1), (2, iv a2), (3, iv x3_13)]) (Nat.le_of_ble_eq_true rfl) [4, 0, 1, 2, 3] rfl (by decide) rfl rfl (dl_at t_X25_isBefore 18 rfl) ?_
    refine g_aload_n (pc := 35) X (j := 0) (i := 0) (q := 2) (x := a0) rfl rfl (dl_at t_X25_isBefore 19 rfl) ?_
    refine g_iload_n (pc := 36) X (j := 2) (i := 2) (q := 4) (x := a2) rfl rfl (dl_at t_X25_isBefore 20 rfl) ?_
    refine g_iload (pc := 37) X (i := 4) (q := 1) (x := x4_17) rfl (dl_at t_X25_isBefore 21 rfl) ?_
    refine r_callRi (pc := 39) X (fun _ hv => s_X25_entryByte hk r2 r4_17 hv) cw_code q4790 q379 (in_Vk X (As := [iv a2, iv x4_17]) kX25 hk (Or.inl q4787) q4789 qs289 cw_code q4790 ⟨by decide, by decide⟩ rfl (dl_at t_X25_isBefore 22 rfl)) (dl_at t_X25_isBefore 22 rfl) (cat24 (st := []) (Nat.le_of_ble_eq_true rfl)) (Nat.le_of_ble_eq_true rfl) (Nat.le_of_ble_eq_true rfl) fun v39 g39 => ?_
    refine r_callRi (pc := 42) X (fun _ hv => s_X18_small g39 hv) cw_code q4815 q372 (in_Sc X (As := [iv v39]) (Or.inr ⟨_, nw_in q4813 rfl⟩) q4814 q372 q4815 ⟨by decide, by decide⟩ rfl (dl_at t_X25_isBefore 23 rfl)) (dl_at t_X25_isBefore 23 rfl) (cat24 (st := []) (Nat.le_of_ble_eq_true rfl)) (Nat.le_of_ble_eq_true rfl) (Nat.le_of_ble_eq_true rfl) fun v42 g42 => ?_
    refine g_istoreN (pc := 45) X (i := 6) (x := v42) (b := 5) (w := iv v30) (rest := [(4, iv x4_17), (0, rv D a0), (1, iv a1), (2, iv a2), (3, iv x3_13)]) (Nat.le_of_ble_eq_true rfl) [0, 1, 2, 3, 4, 5] rfl (by decide) rfl rfl (dl_at t_X25_isBefore 24 rfl) ?_
    refine g_iload (pc := 47) X (i := 5) (q := 1) (x := v30) rfl (dl_at t_X25_isBefore 25 rfl) ?_
    refine g_iload (pc := 49) X (i := 6) (q := 0) (x := v42) rfl (dl_at t_X25_isBefore 26 rfl) ?_
    refine g_icmpeq (pc := 51) X g30 g42 (off := 16) (tgt := 67) rfl (dl_at t_X25_isBefore 27 rfl) (fun _ => ?_) (fun _ => ?_)
    · refine r_iincN (pc := 67) X (i := 4) (q := 2) (n := 1) (x := x4_17) (b := 3) (w := iv x3_13) (rest := [(0, rv D a0), (1, iv a1), (2, iv a2)]) rfl r4_17 (r32_c rfl) (Nat.le_of_ble_eq_true rfl) [6, 3, 4, 5] rfl (by decide) rfl rfl (dl_at t_X25_isBefore 35 rfl) fun x4_67 r4_67 => ?_
      refine g_goto (pc := 70) X (off := (-53)) (tgt := 17) rfl (dl_at t_X25_isBefore 36 rfl) ?_
      refine g_ls (ls2 := [(0, rv D a0), (1, iv a1), (2, iv a2), (3, iv x3_13), (4, iv x4_67)]) [2, 3, 4, 1, 0] rfl ?_
      exact g_at fun Q hQ => hQ r4_67
    refine g_ls (ls2 := [(5, iv v30), (6, iv v42)]) [1, 0] rfl ?_
    exact g_at fun Q hQ => hQ ⟨g30, g42⟩
  · rintro _ _
    try dsimp only [sE]
    refine g_aload_n (pc := 73) X (j := 0) (i := 0) (q := 0) (x := a0) rfl rfl (dl_at t_X25_isBefore 37 rfl) ?_
    refine g_iload_n (pc := 74) X (j := 1) (i := 1) (q := 1) (x := a1) rfl rfl (dl_at t_X25_isBefore 38 rfl) ?_
    refine r_callRi (pc := 75) X (fun _ hv => s_X25_entryLong hk r1 hv) cw_code q4782 q379 (in_Vk X (As := [iv a1]) kX25 hk (Or.inl q4779) q4781 qs287 cw_code q4782 ⟨by decide, by decide⟩ rfl (dl_at t_X25_isBefore 39 rfl)) (dl_at t_X25_isBefore 39 rfl) (cat24 (st := []) (Nat.le_of_ble_eq_true rfl)) (Nat.le_of_ble_eq_true rfl) (Nat.le_of_ble_eq_true rfl) fun v75 g75 => ?_
    refine g_aload_n (pc := 78) X (j := 0) (i := 0) (q := 0) (x := a0) rfl rfl (dl_at t_X25_isBefore 40 rfl) ?_
    refine g_iload_n (pc := 79) X (j := 2) (i := 2) (q := 2) (x := a2) rfl rfl (dl_at t_X25_isBefore 41 rfl) ?_
    refine r_callRi (pc := 80) X (fun _ hv => s_X25_entryLong hk r2 hv) cw_code q4782 q379 (in_Vk X (As := [iv a2]) kX25 hk (Or.inl q4779) q4781 qs287 cw_code q4782 ⟨by decide, by decide⟩ rfl (dl_at t_X25_isBefore 42 rfl)) (dl_at t_X25_isBefore 42 rfl) (cat24 (st := [iv v75]) (Nat.le_of_ble_eq_true rfl)) (Nat.le_of_ble_eq_true rfl) (Nat.le_of_ble_eq_true rfl) fun v80 g80 => ?_
    refine g_icmpeq (pc := 83) X g75 g80 (off := 22) (tgt := 105) rfl (dl_at t_X25_isBefore 43 rfl) (fun _ => ?_) (fun _ => ?_)
    · refine g_iconst (pc := 105) X (n := 0) (dl_at t_X25_isBefore 55 rfl) ?_
      refine g_ltz (Or.inl rfl) fun x4_106 r4_106 => ?_
      refine g_istoreN (pc := 106) X (i := 4) (x := x4_106) (b := 3) (w := iv x3_13) (rest := [(0, rv D a0), (1, iv a1), (2, iv a2)]) (Nat.le_of_ble_eq_true rfl) [3, 0, 1, 2] rfl (by decide) rfl rfl (dl_at t_X25_isBefore 56 rfl) ?_
      refine g_ls (ls2 := [(0, rv D a0), (1, iv a1), (2, iv a2), (3, iv x3_13), (4, iv x4_106)]) [2, 3, 4, 1, 0] rfl ?_
      refine g_loop1F (fun (q : Int) => [(0, rv D a0), (1, iv a1), (2, iv a2), (3, iv x3_13), (4, iv q)]) (fun (q : Int) => h) (fun (q : Int) => r32 q) 131 (fun (y131 : Int) => [(0, rv D a0), (1, iv a1), (2, iv a2), (4, iv y131)]) (fun (y131 : Int) => h) (fun (y131 : Int) => r32 y131) x4_106 (r32_z r4_106) ?_ ?_ (fun _ => rfl)
      · rintro x4_108 r4_108
        try dsimp only
        unfold m_X25_isBefore_l108
        refine g_iload (pc := 108) X (i := 4) (q := 4) (x := x4_108) rfl (dl_at t_X25_isBefore 57 rfl) ?_
        refine g_iload_n (pc := 110) X (j := 3) (i := 3) (q := 3) (x := x3_13) rfl rfl (dl_at t_X25_isBefore 58 rfl) ?_
        refine g_icmpge (pc := 111) X r4_108 r3_13 (off := 49) (tgt := 160) rfl (dl_at t_X25_isBefore 59 rfl) (fun _ => ?_) (fun _ => ?_)
        · refine g_iconst (pc := 160) X (n := 0) (dl_at t_X25_isBefore 84 rfl) ?_
          exact g_at fun Q hQ => (g_zret (pc := 161) X (Or.inl rfl) rfl rfl (dl_at t_X25_isBefore 85 rfl)) _ Q rfl hQ
        refine g_aload_n (pc := 114) X (j := 0) (i := 0) (q := 0) (x := a0) rfl rfl (dl_at t_X25_isBefore 60 rfl) ?_
        refine g_iload_n (pc := 115) X (j := 1) (i := 1) (q := 1) (x := a1) rfl rfl (dl_at t_X25_isBefore 61 rfl) ?_
        refine g_iload (pc := 116) X (i := 4) (q := 4) (x := x4_108) rfl (dl_at t_X25_isBefore 62 rfl) ?_
        refine r_callRi (pc := 118) X (fun _ hv => s_X25_entryByte hk r1 r4_108 hv) cw_code q4790 q379 (in_Vk X (As := [iv a1, iv x4_108]) kX25 hk (Or.inl q4787) q4789 qs289 cw_code q4790 ⟨by decide, by decide⟩ rfl (dl_at t_X25_isBefore 63 rfl)) (dl_at t_X25_isBefore 63 rfl) (cat24 (st := []) (Nat.le_of_ble_eq_true rfl)) (Nat.le_of_ble_eq_true rfl) (Nat.le_of_ble_eq_true rfl) fun v118 g118 => ?_
        refine g_aload_n (pc := 121) X (j := 0) (i := 0) (q := 0) (x := a0) rfl rfl (dl_at t_X25_isBefore 64 rfl) ?_
        refine g_iload_n (pc := 122) X (j := 2) (i := 2) (q := 2) (x := a2) rfl rfl (dl_at t_X25_isBefore 65 rfl) ?_
        refine g_iload (pc := 123) X (i := 4) (q := 4) (x := x4_108) rfl (dl_at t_X25_isBefore 66 rfl) ?_
        refine r_callRi (pc := 125) X (fun _ hv => s_X25_entryByte hk r2 r4_108 hv) cw_code q4790 q379 (in_Vk X (As := [iv a2, iv x4_108]) kX25 hk (Or.inl q4787) q4789 qs289 cw_code q4790 ⟨by decide, by decide⟩ rfl (dl_at t_X25_isBefore 67 rfl)) (dl_at t_X25_isBefore 67 rfl) (cat24 (st := [iv v118]) (Nat.le_of_ble_eq_true rfl)) (Nat.le_of_ble_eq_true rfl) (Nat.le_of_ble_eq_true rfl) fun v125 g125 => ?_
        refine g_icmpeq (pc := 128) X g118 g125 (off := 26) (tgt := 154) rfl (dl_at t_X25_isBefore 68 rfl) (fun _ => ?_) (fun _ => ?_)
        · refine r_iincN (pc := 154) X (i := 4) (q := 4) (n := 1) (x := x4_108) (b := 3) (w := iv x3_13) (rest := [(0, rv D a0), (1, iv a1), (2, iv a2)]) rfl r4_108 (r32_c rfl) (Nat.le_of_ble_eq_true rfl) [3, 0, 1, 2] rfl (by decide) rfl rfl (dl_at t_X25_isBefore 82 rfl) fun x4_154 r4_154 => ?_
          refine g_goto (pc := 157) X (off := (-49)) (tgt := 108) rfl (dl_at t_X25_isBefore 83 rfl) ?_
          refine g_ls (ls2 := [(0, rv D a0), (1, iv a1), (2, iv a2), (3, iv x3_13), (4, iv x4_154)]) [2, 3, 4, 1, 0] rfl ?_
          exact g_at fun Q hQ => hQ r4_154
        refine g_ls (ls2 := [(0, rv D a0), (1, iv a1), (2, iv a2), (4, iv x4_108)]) [0, 1, 2, 4] rfl ?_
        exact g_at fun Q hQ => hQ r4_108
      · rintro x4_131 r4_131
        try dsimp only [sE]
        refine g_aload_n (pc := 131) X (j := 0) (i := 0) (q := 0) (x := a0) rfl rfl (dl_at t_X25_isBefore 69 rfl) ?_
        refine g_iload_n (pc := 132) X (j := 1) (i := 1) (q := 1) (x := a1) rfl rfl (dl_at t_X25_isBefore 70 rfl) ?_
        refine g_iload (pc := 133) X (i := 4) (q := 3) (x := x4_131) rfl (dl_at t_X25_isBefore 71 rfl) ?_
        refine r_callRi (pc := 135) X (fun _ hv => s_X25_entryByte hk r1 r4_131 hv) cw_code q4790 q379 (in_Vk X (As := [iv a1, iv x4_131]) kX25 hk (Or.inl q4787) q4789 qs289 cw_code q4790 ⟨by decide, by decide⟩ rfl (dl_at t_X25_isBefore 72 rfl)) (dl_at t_X25_isBefore 72 rfl) (cat24 (st := []) (Nat.le_of_ble_eq_true rfl)) (Nat.le_of_ble_eq_true rfl) (Nat.le_of_ble_eq_true rfl) fun v135 g135 => ?_
        refine g_aload_n (pc := 138) X (j := 0) (i := 0) (q := 0) (x := a0) rfl rfl (dl_at t_X25_isBefore 73 rfl) ?_
        refine g_iload_n (pc := 139) X (j := 2) (i := 2) (q := 2) (x := a2) rfl rfl (dl_at t_X25_isBefore 74 rfl) ?_
        refine g_iload (pc := 140) X (i := 4) (q := 3) (x := x4_131) rfl (dl_at t_X25_isBefore 75 rfl) ?_
        refine r_callRi (pc := 142) X (fun _ hv => s_X25_entryByte hk r2 r4_131 hv) cw_code q4790 q379 (in_Vk X (As := [iv a2, iv x4_131]) kX25 hk (Or.inl q4787) q4789 qs289 cw_code q4790 ⟨by decide, by decide⟩ rfl (dl_at t_X25_isBefore 76 rfl)) (dl_at t_X25_isBefore 76 rfl) (cat24 (st := [iv v135]) (Nat.le_of_ble_eq_true rfl)) (Nat.le_of_ble_eq_true rfl) (Nat.le_of_ble_eq_true rfl) fun v142 g142 => ?_
        refine g_icmpge (pc := 145) X g135 g142 (off := 7) (tgt := 152) rfl (dl_at t_X25_isBefore 77 rfl) (fun _ => ?_) (fun _ => ?_)
        · refine g_iconst (pc := 152) X (n := 0) (dl_at t_X25_isBefore 80 rfl) ?_
          exact g_zret (pc := 153) X (Or.inl rfl) rfl rfl (dl_at t_X25_isBefore 81 rfl)
        refine g_iconst (pc := 148) X (n := 1) (dl_at t_X25_isBefore 78 rfl) ?_
        refine g_goto (pc := 149) X (off := 4) (tgt := 153) rfl (dl_at t_X25_isBefore 79 rfl) ?_
        exact g_zret (pc := 153) X (Or.inr rfl) rfl rfl (dl_at t_X25_isBefore 81 rfl)
    refine g_aload_n (pc := 86) X (j := 0) (i := 0) (q := 0) (x := a0) rfl rfl (dl_at t_X25_isBefore 44 rfl) ?_
    refine g_iload_n (pc := 87) X (j := 1) (i := 1) (q := 1) (x := a1) rfl rfl (dl_at t_X25_isBefore 45 rfl) ?_
    refine r_callRi (pc := 88) X (fun _ hv => s_X25_entryLong hk r1 hv) cw_code q4782 q379 (in_Vk X (As := [iv a1]) kX25 hk (Or.inl q4779) q4781 qs287 cw_code q4782 ⟨by decide, by decide⟩ rfl (dl_at t_X25_isBefore 46 rfl)) (dl_at t_X25_isBefore 46 rfl) (cat24 (st := []) (Nat.le_of_ble_eq_true rfl)) (Nat.le_of_ble_eq_true rfl) (Nat.le_of_ble_eq_true rfl) fun v88 g88 => ?_
    refine g_aload_n (pc := 91) X (j := 0) (i := 0) (q := 0) (x := a0) rfl rfl (dl_at t_X25_isBefore 47 rfl) ?_
    refine g_iload_n (pc := 92) X (j := 2) (i := 2) (q := 2) (x := a2) rfl rfl (dl_at t_X25_isBefore 48 rfl) ?_
    refine r_callRi (pc := 93) X (fun _ hv => s_X25_entryLong hk r2 hv) cw_code q4782 q379 (in_Vk X (As := [iv a2]) kX25 hk (Or.inl q4779) q4781 qs287 cw_code q4782 ⟨by decide, by decide⟩ rfl (dl_at t_X25_isBefore 49 rfl)) (dl_at t_X25_isBefore 49 rfl) (cat24 (st := [iv v88]) (Nat.le_of_ble_eq_true rfl)) (Nat.le_of_ble_eq_true rfl) (Nat.le_of_ble_eq_true rfl) fun v93 g93 => ?_
    refine g_icmpge (pc := 96) X g88 g93 (off := 7) (tgt := 103) rfl (dl_at t_X25_isBefore 50 rfl) (fun _ => ?_) (fun _ => ?_)
    · refine g_iconst (pc := 103) X (n := 0) (dl_at t_X25_isBefore 53 rfl) ?_
      exact g_zret (pc := 104) X (Or.inl rfl) rfl rfl (dl_at t_X25_isBefore 54 rfl)
    refine g_iconst (pc := 99) X (n := 1) (dl_at t_X25_isBefore 51 rfl) ?_
    refine g_goto (pc := 100) X (off := 4) (tgt := 104) rfl (dl_at t_X25_isBefore 52 rfl) ?_
    exact g_zret (pc := 104) X (Or.inr rfl) rfl rfl (dl_at t_X25_isBefore 54 rfl)
  · rintro ⟨x5_54, x6_54⟩ ⟨r5_54, r6_54⟩
    try dsimp only [sE]
    refine g_iload (pc := 54) X (i := 5) (q := 0) (x := x5_54) rfl (dl_at t_X25_isBefore 28 rfl) ?_
    refine g_iload (pc := 56) X (i := 6) (q := 1) (x := x6_54) rfl (dl_at t_X25_isBefore 29 rfl) ?_
    refine g_icmpge (pc := 58) X r5_54 r6_54 (off := 7) (tgt := 65) rfl (dl_at t_X25_isBefore 30 rfl) (fun _ => ?_) (fun _ => ?_)
    · refine g_iconst (pc := 65) X (n := 0) (dl_at t_X25_isBefore 33 rfl) ?_
      exact g_zret (pc := 66) X (Or.inl rfl) rfl rfl (dl_at t_X25_isBefore 34 rfl)
    refine g_iconst (pc := 61) X (n := 1) (dl_at t_X25_isBefore 31 rfl) ?_
    refine g_goto (pc := 62) X (off := 4) (tgt := 66) rfl (dl_at t_X25_isBefore 32 rfl) ?_
    exact g_zret (pc := 66) X (Or.inr rfl) rfl rfl (dl_at t_X25_isBefore 34 rfl)
def k_X25_findEntries : List (Nat × Instr × Nat) := [(0, .aload_n 0, 1), (1, .iconst 0, 1), (2, .putfield 417, 3), (5, .aload_n 0, 1), (6, .iconst 0, 1), (7, .putfield 420, 3), (10, .iconst 0, 1), (11, .istore_n 1, 1), (12, .iload_n 1, 1), (13, .aload_n 0, 1), (14, .getfield 342, 3), (17, .getfield 351, 3), (20, .if_icmp .ge 337, 3), (23, .aload_n 0, 1), (24, .getfield 193, 3), (27, .iload_n 1, 1), (28, .iconst (-1), 1), (29, .iastore, 1), (30, .aload_n 0, 1), (31, .getfield 14, 3), (34, .getfield 423, 3), (37, .iload_n 1, 1), (38, .baload, 1), (39, .ifCond .eq 312, 3), (42, .aload_n 0, 1), (43, .getfield 14, 3), (46, .iload_n 1, 1), (47, .invokevirtual 426, 3), (50, .bipush 11, 2), (52, .if_icmp .eq 6, 3), (55, .goto 296, 3), (58, .aload_n 0, 1), (59, .getfield 342, 3), (62, .iload_n 1, 1), (63, .ldc_w 429, 3), (66, .invokevirtual 431, 3), (69, .istore_n 2, 1), (70, .aload_n 0, 1), (71, .getfield 417, 3), (74, .istore_n 3, 1), (75, .aload_n 0, 1), (76, .getfield 420, 3), (79, .istore 4, 2), (81, .aload_n 0, 1), (82, .getfield 199, 3), (85, .iload_n 3, 1), (86, .iload_n 2, 1), (87, .ifCond .ge 7, 3), (90, .iconst 1, 1), (91, .goto 4, 3), (94, .iconst 0, 1), (95, .bastore, 1), (96, .iload_n 2, 1), (97, .ifCond .lt 36, 3), (100, .aload_n 0, 1), (101, .getfield 187, 3), (104, .iload_n 3, 1), (105, .aload_n 0, 1), (106, .getfield 342, 3), (109, .getfield 435, 3), (112, .iload_n 2, 1), (113, .iaload, 1), (114, .iastore, 1), (115, .aload_n 0, 1), (116, .getfield 190, 3), (119, .iload_n 3, 1), (120, .aload_n 0, 1), (121, .getfield 342, 3), (124, .getfield 438, 3), (127, .iload_n 2, 1), (128, .iaload, 1), (129, .iastore, 1), (130, .goto 82, 3), (133, .aload_n 0, 1), (134, .getfield 14, 3), (137, .iload_n 1, 1), (138, .invokevirtual 441, 3), (141, .istore 5, 2), (143, .aload_n 0, 1), (144, .getfield 187, 3), (147, .iload_n 3, 1), (148, .aload_n 0, 1), (149, .getfield 420, 3), (152, .iastore, 1), (153, .iconst 0, 1), (154, .istore 6, 2), (156, .iload 6, 2), (158, .iload 5, 2), (160, .if_icmp .ge 31, 3), (163, .aload_n 0, 1), (164, .getfield 202, 3), (167, .aload_n 0, 1), (168, .getfield 420, 3), (171, .iload 6, 2), (173, .iadd, 1), (174, .aload_n 0, 1), (175, .getfield 14, 3), (178, .iload 6, 2), (180, .invokevirtual 444, 3), (183, .i2b, 1), (184, .bastore, 1), (185, .iinc 6 1, 3), (188, .goto (-32), 3), (191, .aload_n 0, 1), (192, .dup, 1), (193, .getfield 420, 3), (196, .iload 5, 2), (198, .iadd, 1), (199, .putfield 420, 3), (202, .aload_n 0, 1), (203, .getfield 190, 3), (206, .iload_n 3, 1), (207, .aload_n 0, 1), (208, .getfield 420, 3), (211, .iastore, 1), (212, .aload_n 0, 1), (213, .iload_n 3, 1), (214, .invokevirtual 402, 3), (217, .ifCond .ne 6, 3), (220, .goto 131, 3), (223, .iconst 0, 1), (224, .istore 5, 2), (226, .aload_n 0, 1), (227, .iload 5, 2), (229, .iload_n 3, 1), (230, .invokevirtual 447, 3), (233, .ifCond .ne 9, 3), (236, .iinc 5 1, 3), (239, .goto (-13), 3), (242, .aload_n 0, 1), (243, .getfield 193, 3), (246, .iload_n 1, 1), (247, .iload 5, 2), (249, .iastore, 1), (250, .iload 5, 2), (252, .iload_n 3, 1), (253, .if_icmp .ge 12, 3), (256, .aload_n 0, 1), (257, .iload 4, 2), (259, .putfield 420, 3), (262, .goto 89, 3), (265, .aload_n 0, 1), (266, .getfield 417, 3), (269, .sipush 300, 3), (272, .if_icmp .ne 11, 3), (275, .new 451, 3), (278, .dup, 1), (279, .invokespecial 453, 3), (282, .athrow, 1), (283, .aload_n 0, 1), (284, .getfield 417, 3), (287, .istore 6, 2), (289, .iload 6, 2), (291, .ifCond .le 42, 3), (294, .aload_n 0, 1), (295, .iload_n 3, 1), (296, .aload_n 0, 1), (297, .getfield 196, 3), (300, .iload 6, 2), (302, .iconst 1, 1), (303, .isub, 1), (304, .iaload, 1), (305, .invokevirtual 454, 3), (308, .ifCond .eq 25, 3), (311, .aload_n 0, 1), (312, .getfield 196, 3), (315, .iload 6, 2), (317, .aload_n 0, 1), (318, .getfield 196, 3), (321, .iload 6, 2), (323, .iconst 1, 1), (324, .isub, 1), (325, .iaload, 1), (326, .iastore, 1), (327, .iinc 6 (-1), 3), (330, .goto (-41), 3), (333, .aload_n 0, 1), (334, .getfield 196, 3), (337, .iload 6, 2), (339, .iload_n 3, 1), (340, .iastore, 1), (341, .aload_n 0, 1), (342, .dup, 1), (343, .getfield 417, 3), (346, .iconst 1, 1), (347, .iadd, 1), (348, .putfield 417, 3), (351, .iinc 1 1, 3), (354, .goto (-342), 3), (357, .return_, 1)]
theorem t_X25_findEntries : ∀ q ∈ k_X25_findEntries, decode cX25_findEntries q.1 = .ok q.2 := dl_all (by decide +kernel)
noncomputable def m_X25_findEntries_j351 (x1_12 : Int) (h_351 : Hp) : Option ((Int × Hp) ⊕ (((Int × Int) × Hp))) :=
  lt_ (w32 (x1_12 + 1)) fun x1_351 =>
  some (.inl (x1_351, h_351))
noncomputable def m_X25_findEntries_l226 (a0 x3_74 x5_226 : Int) (h_212 : Hp) : Option ((Int) ⊕ ((Int))) :=
  (m_X25_sameEntry a0 x5_226 x3_74 h_212).bind fun v230 =>
  if v230 ≠ 0 then (some (.inr x5_226))
  else (lt_ (w32 (x5_226 + 1)) fun x5_236 =>
  some (.inl x5_236))
noncomputable def m_X25_findEntries_l289 (a0 x3_74 x6_289 : Int) (h_289 : Hp) : Option ((Int × Hp) ⊕ ((Int × Hp))) :=
  if x6_289 ≤ 0 then (some (.inr (x6_289, h_289)))
  else (gd (h_289 (h_289 a0 70) (-2) % 16 = 1 ∧ (0 : Int) ≤ (w32 (x6_289 - 1)) ∧ (w32 (x6_289 - 1)) < h_289 (h_289 a0 70) (-1)) ((m_X25_isBefore a0 x3_74 (h_289 (h_289 a0 70) (w32 (x6_289 - 1))) h_289).bind fun v305 =>
  if v305 = 0 then (some (.inr (x6_289, h_289)))
  else (gd (h_289 (h_289 a0 70) (-2) % 16 = 1 ∧ (0 : Int) ≤ x6_289 ∧ x6_289 < h_289 (h_289 a0 70) (-1)) (pt h_289 (h_289 a0 70) x6_289 (h_289 (h_289 a0 70) (w32 (x6_289 - 1))) fun h326 =>
  lt_ (w32 (x6_289 + (-1))) fun x6_327 =>
  some (.inl (x6_327, h326))))))
noncomputable def m_X25_findEntries_j212 (a0 x1_12 x3_74 x4_79 : Int) (h_212 : Hp) : Option ((Int × Hp) ⊕ (((Int × Int) × Hp))) :=
  (m_X25_entryLong a0 x3_74 h_212).bind fun v214 =>
  if v214 ≠ 0 then (lt_ 0 fun x5_224 =>
  (lp (fun (q : Int) => m_X25_findEntries_l226 a0 x3_74 q h_212) x5_224).bind (fun (y242 : Int) => gd (h_212 (h_212 a0 69) (-2) % 16 = 1 ∧ (0 : Int) ≤ x1_12 ∧ x1_12 < h_212 (h_212 a0 69) (-1)) (pt h_212 (h_212 a0 69) x1_12 y242 fun h249 =>
  if x3_74 ≤ y242 then (if (h249 a0 66) ≠ 300 then (lt_ (h249 a0 66) fun x6_287 =>
  (lp (fun (q : Int × Hp) => m_X25_findEntries_l289 a0 x3_74 q.1 q.2) (x6_287, h249)).bind (fun (y333 : Int × Hp) => gd (y333.2 (y333.2 a0 70) (-2) % 16 = 1 ∧ (0 : Int) ≤ y333.1 ∧ y333.1 < y333.2 (y333.2 a0 70) (-1)) (pt y333.2 (y333.2 a0 70) y333.1 x3_74 fun h340 =>
  pt h340 a0 66 (w32 ((h340 a0 66) + 1)) fun h348 =>
  m_X25_findEntries_j351 x1_12 h348)))
  else (al h249 464 6 fun a275 h275 =>
  (x_init0 a275 h275).bind fun h279 =>
  some (.inr ((1, a275), h279))))
  else (pt h249 a0 73 x4_79 fun h259 =>
  m_X25_findEntries_j351 x1_12 h259))))
  else (m_X25_findEntries_j351 x1_12 h_212)
noncomputable def m_X25_findEntries_l156 (a0 v138 x6_156 : Int) (h_156 : Hp) : Option ((Int × Hp) ⊕ ((Hp))) :=
  if v138 ≤ x6_156 then (some (.inr h_156))
  else (gd (h_156 (h_156 a0 0) (-2) = 400) ((m_X24_titleByte (h_156 a0 0) x6_156 h_156).bind fun v180 =>
  gd (h_156 (h_156 a0 72) (-2) % 16 = 2 ∧ (0 : Int) ≤ (w32 ((h_156 a0 73) + x6_156)) ∧ (w32 ((h_156 a0 73) + x6_156)) < h_156 (h_156 a0 72) (-1)) (pt h_156 (h_156 a0 72) (w32 ((h_156 a0 73) + x6_156)) (w8 v180) fun h184 =>
  lt_ (w32 (x6_156 + 1)) fun x6_185 =>
  some (.inl (x6_185, h184)))))
noncomputable def m_X25_findEntries_j95 (x4_79 x3_74 v66 x1_12 a0 s0_95 s2_95 : Int) (h29 : Hp) : Option ((Int × Hp) ⊕ (((Int × Int) × Hp))) :=
  gd (h29 s0_95 (-2) % 16 = 3 ∧ (0 : Int) ≤ x3_74 ∧ x3_74 < h29 s0_95 (-1)) (pt h29 s0_95 x3_74 s2_95 fun h95 =>
  if v66 < 0 then (gd (h95 (h95 a0 0) (-2) = 400) (bW (m_X24_title (h95 a0 0) x1_12 h95) fun v138 h138 =>
  gd (h138 (h138 a0 67) (-2) % 16 = 1 ∧ (0 : Int) ≤ x3_74 ∧ x3_74 < h138 (h138 a0 67) (-1)) (pt h138 (h138 a0 67) x3_74 (h138 a0 73) fun h152 =>
  lt_ 0 fun x6_154 =>
  (lp (fun (q : Int × Hp) => m_X25_findEntries_l156 a0 v138 q.1 q.2) (x6_154, h152)).bind (fun (y191 : Hp) => pt y191 a0 73 (w32 ((y191 a0 73) + v138)) fun h199 =>
  gd (h199 (h199 a0 68) (-2) % 16 = 1 ∧ (0 : Int) ≤ x3_74 ∧ x3_74 < h199 (h199 a0 68) (-1)) (pt h199 (h199 a0 68) x3_74 (h199 a0 73) fun h211 =>
  m_X25_findEntries_j212 a0 x1_12 x3_74 x4_79 h211)))))
  else (gd (h95 (h95 a0 1) (-2) = 384) (gd (h95 (h95 (h95 a0 1) 19) (-2) % 16 = 1 ∧ (0 : Int) ≤ v66 ∧ v66 < h95 (h95 (h95 a0 1) 19) (-1)) (gd (h95 (h95 a0 67) (-2) % 16 = 1 ∧ (0 : Int) ≤ x3_74 ∧ x3_74 < h95 (h95 a0 67) (-1)) (pt h95 (h95 a0 67) x3_74 (h95 (h95 (h95 a0 1) 19) v66) fun h114 =>
  gd (h114 (h114 a0 1) (-2) = 384) (gd (h114 (h114 (h114 a0 1) 20) (-2) % 16 = 1 ∧ (0 : Int) ≤ v66 ∧ v66 < h114 (h114 (h114 a0 1) 20) (-1)) (gd (h114 (h114 a0 68) (-2) % 16 = 1 ∧ (0 : Int) ≤ x3_74 ∧ x3_74 < h114 (h114 a0 68) (-1)) (pt h114 (h114 a0 68) x3_74 (h114 (h114 (h114 a0 1) 20) v66) fun h129 =>
  m_X25_findEntries_j212 a0 x1_12 x3_74 x4_79 h129))))))))
noncomputable def m_X25_findEntries_l12 (a0 x1_12 : Int) (h_12 : Hp) : Option ((Int × Hp) ⊕ (((Int × Int) × Hp))) :=
  gd (h_12 (h_12 a0 1) (-2) = 384) (if (h_12 (h_12 a0 1) 3) ≤ x1_12 then (some (.inr ((0, 0), h_12)))
  else (gd (h_12 (h_12 a0 69) (-2) % 16 = 1 ∧ (0 : Int) ≤ x1_12 ∧ x1_12 < h_12 (h_12 a0 69) (-1)) (pt h_12 (h_12 a0 69) x1_12 (-1) fun h29 =>
  gd (h29 (h29 a0 0) (-2) = 400) (gd (h29 (h29 (h29 a0 0) 10) (-2) % 16 = 3 ∧ (0 : Int) ≤ x1_12 ∧ x1_12 < h29 (h29 (h29 a0 0) 10) (-1)) (if (h29 (h29 (h29 a0 0) 10) x1_12) = 0 then (m_X25_findEntries_j351 x1_12 h29)
  else ((m_X24_show (h29 a0 0) x1_12 h29).bind fun v47 =>
  if v47 = 11 then (gd (h29 (h29 a0 1) (-2) = 384) ((m_X23_fieldOf_2 (h29 a0 1) x1_12 (-75) h29).bind fun v66 =>
  lt_ (h29 a0 66) fun x3_74 =>
  lt_ (h29 a0 73) fun x4_79 =>
  if 0 ≤ v66 then (m_X25_findEntries_j95 x4_79 x3_74 v66 x1_12 a0 (h29 a0 71) 0 h29)
  else (m_X25_findEntries_j95 x4_79 x3_74 v66 x1_12 a0 (h29 a0 71) 1 h29)))
  else (m_X25_findEntries_j351 x1_12 h29)))))))
noncomputable def m_X25_findEntries (a0 : Int) (h : Hp) : Option ((Int × Int) × Hp) :=
  pt h a0 66 0 fun h2 =>
  pt h2 a0 73 0 fun h7 =>
  lt_ 0 fun x1_11 =>
  (lp (fun (q : Int × Hp) => m_X25_findEntries_l12 a0 q.1 q.2) (x1_11, h7)).bind (fun (x : (Int × Int) × Hp) => some x)
theorem s_X25_findEntries {l : Launch} [NoTr l] {D : SD} {a0 : Int} {h : Hp} (hk : h a0 (-2) = 416) {r : (Int × Int) × Hp} (hm : m_X25_findEntries a0 h = some r) : Sim l D yX25_findEntries (Cond.code yX25_findEntries cX25_findEntries 7 (Option.none : Option Jvm.ClassFile.FieldType)) 9 367 [rv D a0] h 0 r := by
  refine Sim.of (fin := fun (v : (Int × Int) × Hp) => v) (lsE := [(0, rv D a0)]) hm rfl cwS_code (la_r la_n) (ll_r ll_n) ?_
  intro p e s m below meth c X hcw hmm hcc hnm hname
  have hno := noh hcw hnm hmm hcc
  unfold m_X25_findEntries
  refine g_aload_n (pc := 0) X (j := 0) (i := 0) (q := 0) (x := a0) rfl rfl (dl_at t_X25_findEntries 0 rfl) ?_
  refine g_iconst (pc := 1) X (n := 0) (dl_at t_X25_findEntries 1 rfl) ?_
  refine r_puti (pc := 2) X fX25_66 hk q3863 rfl (dl_at t_X25_findEntries 2 rfl) (r32_c rfl) (fun h2 E2 => ?_)
  refine g_aload_n (pc := 5) X (j := 0) (i := 0) (q := 0) (x := a0) rfl rfl (dl_at t_X25_findEntries 3 rfl) ?_
  refine g_iconst (pc := 6) X (n := 0) (dl_at t_X25_findEntries 4 rfl) ?_
  have k7 := kx E2 (by decide) hk
  refine r_puti (pc := 7) X fX25_73 k7 q3871 rfl (dl_at t_X25_findEntries 5 rfl) (r32_c rfl) (fun h7 E7 => ?_)
  refine g_iconst (pc := 10) X (n := 0) (dl_at t_X25_findEntries 6 rfl) ?_
  refine g_ltz (Or.inl rfl) fun x1_11 r1_11 => ?_
  refine g_istore_nN (pc := 11) X (j := 1) (i := 1) (x := x1_11) (b := 0) (w := rv D a0) (rest := []) rfl (Nat.le_of_ble_eq_true rfl) [0] rfl (by decide) rv_cat rfl (dl_at t_X25_findEntries 7 rfl) ?_
  refine g_ls (ls2 := [(0, rv D a0), (1, iv x1_11)]) [1, 0] rfl ?_
  refine g_loop0F (fun (q : Int × Hp) => [(0, rv D a0), (1, iv q.1)]) (fun (q : Int × Hp) => q.2) (fun (q : Int × Hp) => r32 q.1 ∧ Ext h7 q.2) (x1_11, h7) ⟨(r32_z r1_11), (Ext.refl _)⟩ ?_ (fun _ => rfl)
  · rintro ⟨x1_12, h_12⟩ ⟨r1_12, E_12⟩
    try dsimp only
    unfold m_X25_findEntries_l12
    refine g_iload_n (pc := 12) X (j := 1) (i := 1) (q := 1) (x := x1_12) rfl rfl (dl_at t_X25_findEntries 8 rfl) ?_
    refine g_aload_n (pc := 13) X (j := 0) (i := 0) (q := 0) (x := a0) rfl rfl (dl_at t_X25_findEntries 9 rfl) ?_
    have k14 := kx (E7.trans E_12) (by decide) k7
    refine r_getr (pc := 14) X fX25_1 k14 q3763 (dl_at t_X25_findEntries 10 rfl) ?_
    refine g_gd fun k17 => ?_
    refine r_geti (pc := 17) X fX23_3 k17 q3526 (dl_at t_X25_findEntries 11 rfl) fun g17 => ?_
    refine g_icmpge (pc := 20) X r1_12 g17 (off := 337) (tgt := 357) rfl (dl_at t_X25_findEntries 12 rfl) (fun _ => ?_) (fun _ => ?_)
    · exact g_at fun Q hQ => (g_vret (pc := 357) X (v := 0) rfl rfl (dl_at t_X25_findEntries 189 rfl)) _ Q rfl hQ
    refine g_aload_n (pc := 23) X (j := 0) (i := 0) (q := 0) (x := a0) rfl rfl (dl_at t_X25_findEntries 13 rfl) ?_
    refine r_getr (pc := 24) X fX25_69 k14 q3867 (dl_at t_X25_findEntries 14 rfl) ?_
    refine g_iload_n (pc := 27) X (j := 1) (i := 1) (q := 1) (x := x1_12) rfl rfl (dl_at t_X25_findEntries 15 rfl) ?_
    refine g_iconst (pc := 28) X (n := (-1)) (dl_at t_X25_findEntries 16 rfl) ?_
    refine g_gd fun k29 => ?_
    refine r_iast (pc := 29) X r1_12 (r32_c rfl) k29 (dl_at t_X25_findEntries 17 rfl) (fun h29 E29 => ?_)
    refine g_aload_n (pc := 30) X (j := 0) (i := 0) (q := 0) (x := a0) rfl rfl (dl_at t_X25_findEntries 18 rfl) ?_
    have k31 := kx E29 (by decide) k14
    refine r_getr (pc := 31) X fX25_0 k31 q3761 (dl_at t_X25_findEntries 19 rfl) ?_
    refine g_gd fun k34 => ?_
    refine r_getr (pc := 34) X fX24_10 k34 q3666 (dl_at t_X25_findEntries 20 rfl) ?_
    refine g_iload_n (pc := 37) X (j := 1) (i := 1) (q := 1) (x := x1_12) rfl rfl (dl_at t_X25_findEntries 21 rfl) ?_
    refine g_gd fun k38 => ?_
    refine g_zald (pc := 38) X r1_12 k38 (dl_at t_X25_findEntries 22 rfl) fun g38 => ?_
    refine g_join (γ := Hp) (fun q => Ext h29 q) 351 (fun q => [(0, rv D a0), (1, iv x1_12)]) (fun q => []) (fun q => q) (fun q => m_X25_findEntries_j351 x1_12 q) ?_ ?_
    · rintro h_351 E_351
      try dsimp only
      unfold m_X25_findEntries_j351
      refine r_iincN (pc := 351) X (i := 1) (q := 1) (n := 1) (x := x1_12) (b := 0) (w := rv D a0) (rest := []) rfl r1_12 (r32_c rfl) (Nat.le_of_ble_eq_true rfl) [0] rfl (by decide) rv_cat rfl (dl_at t_X25_findEntries 187 rfl) fun x1_351 r1_351 => ?_
      refine g_goto (pc := 354) X (off := (-342)) (tgt := 12) rfl (dl_at t_X25_findEntries 188 rfl) ?_
      refine g_ls (ls2 := [(0, rv D a0), (1, iv x1_351)]) [1, 0] rfl ?_
      exact g_at fun Q hQ => hQ ⟨r1_351, (E_12.trans (E29.trans E_351))⟩
    intro J351
    refine g_ifeq (pc := 39) X (r32_z g38) (off := 312) (tgt := 351) rfl (dl_at t_X25_findEntries 23 rfl) (fun _ => ?_) (fun _ => ?_)
    · exact J351 h29 (Ext.refl _)
    refine g_aload_n (pc := 42) X (j := 0) (i := 0) (q := 0) (x := a0) rfl rfl (dl_at t_X25_findEntries 24 rfl) ?_
    refine r_getr (pc := 43) X fX25_0 k31 q3761 (dl_at t_X25_findEntries 25 rfl) ?_
    refine g_iload_n (pc := 46) X (j := 1) (i := 1) (q := 1) (x := x1_12) rfl rfl (dl_at t_X25_findEntries 26 rfl) ?_
    refine r_callRi (pc := 47) X (fun _ hv => s_X24_show k34 r1_12 hv) cw_code q4717 q378 (in_Vk X (As := [iv x1_12]) kX24 k34 (Or.inl q4730) q4715 q4716 cw_code q4717 ⟨by decide, by decide⟩ rfl (dl_at t_X25_findEntries 27 rfl)) (dl_at t_X25_findEntries 27 rfl) (cat24 (st := []) (Nat.le_of_ble_eq_true rfl)) (Nat.le_of_ble_eq_true rfl) (Nat.le_of_ble_eq_true rfl) fun v47 g47 => ?_
    refine g_bipush (pc := 50) X (n := 11) rfl (dl_at t_X25_findEntries 28 rfl) ?_
    refine g_icmpeq (pc := 52) X g47 (r32_c rfl) (off := 6) (tgt := 58) rfl (dl_at t_X25_findEntries 29 rfl) (fun _ => ?_) (fun _ => ?_)
    · refine g_aload_n (pc := 58) X (j := 0) (i := 0) (q := 0) (x := a0) rfl rfl (dl_at t_X25_findEntries 31 rfl) ?_
      refine r_getr (pc := 59) X fX25_1 k31 q3763 (dl_at t_X25_findEntries 32 rfl) ?_
      refine g_iload_n (pc := 62) X (j := 1) (i := 1) (q := 1) (x := x1_12) rfl rfl (dl_at t_X25_findEntries 33 rfl) ?_
      refine g_ldcSw (pc := 63) X (index := 429) (id := (-75)) 73 rfl rfl (dl_at t_X25_findEntries 34 rfl) ?_
      refine g_gd fun k66 => ?_
      refine r_callRi (pc := 66) X (fun _ hv => s_X23_fieldOf_2 k66 r1_12 hv) cw_code q4735 q377 (in_Vk X (As := [iv x1_12, rv D (-75)]) kX23 k66 (Or.inl q4732) q4733 q4734 cw_code q4735 ⟨by decide, by decide⟩ rfl (dl_at t_X25_findEntries 35 rfl)) (dl_at t_X25_findEntries 35 rfl) (cat24 (st := []) (Nat.le_of_ble_eq_true rfl)) (Nat.le_of_ble_eq_true rfl) (Nat.le_of_ble_eq_true rfl) fun v66 g66 => ?_
      refine g_istore_nN (pc := 69) X (j := 2) (i := 2) (x := v66) (b := 1) (w := iv x1_12) (rest := [(0, rv D a0)]) rfl (Nat.le_of_ble_eq_true rfl) [1, 0] rfl (by decide) rfl rfl (dl_at t_X25_findEntries 36 rfl) ?_
      refine g_aload_n (pc := 70) X (j := 0) (i := 0) (q := 2) (x := a0) rfl rfl (dl_at t_X25_findEntries 37 rfl) ?_
      refine r_geti (pc := 71) X fX25_66 k31 q3863 (dl_at t_X25_findEntries 38 rfl) fun g71 => ?_
      refine g_lti g71 fun x3_74 r3_74 => ?_
      refine g_istore_nN (pc := 74) X (j := 3) (i := 3) (x := x3_74) (b := 2) (w := iv v66) (rest := [(1, iv x1_12), (0, rv D a0)]) rfl (Nat.le_of_ble_eq_true rfl) [0, 1, 2] rfl (by decide) rfl rfl (dl_at t_X25_findEntries 39 rfl) ?_
      refine g_aload_n (pc := 75) X (j := 0) (i := 0) (q := 3) (x := a0) rfl rfl (dl_at t_X25_findEntries 40 rfl) ?_
      refine r_geti (pc := 76) X fX25_73 k31 q3871 (dl_at t_X25_findEntries 41 rfl) fun g76 => ?_
      refine g_lti g76 fun x4_79 r4_79 => ?_
      refine g_istoreN (pc := 79) X (i := 4) (x := x4_79) (b := 3) (w := iv x3_74) (rest := [(2, iv v66), (1, iv x1_12), (0, rv D a0)]) (Nat.le_of_ble_eq_true rfl) [0, 1, 2, 3] rfl (by decide) rfl rfl (dl_at t_X25_findEntries 42 rfl) ?_
      refine g_aload_n (pc := 81) X (j := 0) (i := 0) (q := 4) (x := a0) rfl rfl (dl_at t_X25_findEntries 43 rfl) ?_
      refine r_getr (pc := 82) X fX25_71 k31 q3869 (dl_at t_X25_findEntries 44 rfl) ?_
      refine g_iload_n (pc := 85) X (j := 3) (i := 3) (q := 1) (x := x3_74) rfl rfl (dl_at t_X25_findEntries 45 rfl) ?_
      refine g_iload_n (pc := 86) X (j := 2) (i := 2) (q := 2) (x := v66) rfl rfl (dl_at t_X25_findEntries 46 rfl) ?_
      refine g_join (γ := Int × Int) (fun q => (q.2 = 0 ∨ q.2 = 1)) 95 (fun q => [(0, rv D a0), (1, iv x1_12), (2, iv v66), (3, iv x3_74), (4, iv x4_79)]) (fun q => [iv q.2, iv x3_74, rv D q.1]) (fun q => h29) (fun q => m_X25_findEntries_j95 x4_79 x3_74 v66 x1_12 a0 q.1 q.2 h29) ?_ ?_
      · rintro ⟨s0_95, s2_95⟩ rs2_95
        try dsimp only
        unfold m_X25_findEntries_j95
        refine g_gd fun k95 => ?_
        refine r_zast (pc := 95) X r3_74 rs2_95 k95 (dl_at t_X25_findEntries 51 rfl) (fun h95 E95 => ?_)
        refine g_iload_n (pc := 96) X (j := 2) (i := 2) (q := 2) (x := v66) rfl rfl (dl_at t_X25_findEntries 52 rfl) ?_
        refine g_join (γ := Hp) (fun q => Ext h95 q) 212 (fun q => [(0, rv D a0), (1, iv x1_12), (3, iv x3_74), (4, iv x4_79)]) (fun q => []) (fun q => q) (fun q => m_X25_findEntries_j212 a0 x1_12 x3_74 x4_79 q) ?_ ?_
        · rintro h_212 E_212
          try dsimp only
          unfold m_X25_findEntries_j212
          refine g_aload_n (pc := 212) X (j := 0) (i := 0) (q := 0) (x := a0) rfl rfl (dl_at t_X25_findEntries 115 rfl) ?_
          refine g_iload_n (pc := 213) X (j := 3) (i := 3) (q := 2) (x := x3_74) rfl rfl (dl_at t_X25_findEntries 116 rfl) ?_
          have k214 := kx (E95.trans E_212) (by decide) k31
          refine r_callRi (pc := 214) X (fun _ hv => s_X25_entryLong k214 r3_74 hv) cw_code q4782 q379 (in_Vk X (As := [iv x3_74]) kX25 k214 (Or.inl q4779) q4781 qs287 cw_code q4782 ⟨by decide, by decide⟩ rfl (dl_at t_X25_findEntries 117 rfl)) (dl_at t_X25_findEntries 117 rfl) (cat24 (st := []) (Nat.le_of_ble_eq_true rfl)) (Nat.le_of_ble_eq_true rfl) (Nat.le_of_ble_eq_true rfl) fun v214 g214 => ?_
          refine g_ifne (pc := 217) X g214 (off := 6) (tgt := 223) rfl (dl_at t_X25_findEntries 118 rfl) (fun _ => ?_) (fun _ => ?_)
          · refine g_iconst (pc := 223) X (n := 0) (dl_at t_X25_findEntries 120 rfl) ?_
            refine g_ltz (Or.inl rfl) fun x5_224 r5_224 => ?_
            refine g_istoreN (pc := 224) X (i := 5) (x := x5_224) (b := 4) (w := iv x4_79) (rest := [(0, rv D a0), (1, iv x1_12), (3, iv x3_74)]) (Nat.le_of_ble_eq_true rfl) [3, 0, 1, 2] rfl (by decide) rfl rfl (dl_at t_X25_findEntries 121 rfl) ?_
            refine g_ls (ls2 := [(0, rv D a0), (1, iv x1_12), (3, iv x3_74), (4, iv x4_79), (5, iv x5_224)]) [2, 3, 4, 1, 0] rfl ?_
            refine g_loop1 (fun (q : Int) => [(0, rv D a0), (1, iv x1_12), (3, iv x3_74), (4, iv x4_79), (5, iv q)]) (fun (q : Int) => h_212) (fun (q : Int) => r32 q) 242 (fun (y242 : Int) => [(0, rv D a0), (1, iv x1_12), (3, iv x3_74), (4, iv x4_79), (5, iv y242)]) (fun (y242 : Int) => h_212) (fun (y242 : Int) => r32 y242) x5_224 (r32_z r5_224) ?_ ?_
            · rintro x5_226 r5_226
              try dsimp only
              unfold m_X25_findEntries_l226
              refine g_aload_n (pc := 226) X (j := 0) (i := 0) (q := 0) (x := a0) rfl rfl (dl_at t_X25_findEntries 122 rfl) ?_
              refine g_iload (pc := 227) X (i := 5) (q := 4) (x := x5_226) rfl (dl_at t_X25_findEntries 123 rfl) ?_
              refine g_iload_n (pc := 229) X (j := 3) (i := 3) (q := 2) (x := x3_74) rfl rfl (dl_at t_X25_findEntries 124 rfl) ?_
              refine r_callRz (pc := 230) X (fun _ hv => s_X25_sameEntry k214 r5_226 r3_74 hv) cw_code q4786 q379 (in_Vk X (As := [iv x5_226, iv x3_74]) kX25 k214 (Or.inl q4783) q4785 qs288 cw_code q4786 ⟨by decide, by decide⟩ rfl (dl_at t_X25_findEntries 125 rfl)) (dl_at t_X25_findEntries 125 rfl) (cat24 (st := []) (Nat.le_of_ble_eq_true rfl)) (Nat.le_of_ble_eq_true rfl) (Nat.le_of_ble_eq_true rfl) fun v230 g230 => ?_
              refine g_ifne (pc := 233) X (r32_z g230) (off := 9) (tgt := 242) rfl (dl_at t_X25_findEntries 126 rfl) (fun _ => ?_) (fun _ => ?_)
              · exact g_at fun Q hQ => hQ r5_226
              refine r_iincN (pc := 236) X (i := 5) (q := 4) (n := 1) (x := x5_226) (b := 4) (w := iv x4_79) (rest := [(0, rv D a0), (1, iv x1_12), (3, iv x3_74)]) rfl r5_226 (r32_c rfl) (Nat.le_of_ble_eq_true rfl) [3, 0, 1, 2] rfl (by decide) rfl rfl (dl_at t_X25_findEntries 127 rfl) fun x5_236 r5_236 => ?_
              refine g_goto (pc := 239) X (off := (-13)) (tgt := 226) rfl (dl_at t_X25_findEntries 128 rfl) ?_
              refine g_ls (ls2 := [(0, rv D a0), (1, iv x1_12), (3, iv x3_74), (4, iv x4_79), (5, iv x5_236)]) [2, 3, 4, 1, 0] rfl ?_
              exact g_at fun Q hQ => hQ r5_236
            · rintro x5_242 r5_242
              try dsimp only [sE]
              refine g_aload_n (pc := 242) X (j := 0) (i := 0) (q := 0) (x := a0) rfl rfl (dl_at t_X25_findEntries 129 rfl) ?_
              refine r_getr (pc := 243) X fX25_69 k214 q3867 (dl_at t_X25_findEntries 130 rfl) ?_
              refine g_iload_n (pc := 246) X (j := 1) (i := 1) (q := 1) (x := x1_12) rfl rfl (dl_at t_X25_findEntries 131 rfl) ?_
              refine g_iload (pc := 247) X (i := 5) (q := 4) (x := x5_242) rfl (dl_at t_X25_findEntries 132 rfl) ?_
              refine g_gd fun k249 => ?_
              refine r_iast (pc := 249) X r1_12 r5_242 k249 (dl_at t_X25_findEntries 133 rfl) (fun h249 E249 => ?_)
              refine g_iload (pc := 250) X (i := 5) (q := 4) (x := x5_242) rfl (dl_at t_X25_findEntries 134 rfl) ?_
              refine g_iload_n (pc := 252) X (j := 3) (i := 3) (q := 2) (x := x3_74) rfl rfl (dl_at t_X25_findEntries 135 rfl) ?_
              refine g_icmpge (pc := 253) X r5_242 r3_74 (off := 12) (tgt := 265) rfl (dl_at t_X25_findEntries 136 rfl) (fun _ => ?_) (fun _ => ?_)
              · refine g_aload_n (pc := 265) X (j := 0) (i := 0) (q := 0) (x := a0) rfl rfl (dl_at t_X25_findEntries 141 rfl) ?_
                have k266 := kx E249 (by decide) k214
                refine r_geti (pc := 266) X fX25_66 k266 q3863 (dl_at t_X25_findEntries 142 rfl) fun g266 => ?_
                refine g_sipush (pc := 269) X (n := 300) rfl (dl_at t_X25_findEntries 143 rfl) ?_
                refine g_icmpne (pc := 272) X g266 (r32_c rfl) (off := 11) (tgt := 283) rfl (dl_at t_X25_findEntries 144 rfl) (fun _ => ?_) (fun _ => ?_)
                · refine g_aload_n (pc := 283) X (j := 0) (i := 0) (q := 0) (x := a0) rfl rfl (dl_at t_X25_findEntries 149 rfl) ?_
                  refine r_geti (pc := 284) X fX25_66 k266 q3863 (dl_at t_X25_findEntries 150 rfl) fun g284 => ?_
                  refine g_lti g284 fun x6_287 r6_287 => ?_
                  refine g_istore (pc := 287) X (i := 6) (x := x6_287) (rest := [(0, rv D a0), (1, iv x1_12), (3, iv x3_74)]) (Nat.le_of_ble_eq_true rfl) [0, 1, 2] rfl rfl (dl_at t_X25_findEntries 151 rfl) ?_
                  refine g_ls (ls2 := [(0, rv D a0), (1, iv x1_12), (3, iv x3_74), (6, iv x6_287)]) [1, 2, 3, 0] rfl ?_
                  refine g_loop1 (fun (q : Int × Hp) => [(0, rv D a0), (1, iv x1_12), (3, iv x3_74), (6, iv q.1)]) (fun (q : Int × Hp) => q.2) (fun (q : Int × Hp) => r32 q.1 ∧ Ext h249 q.2) 333 (fun (y333 : Int × Hp) => [(0, rv D a0), (1, iv x1_12), (3, iv x3_74), (6, iv y333.1)]) (fun (y333 : Int × Hp) => y333.2) (fun (y333 : Int × Hp) => r32 y333.1 ∧ Ext h249 y333.2) (x6_287, h249) ⟨r6_287, (Ext.refl _)⟩ ?_ ?_
                  · rintro ⟨x6_289, h_289⟩ ⟨r6_289, E_289⟩
                    try dsimp only
                    unfold m_X25_findEntries_l289
                    refine g_iload (pc := 289) X (i := 6) (q := 3) (x := x6_289) rfl (dl_at t_X25_findEntries 152 rfl) ?_
                    refine g_ifle (pc := 291) X r6_289 (off := 42) (tgt := 333) rfl (dl_at t_X25_findEntries 153 rfl) (fun _ => ?_) (fun _ => ?_)
                    · exact g_at fun Q hQ => hQ ⟨r6_289, E_289⟩
                    refine g_aload_n (pc := 294) X (j := 0) (i := 0) (q := 0) (x := a0) rfl rfl (dl_at t_X25_findEntries 154 rfl) ?_
                    refine g_iload_n (pc := 295) X (j := 3) (i := 3) (q := 2) (x := x3_74) rfl rfl (dl_at t_X25_findEntries 155 rfl) ?_
                    refine g_aload_n (pc := 296) X (j := 0) (i := 0) (q := 0) (x := a0) rfl rfl (dl_at t_X25_findEntries 156 rfl) ?_
                    have k297 := kx E_289 (by decide) k266
                    refine r_getr (pc := 297) X fX25_70 k297 q3868 (dl_at t_X25_findEntries 157 rfl) ?_
                    refine g_iload (pc := 300) X (i := 6) (q := 3) (x := x6_289) rfl (dl_at t_X25_findEntries 158 rfl) ?_
                    refine g_iconst (pc := 302) X (n := 1) (dl_at t_X25_findEntries 159 rfl) ?_
                    refine g_isub (pc := 303) X r6_289 (r32_c rfl) (dl_at t_X25_findEntries 160 rfl) ?_
                    refine g_gd fun k304 => ?_
                    refine g_iald (pc := 304) X (r32_w _) k304 (dl_at t_X25_findEntries 161 rfl) fun g304 => ?_
                    refine r_callRz (pc := 305) X (fun _ hv => s_X25_isBefore k297 r3_74 g304 hv) cw_code q4809 q379 (in_Vk X (As := [iv x3_74, iv (h_289 (h_289 a0 70) (w32 (x6_289 - 1)))]) kX25 k297 (Or.inl q4806) q4808 qs290 cw_code q4809 ⟨by decide, by decide⟩ rfl (dl_at t_X25_findEntries 162 rfl)) (dl_at t_X25_findEntries 162 rfl) (cat24 (st := []) (Nat.le_of_ble_eq_true rfl)) (Nat.le_of_ble_eq_true rfl) (Nat.le_of_ble_eq_true rfl) fun v305 g305 => ?_
                    refine g_ifeq (pc := 308) X (r32_z g305) (off := 25) (tgt := 333) rfl (dl_at t_X25_findEntries 163 rfl) (fun _ => ?_) (fun _ => ?_)
                    · exact g_at fun Q hQ => hQ ⟨r6_289, E_289⟩
                    refine g_aload_n (pc := 311) X (j := 0) (i := 0) (q := 0) (x := a0) rfl rfl (dl_at t_X25_findEntries 164 rfl) ?_
                    refine r_getr (pc := 312) X fX25_70 k297 q3868 (dl_at t_X25_findEntries 165 rfl) ?_
                    refine g_iload (pc := 315) X (i := 6) (q := 3) (x := x6_289) rfl (dl_at t_X25_findEntries 166 rfl) ?_
                    refine g_aload_n (pc := 317) X (j := 0) (i := 0) (q := 0) (x := a0) rfl rfl (dl_at t_X25_findEntries 167 rfl) ?_
                    refine r_getr (pc := 318) X fX25_70 k297 q3868 (dl_at t_X25_findEntries 168 rfl) ?_
                    refine g_iload (pc := 321) X (i := 6) (q := 3) (x := x6_289) rfl (dl_at t_X25_findEntries 169 rfl) ?_
                    refine g_iconst (pc := 323) X (n := 1) (dl_at t_X25_findEntries 170 rfl) ?_
                    refine g_isub (pc := 324) X r6_289 (r32_c rfl) (dl_at t_X25_findEntries 171 rfl) ?_
                    refine g_iald (pc := 325) X (r32_w _) k304 (dl_at t_X25_findEntries 172 rfl) fun g325 => ?_
                    refine g_gd fun k326 => ?_
                    refine r_iast (pc := 326) X r6_289 g325 k326 (dl_at t_X25_findEntries 173 rfl) (fun h326 E326 => ?_)
                    refine r_iinc (pc := 327) X (i := 6) (q := 3) (n := (-1)) (x := x6_289) (rest := [(0, rv D a0), (1, iv x1_12), (3, iv x3_74)]) rfl r6_289 (r32_c rfl) (Nat.le_of_ble_eq_true rfl) [0, 1, 2] rfl rfl (dl_at t_X25_findEntries 174 rfl) fun x6_327 r6_327 => ?_
                    refine g_goto (pc := 330) X (off := (-41)) (tgt := 289) rfl (dl_at t_X25_findEntries 175 rfl) ?_
                    refine g_ls (ls2 := [(0, rv D a0), (1, iv x1_12), (3, iv x3_74), (6, iv x6_327)]) [1, 2, 3, 0] rfl ?_
                    exact g_at fun Q hQ => hQ ⟨r6_327, (E_289.trans E326)⟩
                  · rintro ⟨x6_333, h_333⟩ ⟨r6_333, E_333⟩
                    try dsimp only [sE]
                    refine g_aload_n (pc := 333) X (j := 0) (i := 0) (q := 0) (x := a0) rfl rfl (dl_at t_X25_findEntries 176 rfl) ?_
                    have k334 := kx E_333 (by decide) k266
                    refine r_getr (pc := 334) X fX25_70 k334 q3868 (dl_at t_X25_findEntries 177 rfl) ?_
                    refine g_iload (pc := 337) X (i := 6) (q := 3) (x := x6_333) rfl (dl_at t_X25_findEntries 178 rfl) ?_
                    refine g_iload_n (pc := 339) X (j := 3) (i := 3) (q := 2) (x := x3_74) rfl rfl (dl_at t_X25_findEntries 179 rfl) ?_
                    refine g_gd fun k340 => ?_
                    refine r_iast (pc := 340) X r6_333 r3_74 k340 (dl_at t_X25_findEntries 180 rfl) (fun h340 E340 => ?_)
                    refine g_aload_n (pc := 341) X (j := 0) (i := 0) (q := 0) (x := a0) rfl rfl (dl_at t_X25_findEntries 181 rfl) ?_
                    refine g_dup (pc := 342) X rv_cat (dl_at t_X25_findEntries 182 rfl) ?_
                    have k343 := kx E340 (by decide) k334
                    refine r_geti (pc := 343) X fX25_66 k343 q3863 (dl_at t_X25_findEntries 183 rfl) fun g343 => ?_
                    refine g_iconst (pc := 346) X (n := 1) (dl_at t_X25_findEntries 184 rfl) ?_
                    refine g_iadd (pc := 347) X g343 (r32_c rfl) (dl_at t_X25_findEntries 185 rfl) ?_
                    refine r_puti (pc := 348) X fX25_66 k343 q3863 rfl (dl_at t_X25_findEntries 186 rfl) (r32_w _) (fun h348 E348 => ?_)
                    refine g_ls (ls2 := [(0, rv D a0), (1, iv x1_12)]) [0, 1] rfl ?_
                    exact J351 h348 (E95.trans (E_212.trans (E249.trans (E_333.trans (E340.trans E348)))))
                refine r_new (pc := 275) X kX29 q4791 (dl_at t_X25_findEntries 145 rfl) fun a275 h275 p275 k275 E275 => ?_
                refine g_dup (pc := 278) X rv_cat (dl_at t_X25_findEntries 146 rfl) ?_
                refine r_callV (pc := 279) X (fun _ hv => sx_ScholarsPressModel_Beyond_init__V k275 hv) cw_code q4802 q397 (in_I X (As := []) (Int.ne_of_gt p275) rfl (Or.inr ⟨_, nw_in q4800 rfl⟩) q4801 q4802 ⟨by decide, by decide⟩ rfl (dl_at t_X25_findEntries 147 rfl)) (dl_at t_X25_findEntries 147 rfl) (cat24 (st := [rv D a275]) (Nat.le_of_ble_eq_true rfl)) (Nat.le_of_ble_eq_true rfl) (Nat.le_of_ble_eq_true rfl) fun h279 E279 => ?_
                refine g_athrow (pc := 282) X (Int.ne_of_gt p275) (dl_at t_X25_findEntries 148 rfl) ?_
                exact gt_at fun Q hQ => gt_out (Q := Q) X rfl p275 (hno _) _ Q rfl hQ
              refine g_aload_n (pc := 256) X (j := 0) (i := 0) (q := 0) (x := a0) rfl rfl (dl_at t_X25_findEntries 137 rfl) ?_
              refine g_iload (pc := 257) X (i := 4) (q := 3) (x := x4_79) rfl (dl_at t_X25_findEntries 138 rfl) ?_
              have k259 := kx E249 (by decide) k214
              refine r_puti (pc := 259) X fX25_73 k259 q3871 rfl (dl_at t_X25_findEntries 139 rfl) r4_79 (fun h259 E259 => ?_)
              refine g_goto (pc := 262) X (off := 89) (tgt := 351) rfl (dl_at t_X25_findEntries 140 rfl) ?_
              refine g_ls (ls2 := [(0, rv D a0), (1, iv x1_12)]) [0, 1] rfl ?_
              exact J351 h259 (E95.trans (E_212.trans (E249.trans E259)))
          refine g_goto (pc := 220) X (off := 131) (tgt := 351) rfl (dl_at t_X25_findEntries 119 rfl) ?_
          refine g_ls (ls2 := [(0, rv D a0), (1, iv x1_12)]) [0, 1] rfl ?_
          exact J351 h_212 (E95.trans E_212)
        intro J212
        refine g_iflt (pc := 97) X g66 (off := 36) (tgt := 133) rfl (dl_at t_X25_findEntries 53 rfl) (fun _ => ?_) (fun _ => ?_)
        · refine g_aload_n (pc := 133) X (j := 0) (i := 0) (q := 0) (x := a0) rfl rfl (dl_at t_X25_findEntries 73 rfl) ?_
          have k134 := kx E95 (by decide) k31
          refine r_getr (pc := 134) X fX25_0 k134 q3761 (dl_at t_X25_findEntries 74 rfl) ?_
          refine g_iload_n (pc := 137) X (j := 1) (i := 1) (q := 1) (x := x1_12) rfl rfl (dl_at t_X25_findEntries 75 rfl) ?_
          refine g_gd fun k138 => ?_
          refine r_callWi (pc := 138) X (fun _ hv => s_X24_title k138 r1_12 hv) cw_code q4739 q378 (in_Vk X (As := [iv x1_12]) kX24 k138 (Or.inl q4736) q4737 q4738 cw_code q4739 ⟨by decide, by decide⟩ rfl (dl_at t_X25_findEntries 76 rfl)) (dl_at t_X25_findEntries 76 rfl) (cat24 (st := []) (Nat.le_of_ble_eq_true rfl)) (Nat.le_of_ble_eq_true rfl) (Nat.le_of_ble_eq_true rfl) fun v138 h138 g138 E138 => ?_
          refine g_istoreN (pc := 141) X (i := 5) (x := v138) (b := 4) (w := iv x4_79) (rest := [(0, rv D a0), (1, iv x1_12), (3, iv x3_74)]) (Nat.le_of_ble_eq_true rfl) [4, 0, 1, 3] rfl (by decide) rfl rfl (dl_at t_X25_findEntries 77 rfl) ?_
          refine g_aload_n (pc := 143) X (j := 0) (i := 0) (q := 2) (x := a0) rfl rfl (dl_at t_X25_findEntries 78 rfl) ?_
          have k144 := kx E138 (by decide) k134
          refine r_getr (pc := 144) X fX25_67 k144 q3865 (dl_at t_X25_findEntries 79 rfl) ?_
          refine g_iload_n (pc := 147) X (j := 3) (i := 3) (q := 4) (x := x3_74) rfl rfl (dl_at t_X25_findEntries 80 rfl) ?_
          refine g_aload_n (pc := 148) X (j := 0) (i := 0) (q := 2) (x := a0) rfl rfl (dl_at t_X25_findEntries 81 rfl) ?_
          refine r_geti (pc := 149) X fX25_73 k144 q3871 (dl_at t_X25_findEntries 82 rfl) fun g149 => ?_
          refine g_gd fun k152 => ?_
          refine r_iast (pc := 152) X r3_74 g149 k152 (dl_at t_X25_findEntries 83 rfl) (fun h152 E152 => ?_)
          refine g_iconst (pc := 153) X (n := 0) (dl_at t_X25_findEntries 84 rfl) ?_
          refine g_ltz (Or.inl rfl) fun x6_154 r6_154 => ?_
          refine g_istoreN (pc := 154) X (i := 6) (x := x6_154) (b := 5) (w := iv v138) (rest := [(4, iv x4_79), (0, rv D a0), (1, iv x1_12), (3, iv x3_74)]) (Nat.le_of_ble_eq_true rfl) [0, 1, 2, 3, 4] rfl (by decide) rfl rfl (dl_at t_X25_findEntries 85 rfl) ?_
          refine g_ls (ls2 := [(0, rv D a0), (1, iv x1_12), (3, iv x3_74), (4, iv x4_79), (5, iv v138), (6, iv x6_154)]) [3, 4, 5, 2, 1, 0] rfl ?_
          refine g_loop1 (fun (q : Int × Hp) => [(0, rv D a0), (1, iv x1_12), (3, iv x3_74), (4, iv x4_79), (5, iv v138), (6, iv q.1)]) (fun (q : Int × Hp) => q.2) (fun (q : Int × Hp) => r32 q.1 ∧ Ext h152 q.2) 191 (fun (y191 : Hp) => [(0, rv D a0), (1, iv x1_12), (3, iv x3_74), (4, iv x4_79), (5, iv v138)]) (fun (y191 : Hp) => y191) (fun (y191 : Hp) => Ext h152 y191) (x6_154, h152) ⟨(r32_z r6_154), (Ext.refl _)⟩ ?_ ?_
          · rintro ⟨x6_156, h_156⟩ ⟨r6_156, E_156⟩
            try dsimp only
            unfold m_X25_findEntries_l156
            refine g_iload (pc := 156) X (i := 6) (q := 5) (x := x6_156) rfl (dl_at t_X25_findEntries 86 rfl) ?_
            refine g_iload (pc := 158) X (i := 5) (q := 4) (x := v138) rfl (dl_at t_X25_findEntries 87 rfl) ?_
            refine g_icmpge (pc := 160) X r6_156 g138 (off := 31) (tgt := 191) rfl (dl_at t_X25_findEntries 88 rfl) (fun _ => ?_) (fun _ => ?_)
            · refine g_ls (ls2 := [(0, rv D a0), (1, iv x1_12), (3, iv x3_74), (4, iv x4_79), (5, iv v138)]) [0, 1, 2, 3, 4] rfl ?_
              exact g_at fun Q hQ => hQ E_156
            refine g_aload_n (pc := 163) X (j := 0) (i := 0) (q := 0) (x := a0) rfl rfl (dl_at t_X25_findEntries 89 rfl) ?_
            have k164 := kx (E152.trans E_156) (by decide) k144
            refine r_getr (pc := 164) X fX25_72 k164 q3870 (dl_at t_X25_findEntries 90 rfl) ?_
            refine g_aload_n (pc := 167) X (j := 0) (i := 0) (q := 0) (x := a0) rfl rfl (dl_at t_X25_findEntries 91 rfl) ?_
            refine r_geti (pc := 168) X fX25_73 k164 q3871 (dl_at t_X25_findEntries 92 rfl) fun g168 => ?_
            refine g_iload (pc := 171) X (i := 6) (q := 5) (x := x6_156) rfl (dl_at t_X25_findEntries 93 rfl) ?_
            refine g_iadd (pc := 173) X g168 r6_156 (dl_at t_X25_findEntries 94 rfl) ?_
            refine g_aload_n (pc := 174) X (j := 0) (i := 0) (q := 0) (x := a0) rfl rfl (dl_at t_X25_findEntries 95 rfl) ?_
            refine r_getr (pc := 175) X fX25_0 k164 q3761 (dl_at t_X25_findEntries 96 rfl) ?_
            refine g_iload (pc := 178) X (i := 6) (q := 5) (x := x6_156) rfl (dl_at t_X25_findEntries 97 rfl) ?_
            refine g_gd fun k180 => ?_
            refine r_callRi (pc := 180) X (fun _ hv => s_X24_titleByte k180 r6_156 hv) cw_code q4778 q378 (in_Vk X (As := [iv x6_156]) kX24 k180 (Or.inl q4775) q4776 q4777 cw_code q4778 ⟨by decide, by decide⟩ rfl (dl_at t_X25_findEntries 98 rfl)) (dl_at t_X25_findEntries 98 rfl) (cat24 (st := [iv (w32 ((h_156 a0 73) + x6_156)), rv D (h_156 a0 72)]) (Nat.le_of_ble_eq_true rfl)) (Nat.le_of_ble_eq_true rfl) (Nat.le_of_ble_eq_true rfl) fun v180 g180 => ?_
            refine g_i2b (pc := 183) X g180 (dl_at t_X25_findEntries 99 rfl) ?_
            refine g_gd fun k184 => ?_
            refine r_bastB (pc := 184) X (r32_w _) (b_w8 _) k184 (dl_at t_X25_findEntries 100 rfl) (fun h184 E184 => ?_)
            refine r_iincN (pc := 185) X (i := 6) (q := 5) (n := 1) (x := x6_156) (b := 5) (w := iv v138) (rest := [(0, rv D a0), (1, iv x1_12), (3, iv x3_74), (4, iv x4_79)]) rfl r6_156 (r32_c rfl) (Nat.le_of_ble_eq_true rfl) [4, 0, 1, 2, 3] rfl (by decide) rfl rfl (dl_at t_X25_findEntries 101 rfl) fun x6_185 r6_185 => ?_
            refine g_goto (pc := 188) X (off := (-32)) (tgt := 156) rfl (dl_at t_X25_findEntries 102 rfl) ?_
            refine g_ls (ls2 := [(0, rv D a0), (1, iv x1_12), (3, iv x3_74), (4, iv x4_79), (5, iv v138), (6, iv x6_185)]) [2, 3, 4, 5, 1, 0] rfl ?_
            exact g_at fun Q hQ => hQ ⟨r6_185, (E_156.trans E184)⟩
          · rintro h_191 E_191
            try dsimp only [sE]
            refine g_aload_n (pc := 191) X (j := 0) (i := 0) (q := 0) (x := a0) rfl rfl (dl_at t_X25_findEntries 103 rfl) ?_
            refine g_dup (pc := 192) X rv_cat (dl_at t_X25_findEntries 104 rfl) ?_
            have k193 := kx (E152.trans E_191) (by decide) k144
            refine r_geti (pc := 193) X fX25_73 k193 q3871 (dl_at t_X25_findEntries 105 rfl) fun g193 => ?_
            refine g_iload (pc := 196) X (i := 5) (q := 4) (x := v138) rfl (dl_at t_X25_findEntries 106 rfl) ?_
            refine g_iadd (pc := 198) X g193 g138 (dl_at t_X25_findEntries 107 rfl) ?_
            refine r_puti (pc := 199) X fX25_73 k193 q3871 rfl (dl_at t_X25_findEntries 108 rfl) (r32_w _) (fun h199 E199 => ?_)
            refine g_aload_n (pc := 202) X (j := 0) (i := 0) (q := 0) (x := a0) rfl rfl (dl_at t_X25_findEntries 109 rfl) ?_
            have k203 := kx E199 (by decide) k193
            refine r_getr (pc := 203) X fX25_68 k203 q3866 (dl_at t_X25_findEntries 110 rfl) ?_
            refine g_iload_n (pc := 206) X (j := 3) (i := 3) (q := 2) (x := x3_74) rfl rfl (dl_at t_X25_findEntries 111 rfl) ?_
            refine g_aload_n (pc := 207) X (j := 0) (i := 0) (q := 0) (x := a0) rfl rfl (dl_at t_X25_findEntries 112 rfl) ?_
            refine r_geti (pc := 208) X fX25_73 k203 q3871 (dl_at t_X25_findEntries 113 rfl) fun g208 => ?_
            refine g_gd fun k211 => ?_
            refine r_iast (pc := 211) X r3_74 g208 k211 (dl_at t_X25_findEntries 114 rfl) (fun h211 E211 => ?_)
            refine g_ls (ls2 := [(0, rv D a0), (1, iv x1_12), (3, iv x3_74), (4, iv x4_79)]) [0, 1, 2, 3] rfl ?_
            exact J212 h211 (E138.trans (E152.trans (E_191.trans (E199.trans E211))))
        refine g_aload_n (pc := 100) X (j := 0) (i := 0) (q := 0) (x := a0) rfl rfl (dl_at t_X25_findEntries 54 rfl) ?_
        have k101 := kx E95 (by decide) k31
        refine r_getr (pc := 101) X fX25_67 k101 q3865 (dl_at t_X25_findEntries 55 rfl) ?_
        refine g_iload_n (pc := 104) X (j := 3) (i := 3) (q := 3) (x := x3_74) rfl rfl (dl_at t_X25_findEntries 56 rfl) ?_
        refine g_aload_n (pc := 105) X (j := 0) (i := 0) (q := 0) (x := a0) rfl rfl (dl_at t_X25_findEntries 57 rfl) ?_
        refine r_getr (pc := 106) X fX25_1 k101 q3763 (dl_at t_X25_findEntries 58 rfl) ?_
        refine g_gd fun k109 => ?_
        refine r_getr (pc := 109) X fX23_19 k109 q3566 (dl_at t_X25_findEntries 59 rfl) ?_
        refine g_iload_n (pc := 112) X (j := 2) (i := 2) (q := 2) (x := v66) rfl rfl (dl_at t_X25_findEntries 60 rfl) ?_
        refine g_gd fun k113 => ?_
        refine g_iald (pc := 113) X g66 k113 (dl_at t_X25_findEntries 61 rfl) fun g113 => ?_
        refine g_gd fun k114 => ?_
        refine r_iast (pc := 114) X r3_74 g113 k114 (dl_at t_X25_findEntries 62 rfl) (fun h114 E114 => ?_)
        refine g_aload_n (pc := 115) X (j := 0) (i := 0) (q := 0) (x := a0) rfl rfl (dl_at t_X25_findEntries 63 rfl) ?_
        have k116 := kx E114 (by decide) k101
        refine r_getr (pc := 116) X fX25_68 k116 q3866 (dl_at t_X25_findEntries 64 rfl) ?_
        refine g_iload_n (pc := 119) X (j := 3) (i := 3) (q := 3) (x := x3_74) rfl rfl (dl_at t_X25_findEntries 65 rfl) ?_
        refine g_aload_n (pc := 120) X (j := 0) (i := 0) (q := 0) (x := a0) rfl rfl (dl_at t_X25_findEntries 66 rfl) ?_
        refine r_getr (pc := 121) X fX25_1 k116 q3763 (dl_at t_X25_findEntries 67 rfl) ?_
        refine g_gd fun k124 => ?_
        refine r_getr (pc := 124) X fX23_20 k124 q3569 (dl_at t_X25_findEntries 68 rfl) ?_
        refine g_iload_n (pc := 127) X (j := 2) (i := 2) (q := 2) (x := v66) rfl rfl (dl_at t_X25_findEntries 69 rfl) ?_
        refine g_gd fun k128 => ?_
        refine g_iald (pc := 128) X g66 k128 (dl_at t_X25_findEntries 70 rfl) fun g128 => ?_
        refine g_gd fun k129 => ?_
        refine r_iast (pc := 129) X r3_74 g128 k129 (dl_at t_X25_findEntries 71 rfl) (fun h129 E129 => ?_)
        refine g_goto (pc := 130) X (off := 82) (tgt := 212) rfl (dl_at t_X25_findEntries 72 rfl) ?_
        refine g_ls (ls2 := [(0, rv D a0), (1, iv x1_12), (3, iv x3_74), (4, iv x4_79)]) [0, 1, 3, 4] rfl ?_
        exact J212 h129 (E114.trans E129)
      intro J95
      refine g_ifge (pc := 87) X g66 (off := 7) (tgt := 94) rfl (dl_at t_X25_findEntries 47 rfl) (fun _ => ?_) (fun _ => ?_)
      · refine g_iconst (pc := 94) X (n := 0) (dl_at t_X25_findEntries 50 rfl) ?_
        refine g_ls (ls2 := [(0, rv D a0), (1, iv x1_12), (2, iv v66), (3, iv x3_74), (4, iv x4_79)]) [4, 3, 2, 1, 0] rfl ?_
        exact J95 ((h29 a0 71), 0) (Or.inl rfl)
      refine g_iconst (pc := 90) X (n := 1) (dl_at t_X25_findEntries 48 rfl) ?_
      refine g_goto (pc := 91) X (off := 4) (tgt := 95) rfl (dl_at t_X25_findEntries 49 rfl) ?_
      refine g_ls (ls2 := [(0, rv D a0), (1, iv x1_12), (2, iv v66), (3, iv x3_74), (4, iv x4_79)]) [4, 3, 2, 1, 0] rfl ?_
      exact J95 ((h29 a0 71), 1) (Or.inr rfl)
    refine g_goto (pc := 55) X (off := 296) (tgt := 351) rfl (dl_at t_X25_findEntries 30 rfl) ?_
    exact J351 h29 (Ext.refl _)
def k_X25_begin : List (Nat × Instr × Nat) := [(0, .aload_n 0, 1), (1, .aload_n 0, 1), (2, .getfield 457, 3), (5, .putfield 460, 3), (8, .aload_n 0, 1), (9, .iconst (-1), 1), (10, .putfield 463, 3), (13, .return_, 1)]
theorem t_X25_begin : ∀ q ∈ k_X25_begin, decode cX25_begin q.1 = .ok q.2 := dl_all (by decide +kernel)
noncomputable def m_X25_begin (a0 : Int) (h : Hp) : Option (Hp) :=
  pt h a0 100 (h a0 4) fun h5 =>
  pt h5 a0 101 (-1) fun h10 =>
  some h10
theorem s_X25_begin {l : Launch} [NoTr l] {D : SD} {a0 : Int} {h : Hp} (hk : h a0 (-2) = 416) {r : Hp} (hm : m_X25_begin a0 h = some r) : Sim l D yX25_begin (Cond.code yX25_begin cX25_begin 1 (Option.none : Option Jvm.ClassFile.FieldType)) 0 0 [rv D a0] h 0 ((0, 0), r) := by
  refine Sim.of (fin := fun (v : Hp) => ((0, 0), v)) (lsE := [(0, rv D a0)]) hm rfl cwS_code (la_r la_n) (ll_r ll_n) ?_
  intro p e s m below meth c X hcw hmm hcc hnm hname
  unfold m_X25_begin
  refine g_aload_n (pc := 0) X (j := 0) (i := 0) (q := 0) (x := a0) rfl rfl (dl_at t_X25_begin 0 rfl) ?_
  refine g_aload_n (pc := 1) X (j := 0) (i := 0) (q := 0) (x := a0) rfl rfl (dl_at t_X25_begin 1 rfl) ?_
  refine r_geti (pc := 2) X fX25_4 hk q3767 (dl_at t_X25_begin 2 rfl) fun g2 => ?_
  refine r_puti (pc := 5) X fX25_100 hk q3912 rfl (dl_at t_X25_begin 3 rfl) g2 (fun h5 E5 => ?_)
  refine g_aload_n (pc := 8) X (j := 0) (i := 0) (q := 0) (x := a0) rfl rfl (dl_at t_X25_begin 4 rfl) ?_
  refine g_iconst (pc := 9) X (n := (-1)) (dl_at t_X25_begin 5 rfl) ?_
  have k10 := kx E5 (by decide) hk
  refine r_puti (pc := 10) X fX25_101 k10 q3913 rfl (dl_at t_X25_begin 6 rfl) (r32_c rfl) (fun h10 E10 => ?_)
  exact g_vret (pc := 13) X (v := 0) rfl rfl (dl_at t_X25_begin 7 rfl)
def k_X25_blockOf : List (Nat × Instr × Nat) := [(0, .iload_n 1, 1), (1, .istore_n 2, 1), (2, .iload_n 2, 1), (3, .ifCond .lt 28, 3), (6, .aload_n 0, 1), (7, .getfield 14, 3), (10, .getfield 483, 3), (13, .iload_n 2, 1), (14, .baload, 1), (15, .ifCond .ne 16, 3), (18, .aload_n 0, 1), (19, .getfield 342, 3), (22, .getfield 486, 3), (25, .iload_n 2, 1), (26, .iaload, 1), (27, .istore_n 2, 1), (28, .goto (-26), 3), (31, .iload_n 2, 1), (32, .ireturn, 1)]
theorem t_X25_blockOf : ∀ q ∈ k_X25_blockOf, decode cX25_blockOf q.1 = .ok q.2 := dl_all (by decide +kernel)
noncomputable def m_X25_blockOf_l2 (a0 x2_2 : Int) (h : Hp) : Option ((Int) ⊕ ((Int))) :=
  if x2_2 < 0 then (some (.inr x2_2))
  else (gd (h (h a0 0) (-2) = 400) (gd (h (h (h a0 0) 12) (-2) % 16 = 3 ∧ (0 : Int) ≤ x2_2 ∧ x2_2 < h (h (h a0 0) 12) (-1)) (if (h (h (h a0 0) 12) x2_2) ≠ 0 then (some (.inr x2_2))
  else (gd (h (h a0 1) (-2) = 384) (gd (h (h (h a0 1) 11) (-2) % 16 = 1 ∧ (0 : Int) ≤ x2_2 ∧ x2_2 < h (h (h a0 1) 11) (-1)) (lt_ (h (h (h a0 1) 11) x2_2) fun x2_27 =>
  some (.inl x2_27)))))))
noncomputable def m_X25_blockOf (a0 a1 : Int) (h : Hp) : Option (Int) :=
  (lp (fun (q : Int) => m_X25_blockOf_l2 a0 q h) a1).bind (fun (x : Int) => some x)
theorem s_X25_blockOf {l : Launch} [NoTr l] {D : SD} {a0 a1 : Int} {h : Hp} (hk : h a0 (-2) = 416) (r1 : r32 a1) {r : Int} (hm : m_X25_blockOf a0 a1 h = some r) : Sim l D yX25_blockOf (Cond.code yX25_blockOf cX25_blockOf 3 (Option.some Jvm.ClassFile.FieldType.int)) 0 0 [rv D a0, iv a1] h 1 ((0, r), h) := by
  refine Sim.of (fin := fun (v : Int) => ((0, v), h)) (lsE := [(0, rv D a0), (1, iv a1)]) hm rfl cwS_code (la_r (la_i la_n)) (ll_r (ll_i ll_n)) ?_
  intro p e s m below meth c X hcw hmm hcc hnm hname
  unfold m_X25_blockOf
  refine g_iload_n (pc := 0) X (j := 1) (i := 1) (q := 1) (x := a1) rfl rfl (dl_at t_X25_blockOf 0 rfl) ?_
  refine g_istore_n (pc := 1) X (j := 2) (i := 2) (x := a1) (rest := [(0, rv D a0)]) rfl (Nat.le_of_ble_eq_true rfl) [0] rfl rfl (dl_at t_X25_blockOf 1 rfl) ?_
  refine g_ls (ls2 := [(0, rv D a0), (2, iv a1)]) [1, 0] rfl ?_
  refine g_loop0F (fun (q : Int) => [(0, rv D a0), (2, iv q)]) (fun (q : Int) => h) (fun (q : Int) => r32 q) a1 r1 ?_ (fun _ => rfl)
  · rintro x2_2 r2_2
    try dsimp only
    unfold m_X25_blockOf_l2
    refine g_iload_n (pc := 2) X (j := 2) (i := 2) (q := 1) (x := x2_2) rfl rfl (dl_at t_X25_blockOf 2 rfl) ?_
    refine g_iflt (pc := 3) X r2_2 (off := 28) (tgt := 31) rfl (dl_at t_X25_blockOf 3 rfl) (fun _ => ?_) (fun _ => ?_)
    · refine g_iload_n (pc := 31) X (j := 2) (i := 2) (q := 1) (x := x2_2) rfl rfl (dl_at t_X25_blockOf 17 rfl) ?_
      exact g_at fun Q hQ => (g_iret (pc := 32) X r2_2 rfl rfl (dl_at t_X25_blockOf 18 rfl)) _ Q rfl hQ
    refine g_aload_n (pc := 6) X (j := 0) (i := 0) (q := 0) (x := a0) rfl rfl (dl_at t_X25_blockOf 4 rfl) ?_
    refine r_getr (pc := 7) X fX25_0 hk q3761 (dl_at t_X25_blockOf 5 rfl) ?_
    refine g_gd fun k10 => ?_
    refine r_getr (pc := 10) X fX24_12 k10 q3671 (dl_at t_X25_blockOf 6 rfl) ?_
    refine g_iload_n (pc := 13) X (j := 2) (i := 2) (q := 1) (x := x2_2) rfl rfl (dl_at t_X25_blockOf 7 rfl) ?_
    refine g_gd fun k14 => ?_
    refine g_zald (pc := 14) X r2_2 k14 (dl_at t_X25_blockOf 8 rfl) fun g14 => ?_
    refine g_ifne (pc := 15) X (r32_z g14) (off := 16) (tgt := 31) rfl (dl_at t_X25_blockOf 9 rfl) (fun _ => ?_) (fun _ => ?_)
    · refine g_iload_n (pc := 31) X (j := 2) (i := 2) (q := 1) (x := x2_2) rfl rfl (dl_at t_X25_blockOf 17 rfl) ?_
      exact g_at fun Q hQ => (g_iret (pc := 32) X r2_2 rfl rfl (dl_at t_X25_blockOf 18 rfl)) _ Q rfl hQ
    refine g_aload_n (pc := 18) X (j := 0) (i := 0) (q := 0) (x := a0) rfl rfl (dl_at t_X25_blockOf 10 rfl) ?_
    refine r_getr (pc := 19) X fX25_1 hk q3763 (dl_at t_X25_blockOf 11 rfl) ?_
    refine g_gd fun k22 => ?_
    refine r_getr (pc := 22) X fX23_11 k22 q3548 (dl_at t_X25_blockOf 12 rfl) ?_
    refine g_iload_n (pc := 25) X (j := 2) (i := 2) (q := 1) (x := x2_2) rfl rfl (dl_at t_X25_blockOf 13 rfl) ?_
    refine g_gd fun k26 => ?_
    refine g_iald (pc := 26) X r2_2 k26 (dl_at t_X25_blockOf 14 rfl) fun g26 => ?_
    refine g_lti g26 fun x2_27 r2_27 => ?_
    refine g_istore_n (pc := 27) X (j := 2) (i := 2) (x := x2_27) (rest := [(0, rv D a0)]) rfl (Nat.le_of_ble_eq_true rfl) [0] rfl rfl (dl_at t_X25_blockOf 15 rfl) ?_
    refine g_goto (pc := 28) X (off := (-26)) (tgt := 2) rfl (dl_at t_X25_blockOf 16 rfl) ?_
    refine g_ls (ls2 := [(0, rv D a0), (2, iv x2_27)]) [1, 0] rfl ?_
    exact g_at fun Q hQ => hQ r2_27
def k_X25_leftOf : List (Nat × Instr × Nat) := [(0, .iconst 0, 1), (1, .istore_n 2, 1), (2, .iload_n 1, 1), (3, .istore_n 3, 1), (4, .iload_n 3, 1), (5, .ifCond .lt 44, 3), (8, .iload_n 2, 1), (9, .aload_n 0, 1), (10, .getfield 14, 3), (13, .getfield 483, 3), (16, .iload_n 3, 1), (17, .baload, 1), (18, .ifCond .eq 15, 3), (21, .aload_n 0, 1), (22, .getfield 14, 3), (25, .iload_n 3, 1), (26, .iconst 4, 1), (27, .invokevirtual 477, 3), (30, .goto 4, 3), (33, .iconst 0, 1), (34, .iadd, 1), (35, .istore_n 2, 1), (36, .aload_n 0, 1), (37, .getfield 342, 3), (40, .getfield 486, 3), (43, .iload_n 3, 1), (44, .iaload, 1), (45, .istore_n 3, 1), (46, .goto (-42), 3), (49, .iload_n 2, 1), (50, .ireturn, 1)]
theorem t_X25_leftOf : ∀ q ∈ k_X25_leftOf, decode cX25_leftOf q.1 = .ok q.2 := dl_all (by decide +kernel)
noncomputable def m_X25_leftOf_j34 (a0 x2_4 x3_4 s1_34 : Int) (h : Hp) : Option ((Int × Int) ⊕ ((Int))) :=
  lt_ (w32 (x2_4 + s1_34)) fun x2_35 =>
  gd (h (h a0 1) (-2) = 384) (gd (h (h (h a0 1) 11) (-2) % 16 = 1 ∧ (0 : Int) ≤ x3_4 ∧ x3_4 < h (h (h a0 1) 11) (-1)) (lt_ (h (h (h a0 1) 11) x3_4) fun x3_45 =>
  some (.inl (x2_35, x3_45))))
noncomputable def m_X25_leftOf_l4 (a0 x2_4 x3_4 : Int) (h : Hp) : Option ((Int × Int) ⊕ ((Int))) :=
  if x3_4 < 0 then (some (.inr x2_4))
  else (gd (h (h a0 0) (-2) = 400) (gd (h (h (h a0 0) 12) (-2) % 16 = 3 ∧ (0 : Int) ≤ x3_4 ∧ x3_4 < h (h (h a0 0) 12) (-1)) (if (h (h (h a0 0) 12) x3_4) = 0 then (m_X25_leftOf_j34 a0 x2_4 x3_4 0 h)
  else ((m_X24_of (h a0 0) x3_4 4 h).bind fun v27 =>
  m_X25_leftOf_j34 a0 x2_4 x3_4 v27 h))))
noncomputable def m_X25_leftOf (a0 a1 : Int) (h : Hp) : Option (Int) :=
  lt_ 0 fun x2_1 =>
  (lp (fun (q : Int × Int) => m_X25_leftOf_l4 a0 q.1 q.2 h) (x2_1, a1)).bind (fun (x : Int) => some x)
theorem s_X25_leftOf {l : Launch} [NoTr l] {D : SD} {a0 a1 : Int} {h : Hp} (hk : h a0 (-2) = 416) (r1 : r32 a1) {r : Int} (hm : m_X25_leftOf a0 a1 h = some r) : Sim l D yX25_leftOf (Cond.code yX25_leftOf cX25_leftOf 4 (Option.some Jvm.ClassFile.FieldType.int)) 2 74 [rv D a0, iv a1] h 1 ((0, r), h) := by
  refine Sim.of (fin := fun (v : Int) => ((0, v), h)) (lsE := [(0, rv D a0), (1, iv a1)]) hm rfl cwS_code (la_r (la_i la_n)) (ll_r (ll_i ll_n)) ?_
  intro p e s m below meth c X hcw hmm hcc hnm hname
  unfold m_X25_leftOf
  refine g_iconst (pc := 0) X (n := 0) (dl_at t_X25_leftOf 0 rfl) ?_
  refine g_ltz (Or.inl rfl) fun x2_1 r2_1 => ?_
  refine g_istore_nN (pc := 1) X (j := 2) (i := 2) (x := x2_1) (b := 1) (w := iv a1) (rest := [(0, rv D a0)]) rfl (Nat.le_of_ble_eq_true rfl) [1, 0] rfl (by decide) rfl rfl (dl_at t_X25_leftOf 1 rfl) ?_
  refine g_iload_n (pc := 2) X (j := 1) (i := 1) (q := 1) (x := a1) rfl rfl (dl_at t_X25_leftOf 2 rfl) ?_
  refine g_istore_nN (pc := 3) X (j := 3) (i := 3) (x := a1) (b := 2) (w := iv x2_1) (rest := [(0, rv D a0)]) rfl (Nat.le_of_ble_eq_true rfl) [0, 2] rfl (by decide) rfl rfl (dl_at t_X25_leftOf 3 rfl) ?_
  refine g_ls (ls2 := [(0, rv D a0), (2, iv x2_1), (3, iv a1)]) [2, 1, 0] rfl ?_
  refine g_loop0F (fun (q : Int × Int) => [(0, rv D a0), (2, iv q.1), (3, iv q.2)]) (fun (q : Int × Int) => h) (fun (q : Int × Int) => r32 q.1 ∧ r32 q.2) (x2_1, a1) ⟨(r32_z r2_1), r1⟩ ?_ (fun _ => rfl)
  · rintro ⟨x2_4, x3_4⟩ ⟨r2_4, r3_4⟩
    try dsimp only
    unfold m_X25_leftOf_l4
    refine g_iload_n (pc := 4) X (j := 3) (i := 3) (q := 2) (x := x3_4) rfl rfl (dl_at t_X25_leftOf 4 rfl) ?_
    refine g_iflt (pc := 5) X r3_4 (off := 44) (tgt := 49) rfl (dl_at t_X25_leftOf 5 rfl) (fun _ => ?_) (fun _ => ?_)
    · refine g_iload_n (pc := 49) X (j := 2) (i := 2) (q := 1) (x := x2_4) rfl rfl (dl_at t_X25_leftOf 29 rfl) ?_
      exact g_at fun Q hQ => (g_iret (pc := 50) X r2_4 rfl rfl (dl_at t_X25_leftOf 30 rfl)) _ Q rfl hQ
    refine g_iload_n (pc := 8) X (j := 2) (i := 2) (q := 1) (x := x2_4) rfl rfl (dl_at t_X25_leftOf 6 rfl) ?_
    refine g_aload_n (pc := 9) X (j := 0) (i := 0) (q := 0) (x := a0) rfl rfl (dl_at t_X25_leftOf 7 rfl) ?_
    refine r_getr (pc := 10) X fX25_0 hk q3761 (dl_at t_X25_leftOf 8 rfl) ?_
    refine g_gd fun k13 => ?_
    refine r_getr (pc := 13) X fX24_12 k13 q3671 (dl_at t_X25_leftOf 9 rfl) ?_
    refine g_iload_n (pc := 16) X (j := 3) (i := 3) (q := 2) (x := x3_4) rfl rfl (dl_at t_X25_leftOf 10 rfl) ?_
    refine g_gd fun k17 => ?_
    refine g_zald (pc := 17) X r3_4 k17 (dl_at t_X25_leftOf 11 rfl) fun g17 => ?_
    refine g_join (γ := Int) (fun q => r32 q) 34 (fun q => [(0, rv D a0), (3, iv x3_4)]) (fun q => [iv q, iv x2_4]) (fun q => h) (fun q => m_X25_leftOf_j34 a0 x2_4 x3_4 q h) ?_ ?_
    · rintro s1_34 rs1_34
      try dsimp only
      unfold m_X25_leftOf_j34
      refine g_iadd (pc := 34) X r2_4 rs1_34 (dl_at t_X25_leftOf 20 rfl) ?_
      refine g_lti (r32_w _) fun x2_35 r2_35 => ?_
      refine g_istore_n (pc := 35) X (j := 2) (i := 2) (x := x2_35) (rest := [(0, rv D a0), (3, iv x3_4)]) rfl (Nat.le_of_ble_eq_true rfl) [0, 1] rfl rfl (dl_at t_X25_leftOf 21 rfl) ?_
      refine g_aload_n (pc := 36) X (j := 0) (i := 0) (q := 1) (x := a0) rfl rfl (dl_at t_X25_leftOf 22 rfl) ?_
      refine r_getr (pc := 37) X fX25_1 hk q3763 (dl_at t_X25_leftOf 23 rfl) ?_
      refine g_gd fun k40 => ?_
      refine r_getr (pc := 40) X fX23_11 k40 q3548 (dl_at t_X25_leftOf 24 rfl) ?_
      refine g_iload_n (pc := 43) X (j := 3) (i := 3) (q := 2) (x := x3_4) rfl rfl (dl_at t_X25_leftOf 25 rfl) ?_
      refine g_gd fun k44 => ?_
      refine g_iald (pc := 44) X r3_4 k44 (dl_at t_X25_leftOf 26 rfl) fun g44 => ?_
      refine g_lti g44 fun x3_45 r3_45 => ?_
      refine g_istore_nN (pc := 45) X (j := 3) (i := 3) (x := x3_45) (b := 2) (w := iv x2_35) (rest := [(0, rv D a0)]) rfl (Nat.le_of_ble_eq_true rfl) [0, 1] rfl (by decide) rfl rfl (dl_at t_X25_leftOf 27 rfl) ?_
      refine g_goto (pc := 46) X (off := (-42)) (tgt := 4) rfl (dl_at t_X25_leftOf 28 rfl) ?_
      refine g_ls (ls2 := [(0, rv D a0), (2, iv x2_35), (3, iv x3_45)]) [2, 1, 0] rfl ?_
      exact g_at fun Q hQ => hQ ⟨r2_35, r3_45⟩
    intro J34
    refine g_ifeq (pc := 18) X (r32_z g17) (off := 15) (tgt := 33) rfl (dl_at t_X25_leftOf 12 rfl) (fun _ => ?_) (fun _ => ?_)
    · refine g_iconst (pc := 33) X (n := 0) (dl_at t_X25_leftOf 19 rfl) ?_
      refine g_ls (ls2 := [(0, rv D a0), (3, iv x3_4)]) [0, 2] rfl ?_
      exact J34 0 (r32_c rfl)
    refine g_aload_n (pc := 21) X (j := 0) (i := 0) (q := 0) (x := a0) rfl rfl (dl_at t_X25_leftOf 13 rfl) ?_
    refine r_getr (pc := 22) X fX25_0 hk q3761 (dl_at t_X25_leftOf 14 rfl) ?_
    refine g_iload_n (pc := 25) X (j := 3) (i := 3) (q := 2) (x := x3_4) rfl rfl (dl_at t_X25_leftOf 15 rfl) ?_
    refine g_iconst (pc := 26) X (n := 4) (dl_at t_X25_leftOf 16 rfl) ?_
    refine r_callRi (pc := 27) X (fun _ hv => s_X24_of k13 r3_4 (r32_c rfl) hv) cw_code q4704 q378 (in_Vk X (As := [iv x3_4, iv 4]) kX24 k13 (Or.inl q4844) q4702 q4703 cw_code q4704 ⟨by decide, by decide⟩ rfl (dl_at t_X25_leftOf 17 rfl)) (dl_at t_X25_leftOf 17 rfl) (cat24 (st := [iv x2_4]) (Nat.le_of_ble_eq_true rfl)) (Nat.le_of_ble_eq_true rfl) (Nat.le_of_ble_eq_true rfl) fun v27 g27 => ?_
    refine g_goto (pc := 30) X (off := 4) (tgt := 34) rfl (dl_at t_X25_leftOf 18 rfl) ?_
    refine g_ls (ls2 := [(0, rv D a0), (3, iv x3_4)]) [0, 2] rfl ?_
    exact J34 v27 g27
def k_X25_widthOf : List (Nat × Instr × Nat) := [(0, .aload_n 0, 1), (1, .getfield 14, 3), (4, .getfield 489, 3), (7, .iconst 0, 1), (8, .iaload, 1), (9, .iload_n 2, 1), (10, .isub, 1), (11, .i2l, 1), (12, .lstore_n 3, 1), (13, .iload_n 1, 1), (14, .istore 5, 2), (16, .iload 5, 2), (18, .ifCond .lt 60, 3), (21, .lload_n 3, 1), (22, .aload_n 0, 1), (23, .getfield 14, 3), (26, .getfield 483, 3), (29, .iload 5, 2), (31, .baload, 1), (32, .ifCond .eq 28, 3), (35, .aload_n 0, 1), (36, .getfield 14, 3), (39, .iload 5, 2), (41, .iconst 4, 1), (42, .invokevirtual 477, 3), (45, .aload_n 0, 1), (46, .getfield 14, 3), (49, .iload 5, 2), (51, .iconst 5, 1), (52, .invokevirtual 477, 3), (55, .iadd, 1), (56, .i2l, 1), (57, .goto 4, 3), (60, .lconst 0, 1), (61, .lsub, 1), (62, .lstore_n 3, 1), (63, .aload_n 0, 1), (64, .getfield 342, 3), (67, .getfield 486, 3), (70, .iload 5, 2), (72, .iaload, 1), (73, .istore 5, 2), (75, .goto (-59), 3), (78, .lload_n 3, 1), (79, .ldc2_w 490, 3), (82, .lcmp, 1), (83, .ifCond .ge 9, 3), (86, .ldc2_w 490, 3), (89, .goto 4, 3), (92, .lload_n 3, 1), (93, .lreturn, 1)]
theorem t_X25_widthOf : ∀ q ∈ k_X25_widthOf, decode cX25_widthOf q.1 = .ok q.2 := dl_all (by decide +kernel)
noncomputable def m_X25_widthOf_j61 (a0 x3_16 x5_16 s1_61 : Int) (h : Hp) : Option ((Int × Int) ⊕ ((Int))) :=
  lt_ (w64 (x3_16 - s1_61)) fun x3_62 =>
  gd (h (h a0 1) (-2) = 384) (gd (h (h (h a0 1) 11) (-2) % 16 = 1 ∧ (0 : Int) ≤ x5_16 ∧ x5_16 < h (h (h a0 1) 11) (-1)) (lt_ (h (h (h a0 1) 11) x5_16) fun x5_73 =>
  some (.inl (x3_62, x5_73))))
noncomputable def m_X25_widthOf_l16 (a0 x3_16 x5_16 : Int) (h : Hp) : Option ((Int × Int) ⊕ ((Int))) :=
  if x5_16 < 0 then (some (.inr x3_16))
  else (gd (h (h (h a0 0) 12) (-2) % 16 = 3 ∧ (0 : Int) ≤ x5_16 ∧ x5_16 < h (h (h a0 0) 12) (-1)) (if (h (h (h a0 0) 12) x5_16) = 0 then (m_X25_widthOf_j61 a0 x3_16 x5_16 0 h)
  else ((m_X24_of (h a0 0) x5_16 4 h).bind fun v42 =>
  (m_X24_of (h a0 0) x5_16 5 h).bind fun v52 =>
  m_X25_widthOf_j61 a0 x3_16 x5_16 (w32 (v42 + v52)) h)))
noncomputable def m_X25_widthOf (a0 a1 a2 : Int) (h : Hp) : Option (Int) :=
  gd (h (h a0 0) (-2) = 400) (gd (h (h (h a0 0) 2) (-2) % 16 = 1 ∧ (0 : Int) ≤ 0 ∧ 0 < h (h (h a0 0) 2) (-1)) (lt_ (w32 ((h (h (h a0 0) 2) 0) - a2)) fun x3_12 =>
  (lp (fun (q : Int × Int) => m_X25_widthOf_l16 a0 q.1 q.2 h) (x3_12, a1)).bind (fun (y78 : Int) => if 0 ≤ (lcmp_ y78 1000) then (some y78)
  else (some 1000))))
theorem s_X25_widthOf {l : Launch} [NoTr l] {D : SD} {a0 a1 a2 : Int} {h : Hp} (hk : h a0 (-2) = 416) (r1 : r32 a1) (r2 : r32 a2) {r : Int} (hm : m_X25_widthOf a0 a1 a2 h = some r) : Sim l D yX25_widthOf (Cond.code yX25_widthOf cX25_widthOf 6 (Option.some Jvm.ClassFile.FieldType.long)) 2 74 [rv D a0, iv a1, iv a2] h 4 ((0, r), h) := by
  refine Sim.of (fin := fun (v : Int) => ((0, v), h)) (lsE := [(0, rv D a0), (1, iv a1), (2, iv a2)]) hm rfl cwS_code (la_r (la_i (la_i la_n))) (ll_r (ll_i (ll_i ll_n))) ?_
  intro p e s m below meth c X hcw hmm hcc hnm hname
  unfold m_X25_widthOf
  refine g_aload_n (pc := 0) X (j := 0) (i := 0) (q := 0) (x := a0) rfl rfl (dl_at t_X25_widthOf 0 rfl) ?_
  refine r_getr (pc := 1) X fX25_0 hk q3761 (dl_at t_X25_widthOf 1 rfl) ?_
  refine g_gd fun k4 => ?_
  refine r_getr (pc := 4) X fX24_2 k4 q3647 (dl_at t_X25_widthOf 2 rfl) ?_
  refine g_iconst (pc := 7) X (n := 0) (dl_at t_X25_widthOf 3 rfl) ?_
  refine g_gd fun k8 => ?_
  refine g_iald (pc := 8) X (r32_c rfl) k8 (dl_at t_X25_widthOf 4 rfl) fun g8 => ?_
  refine g_iload_n (pc := 9) X (j := 2) (i := 2) (q := 2) (x := a2) rfl rfl (dl_at t_X25_widthOf 5 rfl) ?_
  refine g_isub (pc := 10) X g8 r2 (dl_at t_X25_widthOf 6 rfl) ?_
  refine g_i2l (pc := 11) X (r32_w _) (dl_at t_X25_widthOf 7 rfl) ?_
  refine g_ltl (r64_of (r32_w _)) fun x3_12 r3_12 => ?_
  refine g_lstore_n (pc := 12) X (j := 3) (i := 3) (x := x3_12) (rest := [(0, rv D a0), (1, iv a1)]) rfl (Nat.le_of_ble_eq_true rfl) [0, 1] rfl rfl (dl_at t_X25_widthOf 8 rfl) ?_
  refine g_iload_n (pc := 13) X (j := 1) (i := 1) (q := 2) (x := a1) rfl rfl (dl_at t_X25_widthOf 9 rfl) ?_
  refine g_istore (pc := 14) X (i := 5) (x := a1) (rest := [(3, jv x3_12), (0, rv D a0)]) (Nat.le_of_ble_eq_true rfl) [0, 1] rfl rfl (dl_at t_X25_widthOf 10 rfl) ?_
  refine g_ls (ls2 := [(0, rv D a0), (3, jv x3_12), (5, iv a1)]) [2, 1, 0] rfl ?_
  refine g_loop1 (fun (q : Int × Int) => [(0, rv D a0), (3, jv q.1), (5, iv q.2)]) (fun (q : Int × Int) => h) (fun (q : Int × Int) => r64 q.1 ∧ r32 q.2) 78 (fun (y78 : Int) => [(3, jv y78)]) (fun (y78 : Int) => h) (fun (y78 : Int) => r64 y78) (x3_12, a1) ⟨r3_12, r1⟩ ?_ ?_
  · rintro ⟨x3_16, x5_16⟩ ⟨r3_16, r5_16⟩
    try dsimp only
    unfold m_X25_widthOf_l16
    refine g_iload (pc := 16) X (i := 5) (q := 2) (x := x5_16) rfl (dl_at t_X25_widthOf 11 rfl) ?_
    refine g_iflt (pc := 18) X r5_16 (off := 60) (tgt := 78) rfl (dl_at t_X25_widthOf 12 rfl) (fun _ => ?_) (fun _ => ?_)
    · refine g_ls (ls2 := [(3, jv x3_16)]) [1] rfl ?_
      exact g_at fun Q hQ => hQ r3_16
    refine g_lload_n (pc := 21) X (j := 3) (i := 3) (q := 1) (x := x3_16) rfl rfl (dl_at t_X25_widthOf 13 rfl) ?_
    refine g_aload_n (pc := 22) X (j := 0) (i := 0) (q := 0) (x := a0) rfl rfl (dl_at t_X25_widthOf 14 rfl) ?_
    refine r_getr (pc := 23) X fX25_0 hk q3761 (dl_at t_X25_widthOf 15 rfl) ?_
    refine r_getr (pc := 26) X fX24_12 k4 q3671 (dl_at t_X25_widthOf 16 rfl) ?_
    refine g_iload (pc := 29) X (i := 5) (q := 2) (x := x5_16) rfl (dl_at t_X25_widthOf 17 rfl) ?_
    refine g_gd fun k31 => ?_
    refine g_zald (pc := 31) X r5_16 k31 (dl_at t_X25_widthOf 18 rfl) fun g31 => ?_
    refine g_join (γ := Int) (fun q => r64 q) 61 (fun q => [(0, rv D a0), (5, iv x5_16)]) (fun q => [jv q, jv x3_16]) (fun q => h) (fun q => m_X25_widthOf_j61 a0 x3_16 x5_16 q h) ?_ ?_
    · rintro s1_61 rs1_61
      try dsimp only
      unfold m_X25_widthOf_j61
      refine g_lsub (pc := 61) X r3_16 rs1_61 (dl_at t_X25_widthOf 34 rfl) ?_
      refine g_ltl (r64_w _) fun x3_62 r3_62 => ?_
      refine g_lstore_n (pc := 62) X (j := 3) (i := 3) (x := x3_62) (rest := [(0, rv D a0), (5, iv x5_16)]) rfl (Nat.le_of_ble_eq_true rfl) [0, 1] rfl rfl (dl_at t_X25_widthOf 35 rfl) ?_
      refine g_aload_n (pc := 63) X (j := 0) (i := 0) (q := 1) (x := a0) rfl rfl (dl_at t_X25_widthOf 36 rfl) ?_
      refine r_getr (pc := 64) X fX25_1 hk q3763 (dl_at t_X25_widthOf 37 rfl) ?_
      refine g_gd fun k67 => ?_
      refine r_getr (pc := 67) X fX23_11 k67 q3548 (dl_at t_X25_widthOf 38 rfl) ?_
      refine g_iload (pc := 70) X (i := 5) (q := 2) (x := x5_16) rfl (dl_at t_X25_widthOf 39 rfl) ?_
      refine g_gd fun k72 => ?_
      refine g_iald (pc := 72) X r5_16 k72 (dl_at t_X25_widthOf 40 rfl) fun g72 => ?_
      refine g_lti g72 fun x5_73 r5_73 => ?_
      refine g_istore (pc := 73) X (i := 5) (x := x5_73) (rest := [(3, jv x3_62), (0, rv D a0)]) (Nat.le_of_ble_eq_true rfl) [0, 1] rfl rfl (dl_at t_X25_widthOf 41 rfl) ?_
      refine g_goto (pc := 75) X (off := (-59)) (tgt := 16) rfl (dl_at t_X25_widthOf 42 rfl) ?_
      refine g_ls (ls2 := [(0, rv D a0), (3, jv x3_62), (5, iv x5_73)]) [2, 1, 0] rfl ?_
      exact g_at fun Q hQ => hQ ⟨r3_62, r5_73⟩
    intro J61
    refine g_ifeq (pc := 32) X (r32_z g31) (off := 28) (tgt := 60) rfl (dl_at t_X25_widthOf 19 rfl) (fun _ => ?_) (fun _ => ?_)
    · refine g_lconst0 (pc := 60) X (dl_at t_X25_widthOf 33 rfl) ?_
      refine g_ls (ls2 := [(0, rv D a0), (5, iv x5_16)]) [0, 2] rfl ?_
      exact J61 0 (r64_c rfl)
    refine g_aload_n (pc := 35) X (j := 0) (i := 0) (q := 0) (x := a0) rfl rfl (dl_at t_X25_widthOf 20 rfl) ?_
    refine r_getr (pc := 36) X fX25_0 hk q3761 (dl_at t_X25_widthOf 21 rfl) ?_
    refine g_iload (pc := 39) X (i := 5) (q := 2) (x := x5_16) rfl (dl_at t_X25_widthOf 22 rfl) ?_
    refine g_iconst (pc := 41) X (n := 4) (dl_at t_X25_widthOf 23 rfl) ?_
    refine r_callRi (pc := 42) X (fun _ hv => s_X24_of k4 r5_16 (r32_c rfl) hv) cw_code q4704 q378 (in_Vk X (As := [iv x5_16, iv 4]) kX24 k4 (Or.inl q4844) q4702 q4703 cw_code q4704 ⟨by decide, by decide⟩ rfl (dl_at t_X25_widthOf 24 rfl)) (dl_at t_X25_widthOf 24 rfl) (cat24 (st := [jv x3_16]) (Nat.le_of_ble_eq_true rfl)) (Nat.le_of_ble_eq_true rfl) (Nat.le_of_ble_eq_true rfl) fun v42 g42 => ?_
    refine g_aload_n (pc := 45) X (j := 0) (i := 0) (q := 0) (x := a0) rfl rfl (dl_at t_X25_widthOf 25 rfl) ?_
    refine r_getr (pc := 46) X fX25_0 hk q3761 (dl_at t_X25_widthOf 26 rfl) ?_
    refine g_iload (pc := 49) X (i := 5) (q := 2) (x := x5_16) rfl (dl_at t_X25_widthOf 27 rfl) ?_
    refine g_iconst (pc := 51) X (n := 5) (dl_at t_X25_widthOf 28 rfl) ?_
    refine r_callRi (pc := 52) X (fun _ hv => s_X24_of k4 r5_16 (r32_c rfl) hv) cw_code q4704 q378 (in_Vk X (As := [iv x5_16, iv 5]) kX24 k4 (Or.inl q4844) q4702 q4703 cw_code q4704 ⟨by decide, by decide⟩ rfl (dl_at t_X25_widthOf 29 rfl)) (dl_at t_X25_widthOf 29 rfl) (cat24 (st := [iv v42, jv x3_16]) (Nat.le_of_ble_eq_true rfl)) (Nat.le_of_ble_eq_true rfl) (Nat.le_of_ble_eq_true rfl) fun v52 g52 => ?_
    refine g_iadd (pc := 55) X g42 g52 (dl_at t_X25_widthOf 30 rfl) ?_
    refine g_i2l (pc := 56) X (r32_w _) (dl_at t_X25_widthOf 31 rfl) ?_
    refine g_goto (pc := 57) X (off := 4) (tgt := 61) rfl (dl_at t_X25_widthOf 32 rfl) ?_
    refine g_ls (ls2 := [(0, rv D a0), (5, iv x5_16)]) [0, 2] rfl ?_
    exact J61 (w32 (v42 + v52)) (r64_of (r32_w _))
  · rintro x3_78 r3_78
    try dsimp only [sE]
    refine g_lload_n (pc := 78) X (j := 3) (i := 3) (q := 0) (x := x3_78) rfl rfl (dl_at t_X25_widthOf 43 rfl) ?_
    refine g_ldc2 (pc := 79) X (index := 490) (n := 1000) q4849 (dl_at t_X25_widthOf 44 rfl) ?_
    refine g_lcmp (pc := 82) X r3_78 (r64_c rfl) (dl_at t_X25_widthOf 45 rfl) ?_
    refine g_ifge (pc := 83) X (r32_lcmp _ _) (off := 9) (tgt := 92) rfl (dl_at t_X25_widthOf 46 rfl) (fun _ => ?_) (fun _ => ?_)
    · refine g_lload_n (pc := 92) X (j := 3) (i := 3) (q := 0) (x := x3_78) rfl rfl (dl_at t_X25_widthOf 49 rfl) ?_
      exact g_lret (pc := 93) X r3_78 rfl rfl (dl_at t_X25_widthOf 50 rfl)
    refine g_ldc2 (pc := 86) X (index := 490) (n := 1000) q4849 (dl_at t_X25_widthOf 47 rfl) ?_
    refine g_goto (pc := 89) X (off := 4) (tgt := 93) rfl (dl_at t_X25_widthOf 48 rfl) ?_
    exact g_lret (pc := 93) X (r64_c rfl) rfl rfl (dl_at t_X25_widthOf 50 rfl)
def k_X25_ended : List (Nat × Instr × Nat) := [(0, .aload_n 0, 1), (1, .getfield 457, 3), (4, .aload_n 0, 1), (5, .getfield 460, 3), (8, .if_icmp .ne 5, 3), (11, .iconst (-1), 1), (12, .ireturn, 1), (13, .aload_n 0, 1), (14, .getfield 372, 3), (17, .sipush 1200, 3), (20, .if_icmp .ne 11, 3), (23, .new 451, 3), (26, .dup, 1), (27, .invokespecial 453, 3), (30, .athrow, 1), (31, .aload_n 0, 1), (32, .getfield 372, 3), (35, .istore 6, 2), (37, .aload_n 0, 1), (38, .getfield 29, 3), (41, .iload 6, 2), (43, .aload_n 0, 1), (44, .getfield 460, 3), (47, .iastore, 1), (48, .aload_n 0, 1), (49, .getfield 32, 3), (52, .iload 6, 2), (54, .aload_n 0, 1), (55, .getfield 457, 3), (58, .iastore, 1), (59, .aload_n 0, 1), (60, .getfield 35, 3), (63, .iload 6, 2), (65, .iload_n 1, 1), (66, .iastore, 1), (67, .aload_n 0, 1), (68, .getfield 38, 3), (71, .iload 6, 2), (73, .iload_n 2, 1), (74, .iastore, 1), (75, .aload_n 0, 1), (76, .getfield 41, 3), (79, .iload 6, 2), (81, .iload_n 3, 1), (82, .iastore, 1), (83, .aload_n 0, 1), (84, .getfield 62, 3), (87, .iload 6, 2), (89, .lload 4, 2), (91, .lastore, 1), (92, .aload_n 0, 1), (93, .getfield 59, 3), (96, .iload 6, 2), (98, .iload_n 2, 1), (99, .ifCond .ne 15, 3), (102, .aload_n 0, 1), (103, .getfield 14, 3), (106, .iload_n 1, 1), (107, .iconst 3, 1), (108, .invokevirtual 477, 3), (111, .goto 4, 3), (114, .iconst 0, 1), (115, .iastore, 1), (116, .aload_n 0, 1), (117, .dup, 1), (118, .getfield 372, 3), (121, .iconst 1, 1), (122, .iadd, 1), (123, .putfield 372, 3), (126, .aload_n 0, 1), (127, .invokevirtual 480, 3), (130, .iload 6, 2), (132, .ireturn, 1)]
theorem t_X25_ended : ∀ q ∈ k_X25_ended, decode cX25_ended q.1 = .ok q.2 := dl_all (by decide +kernel)
noncomputable def m_X25_ended_j115 (x6_35 a0 s0_115 s2_115 : Int) (h91 : Hp) : Option ((Int × Int) × Hp) :=
  gd (h91 s0_115 (-2) % 16 = 1 ∧ (0 : Int) ≤ x6_35 ∧ x6_35 < h91 s0_115 (-1)) (pt h91 s0_115 x6_35 s2_115 fun h115 =>
  pt h115 a0 9 (w32 ((h115 a0 9) + 1)) fun h123 =>
  (m_X25_begin a0 h123).bind fun h127 =>
  some ((0, x6_35), h127))
noncomputable def m_X25_ended (a0 a1 a2 a3 a4 : Int) (h : Hp) : Option ((Int × Int) × Hp) :=
  if (h a0 4) ≠ (h a0 100) then (if (h a0 9) ≠ 1200 then (lt_ (h a0 9) fun x6_35 =>
  gd (h (h a0 10) (-2) % 16 = 1 ∧ (0 : Int) ≤ x6_35 ∧ x6_35 < h (h a0 10) (-1)) (pt h (h a0 10) x6_35 (h a0 100) fun h47 =>
  gd (h47 (h47 a0 11) (-2) % 16 = 1 ∧ (0 : Int) ≤ x6_35 ∧ x6_35 < h47 (h47 a0 11) (-1)) (pt h47 (h47 a0 11) x6_35 (h47 a0 4) fun h58 =>
  gd (h58 (h58 a0 12) (-2) % 16 = 1 ∧ (0 : Int) ≤ x6_35 ∧ x6_35 < h58 (h58 a0 12) (-1)) (pt h58 (h58 a0 12) x6_35 a1 fun h66 =>
  gd (h66 (h66 a0 13) (-2) % 16 = 1 ∧ (0 : Int) ≤ x6_35 ∧ x6_35 < h66 (h66 a0 13) (-1)) (pt h66 (h66 a0 13) x6_35 a2 fun h74 =>
  gd (h74 (h74 a0 14) (-2) % 16 = 1 ∧ (0 : Int) ≤ x6_35 ∧ x6_35 < h74 (h74 a0 14) (-1)) (pt h74 (h74 a0 14) x6_35 a3 fun h82 =>
  gd (h82 (h82 a0 21) (-2) % 16 = 4 ∧ (0 : Int) ≤ x6_35 ∧ x6_35 < h82 (h82 a0 21) (-1)) (pt h82 (h82 a0 21) x6_35 a4 fun h91 =>
  if a2 ≠ 0 then (m_X25_ended_j115 x6_35 a0 (h91 a0 20) 0 h91)
  else (gd (h91 (h91 a0 0) (-2) = 400) ((m_X24_of (h91 a0 0) a1 3 h91).bind fun v108 =>
  m_X25_ended_j115 x6_35 a0 (h91 a0 20) v108 h91)))))))))
  else (al h 464 6 fun a23 h23 =>
  (x_init0 a23 h23).bind fun h27 =>
  some ((1, a23), h27)))
  else (some ((0, (-1)), h))
theorem s_X25_ended {l : Launch} [NoTr l] {D : SD} {a0 a1 a2 a3 a4 : Int} {h : Hp} (hk : h a0 (-2) = 416) (r1 : r32 a1) (r2 : r32 a2) (r3 : r32 a3) (r4 : r64 a4) {r : (Int × Int) × Hp} (hm : m_X25_ended a0 a1 a2 a3 a4 h = some r) : Sim l D yX25_ended (Cond.code yX25_ended cX25_ended 7 (Option.some Jvm.ClassFile.FieldType.int)) 9 336 [rv D a0, iv a1, iv a2, iv a3, jv a4] h 1 r := by
  refine Sim.of (fin := fun (v : (Int × Int) × Hp) => v) (lsE := [(0, rv D a0), (1, iv a1), (2, iv a2), (3, iv a3), (4, jv a4)]) hm rfl cwS_code (la_r (la_i (la_i (la_i (la_j la_n))))) (ll_r (ll_i (ll_i (ll_i (ll_j ll_n))))) ?_
  intro p e s m below meth c X hcw hmm hcc hnm hname
  have hno := noh hcw hnm hmm hcc
  unfold m_X25_ended
  refine g_aload_n (pc := 0) X (j := 0) (i := 0) (q := 0) (x := a0) rfl rfl (dl_at t_X25_ended 0 rfl) ?_
  refine r_geti (pc := 1) X fX25_4 hk q3767 (dl_at t_X25_ended 1 rfl) fun g1 => ?_
  refine g_aload_n (pc := 4) X (j := 0) (i := 0) (q := 0) (x := a0) rfl rfl (dl_at t_X25_ended 2 rfl) ?_
  refine r_geti (pc := 5) X fX25_100 hk q3912 (dl_at t_X25_ended 3 rfl) fun g5 => ?_
  refine g_icmpne (pc := 8) X g1 g5 (off := 5) (tgt := 13) rfl (dl_at t_X25_ended 4 rfl) (fun _ => ?_) (fun _ => ?_)
  · refine g_aload_n (pc := 13) X (j := 0) (i := 0) (q := 0) (x := a0) rfl rfl (dl_at t_X25_ended 7 rfl) ?_
    refine r_geti (pc := 14) X fX25_9 hk q3773 (dl_at t_X25_ended 8 rfl) fun g14 => ?_
    refine g_sipush (pc := 17) X (n := 1200) rfl (dl_at t_X25_ended 9 rfl) ?_
    refine g_icmpne (pc := 20) X g14 (r32_c rfl) (off := 11) (tgt := 31) rfl (dl_at t_X25_ended 10 rfl) (fun _ => ?_) (fun _ => ?_)
    · refine g_aload_n (pc := 31) X (j := 0) (i := 0) (q := 0) (x := a0) rfl rfl (dl_at t_X25_ended 15 rfl) ?_
      refine r_geti (pc := 32) X fX25_9 hk q3773 (dl_at t_X25_ended 16 rfl) fun g32 => ?_
      refine g_lti g32 fun x6_35 r6_35 => ?_
      refine g_istore (pc := 35) X (i := 6) (x := x6_35) (rest := [(0, rv D a0), (1, iv a1), (2, iv a2), (3, iv a3), (4, jv a4)]) (Nat.le_of_ble_eq_true rfl) [0, 1, 2, 3, 4] rfl rfl (dl_at t_X25_ended 17 rfl) ?_
      refine g_aload_n (pc := 37) X (j := 0) (i := 0) (q := 1) (x := a0) rfl rfl (dl_at t_X25_ended 18 rfl) ?_
      refine r_getr (pc := 38) X fX25_10 hk q3775 (dl_at t_X25_ended 19 rfl) ?_
      refine g_iload (pc := 41) X (i := 6) (q := 0) (x := x6_35) rfl (dl_at t_X25_ended 20 rfl) ?_
      refine g_aload_n (pc := 43) X (j := 0) (i := 0) (q := 1) (x := a0) rfl rfl (dl_at t_X25_ended 21 rfl) ?_
      refine r_geti (pc := 44) X fX25_100 hk q3912 (dl_at t_X25_ended 22 rfl) fun g44 => ?_
      refine g_gd fun k47 => ?_
      refine r_iast (pc := 47) X r6_35 g44 k47 (dl_at t_X25_ended 23 rfl) (fun h47 E47 => ?_)
      refine g_aload_n (pc := 48) X (j := 0) (i := 0) (q := 1) (x := a0) rfl rfl (dl_at t_X25_ended 24 rfl) ?_
      have k49 := kx E47 (by decide) hk
      refine r_getr (pc := 49) X fX25_11 k49 q3777 (dl_at t_X25_ended 25 rfl) ?_
      refine g_iload (pc := 52) X (i := 6) (q := 0) (x := x6_35) rfl (dl_at t_X25_ended 26 rfl) ?_
      refine g_aload_n (pc := 54) X (j := 0) (i := 0) (q := 1) (x := a0) rfl rfl (dl_at t_X25_ended 27 rfl) ?_
      refine r_geti (pc := 55) X fX25_4 k49 q3767 (dl_at t_X25_ended 28 rfl) fun g55 => ?_
      refine g_gd fun k58 => ?_
      refine r_iast (pc := 58) X r6_35 g55 k58 (dl_at t_X25_ended 29 rfl) (fun h58 E58 => ?_)
      refine g_aload_n (pc := 59) X (j := 0) (i := 0) (q := 1) (x := a0) rfl rfl (dl_at t_X25_ended 30 rfl) ?_
      have k60 := kx E58 (by decide) k49
      refine r_getr (pc := 60) X fX25_12 k60 q3779 (dl_at t_X25_ended 31 rfl) ?_
      refine g_iload (pc := 63) X (i := 6) (q := 0) (x := x6_35) rfl (dl_at t_X25_ended 32 rfl) ?_
      refine g_iload_n (pc := 65) X (j := 1) (i := 1) (q := 2) (x := a1) rfl rfl (dl_at t_X25_ended 33 rfl) ?_
      refine g_gd fun k66 => ?_
      refine r_iast (pc := 66) X r6_35 r1 k66 (dl_at t_X25_ended 34 rfl) (fun h66 E66 => ?_)
      refine g_aload_n (pc := 67) X (j := 0) (i := 0) (q := 1) (x := a0) rfl rfl (dl_at t_X25_ended 35 rfl) ?_
      have k68 := kx E66 (by decide) k60
      refine r_getr (pc := 68) X fX25_13 k68 q3781 (dl_at t_X25_ended 36 rfl) ?_
      refine g_iload (pc := 71) X (i := 6) (q := 0) (x := x6_35) rfl (dl_at t_X25_ended 37 rfl) ?_
      refine g_iload_n (pc := 73) X (j := 2) (i := 2) (q := 3) (x := a2) rfl rfl (dl_at t_X25_ended 38 rfl) ?_
      refine g_gd fun k74 => ?_
      refine r_iast (pc := 74) X r6_35 r2 k74 (dl_at t_X25_ended 39 rfl) (fun h74 E74 => ?_)
      refine g_aload_n (pc := 75) X (j := 0) (i := 0) (q := 1) (x := a0) rfl rfl (dl_at t_X25_ended 40 rfl) ?_
      have k76 := kx E74 (by decide) k68
      refine r_getr (pc := 76) X fX25_14 k76 q3782 (dl_at t_X25_ended 41 rfl) ?_
      refine g_iload (pc := 79) X (i := 6) (q := 0) (x := x6_35) rfl (dl_at t_X25_ended 42 rfl) ?_
      refine g_iload_n (pc := 81) X (j := 3) (i := 3) (q := 4) (x := a3) rfl rfl (dl_at t_X25_ended 43 rfl) ?_
      refine g_gd fun k82 => ?_
      refine r_iast (pc := 82) X r6_35 r3 k82 (dl_at t_X25_ended 44 rfl) (fun h82 E82 => ?_)
      refine g_aload_n (pc := 83) X (j := 0) (i := 0) (q := 1) (x := a0) rfl rfl (dl_at t_X25_ended 45 rfl) ?_
      have k84 := kx E82 (by decide) k76
      refine r_getr (pc := 84) X fX25_21 k84 q3793 (dl_at t_X25_ended 46 rfl) ?_
      refine g_iload (pc := 87) X (i := 6) (q := 0) (x := x6_35) rfl (dl_at t_X25_ended 47 rfl) ?_
      refine g_lload (pc := 89) X (i := 4) (q := 5) (x := a4) rfl (dl_at t_X25_ended 48 rfl) ?_
      refine g_gd fun k91 => ?_
      refine r_last (pc := 91) X r6_35 r4 k91 (dl_at t_X25_ended 49 rfl) (fun h91 E91 => ?_)
      refine g_aload_n (pc := 92) X (j := 0) (i := 0) (q := 1) (x := a0) rfl rfl (dl_at t_X25_ended 50 rfl) ?_
      have k93 := kx E91 (by decide) k84
      refine r_getr (pc := 93) X fX25_20 k93 q3792 (dl_at t_X25_ended 51 rfl) ?_
      refine g_iload (pc := 96) X (i := 6) (q := 0) (x := x6_35) rfl (dl_at t_X25_ended 52 rfl) ?_
      refine g_iload_n (pc := 98) X (j := 2) (i := 2) (q := 3) (x := a2) rfl rfl (dl_at t_X25_ended 53 rfl) ?_
      refine g_join (γ := Int × Int) (fun q => r32 q.2) 115 (fun q => [(0, rv D a0), (6, iv x6_35)]) (fun q => [iv q.2, iv x6_35, rv D q.1]) (fun q => h91) (fun q => m_X25_ended_j115 x6_35 a0 q.1 q.2 h91) ?_ ?_
      · rintro ⟨s0_115, s2_115⟩ rs2_115
        try dsimp only
        unfold m_X25_ended_j115
        refine g_gd fun k115 => ?_
        refine r_iast (pc := 115) X r6_35 rs2_115 k115 (dl_at t_X25_ended 62 rfl) (fun h115 E115 => ?_)
        refine g_aload_n (pc := 116) X (j := 0) (i := 0) (q := 0) (x := a0) rfl rfl (dl_at t_X25_ended 63 rfl) ?_
        refine g_dup (pc := 117) X rv_cat (dl_at t_X25_ended 64 rfl) ?_
        have k118 := kx E115 (by decide) k93
        refine r_geti (pc := 118) X fX25_9 k118 q3773 (dl_at t_X25_ended 65 rfl) fun g118 => ?_
        refine g_iconst (pc := 121) X (n := 1) (dl_at t_X25_ended 66 rfl) ?_
        refine g_iadd (pc := 122) X g118 (r32_c rfl) (dl_at t_X25_ended 67 rfl) ?_
        refine r_puti (pc := 123) X fX25_9 k118 q3773 rfl (dl_at t_X25_ended 68 rfl) (r32_w _) (fun h123 E123 => ?_)
        refine g_aload_n (pc := 126) X (j := 0) (i := 0) (q := 0) (x := a0) rfl rfl (dl_at t_X25_ended 69 rfl) ?_
        have k127 := kx E123 (by decide) k118
        refine r_callV (pc := 127) X (fun _ hv => s_X25_begin k127 hv) cw_code q4827 q379 (in_Vk X (As := []) kX25 k127 (Or.inl q4824) q4826 qs293 cw_code q4827 ⟨by decide, by decide⟩ rfl (dl_at t_X25_ended 70 rfl)) (dl_at t_X25_ended 70 rfl) (cat24 (st := []) (Nat.le_of_ble_eq_true rfl)) (Nat.le_of_ble_eq_true rfl) (Nat.le_of_ble_eq_true rfl) fun h127 E127 => ?_
        refine g_iload (pc := 130) X (i := 6) (q := 1) (x := x6_35) rfl (dl_at t_X25_ended 71 rfl) ?_
        exact g_iret (pc := 132) X r6_35 rfl rfl (dl_at t_X25_ended 72 rfl)
      intro J115
      refine g_ifne (pc := 99) X r2 (off := 15) (tgt := 114) rfl (dl_at t_X25_ended 54 rfl) (fun _ => ?_) (fun _ => ?_)
      · refine g_iconst (pc := 114) X (n := 0) (dl_at t_X25_ended 61 rfl) ?_
        refine g_ls (ls2 := [(0, rv D a0), (6, iv x6_35)]) [1, 0] rfl ?_
        exact J115 ((h91 a0 20), 0) (r32_c rfl)
      refine g_aload_n (pc := 102) X (j := 0) (i := 0) (q := 1) (x := a0) rfl rfl (dl_at t_X25_ended 55 rfl) ?_
      refine r_getr (pc := 103) X fX25_0 k93 q3761 (dl_at t_X25_ended 56 rfl) ?_
      refine g_iload_n (pc := 106) X (j := 1) (i := 1) (q := 2) (x := a1) rfl rfl (dl_at t_X25_ended 57 rfl) ?_
      refine g_iconst (pc := 107) X (n := 3) (dl_at t_X25_ended 58 rfl) ?_
      refine g_gd fun k108 => ?_
      refine r_callRi (pc := 108) X (fun _ hv => s_X24_of k108 r1 (r32_c rfl) hv) cw_code q4704 q378 (in_Vk X (As := [iv a1, iv 3]) kX24 k108 (Or.inl q4844) q4702 q4703 cw_code q4704 ⟨by decide, by decide⟩ rfl (dl_at t_X25_ended 59 rfl)) (dl_at t_X25_ended 59 rfl) (cat24 (st := [iv x6_35, rv D (h91 a0 20)]) (Nat.le_of_ble_eq_true rfl)) (Nat.le_of_ble_eq_true rfl) (Nat.le_of_ble_eq_true rfl) fun v108 g108 => ?_
      refine g_goto (pc := 111) X (off := 4) (tgt := 115) rfl (dl_at t_X25_ended 60 rfl) ?_
      refine g_ls (ls2 := [(0, rv D a0), (6, iv x6_35)]) [1, 0] rfl ?_
      exact J115 ((h91 a0 20), v108) g108
    refine r_new (pc := 23) X kX29 q4791 (dl_at t_X25_ended 11 rfl) fun a23 h23 p23 k23 E23 => ?_
    refine g_dup (pc := 26) X rv_cat (dl_at t_X25_ended 12 rfl) ?_
    refine r_callV (pc := 27) X (fun _ hv => sx_ScholarsPressModel_Beyond_init__V k23 hv) cw_code q4802 q397 (in_I X (As := []) (Int.ne_of_gt p23) rfl (Or.inr ⟨_, nw_in q4800 rfl⟩) q4801 q4802 ⟨by decide, by decide⟩ rfl (dl_at t_X25_ended 13 rfl)) (dl_at t_X25_ended 13 rfl) (cat24 (st := [rv D a23]) (Nat.le_of_ble_eq_true rfl)) (Nat.le_of_ble_eq_true rfl) (Nat.le_of_ble_eq_true rfl) fun h27 E27 => ?_
    refine g_athrow (pc := 30) X (Int.ne_of_gt p23) (dl_at t_X25_ended 14 rfl) ?_
    exact gt_at fun Q hQ => gt_out (Q := Q) X rfl p23 (hno _) _ Q rfl hQ
  refine g_iconst (pc := 11) X (n := (-1)) (dl_at t_X25_ended 5 rfl) ?_
  exact g_iret (pc := 12) X (r32_c rfl) rfl rfl (dl_at t_X25_ended 6 rfl)
def k_X25_addFlow : List (Nat × Instr × Nat) := [(0, .aload_n 0, 1), (1, .getfield 90, 3), (4, .aload_n 0, 1), (5, .getfield 492, 3), (8, .iload_n 1, 1), (9, .iastore, 1), (10, .aload_n 0, 1), (11, .getfield 93, 3), (14, .aload_n 0, 1), (15, .getfield 492, 3), (18, .iload_n 2, 1), (19, .iastore, 1), (20, .aload_n 0, 1), (21, .getfield 96, 3), (24, .aload_n 0, 1), (25, .getfield 492, 3), (28, .aload_n 0, 1), (29, .getfield 495, 3), (32, .iastore, 1), (33, .aload_n 0, 1), (34, .dup, 1), (35, .getfield 492, 3), (38, .iconst 1, 1), (39, .iadd, 1), (40, .putfield 492, 3), (43, .aload_n 0, 1), (44, .iconst 0, 1), (45, .putfield 495, 3), (48, .return_, 1)]
theorem t_X25_addFlow : ∀ q ∈ k_X25_addFlow, decode cX25_addFlow q.1 = .ok q.2 := dl_all (by decide +kernel)
noncomputable def m_X25_addFlow (a0 a1 a2 : Int) (h : Hp) : Option (Hp) :=
  gd (h (h a0 31) (-2) % 16 = 1 ∧ (0 : Int) ≤ (h a0 30) ∧ (h a0 30) < h (h a0 31) (-1)) (pt h (h a0 31) (h a0 30) a1 fun h9 =>
  gd (h9 (h9 a0 32) (-2) % 16 = 1 ∧ (0 : Int) ≤ (h9 a0 30) ∧ (h9 a0 30) < h9 (h9 a0 32) (-1)) (pt h9 (h9 a0 32) (h9 a0 30) a2 fun h19 =>
  gd (h19 (h19 a0 33) (-2) % 16 = 1 ∧ (0 : Int) ≤ (h19 a0 30) ∧ (h19 a0 30) < h19 (h19 a0 33) (-1)) (pt h19 (h19 a0 33) (h19 a0 30) (h19 a0 103) fun h32 =>
  pt h32 a0 30 (w32 ((h32 a0 30) + 1)) fun h40 =>
  pt h40 a0 103 0 fun h45 =>
  some h45)))
theorem s_X25_addFlow {l : Launch} [NoTr l] {D : SD} {a0 a1 a2 : Int} {h : Hp} (hk : h a0 (-2) = 416) (r1 : r32 a1) (r2 : r32 a2) {r : Hp} (hm : m_X25_addFlow a0 a1 a2 h = some r) : Sim l D yX25_addFlow (Cond.code yX25_addFlow cX25_addFlow 3 (Option.none : Option Jvm.ClassFile.FieldType)) 0 0 [rv D a0, iv a1, iv a2] h 0 ((0, 0), r) := by
  refine Sim.of (fin := fun (v : Hp) => ((0, 0), v)) (lsE := [(0, rv D a0), (1, iv a1), (2, iv a2)]) hm rfl cwS_code (la_r (la_i (la_i la_n))) (ll_r (ll_i (ll_i ll_n))) ?_
  intro p e s m below meth c X hcw hmm hcc hnm hname
  unfold m_X25_addFlow
  refine g_aload_n (pc := 0) X (j := 0) (i := 0) (q := 0) (x := a0) rfl rfl (dl_at t_X25_addFlow 0 rfl) ?_
  refine r_getr (pc := 1) X fX25_31 hk q3807 (dl_at t_X25_addFlow 1 rfl) ?_
  refine g_aload_n (pc := 4) X (j := 0) (i := 0) (q := 0) (x := a0) rfl rfl (dl_at t_X25_addFlow 2 rfl) ?_
  refine r_geti (pc := 5) X fX25_30 hk q3806 (dl_at t_X25_addFlow 3 rfl) fun g5 => ?_
  refine g_iload_n (pc := 8) X (j := 1) (i := 1) (q := 1) (x := a1) rfl rfl (dl_at t_X25_addFlow 4 rfl) ?_
  refine g_gd fun k9 => ?_
  refine r_iast (pc := 9) X g5 r1 k9 (dl_at t_X25_addFlow 5 rfl) (fun h9 E9 => ?_)
  refine g_aload_n (pc := 10) X (j := 0) (i := 0) (q := 0) (x := a0) rfl rfl (dl_at t_X25_addFlow 6 rfl) ?_
  have k11 := kx E9 (by decide) hk
  refine r_getr (pc := 11) X fX25_32 k11 q3808 (dl_at t_X25_addFlow 7 rfl) ?_
  refine g_aload_n (pc := 14) X (j := 0) (i := 0) (q := 0) (x := a0) rfl rfl (dl_at t_X25_addFlow 8 rfl) ?_
  refine r_geti (pc := 15) X fX25_30 k11 q3806 (dl_at t_X25_addFlow 9 rfl) fun g15 => ?_
  refine g_iload_n (pc := 18) X (j := 2) (i := 2) (q := 2) (x := a2) rfl rfl (dl_at t_X25_addFlow 10 rfl) ?_
  refine g_gd fun k19 => ?_
  refine r_iast (pc := 19) X g15 r2 k19 (dl_at t_X25_addFlow 11 rfl) (fun h19 E19 => ?_)
  refine g_aload_n (pc := 20) X (j := 0) (i := 0) (q := 0) (x := a0) rfl rfl (dl_at t_X25_addFlow 12 rfl) ?_
  have k21 := kx E19 (by decide) k11
  refine r_getr (pc := 21) X fX25_33 k21 q3809 (dl_at t_X25_addFlow 13 rfl) ?_
  refine g_aload_n (pc := 24) X (j := 0) (i := 0) (q := 0) (x := a0) rfl rfl (dl_at t_X25_addFlow 14 rfl) ?_
  refine r_geti (pc := 25) X fX25_30 k21 q3806 (dl_at t_X25_addFlow 15 rfl) fun g25 => ?_
  refine g_aload_n (pc := 28) X (j := 0) (i := 0) (q := 0) (x := a0) rfl rfl (dl_at t_X25_addFlow 16 rfl) ?_
  refine r_geti (pc := 29) X fX25_103 k21 q3915 (dl_at t_X25_addFlow 17 rfl) fun g29 => ?_
  refine g_gd fun k32 => ?_
  refine r_iast (pc := 32) X g25 g29 k32 (dl_at t_X25_addFlow 18 rfl) (fun h32 E32 => ?_)
  refine g_aload_n (pc := 33) X (j := 0) (i := 0) (q := 0) (x := a0) rfl rfl (dl_at t_X25_addFlow 19 rfl) ?_
  refine g_dup (pc := 34) X rv_cat (dl_at t_X25_addFlow 20 rfl) ?_
  have k35 := kx E32 (by decide) k21
  refine r_geti (pc := 35) X fX25_30 k35 q3806 (dl_at t_X25_addFlow 21 rfl) fun g35 => ?_
  refine g_iconst (pc := 38) X (n := 1) (dl_at t_X25_addFlow 22 rfl) ?_
  refine g_iadd (pc := 39) X g35 (r32_c rfl) (dl_at t_X25_addFlow 23 rfl) ?_
  refine r_puti (pc := 40) X fX25_30 k35 q3806 rfl (dl_at t_X25_addFlow 24 rfl) (r32_w _) (fun h40 E40 => ?_)
  refine g_aload_n (pc := 43) X (j := 0) (i := 0) (q := 0) (x := a0) rfl rfl (dl_at t_X25_addFlow 25 rfl) ?_
  refine g_iconst (pc := 44) X (n := 0) (dl_at t_X25_addFlow 26 rfl) ?_
  have k45 := kx E40 (by decide) k35
  refine r_puti (pc := 45) X fX25_103 k45 q3915 rfl (dl_at t_X25_addFlow 27 rfl) (r32_c rfl) (fun h45 E45 => ?_)
  exact g_vret (pc := 48) X (v := 0) rfl rfl (dl_at t_X25_addFlow 28 rfl)
def k_X25_flowEnds : List (Nat × Instr × Nat) := [(0, .aload_n 0, 1), (1, .iload_n 1, 1), (2, .iconst 0, 1), (3, .aload_n 0, 1), (4, .iload_n 1, 1), (5, .invokevirtual 498, 3), (8, .aload_n 0, 1), (9, .iload_n 1, 1), (10, .iconst 0, 1), (11, .invokevirtual 501, 3), (14, .invokevirtual 505, 3), (17, .istore_n 2, 1), (18, .iload_n 2, 1), (19, .ifCond .lt 9, 3), (22, .aload_n 0, 1), (23, .iconst 0, 1), (24, .iload_n 2, 1), (25, .invokevirtual 509, 3), (28, .return_, 1)]
theorem t_X25_flowEnds : ∀ q ∈ k_X25_flowEnds, decode cX25_flowEnds q.1 = .ok q.2 := dl_all (by decide +kernel)
noncomputable def m_X25_flowEnds (a0 a1 : Int) (h : Hp) : Option ((Int × Int) × Hp) :=
  (m_X25_leftOf a0 a1 h).bind fun v5 =>
  (m_X25_widthOf a0 a1 0 h).bind fun v11 =>
  bT (m_X25_ended a0 a1 0 v5 v11 h) (fun v14 h14 =>
  if v14 < 0 then (some ((0, 0), h14))
  else ((m_X25_addFlow a0 0 v14 h14).bind fun h25 =>
  some ((0, 0), h25))) (fun a_ h_ => some ((1, a_), h_))
theorem s_X25_flowEnds {l : Launch} [NoTr l] {D : SD} {a0 a1 : Int} {h : Hp} (hk : h a0 (-2) = 416) (r1 : r32 a1) {r : (Int × Int) × Hp} (hm : m_X25_flowEnds a0 a1 h = some r) : Sim l D yX25_flowEnds (Cond.code yX25_flowEnds cX25_flowEnds 3 (Option.none : Option Jvm.ClassFile.FieldType)) 10 378 [rv D a0, iv a1] h 0 r := by
  refine Sim.of (fin := fun (v : (Int × Int) × Hp) => v) (lsE := [(0, rv D a0), (1, iv a1)]) hm rfl cwS_code (la_r (la_i la_n)) (ll_r (ll_i ll_n)) ?_
  intro p e s m below meth c X hcw hmm hcc hnm hname
  have hno := noh hcw hnm hmm hcc
  unfold m_X25_flowEnds
  refine g_aload_n (pc := 0) X (j := 0) (i := 0) (q := 0) (x := a0) rfl rfl (dl_at t_X25_flowEnds 0 rfl) ?_
  refine g_iload_n (pc := 1) X (j := 1) (i := 1) (q := 1) (x := a1) rfl rfl (dl_at t_X25_flowEnds 1 rfl) ?_
  refine g_iconst (pc := 2) X (n := 0) (dl_at t_X25_flowEnds 2 rfl) ?_
  refine g_aload_n (pc := 3) X (j := 0) (i := 0) (q := 0) (x := a0) rfl rfl (dl_at t_X25_flowEnds 3 rfl) ?_
  refine g_iload_n (pc := 4) X (j := 1) (i := 1) (q := 1) (x := a1) rfl rfl (dl_at t_X25_flowEnds 4 rfl) ?_
  refine r_callRi (pc := 5) X (fun _ hv => s_X25_leftOf hk r1 hv) cw_code q4843 q379 (in_Vk X (As := [iv a1]) kX25 hk (Or.inl q4840) q4842 qs297 cw_code q4843 ⟨by decide, by decide⟩ rfl (dl_at t_X25_flowEnds 5 rfl)) (dl_at t_X25_flowEnds 5 rfl) (cat24 (st := [iv 0, iv a1, rv D a0]) (Nat.le_of_ble_eq_true rfl)) (Nat.le_of_ble_eq_true rfl) (Nat.le_of_ble_eq_true rfl) fun v5 g5 => ?_
  refine g_aload_n (pc := 8) X (j := 0) (i := 0) (q := 0) (x := a0) rfl rfl (dl_at t_X25_flowEnds 6 rfl) ?_
  refine g_iload_n (pc := 9) X (j := 1) (i := 1) (q := 1) (x := a1) rfl rfl (dl_at t_X25_flowEnds 7 rfl) ?_
  refine g_iconst (pc := 10) X (n := 0) (dl_at t_X25_flowEnds 8 rfl) ?_
  refine r_callRl (pc := 11) X (fun _ hv => s_X25_widthOf hk r1 (r32_c rfl) hv) cw_code q4848 q379 (in_Vk X (As := [iv a1, iv 0]) kX25 hk (Or.inl q4845) q4847 qs298 cw_code q4848 ⟨by decide, by decide⟩ rfl (dl_at t_X25_flowEnds 9 rfl)) (dl_at t_X25_flowEnds 9 rfl) (cat24 (st := [iv v5, iv 0, iv a1, rv D a0]) (Nat.le_of_ble_eq_true rfl)) (Nat.le_of_ble_eq_true rfl) (Nat.le_of_ble_eq_true rfl) fun v11 g11 => ?_
  refine r_callTi (pc := 14) X (fun _ hv => s_X25_ended hk r1 (r32_c rfl) g5 g11 hv) cw_code q4853 q379 (in_Vk X (As := [iv a1, iv 0, iv v5, jv v11]) kX25 hk (Or.inl q4850) q4852 qs299 cw_code q4853 ⟨by decide, by decide⟩ rfl (dl_at t_X25_flowEnds 10 rfl)) (dl_at t_X25_flowEnds 10 rfl) (cat24 (st := []) (Nat.le_of_ble_eq_true rfl)) (Nat.le_of_ble_eq_true rfl) (Nat.le_of_ble_eq_true rfl) (fun v14 h14 g14 E14 => ?_) (fun _ _ ha _ => gt_at fun Q hQ => gt_out (Q := Q) X rfl ha (hno _) _ Q rfl hQ)
  refine g_istore_n (pc := 17) X (j := 2) (i := 2) (x := v14) (rest := [(0, rv D a0)]) rfl (Nat.le_of_ble_eq_true rfl) [0] rfl rfl (dl_at t_X25_flowEnds 11 rfl) ?_
  refine g_iload_n (pc := 18) X (j := 2) (i := 2) (q := 0) (x := v14) rfl rfl (dl_at t_X25_flowEnds 12 rfl) ?_
  refine g_iflt (pc := 19) X g14 (off := 9) (tgt := 28) rfl (dl_at t_X25_flowEnds 13 rfl) (fun _ => ?_) (fun _ => ?_)
  · exact g_vret (pc := 28) X (v := 0) rfl rfl (dl_at t_X25_flowEnds 18 rfl)
  refine g_aload_n (pc := 22) X (j := 0) (i := 0) (q := 1) (x := a0) rfl rfl (dl_at t_X25_flowEnds 14 rfl) ?_
  refine g_iconst (pc := 23) X (n := 0) (dl_at t_X25_flowEnds 15 rfl) ?_
  refine g_iload_n (pc := 24) X (j := 2) (i := 2) (q := 0) (x := v14) rfl rfl (dl_at t_X25_flowEnds 16 rfl) ?_
  have k25 := kx E14 (by decide) hk
  refine r_callV (pc := 25) X (fun _ hv => s_X25_addFlow k25 (r32_c rfl) g14 hv) cw_code q4857 q379 (in_Vk X (As := [iv 0, iv v14]) kX25 k25 (Or.inl q4854) q4856 qs300 cw_code q4857 ⟨by decide, by decide⟩ rfl (dl_at t_X25_flowEnds 17 rfl)) (dl_at t_X25_flowEnds 17 rfl) (cat24 (st := []) (Nat.le_of_ble_eq_true rfl)) (Nat.le_of_ble_eq_true rfl) (Nat.le_of_ble_eq_true rfl) fun h25 E25 => ?_
  exact g_vret (pc := 28) X (v := 0) rfl rfl (dl_at t_X25_flowEnds 18 rfl)
def k_X25_add : List (Nat × Instr × Nat) := [(0, .aload_n 0, 1), (1, .getfield 457, 3), (4, .sipush 24000, 3), (7, .if_icmp .ne 11, 3), (10, .new 451, 3), (13, .dup, 1), (14, .invokespecial 453, 3), (17, .athrow, 1), (18, .aload_n 0, 1), (19, .getfield 18, 3), (22, .aload_n 0, 1), (23, .getfield 457, 3), (26, .iload_n 1, 1), (27, .i2b, 1), (28, .bastore, 1), (29, .aload_n 0, 1), (30, .getfield 22, 3), (33, .aload_n 0, 1), (34, .getfield 457, 3), (37, .iload_n 2, 1), (38, .iastore, 1), (39, .aload_n 0, 1), (40, .getfield 26, 3), (43, .aload_n 0, 1), (44, .getfield 457, 3), (47, .iload_n 3, 1), (48, .iastore, 1), (49, .aload_n 0, 1), (50, .dup, 1), (51, .getfield 457, 3), (54, .iconst 1, 1), (55, .iadd, 1), (56, .putfield 457, 3), (59, .return_, 1)]
theorem t_X25_add : ∀ q ∈ k_X25_add, decode cX25_add q.1 = .ok q.2 := dl_all (by decide +kernel)
noncomputable def m_X25_add (a0 a1 a2 a3 : Int) (h : Hp) : Option ((Int × Int) × Hp) :=
  if (h a0 4) ≠ 24000 then (gd (h (h a0 5) (-2) % 16 = 2 ∧ (0 : Int) ≤ (h a0 4) ∧ (h a0 4) < h (h a0 5) (-1)) (pt h (h a0 5) (h a0 4) (w8 a1) fun h28 =>
  gd (h28 (h28 a0 6) (-2) % 16 = 1 ∧ (0 : Int) ≤ (h28 a0 4) ∧ (h28 a0 4) < h28 (h28 a0 6) (-1)) (pt h28 (h28 a0 6) (h28 a0 4) a2 fun h38 =>
  gd (h38 (h38 a0 7) (-2) % 16 = 1 ∧ (0 : Int) ≤ (h38 a0 4) ∧ (h38 a0 4) < h38 (h38 a0 7) (-1)) (pt h38 (h38 a0 7) (h38 a0 4) a3 fun h48 =>
  pt h48 a0 4 (w32 ((h48 a0 4) + 1)) fun h56 =>
  some ((0, 0), h56)))))
  else (al h 464 6 fun a10 h10 =>
  (x_init0 a10 h10).bind fun h14 =>
  some ((1, a10), h14))
theorem s_X25_add {l : Launch} [NoTr l] {D : SD} {a0 a1 a2 a3 : Int} {h : Hp} (hk : h a0 (-2) = 416) (r1 : r32 a1) (r2 : r32 a2) (r3 : r32 a3) {r : (Int × Int) × Hp} (hm : m_X25_add a0 a1 a2 a3 h = some r) : Sim l D yX25_add (Cond.code yX25_add cX25_add 4 (Option.none : Option Jvm.ClassFile.FieldType)) 9 336 [rv D a0, iv a1, iv a2, iv a3] h 0 r := by
  refine Sim.of (fin := fun (v : (Int × Int) × Hp) => v) (lsE := [(0, rv D a0), (1, iv a1), (2, iv a2), (3, iv a3)]) hm rfl cwS_code (la_r (la_i (la_i (la_i la_n)))) (ll_r (ll_i (ll_i (ll_i ll_n)))) ?_
  intro p e s m below meth c X hcw hmm hcc hnm hname
  have hno := noh hcw hnm hmm hcc
  unfold m_X25_add
  refine g_aload_n (pc := 0) X (j := 0) (i := 0) (q := 0) (x := a0) rfl rfl (dl_at t_X25_add 0 rfl) ?_
  refine r_geti (pc := 1) X fX25_4 hk q3767 (dl_at t_X25_add 1 rfl) fun g1 => ?_
  refine g_sipush (pc := 4) X (n := 24000) rfl (dl_at t_X25_add 2 rfl) ?_
  refine g_icmpne (pc := 7) X g1 (r32_c rfl) (off := 11) (tgt := 18) rfl (dl_at t_X25_add 3 rfl) (fun _ => ?_) (fun _ => ?_)
  · refine g_aload_n (pc := 18) X (j := 0) (i := 0) (q := 0) (x := a0) rfl rfl (dl_at t_X25_add 8 rfl) ?_
    refine r_getr (pc := 19) X fX25_5 hk q3768 (dl_at t_X25_add 9 rfl) ?_
    refine g_aload_n (pc := 22) X (j := 0) (i := 0) (q := 0) (x := a0) rfl rfl (dl_at t_X25_add 10 rfl) ?_
    refine r_geti (pc := 23) X fX25_4 hk q3767 (dl_at t_X25_add 11 rfl) fun g23 => ?_
    refine g_iload_n (pc := 26) X (j := 1) (i := 1) (q := 1) (x := a1) rfl rfl (dl_at t_X25_add 12 rfl) ?_
    refine g_i2b (pc := 27) X r1 (dl_at t_X25_add 13 rfl) ?_
    refine g_gd fun k28 => ?_
    refine r_bastB (pc := 28) X g23 (b_w8 _) k28 (dl_at t_X25_add 14 rfl) (fun h28 E28 => ?_)
    refine g_aload_n (pc := 29) X (j := 0) (i := 0) (q := 0) (x := a0) rfl rfl (dl_at t_X25_add 15 rfl) ?_
    have k30 := kx E28 (by decide) hk
    refine r_getr (pc := 30) X fX25_6 k30 q3770 (dl_at t_X25_add 16 rfl) ?_
    refine g_aload_n (pc := 33) X (j := 0) (i := 0) (q := 0) (x := a0) rfl rfl (dl_at t_X25_add 17 rfl) ?_
    refine r_geti (pc := 34) X fX25_4 k30 q3767 (dl_at t_X25_add 18 rfl) fun g34 => ?_
    refine g_iload_n (pc := 37) X (j := 2) (i := 2) (q := 2) (x := a2) rfl rfl (dl_at t_X25_add 19 rfl) ?_
    refine g_gd fun k38 => ?_
    refine r_iast (pc := 38) X g34 r2 k38 (dl_at t_X25_add 20 rfl) (fun h38 E38 => ?_)
    refine g_aload_n (pc := 39) X (j := 0) (i := 0) (q := 0) (x := a0) rfl rfl (dl_at t_X25_add 21 rfl) ?_
    have k40 := kx E38 (by decide) k30
    refine r_getr (pc := 40) X fX25_7 k40 q3771 (dl_at t_X25_add 22 rfl) ?_
    refine g_aload_n (pc := 43) X (j := 0) (i := 0) (q := 0) (x := a0) rfl rfl (dl_at t_X25_add 23 rfl) ?_
    refine r_geti (pc := 44) X fX25_4 k40 q3767 (dl_at t_X25_add 24 rfl) fun g44 => ?_
    refine g_iload_n (pc := 47) X (j := 3) (i := 3) (q := 3) (x := a3) rfl rfl (dl_at t_X25_add 25 rfl) ?_
    refine g_gd fun k48 => ?_
    refine r_iast (pc := 48) X g44 r3 k48 (dl_at t_X25_add 26 rfl) (fun h48 E48 => ?_)
    refine g_aload_n (pc := 49) X (j := 0) (i := 0) (q := 0) (x := a0) rfl rfl (dl_at t_X25_add 27 rfl) ?_
    refine g_dup (pc := 50) X rv_cat (dl_at t_X25_add 28 rfl) ?_
    have k51 := kx E48 (by decide) k40
    refine r_geti (pc := 51) X fX25_4 k51 q3767 (dl_at t_X25_add 29 rfl) fun g51 => ?_
    refine g_iconst (pc := 54) X (n := 1) (dl_at t_X25_add 30 rfl) ?_
    refine g_iadd (pc := 55) X g51 (r32_c rfl) (dl_at t_X25_add 31 rfl) ?_
    refine r_puti (pc := 56) X fX25_4 k51 q3767 rfl (dl_at t_X25_add 32 rfl) (r32_w _) (fun h56 E56 => ?_)
    exact g_vret (pc := 59) X (v := 0) rfl rfl (dl_at t_X25_add 33 rfl)
  refine r_new (pc := 10) X kX29 q4791 (dl_at t_X25_add 4 rfl) fun a10 h10 p10 k10 E10 => ?_
  refine g_dup (pc := 13) X rv_cat (dl_at t_X25_add 5 rfl) ?_
  refine r_callV (pc := 14) X (fun _ hv => sx_ScholarsPressModel_Beyond_init__V k10 hv) cw_code q4802 q397 (in_I X (As := []) (Int.ne_of_gt p10) rfl (Or.inr ⟨_, nw_in q4800 rfl⟩) q4801 q4802 ⟨by decide, by decide⟩ rfl (dl_at t_X25_add 6 rfl)) (dl_at t_X25_add 6 rfl) (cat24 (st := [rv D a10]) (Nat.le_of_ble_eq_true rfl)) (Nat.le_of_ble_eq_true rfl) (Nat.le_of_ble_eq_true rfl) fun h14 E14 => ?_
  refine g_athrow (pc := 17) X (Int.ne_of_gt p10) (dl_at t_X25_add 7 rfl) ?_
  exact gt_at fun Q hQ => gt_out (Q := Q) X rfl p10 (hno _) _ Q rfl hQ
def k_X25_emit : List (Nat × Instr × Nat) := [(0, .iload_n 1, 1), (1, .invokestatic 466, 3), (4, .ifCond .eq 27, 3), (7, .aload_n 0, 1), (8, .getfield 457, 3), (11, .aload_n 0, 1), (12, .getfield 460, 3), (15, .if_icmp .le 15, 3), (18, .aload_n 0, 1), (19, .getfield 463, 3), (22, .ifCond .ge 8, 3), (25, .aload_n 0, 1), (26, .iload_n 2, 1), (27, .putfield 463, 3), (30, .return_, 1), (31, .aload_n 0, 1), (32, .getfield 463, 3), (35, .ifCond .lt 19, 3), (38, .aload_n 0, 1), (39, .bipush 32, 2), (41, .aload_n 0, 1), (42, .getfield 463, 3), (45, .iconst (-1), 1), (46, .invokevirtual 470, 3), (49, .aload_n 0, 1), (50, .iconst (-1), 1), (51, .putfield 463, 3), (54, .aload_n 0, 1), (55, .iload_n 1, 1), (56, .iload_n 2, 1), (57, .iload_n 3, 1), (58, .ifCond .eq 10, 3), (61, .aload_n 0, 1), (62, .getfield 474, 3), (65, .goto 4, 3), (68, .iconst (-1), 1), (69, .invokevirtual 470, 3), (72, .iload_n 3, 1), (73, .ifCond .eq 13, 3), (76, .aload_n 0, 1), (77, .dup, 1), (78, .getfield 474, 3), (81, .iconst 1, 1), (82, .iadd, 1), (83, .putfield 474, 3), (86, .return_, 1)]
theorem t_X25_emit : ∀ q ∈ k_X25_emit, decode cX25_emit q.1 = .ok q.2 := dl_all (by decide +kernel)
noncomputable def m_X25_emit_j69 (a0 a1 a2 a3 s3_69 : Int) (h_54 : Hp) : Option ((Int × Int) × Hp) :=
  bT (m_X25_add a0 a1 a2 s3_69 h_54) (fun _ h69 =>
  if a3 = 0 then (some ((0, 0), h69))
  else (pt h69 a0 8 (w32 ((h69 a0 8) + 1)) fun h83 =>
  some ((0, 0), h83))) (fun a_ h_ => some ((1, a_), h_))
noncomputable def m_X25_emit_j54 (a0 a1 a2 a3 : Int) (h_54 : Hp) : Option ((Int × Int) × Hp) :=
  if a3 = 0 then (m_X25_emit_j69 a0 a1 a2 a3 (-1) h_54)
  else (m_X25_emit_j69 a0 a1 a2 a3 (h_54 a0 8) h_54)
noncomputable def m_X25_emit (a0 a1 a2 a3 : Int) (h : Hp) : Option ((Int × Int) × Hp) :=
  (m_X18_isBlank a1).bind fun v1 =>
  if v1 = 0 then (if (h a0 101) < 0 then (m_X25_emit_j54 a0 a1 a2 a3 h)
  else (bT (m_X25_add a0 32 (h a0 101) (-1) h) (fun _ h46 =>
  pt h46 a0 101 (-1) fun h51 =>
  m_X25_emit_j54 a0 a1 a2 a3 h51) (fun a_ h_ => some ((1, a_), h_))))
  else (if (h a0 4) ≤ (h a0 100) then (some ((0, 0), h))
  else (if 0 ≤ (h a0 101) then (some ((0, 0), h))
  else (pt h a0 101 a2 fun h27 =>
  some ((0, 0), h27))))
theorem s_X25_emit {l : Launch} [NoTr l] {D : SD} {a0 a1 a2 a3 : Int} {h : Hp} (hk : h a0 (-2) = 416) (r1 : r32 a1) (r2 : r32 a2) (r3 : (a3 = 0 ∨ a3 = 1)) {r : (Int × Int) × Hp} (hm : m_X25_emit a0 a1 a2 a3 h = some r) : Sim l D yX25_emit (Cond.code yX25_emit cX25_emit 4 (Option.none : Option Jvm.ClassFile.FieldType)) 10 375 [rv D a0, iv a1, iv a2, iv a3] h 0 r := by
  refine Sim.of (fin := fun (v : (Int × Int) × Hp) => v) (lsE := [(0, rv D a0), (1, iv a1), (2, iv a2), (3, iv a3)]) hm rfl cwS_code (la_r (la_i (la_i (la_i la_n)))) (ll_r (ll_i (ll_i (ll_i ll_n)))) ?_
  intro p e s m below meth c X hcw hmm hcc hnm hname
  have hno := noh hcw hnm hmm hcc
  unfold m_X25_emit
  refine g_iload_n (pc := 0) X (j := 1) (i := 1) (q := 1) (x := a1) rfl rfl (dl_at t_X25_emit 0 rfl) ?_
  refine r_callRz (pc := 1) X (fun _ hv => s_X18_isBlank r1 hv) cw_code q4349 q372 (in_Sc X (As := [iv a1]) (Or.inr ⟨_, nw_in q4869 rfl⟩) q4348 q372 q4349 ⟨by decide, by decide⟩ rfl (dl_at t_X25_emit 1 rfl)) (dl_at t_X25_emit 1 rfl) (cat24 (st := []) (Nat.le_of_ble_eq_true rfl)) (Nat.le_of_ble_eq_true rfl) (Nat.le_of_ble_eq_true rfl) fun v1 g1 => ?_
  refine g_ifeq (pc := 4) X (r32_z g1) (off := 27) (tgt := 31) rfl (dl_at t_X25_emit 2 rfl) (fun _ => ?_) (fun _ => ?_)
  · refine g_aload_n (pc := 31) X (j := 0) (i := 0) (q := 0) (x := a0) rfl rfl (dl_at t_X25_emit 15 rfl) ?_
    refine r_geti (pc := 32) X fX25_101 hk q3913 (dl_at t_X25_emit 16 rfl) fun g32 => ?_
    refine g_join (γ := Hp) (fun q => Ext h q) 54 (fun q => [(0, rv D a0), (1, iv a1), (2, iv a2), (3, iv a3)]) (fun q => []) (fun q => q) (fun q => m_X25_emit_j54 a0 a1 a2 a3 q) ?_ ?_
    · rintro h_54 E_54
      try dsimp only
      unfold m_X25_emit_j54
      refine g_aload_n (pc := 54) X (j := 0) (i := 0) (q := 0) (x := a0) rfl rfl (dl_at t_X25_emit 27 rfl) ?_
      refine g_iload_n (pc := 55) X (j := 1) (i := 1) (q := 1) (x := a1) rfl rfl (dl_at t_X25_emit 28 rfl) ?_
      refine g_iload_n (pc := 56) X (j := 2) (i := 2) (q := 2) (x := a2) rfl rfl (dl_at t_X25_emit 29 rfl) ?_
      refine g_iload_n (pc := 57) X (j := 3) (i := 3) (q := 3) (x := a3) rfl rfl (dl_at t_X25_emit 30 rfl) ?_
      refine g_join (γ := Int) (fun q => r32 q) 69 (fun q => [(0, rv D a0), (3, iv a3)]) (fun q => [iv q, iv a2, iv a1, rv D a0]) (fun q => h_54) (fun q => m_X25_emit_j69 a0 a1 a2 a3 q h_54) ?_ ?_
      · rintro s3_69 rs3_69
        try dsimp only
        unfold m_X25_emit_j69
        have k69 := kx E_54 (by decide) hk
        refine r_callTv (pc := 69) X (fun _ hv => s_X25_add k69 r1 r2 rs3_69 hv) cw_code q4873 q379 (in_Vk X (As := [iv a1, iv a2, iv s3_69]) kX25 k69 (Or.inl q4870) q4872 qs303 cw_code q4873 ⟨by decide, by decide⟩ rfl (dl_at t_X25_emit 36 rfl)) (dl_at t_X25_emit 36 rfl) (cat24 (st := []) (Nat.le_of_ble_eq_true rfl)) (Nat.le_of_ble_eq_true rfl) (Nat.le_of_ble_eq_true rfl) (fun v69 h69 E69 => ?_) (fun _ _ ha _ => gt_at fun Q hQ => gt_out (Q := Q) X rfl ha (hno _) _ Q rfl hQ)
        refine g_iload_n (pc := 72) X (j := 3) (i := 3) (q := 1) (x := a3) rfl rfl (dl_at t_X25_emit 37 rfl) ?_
        refine g_ifeq (pc := 73) X (r32_z r3) (off := 13) (tgt := 86) rfl (dl_at t_X25_emit 38 rfl) (fun _ => ?_) (fun _ => ?_)
        · exact g_vret (pc := 86) X (v := 0) rfl rfl (dl_at t_X25_emit 45 rfl)
        refine g_aload_n (pc := 76) X (j := 0) (i := 0) (q := 0) (x := a0) rfl rfl (dl_at t_X25_emit 39 rfl) ?_
        refine g_dup (pc := 77) X rv_cat (dl_at t_X25_emit 40 rfl) ?_
        have k78 := kx E69 (by decide) k69
        refine r_geti (pc := 78) X fX25_8 k78 q3772 (dl_at t_X25_emit 41 rfl) fun g78 => ?_
        refine g_iconst (pc := 81) X (n := 1) (dl_at t_X25_emit 42 rfl) ?_
        refine g_iadd (pc := 82) X g78 (r32_c rfl) (dl_at t_X25_emit 43 rfl) ?_
        refine r_puti (pc := 83) X fX25_8 k78 q3772 rfl (dl_at t_X25_emit 44 rfl) (r32_w _) (fun h83 E83 => ?_)
        exact g_vret (pc := 86) X (v := 0) rfl rfl (dl_at t_X25_emit 45 rfl)
      intro J69
      refine g_ifeq (pc := 58) X (r32_z r3) (off := 10) (tgt := 68) rfl (dl_at t_X25_emit 31 rfl) (fun _ => ?_) (fun _ => ?_)
      · refine g_iconst (pc := 68) X (n := (-1)) (dl_at t_X25_emit 35 rfl) ?_
        refine g_ls (ls2 := [(0, rv D a0), (3, iv a3)]) [0, 3] rfl ?_
        exact J69 (-1) (r32_c rfl)
      refine g_aload_n (pc := 61) X (j := 0) (i := 0) (q := 0) (x := a0) rfl rfl (dl_at t_X25_emit 32 rfl) ?_
      have k62 := kx E_54 (by decide) hk
      refine r_geti (pc := 62) X fX25_8 k62 q3772 (dl_at t_X25_emit 33 rfl) fun g62 => ?_
      refine g_goto (pc := 65) X (off := 4) (tgt := 69) rfl (dl_at t_X25_emit 34 rfl) ?_
      refine g_ls (ls2 := [(0, rv D a0), (3, iv a3)]) [0, 3] rfl ?_
      exact J69 (h_54 a0 8) g62
    intro J54
    refine g_iflt (pc := 35) X g32 (off := 19) (tgt := 54) rfl (dl_at t_X25_emit 17 rfl) (fun _ => ?_) (fun _ => ?_)
    · exact J54 h (Ext.refl _)
    refine g_aload_n (pc := 38) X (j := 0) (i := 0) (q := 0) (x := a0) rfl rfl (dl_at t_X25_emit 18 rfl) ?_
    refine g_bipush (pc := 39) X (n := 32) rfl (dl_at t_X25_emit 19 rfl) ?_
    refine g_aload_n (pc := 41) X (j := 0) (i := 0) (q := 0) (x := a0) rfl rfl (dl_at t_X25_emit 20 rfl) ?_
    refine r_geti (pc := 42) X fX25_101 hk q3913 (dl_at t_X25_emit 21 rfl) fun g42 => ?_
    refine g_iconst (pc := 45) X (n := (-1)) (dl_at t_X25_emit 22 rfl) ?_
    refine r_callTv (pc := 46) X (fun _ hv => s_X25_add hk (r32_c rfl) g42 (r32_c rfl) hv) cw_code q4873 q379 (in_Vk X (As := [iv 32, iv (h a0 101), iv (-1)]) kX25 hk (Or.inl q4870) q4872 qs303 cw_code q4873 ⟨by decide, by decide⟩ rfl (dl_at t_X25_emit 23 rfl)) (dl_at t_X25_emit 23 rfl) (cat24 (st := []) (Nat.le_of_ble_eq_true rfl)) (Nat.le_of_ble_eq_true rfl) (Nat.le_of_ble_eq_true rfl) (fun v46 h46 E46 => ?_) (fun _ _ ha _ => gt_at fun Q hQ => gt_out (Q := Q) X rfl ha (hno _) _ Q rfl hQ)
    refine g_aload_n (pc := 49) X (j := 0) (i := 0) (q := 0) (x := a0) rfl rfl (dl_at t_X25_emit 24 rfl) ?_
    refine g_iconst (pc := 50) X (n := (-1)) (dl_at t_X25_emit 25 rfl) ?_
    have k51 := kx E46 (by decide) hk
    refine r_puti (pc := 51) X fX25_101 k51 q3913 rfl (dl_at t_X25_emit 26 rfl) (r32_c rfl) (fun h51 E51 => ?_)
    exact J54 h51 (E46.trans E51)
  refine g_aload_n (pc := 7) X (j := 0) (i := 0) (q := 0) (x := a0) rfl rfl (dl_at t_X25_emit 3 rfl) ?_
  refine r_geti (pc := 8) X fX25_4 hk q3767 (dl_at t_X25_emit 4 rfl) fun g8 => ?_
  refine g_aload_n (pc := 11) X (j := 0) (i := 0) (q := 0) (x := a0) rfl rfl (dl_at t_X25_emit 5 rfl) ?_
  refine r_geti (pc := 12) X fX25_100 hk q3912 (dl_at t_X25_emit 6 rfl) fun g12 => ?_
  refine g_icmple (pc := 15) X g8 g12 (off := 15) (tgt := 30) rfl (dl_at t_X25_emit 7 rfl) (fun _ => ?_) (fun _ => ?_)
  · exact g_vret (pc := 30) X (v := 0) rfl rfl (dl_at t_X25_emit 14 rfl)
  refine g_aload_n (pc := 18) X (j := 0) (i := 0) (q := 0) (x := a0) rfl rfl (dl_at t_X25_emit 8 rfl) ?_
  refine r_geti (pc := 19) X fX25_101 hk q3913 (dl_at t_X25_emit 9 rfl) fun g19 => ?_
  refine g_ifge (pc := 22) X g19 (off := 8) (tgt := 30) rfl (dl_at t_X25_emit 10 rfl) (fun _ => ?_) (fun _ => ?_)
  · exact g_vret (pc := 30) X (v := 0) rfl rfl (dl_at t_X25_emit 14 rfl)
  refine g_aload_n (pc := 25) X (j := 0) (i := 0) (q := 0) (x := a0) rfl rfl (dl_at t_X25_emit 11 rfl) ?_
  refine g_iload_n (pc := 26) X (j := 2) (i := 2) (q := 2) (x := a2) rfl rfl (dl_at t_X25_emit 12 rfl) ?_
  refine r_puti (pc := 27) X fX25_101 hk q3913 rfl (dl_at t_X25_emit 13 rfl) r2 (fun h27 E27 => ?_)
  exact g_vret (pc := 30) X (v := 0) rfl rfl (dl_at t_X25_emit 14 rfl)
def k_X24_digit : List (Nat × Instr × Nat) := [(0, .aload_n 0, 1), (1, .getfield 93, 3), (4, .iload_n 1, 1), (5, .baload, 1), (6, .ireturn, 1)]
theorem t_X24_digit : ∀ q ∈ k_X24_digit, decode cX24_digit q.1 = .ok q.2 := dl_all (by decide +kernel)
noncomputable def m_X24_digit (a0 a1 : Int) (h : Hp) : Option (Int) :=
  gd (h (h a0 25) (-2) % 16 = 2 ∧ (0 : Int) ≤ a1 ∧ a1 < h (h a0 25) (-1)) (some (h (h a0 25) a1))
theorem s_X24_digit {l : Launch} [NoTr l] {D : SD} {a0 a1 : Int} {h : Hp} (hk : h a0 (-2) = 400) (r1 : r32 a1) {r : Int} (hm : m_X24_digit a0 a1 h = some r) : Sim l D yX24_digit (Cond.code yX24_digit cX24_digit 2 (Option.some Jvm.ClassFile.FieldType.int)) 0 0 [rv D a0, iv a1] h 1 ((0, r), h) := by
  refine Sim.of (fin := fun (v : Int) => ((0, v), h)) (lsE := [(0, rv D a0), (1, iv a1)]) hm rfl cwS_code (la_r (la_i la_n)) (ll_r (ll_i ll_n)) ?_
  intro p e s m below meth c X hcw hmm hcc hnm hname
  unfold m_X24_digit
  refine g_aload_n (pc := 0) X (j := 0) (i := 0) (q := 0) (x := a0) rfl rfl (dl_at t_X24_digit 0 rfl) ?_
  refine r_getr (pc := 1) X fX24_25 hk q3687 (dl_at t_X24_digit 1 rfl) ?_
  refine g_iload_n (pc := 4) X (j := 1) (i := 1) (q := 1) (x := a1) rfl rfl (dl_at t_X24_digit 2 rfl) ?_
  refine g_gd fun k5 => ?_
  refine g_bald (pc := 5) X r1 k5 (dl_at t_X24_digit 3 rfl) fun g5 => ?_
  exact g_iret (pc := 6) X (r32_b g5) rfl rfl (dl_at t_X24_digit 4 rfl)
def k_X25_digits : List (Nat × Instr × Nat) := [(0, .aload_n 0, 1), (1, .getfield 14, 3), (4, .iload_n 1, 1), (5, .iconst 0, 1), (6, .invokevirtual 519, 3), (9, .istore 4, 2), (11, .iconst 0, 1), (12, .istore 5, 2), (14, .iload 5, 2), (16, .iload 4, 2), (18, .if_icmp .ge 24, 3), (21, .aload_n 0, 1), (22, .aload_n 0, 1), (23, .getfield 14, 3), (26, .iload 5, 2), (28, .invokevirtual 535, 3), (31, .iload_n 2, 1), (32, .iload_n 3, 1), (33, .invokevirtual 531, 3), (36, .iinc 5 1, 3), (39, .goto (-25), 3), (42, .return_, 1)]
theorem t_X25_digits : ∀ q ∈ k_X25_digits, decode cX25_digits q.1 = .ok q.2 := dl_all (by decide +kernel)
noncomputable def m_X25_digits_l14 (a0 a2 a3 v6 x5_14 : Int) (h_14 : Hp) : Option ((Int × Hp) ⊕ (((Int × Int) × Hp))) :=
  if v6 ≤ x5_14 then (some (.inr ((0, 0), h_14)))
  else (gd (h_14 (h_14 a0 0) (-2) = 400) ((m_X24_digit (h_14 a0 0) x5_14 h_14).bind fun v28 =>
  bT (m_X25_emit a0 v28 a2 a3 h_14) (fun _ h33 =>
  lt_ (w32 (x5_14 + 1)) fun x5_36 =>
  some (.inl (x5_36, h33))) (fun a_ h_ => some (.inr ((1, a_), h_)))))
noncomputable def m_X25_digits (a0 a1 a2 a3 : Int) (h : Hp) : Option ((Int × Int) × Hp) :=
  gd (h (h a0 0) (-2) = 400) (bW (m_X24_form (h a0 0) a1 0 h) fun v6 h6 =>
  lt_ 0 fun x5_12 =>
  (lp (fun (q : Int × Hp) => m_X25_digits_l14 a0 a2 a3 v6 q.1 q.2) (x5_12, h6)).bind (fun (x : (Int × Int) × Hp) => some x))
theorem s_X25_digits {l : Launch} [NoTr l] {D : SD} {a0 a1 a2 a3 : Int} {h : Hp} (hk : h a0 (-2) = 416) (r1 : r32 a1) (r2 : r32 a2) (r3 : (a3 = 0 ∨ a3 = 1)) {r : (Int × Int) × Hp} (hm : m_X25_digits a0 a1 a2 a3 h = some r) : Sim l D yX25_digits (Cond.code yX25_digits cX25_digits 6 (Option.none : Option Jvm.ClassFile.FieldType)) 11 414 [rv D a0, iv a1, iv a2, iv a3] h 0 r := by
  refine Sim.of (fin := fun (v : (Int × Int) × Hp) => v) (lsE := [(0, rv D a0), (1, iv a1), (2, iv a2), (3, iv a3)]) hm rfl cwS_code (la_r (la_i (la_i (la_i la_n)))) (ll_r (ll_i (ll_i (ll_i ll_n)))) ?_
  intro p e s m below meth c X hcw hmm hcc hnm hname
  have hno := noh hcw hnm hmm hcc
  unfold m_X25_digits
  refine g_aload_n (pc := 0) X (j := 0) (i := 0) (q := 0) (x := a0) rfl rfl (dl_at t_X25_digits 0 rfl) ?_
  refine r_getr (pc := 1) X fX25_0 hk q3761 (dl_at t_X25_digits 1 rfl) ?_
  refine g_iload_n (pc := 4) X (j := 1) (i := 1) (q := 1) (x := a1) rfl rfl (dl_at t_X25_digits 2 rfl) ?_
  refine g_iconst (pc := 5) X (n := 0) (dl_at t_X25_digits 3 rfl) ?_
  refine g_gd fun k6 => ?_
  refine r_callWi (pc := 6) X (fun _ hv => s_X24_form k6 r1 (r32_c rfl) hv) cw_code q4751 q378 (in_Vk X (As := [iv a1, iv 0]) kX24 k6 (Or.inl q4878) q4749 q4750 cw_code q4751 ⟨by decide, by decide⟩ rfl (dl_at t_X25_digits 4 rfl)) (dl_at t_X25_digits 4 rfl) (cat24 (st := []) (Nat.le_of_ble_eq_true rfl)) (Nat.le_of_ble_eq_true rfl) (Nat.le_of_ble_eq_true rfl) fun v6 h6 g6 E6 => ?_
  refine g_istoreN (pc := 9) X (i := 4) (x := v6) (b := 3) (w := iv a3) (rest := [(0, rv D a0), (2, iv a2)]) (Nat.le_of_ble_eq_true rfl) [3, 0, 2] rfl (by decide) rfl rfl (dl_at t_X25_digits 5 rfl) ?_
  refine g_iconst (pc := 11) X (n := 0) (dl_at t_X25_digits 6 rfl) ?_
  refine g_ltz (Or.inl rfl) fun x5_12 r5_12 => ?_
  refine g_istoreN (pc := 12) X (i := 5) (x := x5_12) (b := 4) (w := iv v6) (rest := [(3, iv a3), (0, rv D a0), (2, iv a2)]) (Nat.le_of_ble_eq_true rfl) [0, 1, 2, 3] rfl (by decide) rfl rfl (dl_at t_X25_digits 7 rfl) ?_
  refine g_ls (ls2 := [(0, rv D a0), (2, iv a2), (3, iv a3), (4, iv v6), (5, iv x5_12)]) [3, 4, 2, 1, 0] rfl ?_
  refine g_loop0F (fun (q : Int × Hp) => [(0, rv D a0), (2, iv a2), (3, iv a3), (4, iv v6), (5, iv q.1)]) (fun (q : Int × Hp) => q.2) (fun (q : Int × Hp) => r32 q.1 ∧ Ext h6 q.2) (x5_12, h6) ⟨(r32_z r5_12), (Ext.refl _)⟩ ?_ (fun _ => rfl)
  · rintro ⟨x5_14, h_14⟩ ⟨r5_14, E_14⟩
    try dsimp only
    unfold m_X25_digits_l14
    refine g_iload (pc := 14) X (i := 5) (q := 4) (x := x5_14) rfl (dl_at t_X25_digits 8 rfl) ?_
    refine g_iload (pc := 16) X (i := 4) (q := 3) (x := v6) rfl (dl_at t_X25_digits 9 rfl) ?_
    refine g_icmpge (pc := 18) X r5_14 g6 (off := 24) (tgt := 42) rfl (dl_at t_X25_digits 10 rfl) (fun _ => ?_) (fun _ => ?_)
    · exact g_at fun Q hQ => (g_vret (pc := 42) X (v := 0) rfl rfl (dl_at t_X25_digits 21 rfl)) _ Q rfl hQ
    refine g_aload_n (pc := 21) X (j := 0) (i := 0) (q := 0) (x := a0) rfl rfl (dl_at t_X25_digits 11 rfl) ?_
    refine g_aload_n (pc := 22) X (j := 0) (i := 0) (q := 0) (x := a0) rfl rfl (dl_at t_X25_digits 12 rfl) ?_
    have k23 := kx (E6.trans E_14) (by decide) hk
    refine r_getr (pc := 23) X fX25_0 k23 q3761 (dl_at t_X25_digits 13 rfl) ?_
    refine g_iload (pc := 26) X (i := 5) (q := 4) (x := x5_14) rfl (dl_at t_X25_digits 14 rfl) ?_
    refine g_gd fun k28 => ?_
    refine r_callRi (pc := 28) X (fun _ hv => s_X24_digit k28 r5_14 hv) cw_code q4882 q378 (in_Vk X (As := [iv x5_14]) kX24 k28 (Or.inl q4879) q4880 q4881 cw_code q4882 ⟨by decide, by decide⟩ rfl (dl_at t_X25_digits 15 rfl)) (dl_at t_X25_digits 15 rfl) (cat24 (st := [rv D a0]) (Nat.le_of_ble_eq_true rfl)) (Nat.le_of_ble_eq_true rfl) (Nat.le_of_ble_eq_true rfl) fun v28 g28 => ?_
    refine g_iload_n (pc := 31) X (j := 2) (i := 2) (q := 1) (x := a2) rfl rfl (dl_at t_X25_digits 16 rfl) ?_
    refine g_iload_n (pc := 32) X (j := 3) (i := 3) (q := 2) (x := a3) rfl rfl (dl_at t_X25_digits 17 rfl) ?_
    refine r_callTv (pc := 33) X (fun _ hv => s_X25_emit k23 g28 r2 r3 hv) cw_code q4868 q379 (in_Vk X (As := [iv v28, iv a2, iv a3]) kX25 k23 (Or.inl q4865) q4867 qs302 cw_code q4868 ⟨by decide, by decide⟩ rfl (dl_at t_X25_digits 18 rfl)) (dl_at t_X25_digits 18 rfl) (cat24 (st := []) (Nat.le_of_ble_eq_true rfl)) (Nat.le_of_ble_eq_true rfl) (Nat.le_of_ble_eq_true rfl) (fun v33 h33 E33 => ?_) (fun _ _ ha _ => gt_at fun Q hQ => gt_out (Q := Q) X rfl ha (hno _) _ Q rfl hQ)
    refine r_iincN (pc := 36) X (i := 5) (q := 4) (n := 1) (x := x5_14) (b := 4) (w := iv v6) (rest := [(0, rv D a0), (2, iv a2), (3, iv a3)]) rfl r5_14 (r32_c rfl) (Nat.le_of_ble_eq_true rfl) [3, 0, 1, 2] rfl (by decide) rfl rfl (dl_at t_X25_digits 19 rfl) fun x5_36 r5_36 => ?_
    refine g_goto (pc := 39) X (off := (-25)) (tgt := 14) rfl (dl_at t_X25_digits 20 rfl) ?_
    refine g_ls (ls2 := [(0, rv D a0), (2, iv a2), (3, iv a3), (4, iv v6), (5, iv x5_36)]) [2, 3, 4, 1, 0] rfl ?_
    exact g_at fun Q hQ => hQ ⟨r5_36, (E_14.trans E33)⟩
def k_X25_contents : List (Nat × Instr × Nat) := [(0, .aload_n 0, 1), (1, .getfield 241, 3), (4, .iload_n 1, 1), (5, .iconst 4, 1), (6, .iastore, 1), (7, .aload_n 0, 1), (8, .getfield 14, 3), (11, .iload_n 1, 1), (12, .iconst 1, 1), (13, .invokevirtual 477, 3), (16, .istore_n 2, 1), (17, .iconst 0, 1), (18, .istore_n 3, 1), (19, .iload_n 3, 1), (20, .aload_n 0, 1), (21, .getfield 342, 3), (24, .getfield 351, 3), (27, .if_icmp .ge 153, 3), (30, .aload_n 0, 1), (31, .getfield 14, 3), (34, .getfield 423, 3), (37, .iload_n 3, 1), (38, .baload, 1), (39, .ifCond .eq 16, 3), (42, .aload_n 0, 1), (43, .getfield 14, 3), (46, .iload_n 3, 1), (47, .bipush 19, 2), (49, .invokevirtual 477, 3), (52, .goto 4, 3), (55, .iconst 0, 1), (56, .istore 4, 2), (58, .iload 4, 2), (60, .ifCond .ne 6, 3), (63, .goto 111, 3), (66, .aload_n 0, 1), (67, .getfield 14, 3), (70, .iload_n 3, 1), (71, .invokevirtual 441, 3), (74, .istore 5, 2), (76, .iconst 0, 1), (77, .istore 6, 2), (79, .iload 6, 2), (81, .iload 5, 2), (83, .if_icmp .ge 24, 3), (86, .aload_n 0, 1), (87, .aload_n 0, 1), (88, .getfield 14, 3), (91, .iload 6, 2), (93, .invokevirtual 444, 3), (96, .iload_n 2, 1), (97, .iconst 1, 1), (98, .invokevirtual 531, 3), (101, .iinc 6 1, 3), (104, .goto (-25), 3), (107, .aload_n 0, 1), (108, .bipush 32, 2), (110, .iload_n 2, 1), (111, .iconst 1, 1), (112, .invokevirtual 531, 3), (115, .aload_n 0, 1), (116, .aload_n 0, 1), (117, .getfield 223, 3), (120, .iload_n 3, 1), (121, .iaload, 1), (122, .iload_n 2, 1), (123, .iconst 1, 1), (124, .invokevirtual 573, 3), (127, .aload_n 0, 1), (128, .iload_n 1, 1), (129, .iconst 0, 1), (130, .aload_n 0, 1), (131, .iload_n 1, 1), (132, .invokevirtual 498, 3), (135, .sipush 10000, 3), (138, .iload 4, 2), (140, .iconst 1, 1), (141, .isub, 1), (142, .imul, 1), (143, .iadd, 1), (144, .aload_n 0, 1), (145, .iload_n 1, 1), (146, .sipush 10000, 3), (149, .iload 4, 2), (151, .iconst 1, 1), (152, .isub, 1), (153, .imul, 1), (154, .invokevirtual 501, 3), (157, .invokevirtual 505, 3), (160, .istore 6, 2), (162, .iload 6, 2), (164, .ifCond .lt 10, 3), (167, .aload_n 0, 1), (168, .iconst 0, 1), (169, .iload 6, 2), (171, .invokevirtual 509, 3), (174, .iinc 3 1, 3), (177, .goto (-158), 3), (180, .return_, 1)]
theorem t_X25_contents : ∀ q ∈ k_X25_contents, decode cX25_contents q.1 = .ok q.2 := dl_all (by decide +kernel)
noncomputable def m_X25_contents_j174 (x3_19 : Int) (h_174 : Hp) : Option ((Int × Hp) ⊕ (((Int × Int) × Hp))) :=
  lt_ (w32 (x3_19 + 1)) fun x3_174 =>
  some (.inl (x3_174, h_174))
noncomputable def m_X25_contents_l79 (a0 v13 v71 x6_79 : Int) (h_79 : Hp) : Option ((Int × Hp) ⊕ ((Hp) ⊕ (((Int × Hp) ⊕ (((Int × Int) × Hp)))))) :=
  if v71 ≤ x6_79 then (some (.inr (.inl h_79)))
  else (gd (h_79 (h_79 a0 0) (-2) = 400) ((m_X24_titleByte (h_79 a0 0) x6_79 h_79).bind fun v93 =>
  bT (m_X25_emit a0 v93 v13 1 h_79) (fun _ h98 =>
  lt_ (w32 (x6_79 + 1)) fun x6_101 =>
  some (.inl (x6_101, h98))) (fun a_ h_ => some (.inr (.inr (.inr ((1, a_), h_)))))))
noncomputable def m_X25_contents_j56 (a0 a1 v13 x3_19 s0_56 : Int) (h_19 : Hp) : Option ((Int × Hp) ⊕ (((Int × Int) × Hp))) :=
  if s0_56 ≠ 0 then (bW (m_X24_title (h_19 a0 0) x3_19 h_19) fun v71 h71 =>
  lt_ 0 fun x6_77 =>
  (lp (fun (q : Int × Hp) => m_X25_contents_l79 a0 v13 v71 q.1 q.2) (x6_77, h71)).bind (sE (fun (y107 : Hp) => bT (m_X25_emit a0 32 v13 1 y107) (fun _ h112 =>
  gd (h112 (h112 a0 80) (-2) % 16 = 1 ∧ (0 : Int) ≤ x3_19 ∧ x3_19 < h112 (h112 a0 80) (-1)) (bT (m_X25_digits a0 (h112 (h112 a0 80) x3_19) v13 1 h112) (fun _ h124 =>
  (m_X25_leftOf a0 a1 h124).bind fun v132 =>
  (m_X25_widthOf a0 a1 (w32 (10000 * (w32 (s0_56 - 1)))) h124).bind fun v154 =>
  bT (m_X25_ended a0 a1 0 (w32 (v132 + (w32 (10000 * (w32 (s0_56 - 1)))))) v154 h124) (fun v157 h157 =>
  if v157 < 0 then (m_X25_contents_j174 x3_19 h157)
  else ((m_X25_addFlow a0 0 v157 h157).bind fun h171 =>
  m_X25_contents_j174 x3_19 h171)) (fun a_ h_ => some (.inr ((1, a_), h_)))) (fun a_ h_ => some (.inr ((1, a_), h_))))) (fun a_ h_ => some (.inr ((1, a_), h_)))) (fun (x : (Int × Hp) ⊕ (((Int × Int) × Hp))) => some x)))
  else (m_X25_contents_j174 x3_19 h_19)
noncomputable def m_X25_contents_l19 (a0 a1 v13 x3_19 : Int) (h_19 : Hp) : Option ((Int × Hp) ⊕ (((Int × Int) × Hp))) :=
  gd (h_19 (h_19 a0 1) (-2) = 384) (if (h_19 (h_19 a0 1) 3) ≤ x3_19 then (some (.inr ((0, 0), h_19)))
  else (gd (h_19 (h_19 a0 0) (-2) = 400) (gd (h_19 (h_19 (h_19 a0 0) 10) (-2) % 16 = 3 ∧ (0 : Int) ≤ x3_19 ∧ x3_19 < h_19 (h_19 (h_19 a0 0) 10) (-1)) (if (h_19 (h_19 (h_19 a0 0) 10) x3_19) = 0 then (m_X25_contents_j56 a0 a1 v13 x3_19 0 h_19)
  else ((m_X24_of (h_19 a0 0) x3_19 19 h_19).bind fun v49 =>
  m_X25_contents_j56 a0 a1 v13 x3_19 v49 h_19)))))
noncomputable def m_X25_contents (a0 a1 : Int) (h : Hp) : Option ((Int × Int) × Hp) :=
  gd (h (h a0 86) (-2) % 16 = 1 ∧ (0 : Int) ≤ a1 ∧ a1 < h (h a0 86) (-1)) (pt h (h a0 86) a1 4 fun h6 =>
  gd (h6 (h6 a0 0) (-2) = 400) ((m_X24_of (h6 a0 0) a1 1 h6).bind fun v13 =>
  lt_ 0 fun x3_18 =>
  (lp (fun (q : Int × Hp) => m_X25_contents_l19 a0 a1 v13 q.1 q.2) (x3_18, h6)).bind (fun (x : (Int × Int) × Hp) => some x)))
theorem s_X25_contents {l : Launch} [NoTr l] {D : SD} {a0 a1 : Int} {h : Hp} (hk : h a0 (-2) = 416) (r1 : r32 a1) {r : (Int × Int) × Hp} (hm : m_X25_contents a0 a1 h = some r) : Sim l D yX25_contents (Cond.code yX25_contents cX25_contents 7 (Option.none : Option Jvm.ClassFile.FieldType)) 12 455 [rv D a0, iv a1] h 0 r := by
  refine Sim.of (fin := fun (v : (Int × Int) × Hp) => v) (lsE := [(0, rv D a0), (1, iv a1)]) hm rfl cwS_code (la_r (la_i la_n)) (ll_r (ll_i ll_n)) ?_
  intro p e s m below meth c X hcw hmm hcc hnm hname
  have hno := noh hcw hnm hmm hcc
  unfold m_X25_contents
  refine g_aload_n (pc := 0) X (j := 0) (i := 0) (q := 0) (x := a0) rfl rfl (dl_at t_X25_contents 0 rfl) ?_
  refine r_getr (pc := 1) X fX25_86 hk q3888 (dl_at t_X25_contents 1 rfl) ?_
  refine g_iload_n (pc := 4) X (j := 1) (i := 1) (q := 1) (x := a1) rfl rfl (dl_at t_X25_contents 2 rfl) ?_
  refine g_iconst (pc := 5) X (n := 4) (dl_at t_X25_contents 3 rfl) ?_
  refine g_gd fun k6 => ?_
  refine r_iast (pc := 6) X r1 (r32_c rfl) k6 (dl_at t_X25_contents 4 rfl) (fun h6 E6 => ?_)
  refine g_aload_n (pc := 7) X (j := 0) (i := 0) (q := 0) (x := a0) rfl rfl (dl_at t_X25_contents 5 rfl) ?_
  have k8 := kx E6 (by decide) hk
  refine r_getr (pc := 8) X fX25_0 k8 q3761 (dl_at t_X25_contents 6 rfl) ?_
  refine g_iload_n (pc := 11) X (j := 1) (i := 1) (q := 1) (x := a1) rfl rfl (dl_at t_X25_contents 7 rfl) ?_
  refine g_iconst (pc := 12) X (n := 1) (dl_at t_X25_contents 8 rfl) ?_
  refine g_gd fun k13 => ?_
  refine r_callRi (pc := 13) X (fun _ hv => s_X24_of k13 r1 (r32_c rfl) hv) cw_code q4704 q378 (in_Vk X (As := [iv a1, iv 1]) kX24 k13 (Or.inl q4844) q4702 q4703 cw_code q4704 ⟨by decide, by decide⟩ rfl (dl_at t_X25_contents 9 rfl)) (dl_at t_X25_contents 9 rfl) (cat24 (st := []) (Nat.le_of_ble_eq_true rfl)) (Nat.le_of_ble_eq_true rfl) (Nat.le_of_ble_eq_true rfl) fun v13 g13 => ?_
  refine g_istore_nN (pc := 16) X (j := 2) (i := 2) (x := v13) (b := 1) (w := iv a1) (rest := [(0, rv D a0)]) rfl (Nat.le_of_ble_eq_true rfl) [1, 0] rfl (by decide) rfl rfl (dl_at t_X25_contents 10 rfl) ?_
  refine g_iconst (pc := 17) X (n := 0) (dl_at t_X25_contents 11 rfl) ?_
  refine g_ltz (Or.inl rfl) fun x3_18 r3_18 => ?_
  refine g_istore_nN (pc := 18) X (j := 3) (i := 3) (x := x3_18) (b := 2) (w := iv v13) (rest := [(1, iv a1), (0, rv D a0)]) rfl (Nat.le_of_ble_eq_true rfl) [0, 1, 2] rfl (by decide) rfl rfl (dl_at t_X25_contents 12 rfl) ?_
  refine g_ls (ls2 := [(0, rv D a0), (1, iv a1), (2, iv v13), (3, iv x3_18)]) [3, 2, 1, 0] rfl ?_
  refine g_loop0F (fun (q : Int × Hp) => [(0, rv D a0), (1, iv a1), (2, iv v13), (3, iv q.1)]) (fun (q : Int × Hp) => q.2) (fun (q : Int × Hp) => r32 q.1 ∧ Ext h6 q.2) (x3_18, h6) ⟨(r32_z r3_18), (Ext.refl _)⟩ ?_ (fun _ => rfl)
  · rintro ⟨x3_19, h_19⟩ ⟨r3_19, E_19⟩
    try dsimp only
    unfold m_X25_contents_l19
    refine g_iload_n (pc := 19) X (j := 3) (i := 3) (q := 3) (x := x3_19) rfl rfl (dl_at t_X25_contents 13 rfl) ?_
    refine g_aload_n (pc := 20) X (j := 0) (i := 0) (q := 0) (x := a0) rfl rfl (dl_at t_X25_contents 14 rfl) ?_
    have k21 := kx E_19 (by decide) k8
    refine r_getr (pc := 21) X fX25_1 k21 q3763 (dl_at t_X25_contents 15 rfl) ?_
    refine g_gd fun k24 => ?_
    refine r_geti (pc := 24) X fX23_3 k24 q3526 (dl_at t_X25_contents 16 rfl) fun g24 => ?_
    refine g_icmpge (pc := 27) X r3_19 g24 (off := 153) (tgt := 180) rfl (dl_at t_X25_contents 17 rfl) (fun _ => ?_) (fun _ => ?_)
    · exact g_at fun Q hQ => (g_vret (pc := 180) X (v := 0) rfl rfl (dl_at t_X25_contents 98 rfl)) _ Q rfl hQ
    refine g_aload_n (pc := 30) X (j := 0) (i := 0) (q := 0) (x := a0) rfl rfl (dl_at t_X25_contents 18 rfl) ?_
    refine r_getr (pc := 31) X fX25_0 k21 q3761 (dl_at t_X25_contents 19 rfl) ?_
    refine g_gd fun k34 => ?_
    refine r_getr (pc := 34) X fX24_10 k34 q3666 (dl_at t_X25_contents 20 rfl) ?_
    refine g_iload_n (pc := 37) X (j := 3) (i := 3) (q := 3) (x := x3_19) rfl rfl (dl_at t_X25_contents 21 rfl) ?_
    refine g_gd fun k38 => ?_
    refine g_zald (pc := 38) X r3_19 k38 (dl_at t_X25_contents 22 rfl) fun g38 => ?_
    refine g_join (γ := Int) (fun q => r32 q) 56 (fun q => [(0, rv D a0), (1, iv a1), (2, iv v13), (3, iv x3_19)]) (fun q => [iv q]) (fun q => h_19) (fun q => m_X25_contents_j56 a0 a1 v13 x3_19 q h_19) ?_ ?_
    · rintro s0_56 rs0_56
      try dsimp only
      unfold m_X25_contents_j56
      refine g_istoreN (pc := 56) X (i := 4) (x := s0_56) (b := 3) (w := iv x3_19) (rest := [(0, rv D a0), (1, iv a1), (2, iv v13)]) (Nat.le_of_ble_eq_true rfl) [3, 0, 1, 2] rfl (by decide) rfl rfl (dl_at t_X25_contents 31 rfl) ?_
      refine g_iload (pc := 58) X (i := 4) (q := 0) (x := s0_56) rfl (dl_at t_X25_contents 32 rfl) ?_
      refine g_join (γ := Hp) (fun q => Ext h_19 q) 174 (fun q => [(0, rv D a0), (1, iv a1), (2, iv v13), (3, iv x3_19)]) (fun q => []) (fun q => q) (fun q => m_X25_contents_j174 x3_19 q) ?_ ?_
      · rintro h_174 E_174
        try dsimp only
        unfold m_X25_contents_j174
        refine r_iincN (pc := 174) X (i := 3) (q := 3) (n := 1) (x := x3_19) (b := 2) (w := iv v13) (rest := [(0, rv D a0), (1, iv a1)]) rfl r3_19 (r32_c rfl) (Nat.le_of_ble_eq_true rfl) [2, 0, 1] rfl (by decide) rfl rfl (dl_at t_X25_contents 96 rfl) fun x3_174 r3_174 => ?_
        refine g_goto (pc := 177) X (off := (-158)) (tgt := 19) rfl (dl_at t_X25_contents 97 rfl) ?_
        refine g_ls (ls2 := [(0, rv D a0), (1, iv a1), (2, iv v13), (3, iv x3_174)]) [2, 3, 1, 0] rfl ?_
        exact g_at fun Q hQ => hQ ⟨r3_174, (E_19.trans E_174)⟩
      intro J174
      refine g_ifne (pc := 60) X rs0_56 (off := 6) (tgt := 66) rfl (dl_at t_X25_contents 33 rfl) (fun _ => ?_) (fun _ => ?_)
      · refine g_aload_n (pc := 66) X (j := 0) (i := 0) (q := 2) (x := a0) rfl rfl (dl_at t_X25_contents 35 rfl) ?_
        refine r_getr (pc := 67) X fX25_0 k21 q3761 (dl_at t_X25_contents 36 rfl) ?_
        refine g_iload_n (pc := 70) X (j := 3) (i := 3) (q := 1) (x := x3_19) rfl rfl (dl_at t_X25_contents 37 rfl) ?_
        refine r_callWi (pc := 71) X (fun _ hv => s_X24_title k34 r3_19 hv) cw_code q4739 q378 (in_Vk X (As := [iv x3_19]) kX24 k34 (Or.inl q4736) q4737 q4738 cw_code q4739 ⟨by decide, by decide⟩ rfl (dl_at t_X25_contents 38 rfl)) (dl_at t_X25_contents 38 rfl) (cat24 (st := []) (Nat.le_of_ble_eq_true rfl)) (Nat.le_of_ble_eq_true rfl) (Nat.le_of_ble_eq_true rfl) fun v71 h71 g71 E71 => ?_
        refine g_istoreN (pc := 74) X (i := 5) (x := v71) (b := 4) (w := iv s0_56) (rest := [(3, iv x3_19), (0, rv D a0), (1, iv a1), (2, iv v13)]) (Nat.le_of_ble_eq_true rfl) [0, 1, 2, 3, 4] rfl (by decide) rfl rfl (dl_at t_X25_contents 39 rfl) ?_
        refine g_iconst (pc := 76) X (n := 0) (dl_at t_X25_contents 40 rfl) ?_
        refine g_ltz (Or.inl rfl) fun x6_77 r6_77 => ?_
        refine g_istoreN (pc := 77) X (i := 6) (x := x6_77) (b := 5) (w := iv v71) (rest := [(4, iv s0_56), (3, iv x3_19), (0, rv D a0), (1, iv a1), (2, iv v13)]) (Nat.le_of_ble_eq_true rfl) [0, 1, 2, 3, 4, 5] rfl (by decide) rfl rfl (dl_at t_X25_contents 41 rfl) ?_
        refine g_ls (ls2 := [(0, rv D a0), (1, iv a1), (2, iv v13), (3, iv x3_19), (4, iv s0_56), (5, iv v71), (6, iv x6_77)]) [4, 5, 6, 3, 2, 1, 0] rfl ?_
        refine g_loop1F (fun (q : Int × Hp) => [(0, rv D a0), (1, iv a1), (2, iv v13), (3, iv x3_19), (4, iv s0_56), (5, iv v71), (6, iv q.1)]) (fun (q : Int × Hp) => q.2) (fun (q : Int × Hp) => r32 q.1 ∧ Ext h71 q.2) 107 (fun (y107 : Hp) => [(0, rv D a0), (1, iv a1), (2, iv v13), (3, iv x3_19), (4, iv s0_56)]) (fun (y107 : Hp) => y107) (fun (y107 : Hp) => Ext h71 y107) (x6_77, h71) ⟨(r32_z r6_77), (Ext.refl _)⟩ ?_ ?_ (fun _ => rfl)
        · rintro ⟨x6_79, h_79⟩ ⟨r6_79, E_79⟩
          try dsimp only
          unfold m_X25_contents_l79
          refine g_iload (pc := 79) X (i := 6) (q := 6) (x := x6_79) rfl (dl_at t_X25_contents 42 rfl) ?_
          refine g_iload (pc := 81) X (i := 5) (q := 5) (x := v71) rfl (dl_at t_X25_contents 43 rfl) ?_
          refine g_icmpge (pc := 83) X r6_79 g71 (off := 24) (tgt := 107) rfl (dl_at t_X25_contents 44 rfl) (fun _ => ?_) (fun _ => ?_)
          · refine g_ls (ls2 := [(0, rv D a0), (1, iv a1), (2, iv v13), (3, iv x3_19), (4, iv s0_56)]) [0, 1, 2, 3, 4] rfl ?_
            exact g_at fun Q hQ => hQ E_79
          refine g_aload_n (pc := 86) X (j := 0) (i := 0) (q := 0) (x := a0) rfl rfl (dl_at t_X25_contents 45 rfl) ?_
          refine g_aload_n (pc := 87) X (j := 0) (i := 0) (q := 0) (x := a0) rfl rfl (dl_at t_X25_contents 46 rfl) ?_
          have k88 := kx (E71.trans E_79) (by decide) k21
          refine r_getr (pc := 88) X fX25_0 k88 q3761 (dl_at t_X25_contents 47 rfl) ?_
          refine g_iload (pc := 91) X (i := 6) (q := 6) (x := x6_79) rfl (dl_at t_X25_contents 48 rfl) ?_
          refine g_gd fun k93 => ?_
          refine r_callRi (pc := 93) X (fun _ hv => s_X24_titleByte k93 r6_79 hv) cw_code q4778 q378 (in_Vk X (As := [iv x6_79]) kX24 k93 (Or.inl q4775) q4776 q4777 cw_code q4778 ⟨by decide, by decide⟩ rfl (dl_at t_X25_contents 49 rfl)) (dl_at t_X25_contents 49 rfl) (cat24 (st := [rv D a0]) (Nat.le_of_ble_eq_true rfl)) (Nat.le_of_ble_eq_true rfl) (Nat.le_of_ble_eq_true rfl) fun v93 g93 => ?_
          refine g_iload_n (pc := 96) X (j := 2) (i := 2) (q := 2) (x := v13) rfl rfl (dl_at t_X25_contents 50 rfl) ?_
          refine g_iconst (pc := 97) X (n := 1) (dl_at t_X25_contents 51 rfl) ?_
          refine r_callTv (pc := 98) X (fun _ hv => s_X25_emit k88 g93 g13 (Or.inr rfl) hv) cw_code q4868 q379 (in_Vk X (As := [iv v93, iv v13, iv 1]) kX25 k88 (Or.inl q4865) q4867 qs302 cw_code q4868 ⟨by decide, by decide⟩ rfl (dl_at t_X25_contents 52 rfl)) (dl_at t_X25_contents 52 rfl) (cat24 (st := []) (Nat.le_of_ble_eq_true rfl)) (Nat.le_of_ble_eq_true rfl) (Nat.le_of_ble_eq_true rfl) (fun v98 h98 E98 => ?_) (fun _ _ ha _ => gt_at fun Q hQ => gt_out (Q := Q) X rfl ha (hno _) _ Q rfl hQ)
          refine r_iincN (pc := 101) X (i := 6) (q := 6) (n := 1) (x := x6_79) (b := 5) (w := iv v71) (rest := [(0, rv D a0), (1, iv a1), (2, iv v13), (3, iv x3_19), (4, iv s0_56)]) rfl r6_79 (r32_c rfl) (Nat.le_of_ble_eq_true rfl) [5, 0, 1, 2, 3, 4] rfl (by decide) rfl rfl (dl_at t_X25_contents 53 rfl) fun x6_101 r6_101 => ?_
          refine g_goto (pc := 104) X (off := (-25)) (tgt := 79) rfl (dl_at t_X25_contents 54 rfl) ?_
          refine g_ls (ls2 := [(0, rv D a0), (1, iv a1), (2, iv v13), (3, iv x3_19), (4, iv s0_56), (5, iv v71), (6, iv x6_101)]) [2, 3, 4, 5, 6, 1, 0] rfl ?_
          exact g_at fun Q hQ => hQ ⟨r6_101, (E_79.trans E98)⟩
        · rintro h_107 E_107
          try dsimp only [sE]
          refine g_aload_n (pc := 107) X (j := 0) (i := 0) (q := 0) (x := a0) rfl rfl (dl_at t_X25_contents 55 rfl) ?_
          refine g_bipush (pc := 108) X (n := 32) rfl (dl_at t_X25_contents 56 rfl) ?_
          refine g_iload_n (pc := 110) X (j := 2) (i := 2) (q := 2) (x := v13) rfl rfl (dl_at t_X25_contents 57 rfl) ?_
          refine g_iconst (pc := 111) X (n := 1) (dl_at t_X25_contents 58 rfl) ?_
          have k112 := kx (E71.trans E_107) (by decide) k21
          refine r_callTv (pc := 112) X (fun _ hv => s_X25_emit k112 (r32_c rfl) g13 (Or.inr rfl) hv) cw_code q4868 q379 (in_Vk X (As := [iv 32, iv v13, iv 1]) kX25 k112 (Or.inl q4865) q4867 qs302 cw_code q4868 ⟨by decide, by decide⟩ rfl (dl_at t_X25_contents 59 rfl)) (dl_at t_X25_contents 59 rfl) (cat24 (st := []) (Nat.le_of_ble_eq_true rfl)) (Nat.le_of_ble_eq_true rfl) (Nat.le_of_ble_eq_true rfl) (fun v112 h112 E112 => ?_) (fun _ _ ha _ => gt_at fun Q hQ => gt_out (Q := Q) X rfl ha (hno _) _ Q rfl hQ)
          refine g_aload_n (pc := 115) X (j := 0) (i := 0) (q := 0) (x := a0) rfl rfl (dl_at t_X25_contents 60 rfl) ?_
          refine g_aload_n (pc := 116) X (j := 0) (i := 0) (q := 0) (x := a0) rfl rfl (dl_at t_X25_contents 61 rfl) ?_
          have k117 := kx E112 (by decide) k112
          refine r_getr (pc := 117) X fX25_80 k117 q3880 (dl_at t_X25_contents 62 rfl) ?_
          refine g_iload_n (pc := 120) X (j := 3) (i := 3) (q := 3) (x := x3_19) rfl rfl (dl_at t_X25_contents 63 rfl) ?_
          refine g_gd fun k121 => ?_
          refine g_iald (pc := 121) X r3_19 k121 (dl_at t_X25_contents 64 rfl) fun g121 => ?_
          refine g_iload_n (pc := 122) X (j := 2) (i := 2) (q := 2) (x := v13) rfl rfl (dl_at t_X25_contents 65 rfl) ?_
          refine g_iconst (pc := 123) X (n := 1) (dl_at t_X25_contents 66 rfl) ?_
          refine r_callTv (pc := 124) X (fun _ hv => s_X25_digits k117 g121 g13 (Or.inr rfl) hv) cw_code q4877 q379 (in_Vk X (As := [iv (h112 (h112 a0 80) x3_19), iv v13, iv 1]) kX25 k117 (Or.inl q4874) q4876 qs304 cw_code q4877 ⟨by decide, by decide⟩ rfl (dl_at t_X25_contents 67 rfl)) (dl_at t_X25_contents 67 rfl) (cat24 (st := []) (Nat.le_of_ble_eq_true rfl)) (Nat.le_of_ble_eq_true rfl) (Nat.le_of_ble_eq_true rfl) (fun v124 h124 E124 => ?_) (fun _ _ ha _ => gt_at fun Q hQ => gt_out (Q := Q) X rfl ha (hno _) _ Q rfl hQ)
          refine g_aload_n (pc := 127) X (j := 0) (i := 0) (q := 0) (x := a0) rfl rfl (dl_at t_X25_contents 68 rfl) ?_
          refine g_iload_n (pc := 128) X (j := 1) (i := 1) (q := 1) (x := a1) rfl rfl (dl_at t_X25_contents 69 rfl) ?_
          refine g_iconst (pc := 129) X (n := 0) (dl_at t_X25_contents 70 rfl) ?_
          refine g_aload_n (pc := 130) X (j := 0) (i := 0) (q := 0) (x := a0) rfl rfl (dl_at t_X25_contents 71 rfl) ?_
          refine g_iload_n (pc := 131) X (j := 1) (i := 1) (q := 1) (x := a1) rfl rfl (dl_at t_X25_contents 72 rfl) ?_
          have k132 := kx E124 (by decide) k117
          refine r_callRi (pc := 132) X (fun _ hv => s_X25_leftOf k132 r1 hv) cw_code q4843 q379 (in_Vk X (As := [iv a1]) kX25 k132 (Or.inl q4840) q4842 qs297 cw_code q4843 ⟨by decide, by decide⟩ rfl (dl_at t_X25_contents 73 rfl)) (dl_at t_X25_contents 73 rfl) (cat24 (st := [iv 0, iv a1, rv D a0]) (Nat.le_of_ble_eq_true rfl)) (Nat.le_of_ble_eq_true rfl) (Nat.le_of_ble_eq_true rfl) fun v132 g132 => ?_
          refine g_sipush (pc := 135) X (n := 10000) rfl (dl_at t_X25_contents 74 rfl) ?_
          refine g_iload (pc := 138) X (i := 4) (q := 4) (x := s0_56) rfl (dl_at t_X25_contents 75 rfl) ?_
          refine g_iconst (pc := 140) X (n := 1) (dl_at t_X25_contents 76 rfl) ?_
          refine g_isub (pc := 141) X rs0_56 (r32_c rfl) (dl_at t_X25_contents 77 rfl) ?_
          refine g_imul (pc := 142) X (r32_c rfl) (r32_w _) (dl_at t_X25_contents 78 rfl) ?_
          refine g_iadd (pc := 143) X g132 (r32_w _) (dl_at t_X25_contents 79 rfl) ?_
          refine g_aload_n (pc := 144) X (j := 0) (i := 0) (q := 0) (x := a0) rfl rfl (dl_at t_X25_contents 80 rfl) ?_
          refine g_iload_n (pc := 145) X (j := 1) (i := 1) (q := 1) (x := a1) rfl rfl (dl_at t_X25_contents 81 rfl) ?_
          refine g_sipush (pc := 146) X (n := 10000) rfl (dl_at t_X25_contents 82 rfl) ?_
          refine g_iload (pc := 149) X (i := 4) (q := 4) (x := s0_56) rfl (dl_at t_X25_contents 83 rfl) ?_
          refine g_iconst (pc := 151) X (n := 1) (dl_at t_X25_contents 84 rfl) ?_
          refine g_isub (pc := 152) X rs0_56 (r32_c rfl) (dl_at t_X25_contents 85 rfl) ?_
          refine g_imul (pc := 153) X (r32_c rfl) (r32_w _) (dl_at t_X25_contents 86 rfl) ?_
          refine r_callRl (pc := 154) X (fun _ hv => s_X25_widthOf k132 r1 (r32_w _) hv) cw_code q4848 q379 (in_Vk X (As := [iv a1, iv (w32 (10000 * (w32 (s0_56 - 1))))]) kX25 k132 (Or.inl q4845) q4847 qs298 cw_code q4848 ⟨by decide, by decide⟩ rfl (dl_at t_X25_contents 87 rfl)) (dl_at t_X25_contents 87 rfl) (cat24 (st := [iv (w32 (v132 + (w32 (10000 * (w32 (s0_56 - 1)))))), iv 0, iv a1, rv D a0]) (Nat.le_of_ble_eq_true rfl)) (Nat.le_of_ble_eq_true rfl) (Nat.le_of_ble_eq_true rfl) fun v154 g154 => ?_
          refine r_callTi (pc := 157) X (fun _ hv => s_X25_ended k132 r1 (r32_c rfl) (r32_w _) g154 hv) cw_code q4853 q379 (in_Vk X (As := [iv a1, iv 0, iv (w32 (v132 + (w32 (10000 * (w32 (s0_56 - 1)))))), jv v154]) kX25 k132 (Or.inl q4850) q4852 qs299 cw_code q4853 ⟨by decide, by decide⟩ rfl (dl_at t_X25_contents 88 rfl)) (dl_at t_X25_contents 88 rfl) (cat24 (st := []) (Nat.le_of_ble_eq_true rfl)) (Nat.le_of_ble_eq_true rfl) (Nat.le_of_ble_eq_true rfl) (fun v157 h157 g157 E157 => ?_) (fun _ _ ha _ => gt_at fun Q hQ => gt_out (Q := Q) X rfl ha (hno _) _ Q rfl hQ)
          refine g_istore (pc := 160) X (i := 6) (x := v157) (rest := [(0, rv D a0), (1, iv a1), (2, iv v13), (3, iv x3_19)]) (Nat.le_of_ble_eq_true rfl) [0, 1, 2, 3] rfl rfl (dl_at t_X25_contents 89 rfl) ?_
          refine g_iload (pc := 162) X (i := 6) (q := 0) (x := v157) rfl (dl_at t_X25_contents 90 rfl) ?_
          refine g_iflt (pc := 164) X g157 (off := 10) (tgt := 174) rfl (dl_at t_X25_contents 91 rfl) (fun _ => ?_) (fun _ => ?_)
          · refine g_ls (ls2 := [(0, rv D a0), (1, iv a1), (2, iv v13), (3, iv x3_19)]) [1, 2, 3, 4] rfl ?_
            exact J174 h157 (E71.trans (E_107.trans (E112.trans (E124.trans E157))))
          refine g_aload_n (pc := 167) X (j := 0) (i := 0) (q := 1) (x := a0) rfl rfl (dl_at t_X25_contents 92 rfl) ?_
          refine g_iconst (pc := 168) X (n := 0) (dl_at t_X25_contents 93 rfl) ?_
          refine g_iload (pc := 169) X (i := 6) (q := 0) (x := v157) rfl (dl_at t_X25_contents 94 rfl) ?_
          have k171 := kx E157 (by decide) k132
          refine r_callV (pc := 171) X (fun _ hv => s_X25_addFlow k171 (r32_c rfl) g157 hv) cw_code q4857 q379 (in_Vk X (As := [iv 0, iv v157]) kX25 k171 (Or.inl q4854) q4856 qs300 cw_code q4857 ⟨by decide, by decide⟩ rfl (dl_at t_X25_contents 95 rfl)) (dl_at t_X25_contents 95 rfl) (cat24 (st := []) (Nat.le_of_ble_eq_true rfl)) (Nat.le_of_ble_eq_true rfl) (Nat.le_of_ble_eq_true rfl) fun h171 E171 => ?_
          refine g_ls (ls2 := [(0, rv D a0), (1, iv a1), (2, iv v13), (3, iv x3_19)]) [1, 2, 3, 4] rfl ?_
          exact J174 h171 (E71.trans (E_107.trans (E112.trans (E124.trans (E157.trans E171)))))
      refine g_goto (pc := 63) X (off := 111) (tgt := 174) rfl (dl_at t_X25_contents 34 rfl) ?_
      refine g_ls (ls2 := [(0, rv D a0), (1, iv a1), (2, iv v13), (3, iv x3_19)]) [2, 3, 4, 1] rfl ?_
      exact J174 h_19 (Ext.refl _)
    intro J56
    refine g_ifeq (pc := 39) X (r32_z g38) (off := 16) (tgt := 55) rfl (dl_at t_X25_contents 23 rfl) (fun _ => ?_) (fun _ => ?_)
    · refine g_iconst (pc := 55) X (n := 0) (dl_at t_X25_contents 30 rfl) ?_
      exact J56 0 (r32_c rfl)
    refine g_aload_n (pc := 42) X (j := 0) (i := 0) (q := 0) (x := a0) rfl rfl (dl_at t_X25_contents 24 rfl) ?_
    refine r_getr (pc := 43) X fX25_0 k21 q3761 (dl_at t_X25_contents 25 rfl) ?_
    refine g_iload_n (pc := 46) X (j := 3) (i := 3) (q := 3) (x := x3_19) rfl rfl (dl_at t_X25_contents 26 rfl) ?_
    refine g_bipush (pc := 47) X (n := 19) rfl (dl_at t_X25_contents 27 rfl) ?_
    refine r_callRi (pc := 49) X (fun _ hv => s_X24_of k34 r3_19 (r32_c rfl) hv) cw_code q4704 q378 (in_Vk X (As := [iv x3_19, iv 19]) kX24 k34 (Or.inl q4844) q4702 q4703 cw_code q4704 ⟨by decide, by decide⟩ rfl (dl_at t_X25_contents 28 rfl)) (dl_at t_X25_contents 28 rfl) (cat24 (st := []) (Nat.le_of_ble_eq_true rfl)) (Nat.le_of_ble_eq_true rfl) (Nat.le_of_ble_eq_true rfl) fun v49 g49 => ?_
    refine g_goto (pc := 52) X (off := 4) (tgt := 56) rfl (dl_at t_X25_contents 29 rfl) ?_
    exact J56 v49 g49
def k_X25_pagesOf : List (Nat × Instr × Nat) := [(0, .iconst 0, 1), (1, .istore_n 2, 1), (2, .iconst 0, 1), (3, .istore_n 3, 1), (4, .iload_n 3, 1), (5, .aload_n 0, 1), (6, .getfield 342, 3), (9, .getfield 351, 3), (12, .if_icmp .ge 128, 3), (15, .aload_n 0, 1), (16, .getfield 193, 3), (19, .iload_n 3, 1), (20, .iaload, 1), (21, .iload_n 1, 1), (22, .if_icmp .eq 6, 3), (25, .goto 109, 3), (28, .iload_n 2, 1), (29, .istore 4, 2), (31, .iload 4, 2), (33, .ifCond .le 27, 3), (36, .aload_n 0, 1), (37, .getfield 205, 3), (40, .iload 4, 2), (42, .iconst 1, 1), (43, .isub, 1), (44, .iaload, 1), (45, .aload_n 0, 1), (46, .getfield 223, 3), (49, .iload_n 3, 1), (50, .iaload, 1), (51, .if_icmp .le 9, 3), (54, .iinc 4 (-1), 3), (57, .goto (-26), 3), (60, .iload 4, 2), (62, .ifCond .le 24, 3), (65, .aload_n 0, 1), (66, .getfield 205, 3), (69, .iload 4, 2), (71, .iconst 1, 1), (72, .isub, 1), (73, .iaload, 1), (74, .aload_n 0, 1), (75, .getfield 223, 3), (78, .iload_n 3, 1), (79, .iaload, 1), (80, .if_icmp .ne 6, 3), (83, .goto 51, 3), (86, .iload_n 2, 1), (87, .istore 5, 2), (89, .iload 5, 2), (91, .iload 4, 2), (93, .if_icmp .le 25, 3), (96, .aload_n 0, 1), (97, .getfield 205, 3), (100, .iload 5, 2), (102, .aload_n 0, 1), (103, .getfield 205, 3), (106, .iload 5, 2), (108, .iconst 1, 1), (109, .isub, 1), (110, .iaload, 1), (111, .iastore, 1), (112, .iinc 5 (-1), 3), (115, .goto (-26), 3), (118, .aload_n 0, 1), (119, .getfield 205, 3), (122, .iload 4, 2), (124, .aload_n 0, 1), (125, .getfield 223, 3), (128, .iload_n 3, 1), (129, .iaload, 1), (130, .iastore, 1), (131, .iinc 2 1, 3), (134, .iinc 3 1, 3), (137, .goto (-133), 3), (140, .iload_n 2, 1), (141, .ireturn, 1)]
theorem t_X25_pagesOf : ∀ q ∈ k_X25_pagesOf, decode cX25_pagesOf q.1 = .ok q.2 := dl_all (by decide +kernel)
noncomputable def m_X25_pagesOf_j134 (x3_4 x2_134 : Int) (h_134 : Hp) : Option ((Int × Int × Hp) ⊕ ((Int × Hp))) :=
  lt_ (w32 (x3_4 + 1)) fun x3_134 =>
  some (.inl (x2_134, x3_134, h_134))
noncomputable def m_X25_pagesOf_l31 (a0 x3_4 x4_31 : Int) (h_4 : Hp) : Option ((Int) ⊕ ((Int))) :=
  if x4_31 ≤ 0 then (some (.inr x4_31))
  else (gd (h_4 (h_4 a0 74) (-2) % 16 = 1 ∧ (0 : Int) ≤ (w32 (x4_31 - 1)) ∧ (w32 (x4_31 - 1)) < h_4 (h_4 a0 74) (-1)) (gd (h_4 (h_4 a0 80) (-2) % 16 = 1 ∧ (0 : Int) ≤ x3_4 ∧ x3_4 < h_4 (h_4 a0 80) (-1)) (if (h_4 (h_4 a0 74) (w32 (x4_31 - 1))) ≤ (h_4 (h_4 a0 80) x3_4) then (some (.inr x4_31))
  else (lt_ (w32 (x4_31 + (-1))) fun x4_54 =>
  some (.inl x4_54)))))
noncomputable def m_X25_pagesOf_l89 (a0 x4_60 x5_89 : Int) (h_89 : Hp) : Option ((Int × Hp) ⊕ ((Hp))) :=
  if x5_89 ≤ x4_60 then (some (.inr h_89))
  else (gd (h_89 (h_89 a0 74) (-2) % 16 = 1 ∧ (0 : Int) ≤ (w32 (x5_89 - 1)) ∧ (w32 (x5_89 - 1)) < h_89 (h_89 a0 74) (-1)) (gd (h_89 (h_89 a0 74) (-2) % 16 = 1 ∧ (0 : Int) ≤ x5_89 ∧ x5_89 < h_89 (h_89 a0 74) (-1)) (pt h_89 (h_89 a0 74) x5_89 (h_89 (h_89 a0 74) (w32 (x5_89 - 1))) fun h111 =>
  lt_ (w32 (x5_89 + (-1))) fun x5_112 =>
  some (.inl (x5_112, h111)))))
noncomputable def m_X25_pagesOf_j86 (a0 x2_4 x3_4 x4_60 : Int) (h_4 : Hp) : Option ((Int × Int × Hp) ⊕ ((Int × Hp))) :=
  (lp (fun (q : Int × Hp) => m_X25_pagesOf_l89 a0 x4_60 q.1 q.2) (x2_4, h_4)).bind (fun (y118 : Hp) => gd (y118 (y118 a0 80) (-2) % 16 = 1 ∧ (0 : Int) ≤ x3_4 ∧ x3_4 < y118 (y118 a0 80) (-1)) (gd (y118 (y118 a0 74) (-2) % 16 = 1 ∧ (0 : Int) ≤ x4_60 ∧ x4_60 < y118 (y118 a0 74) (-1)) (pt y118 (y118 a0 74) x4_60 (y118 (y118 a0 80) x3_4) fun h130 =>
  lt_ (w32 (x2_4 + 1)) fun x2_131 =>
  m_X25_pagesOf_j134 x3_4 x2_131 h130)))
noncomputable def m_X25_pagesOf_l4 (a0 a1 x2_4 x3_4 : Int) (h_4 : Hp) : Option ((Int × Int × Hp) ⊕ ((Int × Hp))) :=
  gd (h_4 (h_4 a0 1) (-2) = 384) (if (h_4 (h_4 a0 1) 3) ≤ x3_4 then (some (.inr (x2_4, h_4)))
  else (gd (h_4 (h_4 a0 69) (-2) % 16 = 1 ∧ (0 : Int) ≤ x3_4 ∧ x3_4 < h_4 (h_4 a0 69) (-1)) (if (h_4 (h_4 a0 69) x3_4) = a1 then ((lp (fun (q : Int) => m_X25_pagesOf_l31 a0 x3_4 q h_4) x2_4).bind (fun (y60 : Int) => if y60 ≤ 0 then (m_X25_pagesOf_j86 a0 x2_4 x3_4 y60 h_4)
  else (gd (h_4 (h_4 a0 74) (-2) % 16 = 1 ∧ (0 : Int) ≤ (w32 (y60 - 1)) ∧ (w32 (y60 - 1)) < h_4 (h_4 a0 74) (-1)) (gd (h_4 (h_4 a0 80) (-2) % 16 = 1 ∧ (0 : Int) ≤ x3_4 ∧ x3_4 < h_4 (h_4 a0 80) (-1)) (if (h_4 (h_4 a0 74) (w32 (y60 - 1))) ≠ (h_4 (h_4 a0 80) x3_4) then (m_X25_pagesOf_j86 a0 x2_4 x3_4 y60 h_4)
  else (m_X25_pagesOf_j134 x3_4 x2_4 h_4))))))
  else (m_X25_pagesOf_j134 x3_4 x2_4 h_4))))
noncomputable def m_X25_pagesOf (a0 a1 : Int) (h : Hp) : Option (Int × Hp) :=
  lt_ 0 fun x2_1 =>
  lt_ 0 fun x3_3 =>
  (lp (fun (q : Int × Int × Hp) => m_X25_pagesOf_l4 a0 a1 q.1 q.2.1 q.2.2) (x2_1, x3_3, h)).bind (fun (x : Int × Hp) => some x)
theorem s_X25_pagesOf {l : Launch} [NoTr l] {D : SD} {a0 a1 : Int} {h : Hp} (hk : h a0 (-2) = 416) (r1 : r32 a1) {r : Int × Hp} (hm : m_X25_pagesOf a0 a1 h = some r) : Sim l D yX25_pagesOf (Cond.code yX25_pagesOf cX25_pagesOf 6 (Option.some Jvm.ClassFile.FieldType.int)) 0 0 [rv D a0, iv a1] h 1 ((0, r.1), r.2) := by
  refine Sim.of (fin := fun (v : Int × Hp) => ((0, v.1), v.2)) (lsE := [(0, rv D a0), (1, iv a1)]) hm rfl cwS_code (la_r (la_i la_n)) (ll_r (ll_i ll_n)) ?_
  intro p e s m below meth c X hcw hmm hcc hnm hname
  unfold m_X25_pagesOf
  refine g_iconst (pc := 0) X (n := 0) (dl_at t_X25_pagesOf 0 rfl) ?_
  refine g_ltz (Or.inl rfl) fun x2_1 r2_1 => ?_
  refine g_istore_nN (pc := 1) X (j := 2) (i := 2) (x := x2_1) (b := 1) (w := iv a1) (rest := [(0, rv D a0)]) rfl (Nat.le_of_ble_eq_true rfl) [1, 0] rfl (by decide) rfl rfl (dl_at t_X25_pagesOf 1 rfl) ?_
  refine g_iconst (pc := 2) X (n := 0) (dl_at t_X25_pagesOf 2 rfl) ?_
  refine g_ltz (Or.inl rfl) fun x3_3 r3_3 => ?_
  refine g_istore_nN (pc := 3) X (j := 3) (i := 3) (x := x3_3) (b := 2) (w := iv x2_1) (rest := [(1, iv a1), (0, rv D a0)]) rfl (Nat.le_of_ble_eq_true rfl) [0, 1, 2] rfl (by decide) rfl rfl (dl_at t_X25_pagesOf 3 rfl) ?_
  refine g_ls (ls2 := [(0, rv D a0), (1, iv a1), (2, iv x2_1), (3, iv x3_3)]) [3, 2, 1, 0] rfl ?_
  refine g_loop0F (fun (q : Int × Int × Hp) => [(0, rv D a0), (1, iv a1), (2, iv q.1), (3, iv q.2.1)]) (fun (q : Int × Int × Hp) => q.2.2) (fun (q : Int × Int × Hp) => r32 q.1 ∧ r32 q.2.1 ∧ Ext h q.2.2) (x2_1, x3_3, h) ⟨(r32_z r2_1), (r32_z r3_3), (Ext.refl _)⟩ ?_ (fun _ => rfl)
  · rintro ⟨x2_4, x3_4, h_4⟩ ⟨r2_4, r3_4, E_4⟩
    try dsimp only
    unfold m_X25_pagesOf_l4
    refine g_iload_n (pc := 4) X (j := 3) (i := 3) (q := 3) (x := x3_4) rfl rfl (dl_at t_X25_pagesOf 4 rfl) ?_
    refine g_aload_n (pc := 5) X (j := 0) (i := 0) (q := 0) (x := a0) rfl rfl (dl_at t_X25_pagesOf 5 rfl) ?_
    have k6 := kx E_4 (by decide) hk
    refine r_getr (pc := 6) X fX25_1 k6 q3763 (dl_at t_X25_pagesOf 6 rfl) ?_
    refine g_gd fun k9 => ?_
    refine r_geti (pc := 9) X fX23_3 k9 q3526 (dl_at t_X25_pagesOf 7 rfl) fun g9 => ?_
    refine g_icmpge (pc := 12) X r3_4 g9 (off := 128) (tgt := 140) rfl (dl_at t_X25_pagesOf 8 rfl) (fun _ => ?_) (fun _ => ?_)
    · refine g_iload_n (pc := 140) X (j := 2) (i := 2) (q := 2) (x := x2_4) rfl rfl (dl_at t_X25_pagesOf 75 rfl) ?_
      exact g_at fun Q hQ => (g_iret (pc := 141) X r2_4 rfl rfl (dl_at t_X25_pagesOf 76 rfl)) _ Q rfl hQ
    refine g_aload_n (pc := 15) X (j := 0) (i := 0) (q := 0) (x := a0) rfl rfl (dl_at t_X25_pagesOf 9 rfl) ?_
    refine r_getr (pc := 16) X fX25_69 k6 q3867 (dl_at t_X25_pagesOf 10 rfl) ?_
    refine g_iload_n (pc := 19) X (j := 3) (i := 3) (q := 3) (x := x3_4) rfl rfl (dl_at t_X25_pagesOf 11 rfl) ?_
    refine g_gd fun k20 => ?_
    refine g_iald (pc := 20) X r3_4 k20 (dl_at t_X25_pagesOf 12 rfl) fun g20 => ?_
    refine g_iload_n (pc := 21) X (j := 1) (i := 1) (q := 1) (x := a1) rfl rfl (dl_at t_X25_pagesOf 13 rfl) ?_
    refine g_join (γ := Int × Hp) (fun q => r32 q.1 ∧ Ext h_4 q.2) 134 (fun q => [(0, rv D a0), (1, iv a1), (2, iv q.1), (3, iv x3_4)]) (fun q => []) (fun q => q.2) (fun q => m_X25_pagesOf_j134 x3_4 q.1 q.2) ?_ ?_
    · rintro ⟨x2_134, h_134⟩ ⟨r2_134, E_134⟩
      try dsimp only
      unfold m_X25_pagesOf_j134
      refine r_iincN (pc := 134) X (i := 3) (q := 3) (n := 1) (x := x3_4) (b := 2) (w := iv x2_134) (rest := [(0, rv D a0), (1, iv a1)]) rfl r3_4 (r32_c rfl) (Nat.le_of_ble_eq_true rfl) [2, 0, 1] rfl (by decide) rfl rfl (dl_at t_X25_pagesOf 73 rfl) fun x3_134 r3_134 => ?_
      refine g_goto (pc := 137) X (off := (-133)) (tgt := 4) rfl (dl_at t_X25_pagesOf 74 rfl) ?_
      refine g_ls (ls2 := [(0, rv D a0), (1, iv a1), (2, iv x2_134), (3, iv x3_134)]) [2, 3, 1, 0] rfl ?_
      exact g_at fun Q hQ => hQ ⟨r2_134, r3_134, (E_4.trans E_134)⟩
    intro J134
    refine g_icmpeq (pc := 22) X g20 r1 (off := 6) (tgt := 28) rfl (dl_at t_X25_pagesOf 14 rfl) (fun _ => ?_) (fun _ => ?_)
    · refine g_iload_n (pc := 28) X (j := 2) (i := 2) (q := 2) (x := x2_4) rfl rfl (dl_at t_X25_pagesOf 16 rfl) ?_
      refine g_istoreN (pc := 29) X (i := 4) (x := x2_4) (b := 3) (w := iv x3_4) (rest := [(0, rv D a0), (1, iv a1), (2, iv x2_4)]) (Nat.le_of_ble_eq_true rfl) [3, 0, 1, 2] rfl (by decide) rfl rfl (dl_at t_X25_pagesOf 17 rfl) ?_
      refine g_ls (ls2 := [(0, rv D a0), (1, iv a1), (2, iv x2_4), (3, iv x3_4), (4, iv x2_4)]) [2, 3, 4, 1, 0] rfl ?_
      refine g_loop1 (fun (q : Int) => [(0, rv D a0), (1, iv a1), (2, iv x2_4), (3, iv x3_4), (4, iv q)]) (fun (q : Int) => h_4) (fun (q : Int) => r32 q) 60 (fun (y60 : Int) => [(0, rv D a0), (1, iv a1), (2, iv x2_4), (3, iv x3_4), (4, iv y60)]) (fun (y60 : Int) => h_4) (fun (y60 : Int) => r32 y60) x2_4 r2_4 ?_ ?_
      · rintro x4_31 r4_31
        try dsimp only
        unfold m_X25_pagesOf_l31
        refine g_iload (pc := 31) X (i := 4) (q := 4) (x := x4_31) rfl (dl_at t_X25_pagesOf 18 rfl) ?_
        refine g_ifle (pc := 33) X r4_31 (off := 27) (tgt := 60) rfl (dl_at t_X25_pagesOf 19 rfl) (fun _ => ?_) (fun _ => ?_)
        · exact g_at fun Q hQ => hQ r4_31
        refine g_aload_n (pc := 36) X (j := 0) (i := 0) (q := 0) (x := a0) rfl rfl (dl_at t_X25_pagesOf 20 rfl) ?_
        refine r_getr (pc := 37) X fX25_74 k6 q3872 (dl_at t_X25_pagesOf 21 rfl) ?_
        refine g_iload (pc := 40) X (i := 4) (q := 4) (x := x4_31) rfl (dl_at t_X25_pagesOf 22 rfl) ?_
        refine g_iconst (pc := 42) X (n := 1) (dl_at t_X25_pagesOf 23 rfl) ?_
        refine g_isub (pc := 43) X r4_31 (r32_c rfl) (dl_at t_X25_pagesOf 24 rfl) ?_
        refine g_gd fun k44 => ?_
        refine g_iald (pc := 44) X (r32_w _) k44 (dl_at t_X25_pagesOf 25 rfl) fun g44 => ?_
        refine g_aload_n (pc := 45) X (j := 0) (i := 0) (q := 0) (x := a0) rfl rfl (dl_at t_X25_pagesOf 26 rfl) ?_
        refine r_getr (pc := 46) X fX25_80 k6 q3880 (dl_at t_X25_pagesOf 27 rfl) ?_
        refine g_iload_n (pc := 49) X (j := 3) (i := 3) (q := 3) (x := x3_4) rfl rfl (dl_at t_X25_pagesOf 28 rfl) ?_
        refine g_gd fun k50 => ?_
        refine g_iald (pc := 50) X r3_4 k50 (dl_at t_X25_pagesOf 29 rfl) fun g50 => ?_
        refine g_icmple (pc := 51) X g44 g50 (off := 9) (tgt := 60) rfl (dl_at t_X25_pagesOf 30 rfl) (fun _ => ?_) (fun _ => ?_)
        · exact g_at fun Q hQ => hQ r4_31
        refine r_iincN (pc := 54) X (i := 4) (q := 4) (n := (-1)) (x := x4_31) (b := 3) (w := iv x3_4) (rest := [(0, rv D a0), (1, iv a1), (2, iv x2_4)]) rfl r4_31 (r32_c rfl) (Nat.le_of_ble_eq_true rfl) [3, 0, 1, 2] rfl (by decide) rfl rfl (dl_at t_X25_pagesOf 31 rfl) fun x4_54 r4_54 => ?_
        refine g_goto (pc := 57) X (off := (-26)) (tgt := 31) rfl (dl_at t_X25_pagesOf 32 rfl) ?_
        refine g_ls (ls2 := [(0, rv D a0), (1, iv a1), (2, iv x2_4), (3, iv x3_4), (4, iv x4_54)]) [2, 3, 4, 1, 0] rfl ?_
        exact g_at fun Q hQ => hQ r4_54
      · rintro x4_60 r4_60
        try dsimp only [sE]
        refine g_iload (pc := 60) X (i := 4) (q := 4) (x := x4_60) rfl (dl_at t_X25_pagesOf 33 rfl) ?_
        refine g_join (γ := Unit) (fun q => True) 86 (fun q => [(0, rv D a0), (1, iv a1), (2, iv x2_4), (3, iv x3_4), (4, iv x4_60)]) (fun q => []) (fun q => h_4) (fun q => m_X25_pagesOf_j86 a0 x2_4 x3_4 x4_60 h_4) ?_ ?_
        · rintro _ _
          try dsimp only
          unfold m_X25_pagesOf_j86
          refine g_iload_n (pc := 86) X (j := 2) (i := 2) (q := 2) (x := x2_4) rfl rfl (dl_at t_X25_pagesOf 47 rfl) ?_
          refine g_istoreN (pc := 87) X (i := 5) (x := x2_4) (b := 4) (w := iv x4_60) (rest := [(0, rv D a0), (1, iv a1), (2, iv x2_4), (3, iv x3_4)]) (Nat.le_of_ble_eq_true rfl) [4, 0, 1, 2, 3] rfl (by decide) rfl rfl (dl_at t_X25_pagesOf 48 rfl) ?_
          refine g_ls (ls2 := [(0, rv D a0), (1, iv a1), (2, iv x2_4), (3, iv x3_4), (4, iv x4_60), (5, iv x2_4)]) [2, 3, 4, 5, 1, 0] rfl ?_
          refine g_loop1 (fun (q : Int × Hp) => [(0, rv D a0), (1, iv a1), (2, iv x2_4), (3, iv x3_4), (4, iv x4_60), (5, iv q.1)]) (fun (q : Int × Hp) => q.2) (fun (q : Int × Hp) => r32 q.1 ∧ Ext h_4 q.2) 118 (fun (y118 : Hp) => [(0, rv D a0), (1, iv a1), (2, iv x2_4), (3, iv x3_4), (4, iv x4_60)]) (fun (y118 : Hp) => y118) (fun (y118 : Hp) => Ext h_4 y118) (x2_4, h_4) ⟨r2_4, (Ext.refl _)⟩ ?_ ?_
          · rintro ⟨x5_89, h_89⟩ ⟨r5_89, E_89⟩
            try dsimp only
            unfold m_X25_pagesOf_l89
            refine g_iload (pc := 89) X (i := 5) (q := 5) (x := x5_89) rfl (dl_at t_X25_pagesOf 49 rfl) ?_
            refine g_iload (pc := 91) X (i := 4) (q := 4) (x := x4_60) rfl (dl_at t_X25_pagesOf 50 rfl) ?_
            refine g_icmple (pc := 93) X r5_89 r4_60 (off := 25) (tgt := 118) rfl (dl_at t_X25_pagesOf 51 rfl) (fun _ => ?_) (fun _ => ?_)
            · refine g_ls (ls2 := [(0, rv D a0), (1, iv a1), (2, iv x2_4), (3, iv x3_4), (4, iv x4_60)]) [0, 1, 2, 3, 4] rfl ?_
              exact g_at fun Q hQ => hQ E_89
            refine g_aload_n (pc := 96) X (j := 0) (i := 0) (q := 0) (x := a0) rfl rfl (dl_at t_X25_pagesOf 52 rfl) ?_
            have k97 := kx E_89 (by decide) k6
            refine r_getr (pc := 97) X fX25_74 k97 q3872 (dl_at t_X25_pagesOf 53 rfl) ?_
            refine g_iload (pc := 100) X (i := 5) (q := 5) (x := x5_89) rfl (dl_at t_X25_pagesOf 54 rfl) ?_
            refine g_aload_n (pc := 102) X (j := 0) (i := 0) (q := 0) (x := a0) rfl rfl (dl_at t_X25_pagesOf 55 rfl) ?_
            refine r_getr (pc := 103) X fX25_74 k97 q3872 (dl_at t_X25_pagesOf 56 rfl) ?_
            refine g_iload (pc := 106) X (i := 5) (q := 5) (x := x5_89) rfl (dl_at t_X25_pagesOf 57 rfl) ?_
            refine g_iconst (pc := 108) X (n := 1) (dl_at t_X25_pagesOf 58 rfl) ?_
            refine g_isub (pc := 109) X r5_89 (r32_c rfl) (dl_at t_X25_pagesOf 59 rfl) ?_
            refine g_gd fun k110 => ?_
            refine g_iald (pc := 110) X (r32_w _) k110 (dl_at t_X25_pagesOf 60 rfl) fun g110 => ?_
            refine g_gd fun k111 => ?_
            refine r_iast (pc := 111) X r5_89 g110 k111 (dl_at t_X25_pagesOf 61 rfl) (fun h111 E111 => ?_)
            refine r_iincN (pc := 112) X (i := 5) (q := 5) (n := (-1)) (x := x5_89) (b := 4) (w := iv x4_60) (rest := [(0, rv D a0), (1, iv a1), (2, iv x2_4), (3, iv x3_4)]) rfl r5_89 (r32_c rfl) (Nat.le_of_ble_eq_true rfl) [4, 0, 1, 2, 3] rfl (by decide) rfl rfl (dl_at t_X25_pagesOf 62 rfl) fun x5_112 r5_112 => ?_
            refine g_goto (pc := 115) X (off := (-26)) (tgt := 89) rfl (dl_at t_X25_pagesOf 63 rfl) ?_
            refine g_ls (ls2 := [(0, rv D a0), (1, iv a1), (2, iv x2_4), (3, iv x3_4), (4, iv x4_60), (5, iv x5_112)]) [2, 3, 4, 5, 1, 0] rfl ?_
            exact g_at fun Q hQ => hQ ⟨r5_112, (E_89.trans E111)⟩
          · rintro h_118 E_118
            try dsimp only [sE]
            refine g_aload_n (pc := 118) X (j := 0) (i := 0) (q := 0) (x := a0) rfl rfl (dl_at t_X25_pagesOf 64 rfl) ?_
            have k119 := kx E_118 (by decide) k6
            refine r_getr (pc := 119) X fX25_74 k119 q3872 (dl_at t_X25_pagesOf 65 rfl) ?_
            refine g_iload (pc := 122) X (i := 4) (q := 4) (x := x4_60) rfl (dl_at t_X25_pagesOf 66 rfl) ?_
            refine g_aload_n (pc := 124) X (j := 0) (i := 0) (q := 0) (x := a0) rfl rfl (dl_at t_X25_pagesOf 67 rfl) ?_
            refine r_getr (pc := 125) X fX25_80 k119 q3880 (dl_at t_X25_pagesOf 68 rfl) ?_
            refine g_iload_n (pc := 128) X (j := 3) (i := 3) (q := 3) (x := x3_4) rfl rfl (dl_at t_X25_pagesOf 69 rfl) ?_
            refine g_gd fun k129 => ?_
            refine g_iald (pc := 129) X r3_4 k129 (dl_at t_X25_pagesOf 70 rfl) fun g129 => ?_
            refine g_gd fun k130 => ?_
            refine r_iast (pc := 130) X r4_60 g129 k130 (dl_at t_X25_pagesOf 71 rfl) (fun h130 E130 => ?_)
            refine r_iincN (pc := 131) X (i := 2) (q := 2) (n := 1) (x := x2_4) (b := 1) (w := iv a1) (rest := [(0, rv D a0), (3, iv x3_4)]) rfl r2_4 (r32_c rfl) (Nat.le_of_ble_eq_true rfl) [1, 0, 3] rfl (by decide) rfl rfl (dl_at t_X25_pagesOf 72 rfl) fun x2_131 r2_131 => ?_
            refine g_ls (ls2 := [(0, rv D a0), (1, iv a1), (2, iv x2_131), (3, iv x3_4)]) [2, 1, 0, 3] rfl ?_
            exact J134 (x2_131, h130) ⟨r2_131, (E_118.trans E130)⟩
        intro J86
        refine g_ifle (pc := 62) X r4_60 (off := 24) (tgt := 86) rfl (dl_at t_X25_pagesOf 34 rfl) (fun _ => ?_) (fun _ => ?_)
        · exact J86 () trivial
        refine g_aload_n (pc := 65) X (j := 0) (i := 0) (q := 0) (x := a0) rfl rfl (dl_at t_X25_pagesOf 35 rfl) ?_
        refine r_getr (pc := 66) X fX25_74 k6 q3872 (dl_at t_X25_pagesOf 36 rfl) ?_
        refine g_iload (pc := 69) X (i := 4) (q := 4) (x := x4_60) rfl (dl_at t_X25_pagesOf 37 rfl) ?_
        refine g_iconst (pc := 71) X (n := 1) (dl_at t_X25_pagesOf 38 rfl) ?_
        refine g_isub (pc := 72) X r4_60 (r32_c rfl) (dl_at t_X25_pagesOf 39 rfl) ?_
        refine g_gd fun k73 => ?_
        refine g_iald (pc := 73) X (r32_w _) k73 (dl_at t_X25_pagesOf 40 rfl) fun g73 => ?_
        refine g_aload_n (pc := 74) X (j := 0) (i := 0) (q := 0) (x := a0) rfl rfl (dl_at t_X25_pagesOf 41 rfl) ?_
        refine r_getr (pc := 75) X fX25_80 k6 q3880 (dl_at t_X25_pagesOf 42 rfl) ?_
        refine g_iload_n (pc := 78) X (j := 3) (i := 3) (q := 3) (x := x3_4) rfl rfl (dl_at t_X25_pagesOf 43 rfl) ?_
        refine g_gd fun k79 => ?_
        refine g_iald (pc := 79) X r3_4 k79 (dl_at t_X25_pagesOf 44 rfl) fun g79 => ?_
        refine g_icmpne (pc := 80) X g73 g79 (off := 6) (tgt := 86) rfl (dl_at t_X25_pagesOf 45 rfl) (fun _ => ?_) (fun _ => ?_)
        · exact J86 () trivial
        refine g_goto (pc := 83) X (off := 51) (tgt := 134) rfl (dl_at t_X25_pagesOf 46 rfl) ?_
        refine g_ls (ls2 := [(0, rv D a0), (1, iv a1), (2, iv x2_4), (3, iv x3_4)]) [0, 1, 2, 3] rfl ?_
        exact J134 (x2_4, h_4) ⟨r2_4, (Ext.refl _)⟩
    refine g_goto (pc := 25) X (off := 109) (tgt := 134) rfl (dl_at t_X25_pagesOf 15 rfl) ?_
    exact J134 (x2_4, h_4) ⟨r2_4, (Ext.refl _)⟩
def k_X25_index : List (Nat × Instr × Nat) := [(0, .aload_n 0, 1), (1, .getfield 241, 3), (4, .iload_n 1, 1), (5, .iconst 5, 1), (6, .iastore, 1), (7, .aload_n 0, 1), (8, .getfield 14, 3), (11, .iload_n 1, 1), (12, .iconst 1, 1), (13, .invokevirtual 477, 3), (16, .istore_n 2, 1), (17, .iconst 0, 1), (18, .istore_n 3, 1), (19, .iload_n 3, 1), (20, .aload_n 0, 1), (21, .getfield 417, 3), (24, .if_icmp .ge 209, 3), (27, .aload_n 0, 1), (28, .getfield 196, 3), (31, .iload_n 3, 1), (32, .iaload, 1), (33, .istore 4, 2), (35, .iconst 0, 1), (36, .istore 5, 2), (38, .iload 5, 2), (40, .aload_n 0, 1), (41, .iload 4, 2), (43, .invokevirtual 402, 3), (46, .if_icmp .ge 23, 3), (49, .aload_n 0, 1), (50, .aload_n 0, 1), (51, .iload 4, 2), (53, .iload 5, 2), (55, .invokevirtual 405, 3), (58, .iload_n 2, 1), (59, .iconst 1, 1), (60, .invokevirtual 531, 3), (63, .iinc 5 1, 3), (66, .goto (-28), 3), (69, .aload_n 0, 1), (70, .iload 4, 2), (72, .invokevirtual 652, 3), (75, .istore 5, 2), (77, .iconst 0, 1), (78, .istore 6, 2), (80, .iload 6, 2), (82, .iload 5, 2), (84, .if_icmp .ge 112, 3), (87, .iload 6, 2), (89, .istore 7, 2), (91, .iload 7, 2), (93, .iconst 1, 1), (94, .iadd, 1), (95, .iload 5, 2), (97, .if_icmp .ge 30, 3), (100, .aload_n 0, 1), (101, .getfield 205, 3), (104, .iload 7, 2), (106, .iconst 1, 1), (107, .iadd, 1), (108, .iaload, 1), (109, .aload_n 0, 1), (110, .getfield 205, 3), (113, .iload 7, 2), (115, .iaload, 1), (116, .iconst 1, 1), (117, .iadd, 1), (118, .if_icmp .ne 9, 3), (121, .iinc 7 1, 3), (124, .goto (-33), 3), (127, .aload_n 0, 1), (128, .bipush 44, 2), (130, .iload_n 2, 1), (131, .iconst 1, 1), (132, .invokevirtual 531, 3), (135, .aload_n 0, 1), (136, .bipush 32, 2), (138, .iload_n 2, 1), (139, .iconst 1, 1), (140, .invokevirtual 531, 3), (143, .aload_n 0, 1), (144, .aload_n 0, 1), (145, .getfield 205, 3), (148, .iload 6, 2), (150, .iaload, 1), (151, .iload_n 2, 1), (152, .iconst 1, 1), (153, .invokevirtual 573, 3), (156, .iload 7, 2), (158, .iload 6, 2), (160, .isub, 1), (161, .iconst 2, 1), (162, .if_icmp .lt 28, 3), (165, .aload_n 0, 1), (166, .bipush 45, 2), (168, .iload_n 2, 1), (169, .iconst 1, 1), (170, .invokevirtual 531, 3), (173, .aload_n 0, 1), (174, .aload_n 0, 1), (175, .getfield 205, 3), (178, .iload 7, 2), (180, .iaload, 1), (181, .iload_n 2, 1), (182, .iconst 1, 1), (183, .invokevirtual 573, 3), (186, .iload 7, 2), (188, .istore 6, 2), (190, .iinc 6 1, 3), (193, .goto (-113), 3), (196, .aload_n 0, 1), (197, .iload_n 1, 1), (198, .iconst 0, 1), (199, .aload_n 0, 1), (200, .iload_n 1, 1), (201, .invokevirtual 498, 3), (204, .aload_n 0, 1), (205, .iload_n 1, 1), (206, .iconst 0, 1), (207, .invokevirtual 501, 3), (210, .invokevirtual 505, 3), (213, .istore 6, 2), (215, .iload 6, 2), (217, .ifCond .lt 10, 3), (220, .aload_n 0, 1), (221, .iconst 0, 1), (222, .iload 6, 2), (224, .invokevirtual 509, 3), (227, .iinc 3 1, 3), (230, .goto (-211), 3), (233, .return_, 1)]
theorem t_X25_index : ∀ q ∈ k_X25_index, decode cX25_index q.1 = .ok q.2 := dl_all (by decide +kernel)
noncomputable def m_X25_index_l38 (a0 v13 x4_33 x5_38 : Int) (h_38 : Hp) : Option ((Int × Hp) ⊕ ((Hp) ⊕ (((Int × Hp) ⊕ (((Int × Int) × Hp)))))) :=
  (m_X25_entryLong a0 x4_33 h_38).bind fun v43 =>
  if v43 ≤ x5_38 then (some (.inr (.inl h_38)))
  else ((m_X25_entryByte a0 x4_33 x5_38 h_38).bind fun v55 =>
  bT (m_X25_emit a0 v55 v13 1 h_38) (fun _ h60 =>
  lt_ (w32 (x5_38 + 1)) fun x5_63 =>
  some (.inl (x5_63, h60))) (fun a_ h_ => some (.inr (.inr (.inr ((1, a_), h_))))))
noncomputable def m_X25_index_l91 (a0 v72 x7_91 : Int) (h_80 : Hp) : Option ((Int) ⊕ ((Int))) :=
  if v72 ≤ (w32 (x7_91 + 1)) then (some (.inr x7_91))
  else (gd (h_80 (h_80 a0 74) (-2) % 16 = 1 ∧ (0 : Int) ≤ (w32 (x7_91 + 1)) ∧ (w32 (x7_91 + 1)) < h_80 (h_80 a0 74) (-1)) (gd (h_80 (h_80 a0 74) (-2) % 16 = 1 ∧ (0 : Int) ≤ x7_91 ∧ x7_91 < h_80 (h_80 a0 74) (-1)) (if (h_80 (h_80 a0 74) (w32 (x7_91 + 1))) ≠ (w32 ((h_80 (h_80 a0 74) x7_91) + 1)) then (some (.inr x7_91))
  else (lt_ (w32 (x7_91 + 1)) fun x7_121 =>
  some (.inl x7_121)))))
noncomputable def m_X25_index_j190 (x6_190 : Int) (h_190 : Hp) : Option ((Int × Hp) ⊕ ((Hp) ⊕ (((Int × Hp) ⊕ (((Int × Int) × Hp)))))) :=
  lt_ (w32 (x6_190 + 1)) fun x6_190_1 =>
  some (.inl (x6_190_1, h_190))
noncomputable def m_X25_index_l80 (a0 v13 v72 x6_80 : Int) (h_80 : Hp) : Option ((Int × Hp) ⊕ ((Hp) ⊕ (((Int × Hp) ⊕ (((Int × Int) × Hp)))))) :=
  if v72 ≤ x6_80 then (some (.inr (.inl h_80)))
  else ((lp (fun (q : Int) => m_X25_index_l91 a0 v72 q h_80) x6_80).bind (fun (y127 : Int) => bT (m_X25_emit a0 44 v13 1 h_80) (fun _ h132 =>
  bT (m_X25_emit a0 32 v13 1 h132) (fun _ h140 =>
  gd (h140 (h140 a0 74) (-2) % 16 = 1 ∧ (0 : Int) ≤ x6_80 ∧ x6_80 < h140 (h140 a0 74) (-1)) (bT (m_X25_digits a0 (h140 (h140 a0 74) x6_80) v13 1 h140) (fun _ h153 =>
  if (w32 (y127 - x6_80)) < 2 then (m_X25_index_j190 x6_80 h153)
  else (bT (m_X25_emit a0 45 v13 1 h153) (fun _ h170 =>
  gd (h170 (h170 a0 74) (-2) % 16 = 1 ∧ (0 : Int) ≤ y127 ∧ y127 < h170 (h170 a0 74) (-1)) (bT (m_X25_digits a0 (h170 (h170 a0 74) y127) v13 1 h170) (fun _ h183 =>
  m_X25_index_j190 y127 h183) (fun a_ h_ => some (.inr (.inr (.inr ((1, a_), h_))))))) (fun a_ h_ => some (.inr (.inr (.inr ((1, a_), h_))))))) (fun a_ h_ => some (.inr (.inr (.inr ((1, a_), h_))))))) (fun a_ h_ => some (.inr (.inr (.inr ((1, a_), h_)))))) (fun a_ h_ => some (.inr (.inr (.inr ((1, a_), h_)))))))
noncomputable def m_X25_index_j227 (x3_19 : Int) (h_227 : Hp) : Option ((Int × Hp) ⊕ (((Int × Int) × Hp))) :=
  lt_ (w32 (x3_19 + 1)) fun x3_227 =>
  some (.inl (x3_227, h_227))
noncomputable def m_X25_index_l19 (a0 a1 v13 x3_19 : Int) (h_19 : Hp) : Option ((Int × Hp) ⊕ (((Int × Int) × Hp))) :=
  if (h_19 a0 66) ≤ x3_19 then (some (.inr ((0, 0), h_19)))
  else (gd (h_19 (h_19 a0 70) (-2) % 16 = 1 ∧ (0 : Int) ≤ x3_19 ∧ x3_19 < h_19 (h_19 a0 70) (-1)) (lt_ (h_19 (h_19 a0 70) x3_19) fun x4_33 =>
  lt_ 0 fun x5_36 =>
  (lp (fun (q : Int × Hp) => m_X25_index_l38 a0 v13 x4_33 q.1 q.2) (x5_36, h_19)).bind (sE (fun (y69 : Hp) => bW (m_X25_pagesOf a0 x4_33 y69) fun v72 h72 =>
  lt_ 0 fun x6_78 =>
  (lp (fun (q : Int × Hp) => m_X25_index_l80 a0 v13 v72 q.1 q.2) (x6_78, h72)).bind (sE (fun (y196 : Hp) => (m_X25_leftOf a0 a1 y196).bind fun v201 =>
  (m_X25_widthOf a0 a1 0 y196).bind fun v207 =>
  bT (m_X25_ended a0 a1 0 v201 v207 y196) (fun v210 h210 =>
  if v210 < 0 then (m_X25_index_j227 x3_19 h210)
  else ((m_X25_addFlow a0 0 v210 h210).bind fun h224 =>
  m_X25_index_j227 x3_19 h224)) (fun a_ h_ => some (.inr ((1, a_), h_)))) (fun (x : (Int × Hp) ⊕ (((Int × Int) × Hp))) => some x))) (fun (x : (Int × Hp) ⊕ (((Int × Int) × Hp))) => some x))))
noncomputable def m_X25_index (a0 a1 : Int) (h : Hp) : Option ((Int × Int) × Hp) :=
  gd (h (h a0 86) (-2) % 16 = 1 ∧ (0 : Int) ≤ a1 ∧ a1 < h (h a0 86) (-1)) (pt h (h a0 86) a1 5 fun h6 =>
  gd (h6 (h6 a0 0) (-2) = 400) ((m_X24_of (h6 a0 0) a1 1 h6).bind fun v13 =>
  lt_ 0 fun x3_18 =>
  (lp (fun (q : Int × Hp) => m_X25_index_l19 a0 a1 v13 q.1 q.2) (x3_18, h6)).bind (fun (x : (Int × Int) × Hp) => some x)))
theorem s_X25_index {l : Launch} [NoTr l] {D : SD} {a0 a1 : Int} {h : Hp} (hk : h a0 (-2) = 416) (r1 : r32 a1) {r : (Int × Int) × Hp} (hm : m_X25_index a0 a1 h = some r) : Sim l D yX25_index (Cond.code yX25_index cX25_index 8 (Option.none : Option Jvm.ClassFile.FieldType)) 12 455 [rv D a0, iv a1] h 0 r := by
  refine Sim.of (fin := fun (v : (Int × Int) × Hp) => v) (lsE := [(0, rv D a0), (1, iv a1)]) hm rfl cwS_code (la_r (la_i la_n)) (ll_r (ll_i ll_n)) ?_
  intro p e s m below meth c X hcw hmm hcc hnm hname
  have hno := noh hcw hnm hmm hcc
  unfold m_X25_index
  refine g_aload_n (pc := 0) X (j := 0) (i := 0) (q := 0) (x := a0) rfl rfl (dl_at t_X25_index 0 rfl) ?_
  refine r_getr (pc := 1) X fX25_86 hk q3888 (dl_at t_X25_index 1 rfl) ?_
  refine g_iload_n (pc := 4) X (j := 1) (i := 1) (q := 1) (x := a1) rfl rfl (dl_at t_X25_index 2 rfl) ?_
  refine g_iconst (pc := 5) X (n := 5) (dl_at t_X25_index 3 rfl) ?_
  refine g_gd fun k6 => ?_
  refine r_iast (pc := 6) X r1 (r32_c rfl) k6 (dl_at t_X25_index 4 rfl) (fun h6 E6 => ?_)
  refine g_aload_n (pc := 7) X (j := 0) (i := 0) (q := 0) (x := a0) rfl rfl (dl_at t_X25_index 5 rfl) ?_
  have k8 := kx E6 (by decide) hk
  refine r_getr (pc := 8) X fX25_0 k8 q3761 (dl_at t_X25_index 6 rfl) ?_
  refine g_iload_n (pc := 11) X (j := 1) (i := 1) (q := 1) (x := a1) rfl rfl (dl_at t_X25_index 7 rfl) ?_
  refine g_iconst (pc := 12) X (n := 1) (dl_at t_X25_index 8 rfl) ?_
  refine g_gd fun k13 => ?_
  refine r_callRi (pc := 13) X (fun _ hv => s_X24_of k13 r1 (r32_c rfl) hv) cw_code q4704 q378 (in_Vk X (As := [iv a1, iv 1]) kX24 k13 (Or.inl q4844) q4702 q4703 cw_code q4704 ⟨by decide, by decide⟩ rfl (dl_at t_X25_index 9 rfl)) (dl_at t_X25_index 9 rfl) (cat24 (st := []) (Nat.le_of_ble_eq_true rfl)) (Nat.le_of_ble_eq_true rfl) (Nat.le_of_ble_eq_true rfl) fun v13 g13 => ?_
  refine g_istore_nN (pc := 16) X (j := 2) (i := 2) (x := v13) (b := 1) (w := iv a1) (rest := [(0, rv D a0)]) rfl (Nat.le_of_ble_eq_true rfl) [1, 0] rfl (by decide) rfl rfl (dl_at t_X25_index 10 rfl) ?_
  refine g_iconst (pc := 17) X (n := 0) (dl_at t_X25_index 11 rfl) ?_
  refine g_ltz (Or.inl rfl) fun x3_18 r3_18 => ?_
  refine g_istore_nN (pc := 18) X (j := 3) (i := 3) (x := x3_18) (b := 2) (w := iv v13) (rest := [(1, iv a1), (0, rv D a0)]) rfl (Nat.le_of_ble_eq_true rfl) [0, 1, 2] rfl (by decide) rfl rfl (dl_at t_X25_index 12 rfl) ?_
  refine g_ls (ls2 := [(0, rv D a0), (1, iv a1), (2, iv v13), (3, iv x3_18)]) [3, 2, 1, 0] rfl ?_
  refine g_loop0F (fun (q : Int × Hp) => [(0, rv D a0), (1, iv a1), (2, iv v13), (3, iv q.1)]) (fun (q : Int × Hp) => q.2) (fun (q : Int × Hp) => r32 q.1 ∧ Ext h6 q.2) (x3_18, h6) ⟨(r32_z r3_18), (Ext.refl _)⟩ ?_ (fun _ => rfl)
  · rintro ⟨x3_19, h_19⟩ ⟨r3_19, E_19⟩
    try dsimp only
    unfold m_X25_index_l19
    refine g_iload_n (pc := 19) X (j := 3) (i := 3) (q := 3) (x := x3_19) rfl rfl (dl_at t_X25_index 13 rfl) ?_
    refine g_aload_n (pc := 20) X (j := 0) (i := 0) (q := 0) (x := a0) rfl rfl (dl_at t_X25_index 14 rfl) ?_
    have k21 := kx E_19 (by decide) k8
    refine r_geti (pc := 21) X fX25_66 k21 q3863 (dl_at t_X25_index 15 rfl) fun g21 => ?_
    refine g_icmpge (pc := 24) X r3_19 g21 (off := 209) (tgt := 233) rfl (dl_at t_X25_index 16 rfl) (fun _ => ?_) (fun _ => ?_)
    · exact g_at fun Q hQ => (g_vret (pc := 233) X (v := 0) rfl rfl (dl_at t_X25_index 130 rfl)) _ Q rfl hQ
    refine g_aload_n (pc := 27) X (j := 0) (i := 0) (q := 0) (x := a0) rfl rfl (dl_at t_X25_index 17 rfl) ?_
    refine r_getr (pc := 28) X fX25_70 k21 q3868 (dl_at t_X25_index 18 rfl) ?_
    refine g_iload_n (pc := 31) X (j := 3) (i := 3) (q := 3) (x := x3_19) rfl rfl (dl_at t_X25_index 19 rfl) ?_
    refine g_gd fun k32 => ?_
    refine g_iald (pc := 32) X r3_19 k32 (dl_at t_X25_index 20 rfl) fun g32 => ?_
    refine g_lti g32 fun x4_33 r4_33 => ?_
    refine g_istoreN (pc := 33) X (i := 4) (x := x4_33) (b := 3) (w := iv x3_19) (rest := [(0, rv D a0), (1, iv a1), (2, iv v13)]) (Nat.le_of_ble_eq_true rfl) [3, 0, 1, 2] rfl (by decide) rfl rfl (dl_at t_X25_index 21 rfl) ?_
    refine g_iconst (pc := 35) X (n := 0) (dl_at t_X25_index 22 rfl) ?_
    refine g_ltz (Or.inl rfl) fun x5_36 r5_36 => ?_
    refine g_istoreN (pc := 36) X (i := 5) (x := x5_36) (b := 4) (w := iv x4_33) (rest := [(3, iv x3_19), (0, rv D a0), (1, iv a1), (2, iv v13)]) (Nat.le_of_ble_eq_true rfl) [0, 1, 2, 3, 4] rfl (by decide) rfl rfl (dl_at t_X25_index 23 rfl) ?_
    refine g_ls (ls2 := [(0, rv D a0), (1, iv a1), (2, iv v13), (3, iv x3_19), (4, iv x4_33), (5, iv x5_36)]) [3, 4, 5, 2, 1, 0] rfl ?_
    refine g_loop1F (fun (q : Int × Hp) => [(0, rv D a0), (1, iv a1), (2, iv v13), (3, iv x3_19), (4, iv x4_33), (5, iv q.1)]) (fun (q : Int × Hp) => q.2) (fun (q : Int × Hp) => r32 q.1 ∧ Ext h_19 q.2) 69 (fun (y69 : Hp) => [(0, rv D a0), (1, iv a1), (2, iv v13), (3, iv x3_19), (4, iv x4_33)]) (fun (y69 : Hp) => y69) (fun (y69 : Hp) => Ext h_19 y69) (x5_36, h_19) ⟨(r32_z r5_36), (Ext.refl _)⟩ ?_ ?_ (fun _ => rfl)
    · rintro ⟨x5_38, h_38⟩ ⟨r5_38, E_38⟩
      try dsimp only
      unfold m_X25_index_l38
      refine g_iload (pc := 38) X (i := 5) (q := 5) (x := x5_38) rfl (dl_at t_X25_index 24 rfl) ?_
      refine g_aload_n (pc := 40) X (j := 0) (i := 0) (q := 0) (x := a0) rfl rfl (dl_at t_X25_index 25 rfl) ?_
      refine g_iload (pc := 41) X (i := 4) (q := 4) (x := x4_33) rfl (dl_at t_X25_index 26 rfl) ?_
      have k43 := kx E_38 (by decide) k21
      refine r_callRi (pc := 43) X (fun _ hv => s_X25_entryLong k43 r4_33 hv) cw_code q4782 q379 (in_Vk X (As := [iv x4_33]) kX25 k43 (Or.inl q4779) q4781 qs287 cw_code q4782 ⟨by decide, by decide⟩ rfl (dl_at t_X25_index 27 rfl)) (dl_at t_X25_index 27 rfl) (cat24 (st := [iv x5_38]) (Nat.le_of_ble_eq_true rfl)) (Nat.le_of_ble_eq_true rfl) (Nat.le_of_ble_eq_true rfl) fun v43 g43 => ?_
      refine g_icmpge (pc := 46) X r5_38 g43 (off := 23) (tgt := 69) rfl (dl_at t_X25_index 28 rfl) (fun _ => ?_) (fun _ => ?_)
      · refine g_ls (ls2 := [(0, rv D a0), (1, iv a1), (2, iv v13), (3, iv x3_19), (4, iv x4_33)]) [0, 1, 2, 3, 4] rfl ?_
        exact g_at fun Q hQ => hQ E_38
      refine g_aload_n (pc := 49) X (j := 0) (i := 0) (q := 0) (x := a0) rfl rfl (dl_at t_X25_index 29 rfl) ?_
      refine g_aload_n (pc := 50) X (j := 0) (i := 0) (q := 0) (x := a0) rfl rfl (dl_at t_X25_index 30 rfl) ?_
      refine g_iload (pc := 51) X (i := 4) (q := 4) (x := x4_33) rfl (dl_at t_X25_index 31 rfl) ?_
      refine g_iload (pc := 53) X (i := 5) (q := 5) (x := x5_38) rfl (dl_at t_X25_index 32 rfl) ?_
      refine r_callRi (pc := 55) X (fun _ hv => s_X25_entryByte k43 r4_33 r5_38 hv) cw_code q4790 q379 (in_Vk X (As := [iv x4_33, iv x5_38]) kX25 k43 (Or.inl q4787) q4789 qs289 cw_code q4790 ⟨by decide, by decide⟩ rfl (dl_at t_X25_index 33 rfl)) (dl_at t_X25_index 33 rfl) (cat24 (st := [rv D a0]) (Nat.le_of_ble_eq_true rfl)) (Nat.le_of_ble_eq_true rfl) (Nat.le_of_ble_eq_true rfl) fun v55 g55 => ?_
      refine g_iload_n (pc := 58) X (j := 2) (i := 2) (q := 2) (x := v13) rfl rfl (dl_at t_X25_index 34 rfl) ?_
      refine g_iconst (pc := 59) X (n := 1) (dl_at t_X25_index 35 rfl) ?_
      refine r_callTv (pc := 60) X (fun _ hv => s_X25_emit k43 g55 g13 (Or.inr rfl) hv) cw_code q4868 q379 (in_Vk X (As := [iv v55, iv v13, iv 1]) kX25 k43 (Or.inl q4865) q4867 qs302 cw_code q4868 ⟨by decide, by decide⟩ rfl (dl_at t_X25_index 36 rfl)) (dl_at t_X25_index 36 rfl) (cat24 (st := []) (Nat.le_of_ble_eq_true rfl)) (Nat.le_of_ble_eq_true rfl) (Nat.le_of_ble_eq_true rfl) (fun v60 h60 E60 => ?_) (fun _ _ ha _ => gt_at fun Q hQ => gt_out (Q := Q) X rfl ha (hno _) _ Q rfl hQ)
      refine r_iincN (pc := 63) X (i := 5) (q := 5) (n := 1) (x := x5_38) (b := 4) (w := iv x4_33) (rest := [(0, rv D a0), (1, iv a1), (2, iv v13), (3, iv x3_19)]) rfl r5_38 (r32_c rfl) (Nat.le_of_ble_eq_true rfl) [4, 0, 1, 2, 3] rfl (by decide) rfl rfl (dl_at t_X25_index 37 rfl) fun x5_63 r5_63 => ?_
      refine g_goto (pc := 66) X (off := (-28)) (tgt := 38) rfl (dl_at t_X25_index 38 rfl) ?_
      refine g_ls (ls2 := [(0, rv D a0), (1, iv a1), (2, iv v13), (3, iv x3_19), (4, iv x4_33), (5, iv x5_63)]) [2, 3, 4, 5, 1, 0] rfl ?_
      exact g_at fun Q hQ => hQ ⟨r5_63, (E_38.trans E60)⟩
    · rintro h_69 E_69
      try dsimp only [sE]
      refine g_aload_n (pc := 69) X (j := 0) (i := 0) (q := 0) (x := a0) rfl rfl (dl_at t_X25_index 39 rfl) ?_
      refine g_iload (pc := 70) X (i := 4) (q := 4) (x := x4_33) rfl (dl_at t_X25_index 40 rfl) ?_
      have k72 := kx E_69 (by decide) k21
      refine r_callWi (pc := 72) X (fun _ hv => s_X25_pagesOf k72 r4_33 hv) cw_code q4890 q379 (in_Vk X (As := [iv x4_33]) kX25 k72 (Or.inl q4887) q4889 qs306 cw_code q4890 ⟨by decide, by decide⟩ rfl (dl_at t_X25_index 41 rfl)) (dl_at t_X25_index 41 rfl) (cat24 (st := []) (Nat.le_of_ble_eq_true rfl)) (Nat.le_of_ble_eq_true rfl) (Nat.le_of_ble_eq_true rfl) fun v72 h72 g72 E72 => ?_
      refine g_istore (pc := 75) X (i := 5) (x := v72) (rest := [(0, rv D a0), (1, iv a1), (2, iv v13), (3, iv x3_19)]) (Nat.le_of_ble_eq_true rfl) [0, 1, 2, 3] rfl rfl (dl_at t_X25_index 42 rfl) ?_
      refine g_iconst (pc := 77) X (n := 0) (dl_at t_X25_index 43 rfl) ?_
      refine g_ltz (Or.inl rfl) fun x6_78 r6_78 => ?_
      refine g_istoreN (pc := 78) X (i := 6) (x := x6_78) (b := 5) (w := iv v72) (rest := [(0, rv D a0), (1, iv a1), (2, iv v13), (3, iv x3_19)]) (Nat.le_of_ble_eq_true rfl) [0, 1, 2, 3, 4] rfl (by decide) rfl rfl (dl_at t_X25_index 44 rfl) ?_
      refine g_ls (ls2 := [(0, rv D a0), (1, iv a1), (2, iv v13), (3, iv x3_19), (5, iv v72), (6, iv x6_78)]) [2, 3, 4, 5, 1, 0] rfl ?_
      refine g_loop1F (fun (q : Int × Hp) => [(0, rv D a0), (1, iv a1), (2, iv v13), (3, iv x3_19), (5, iv v72), (6, iv q.1)]) (fun (q : Int × Hp) => q.2) (fun (q : Int × Hp) => r32 q.1 ∧ Ext h72 q.2) 196 (fun (y196 : Hp) => [(0, rv D a0), (1, iv a1), (2, iv v13), (3, iv x3_19)]) (fun (y196 : Hp) => y196) (fun (y196 : Hp) => Ext h72 y196) (x6_78, h72) ⟨(r32_z r6_78), (Ext.refl _)⟩ ?_ ?_ (fun _ => rfl)
      · rintro ⟨x6_80, h_80⟩ ⟨r6_80, E_80⟩
        try dsimp only
        unfold m_X25_index_l80
        refine g_iload (pc := 80) X (i := 6) (q := 5) (x := x6_80) rfl (dl_at t_X25_index 45 rfl) ?_
        refine g_iload (pc := 82) X (i := 5) (q := 4) (x := v72) rfl (dl_at t_X25_index 46 rfl) ?_
        refine g_icmpge (pc := 84) X r6_80 g72 (off := 112) (tgt := 196) rfl (dl_at t_X25_index 47 rfl) (fun _ => ?_) (fun _ => ?_)
        · refine g_ls (ls2 := [(0, rv D a0), (1, iv a1), (2, iv v13), (3, iv x3_19)]) [0, 1, 2, 3] rfl ?_
          exact g_at fun Q hQ => hQ E_80
        refine g_iload (pc := 87) X (i := 6) (q := 5) (x := x6_80) rfl (dl_at t_X25_index 48 rfl) ?_
        refine g_istoreN (pc := 89) X (i := 7) (x := x6_80) (b := 6) (w := iv x6_80) (rest := [(0, rv D a0), (1, iv a1), (2, iv v13), (3, iv x3_19), (5, iv v72)]) (Nat.le_of_ble_eq_true rfl) [5, 0, 1, 2, 3, 4] rfl (by decide) rfl rfl (dl_at t_X25_index 49 rfl) ?_
        refine g_ls (ls2 := [(0, rv D a0), (1, iv a1), (2, iv v13), (3, iv x3_19), (5, iv v72), (6, iv x6_80), (7, iv x6_80)]) [2, 3, 4, 5, 6, 1, 0] rfl ?_
        refine g_loop1 (fun (q : Int) => [(0, rv D a0), (1, iv a1), (2, iv v13), (3, iv x3_19), (5, iv v72), (6, iv x6_80), (7, iv q)]) (fun (q : Int) => h_80) (fun (q : Int) => r32 q) 127 (fun (y127 : Int) => [(0, rv D a0), (1, iv a1), (2, iv v13), (3, iv x3_19), (5, iv v72), (6, iv x6_80), (7, iv y127)]) (fun (y127 : Int) => h_80) (fun (y127 : Int) => r32 y127) x6_80 r6_80 ?_ ?_
        · rintro x7_91 r7_91
          try dsimp only
          unfold m_X25_index_l91
          refine g_iload (pc := 91) X (i := 7) (q := 6) (x := x7_91) rfl (dl_at t_X25_index 50 rfl) ?_
          refine g_iconst (pc := 93) X (n := 1) (dl_at t_X25_index 51 rfl) ?_
          refine g_iadd (pc := 94) X r7_91 (r32_c rfl) (dl_at t_X25_index 52 rfl) ?_
          refine g_iload (pc := 95) X (i := 5) (q := 4) (x := v72) rfl (dl_at t_X25_index 53 rfl) ?_
          refine g_icmpge (pc := 97) X (r32_w _) g72 (off := 30) (tgt := 127) rfl (dl_at t_X25_index 54 rfl) (fun _ => ?_) (fun _ => ?_)
          · exact g_at fun Q hQ => hQ r7_91
          refine g_aload_n (pc := 100) X (j := 0) (i := 0) (q := 0) (x := a0) rfl rfl (dl_at t_X25_index 55 rfl) ?_
          have k101 := kx (E72.trans E_80) (by decide) k72
          refine r_getr (pc := 101) X fX25_74 k101 q3872 (dl_at t_X25_index 56 rfl) ?_
          refine g_iload (pc := 104) X (i := 7) (q := 6) (x := x7_91) rfl (dl_at t_X25_index 57 rfl) ?_
          refine g_iconst (pc := 106) X (n := 1) (dl_at t_X25_index 58 rfl) ?_
          refine g_iadd (pc := 107) X r7_91 (r32_c rfl) (dl_at t_X25_index 59 rfl) ?_
          refine g_gd fun k108 => ?_
          refine g_iald (pc := 108) X (r32_w _) k108 (dl_at t_X25_index 60 rfl) fun g108 => ?_
          refine g_aload_n (pc := 109) X (j := 0) (i := 0) (q := 0) (x := a0) rfl rfl (dl_at t_X25_index 61 rfl) ?_
          refine r_getr (pc := 110) X fX25_74 k101 q3872 (dl_at t_X25_index 62 rfl) ?_
          refine g_iload (pc := 113) X (i := 7) (q := 6) (x := x7_91) rfl (dl_at t_X25_index 63 rfl) ?_
          refine g_gd fun k115 => ?_
          refine g_iald (pc := 115) X r7_91 k115 (dl_at t_X25_index 64 rfl) fun g115 => ?_
          refine g_iconst (pc := 116) X (n := 1) (dl_at t_X25_index 65 rfl) ?_
          refine g_iadd (pc := 117) X g115 (r32_c rfl) (dl_at t_X25_index 66 rfl) ?_
          refine g_icmpne (pc := 118) X g108 (r32_w _) (off := 9) (tgt := 127) rfl (dl_at t_X25_index 67 rfl) (fun _ => ?_) (fun _ => ?_)
          · exact g_at fun Q hQ => hQ r7_91
          refine r_iincN (pc := 121) X (i := 7) (q := 6) (n := 1) (x := x7_91) (b := 6) (w := iv x6_80) (rest := [(0, rv D a0), (1, iv a1), (2, iv v13), (3, iv x3_19), (5, iv v72)]) rfl r7_91 (r32_c rfl) (Nat.le_of_ble_eq_true rfl) [5, 0, 1, 2, 3, 4] rfl (by decide) rfl rfl (dl_at t_X25_index 68 rfl) fun x7_121 r7_121 => ?_
          refine g_goto (pc := 124) X (off := (-33)) (tgt := 91) rfl (dl_at t_X25_index 69 rfl) ?_
          refine g_ls (ls2 := [(0, rv D a0), (1, iv a1), (2, iv v13), (3, iv x3_19), (5, iv v72), (6, iv x6_80), (7, iv x7_121)]) [2, 3, 4, 5, 6, 1, 0] rfl ?_
          exact g_at fun Q hQ => hQ r7_121
        · rintro x7_127 r7_127
          try dsimp only [sE]
          refine g_aload_n (pc := 127) X (j := 0) (i := 0) (q := 0) (x := a0) rfl rfl (dl_at t_X25_index 70 rfl) ?_
          refine g_bipush (pc := 128) X (n := 44) rfl (dl_at t_X25_index 71 rfl) ?_
          refine g_iload_n (pc := 130) X (j := 2) (i := 2) (q := 2) (x := v13) rfl rfl (dl_at t_X25_index 72 rfl) ?_
          refine g_iconst (pc := 131) X (n := 1) (dl_at t_X25_index 73 rfl) ?_
          have k132 := kx (E72.trans E_80) (by decide) k72
          refine r_callTv (pc := 132) X (fun _ hv => s_X25_emit k132 (r32_c rfl) g13 (Or.inr rfl) hv) cw_code q4868 q379 (in_Vk X (As := [iv 44, iv v13, iv 1]) kX25 k132 (Or.inl q4865) q4867 qs302 cw_code q4868 ⟨by decide, by decide⟩ rfl (dl_at t_X25_index 74 rfl)) (dl_at t_X25_index 74 rfl) (cat24 (st := []) (Nat.le_of_ble_eq_true rfl)) (Nat.le_of_ble_eq_true rfl) (Nat.le_of_ble_eq_true rfl) (fun v132 h132 E132 => ?_) (fun _ _ ha _ => gt_at fun Q hQ => gt_out (Q := Q) X rfl ha (hno _) _ Q rfl hQ)
          refine g_aload_n (pc := 135) X (j := 0) (i := 0) (q := 0) (x := a0) rfl rfl (dl_at t_X25_index 75 rfl) ?_
          refine g_bipush (pc := 136) X (n := 32) rfl (dl_at t_X25_index 76 rfl) ?_
          refine g_iload_n (pc := 138) X (j := 2) (i := 2) (q := 2) (x := v13) rfl rfl (dl_at t_X25_index 77 rfl) ?_
          refine g_iconst (pc := 139) X (n := 1) (dl_at t_X25_index 78 rfl) ?_
          have k140 := kx E132 (by decide) k132
          refine r_callTv (pc := 140) X (fun _ hv => s_X25_emit k140 (r32_c rfl) g13 (Or.inr rfl) hv) cw_code q4868 q379 (in_Vk X (As := [iv 32, iv v13, iv 1]) kX25 k140 (Or.inl q4865) q4867 qs302 cw_code q4868 ⟨by decide, by decide⟩ rfl (dl_at t_X25_index 79 rfl)) (dl_at t_X25_index 79 rfl) (cat24 (st := []) (Nat.le_of_ble_eq_true rfl)) (Nat.le_of_ble_eq_true rfl) (Nat.le_of_ble_eq_true rfl) (fun v140 h140 E140 => ?_) (fun _ _ ha _ => gt_at fun Q hQ => gt_out (Q := Q) X rfl ha (hno _) _ Q rfl hQ)
          refine g_aload_n (pc := 143) X (j := 0) (i := 0) (q := 0) (x := a0) rfl rfl (dl_at t_X25_index 80 rfl) ?_
          refine g_aload_n (pc := 144) X (j := 0) (i := 0) (q := 0) (x := a0) rfl rfl (dl_at t_X25_index 81 rfl) ?_
          have k145 := kx E140 (by decide) k140
          refine r_getr (pc := 145) X fX25_74 k145 q3872 (dl_at t_X25_index 82 rfl) ?_
          refine g_iload (pc := 148) X (i := 6) (q := 5) (x := x6_80) rfl (dl_at t_X25_index 83 rfl) ?_
          refine g_gd fun k150 => ?_
          refine g_iald (pc := 150) X r6_80 k150 (dl_at t_X25_index 84 rfl) fun g150 => ?_
          refine g_iload_n (pc := 151) X (j := 2) (i := 2) (q := 2) (x := v13) rfl rfl (dl_at t_X25_index 85 rfl) ?_
          refine g_iconst (pc := 152) X (n := 1) (dl_at t_X25_index 86 rfl) ?_
          refine r_callTv (pc := 153) X (fun _ hv => s_X25_digits k145 g150 g13 (Or.inr rfl) hv) cw_code q4877 q379 (in_Vk X (As := [iv (h140 (h140 a0 74) x6_80), iv v13, iv 1]) kX25 k145 (Or.inl q4874) q4876 qs304 cw_code q4877 ⟨by decide, by decide⟩ rfl (dl_at t_X25_index 87 rfl)) (dl_at t_X25_index 87 rfl) (cat24 (st := []) (Nat.le_of_ble_eq_true rfl)) (Nat.le_of_ble_eq_true rfl) (Nat.le_of_ble_eq_true rfl) (fun v153 h153 E153 => ?_) (fun _ _ ha _ => gt_at fun Q hQ => gt_out (Q := Q) X rfl ha (hno _) _ Q rfl hQ)
          refine g_iload (pc := 156) X (i := 7) (q := 6) (x := x7_127) rfl (dl_at t_X25_index 88 rfl) ?_
          refine g_iload (pc := 158) X (i := 6) (q := 5) (x := x6_80) rfl (dl_at t_X25_index 89 rfl) ?_
          refine g_isub (pc := 160) X r7_127 r6_80 (dl_at t_X25_index 90 rfl) ?_
          refine g_iconst (pc := 161) X (n := 2) (dl_at t_X25_index 91 rfl) ?_
          refine g_join (γ := Int × Hp) (fun q => r32 q.1 ∧ Ext h153 q.2) 190 (fun q => [(0, rv D a0), (1, iv a1), (2, iv v13), (3, iv x3_19), (5, iv v72), (6, iv q.1)]) (fun q => []) (fun q => q.2) (fun q => m_X25_index_j190 q.1 q.2) ?_ ?_
          · rintro ⟨x6_190, h_190⟩ ⟨r6_190, E_190⟩
            try dsimp only
            unfold m_X25_index_j190
            refine r_iincN (pc := 190) X (i := 6) (q := 5) (n := 1) (x := x6_190) (b := 5) (w := iv v72) (rest := [(0, rv D a0), (1, iv a1), (2, iv v13), (3, iv x3_19)]) rfl r6_190 (r32_c rfl) (Nat.le_of_ble_eq_true rfl) [4, 0, 1, 2, 3] rfl (by decide) rfl rfl (dl_at t_X25_index 108 rfl) fun x6_190_1 r6_190_1 => ?_
            refine g_goto (pc := 193) X (off := (-113)) (tgt := 80) rfl (dl_at t_X25_index 109 rfl) ?_
            refine g_ls (ls2 := [(0, rv D a0), (1, iv a1), (2, iv v13), (3, iv x3_19), (5, iv v72), (6, iv x6_190_1)]) [2, 3, 4, 5, 1, 0] rfl ?_
            exact g_at fun Q hQ => hQ ⟨r6_190_1, (E_80.trans (E132.trans (E140.trans (E153.trans E_190))))⟩
          intro J190
          refine g_icmplt (pc := 162) X (r32_w _) (r32_c rfl) (off := 28) (tgt := 190) rfl (dl_at t_X25_index 92 rfl) (fun _ => ?_) (fun _ => ?_)
          · refine g_ls (ls2 := [(0, rv D a0), (1, iv a1), (2, iv v13), (3, iv x3_19), (5, iv v72), (6, iv x6_80)]) [0, 1, 2, 3, 4, 5] rfl ?_
            exact J190 (x6_80, h153) ⟨r6_80, (Ext.refl _)⟩
          refine g_aload_n (pc := 165) X (j := 0) (i := 0) (q := 0) (x := a0) rfl rfl (dl_at t_X25_index 93 rfl) ?_
          refine g_bipush (pc := 166) X (n := 45) rfl (dl_at t_X25_index 94 rfl) ?_
          refine g_iload_n (pc := 168) X (j := 2) (i := 2) (q := 2) (x := v13) rfl rfl (dl_at t_X25_index 95 rfl) ?_
          refine g_iconst (pc := 169) X (n := 1) (dl_at t_X25_index 96 rfl) ?_
          have k170 := kx E153 (by decide) k145
          refine r_callTv (pc := 170) X (fun _ hv => s_X25_emit k170 (r32_c rfl) g13 (Or.inr rfl) hv) cw_code q4868 q379 (in_Vk X (As := [iv 45, iv v13, iv 1]) kX25 k170 (Or.inl q4865) q4867 qs302 cw_code q4868 ⟨by decide, by decide⟩ rfl (dl_at t_X25_index 97 rfl)) (dl_at t_X25_index 97 rfl) (cat24 (st := []) (Nat.le_of_ble_eq_true rfl)) (Nat.le_of_ble_eq_true rfl) (Nat.le_of_ble_eq_true rfl) (fun v170 h170 E170 => ?_) (fun _ _ ha _ => gt_at fun Q hQ => gt_out (Q := Q) X rfl ha (hno _) _ Q rfl hQ)
          refine g_aload_n (pc := 173) X (j := 0) (i := 0) (q := 0) (x := a0) rfl rfl (dl_at t_X25_index 98 rfl) ?_
          refine g_aload_n (pc := 174) X (j := 0) (i := 0) (q := 0) (x := a0) rfl rfl (dl_at t_X25_index 99 rfl) ?_
          have k175 := kx E170 (by decide) k170
          refine r_getr (pc := 175) X fX25_74 k175 q3872 (dl_at t_X25_index 100 rfl) ?_
          refine g_iload (pc := 178) X (i := 7) (q := 6) (x := x7_127) rfl (dl_at t_X25_index 101 rfl) ?_
          refine g_gd fun k180 => ?_
          refine g_iald (pc := 180) X r7_127 k180 (dl_at t_X25_index 102 rfl) fun g180 => ?_
          refine g_iload_n (pc := 181) X (j := 2) (i := 2) (q := 2) (x := v13) rfl rfl (dl_at t_X25_index 103 rfl) ?_
          refine g_iconst (pc := 182) X (n := 1) (dl_at t_X25_index 104 rfl) ?_
          refine r_callTv (pc := 183) X (fun _ hv => s_X25_digits k175 g180 g13 (Or.inr rfl) hv) cw_code q4877 q379 (in_Vk X (As := [iv (h170 (h170 a0 74) x7_127), iv v13, iv 1]) kX25 k175 (Or.inl q4874) q4876 qs304 cw_code q4877 ⟨by decide, by decide⟩ rfl (dl_at t_X25_index 105 rfl)) (dl_at t_X25_index 105 rfl) (cat24 (st := []) (Nat.le_of_ble_eq_true rfl)) (Nat.le_of_ble_eq_true rfl) (Nat.le_of_ble_eq_true rfl) (fun v183 h183 E183 => ?_) (fun _ _ ha _ => gt_at fun Q hQ => gt_out (Q := Q) X rfl ha (hno _) _ Q rfl hQ)
          refine g_iload (pc := 186) X (i := 7) (q := 6) (x := x7_127) rfl (dl_at t_X25_index 106 rfl) ?_
          refine g_istoreN (pc := 188) X (i := 6) (x := x7_127) (b := 5) (w := iv v72) (rest := [(0, rv D a0), (1, iv a1), (2, iv v13), (3, iv x3_19)]) (Nat.le_of_ble_eq_true rfl) [4, 0, 1, 2, 3] rfl (by decide) rfl rfl (dl_at t_X25_index 107 rfl) ?_
          refine g_ls (ls2 := [(0, rv D a0), (1, iv a1), (2, iv v13), (3, iv x3_19), (5, iv v72), (6, iv x7_127)]) [2, 3, 4, 5, 1, 0] rfl ?_
          exact J190 (x7_127, h183) ⟨r7_127, (E170.trans E183)⟩
      · rintro h_196 E_196
        try dsimp only [sE]
        refine g_aload_n (pc := 196) X (j := 0) (i := 0) (q := 0) (x := a0) rfl rfl (dl_at t_X25_index 110 rfl) ?_
        refine g_iload_n (pc := 197) X (j := 1) (i := 1) (q := 1) (x := a1) rfl rfl (dl_at t_X25_index 111 rfl) ?_
        refine g_iconst (pc := 198) X (n := 0) (dl_at t_X25_index 112 rfl) ?_
        refine g_aload_n (pc := 199) X (j := 0) (i := 0) (q := 0) (x := a0) rfl rfl (dl_at t_X25_index 113 rfl) ?_
        refine g_iload_n (pc := 200) X (j := 1) (i := 1) (q := 1) (x := a1) rfl rfl (dl_at t_X25_index 114 rfl) ?_
        have k201 := kx (E72.trans E_196) (by decide) k72
        refine r_callRi (pc := 201) X (fun _ hv => s_X25_leftOf k201 r1 hv) cw_code q4843 q379 (in_Vk X (As := [iv a1]) kX25 k201 (Or.inl q4840) q4842 qs297 cw_code q4843 ⟨by decide, by decide⟩ rfl (dl_at t_X25_index 115 rfl)) (dl_at t_X25_index 115 rfl) (cat24 (st := [iv 0, iv a1, rv D a0]) (Nat.le_of_ble_eq_true rfl)) (Nat.le_of_ble_eq_true rfl) (Nat.le_of_ble_eq_true rfl) fun v201 g201 => ?_
        refine g_aload_n (pc := 204) X (j := 0) (i := 0) (q := 0) (x := a0) rfl rfl (dl_at t_X25_index 116 rfl) ?_
        refine g_iload_n (pc := 205) X (j := 1) (i := 1) (q := 1) (x := a1) rfl rfl (dl_at t_X25_index 117 rfl) ?_
        refine g_iconst (pc := 206) X (n := 0) (dl_at t_X25_index 118 rfl) ?_
        refine r_callRl (pc := 207) X (fun _ hv => s_X25_widthOf k201 r1 (r32_c rfl) hv) cw_code q4848 q379 (in_Vk X (As := [iv a1, iv 0]) kX25 k201 (Or.inl q4845) q4847 qs298 cw_code q4848 ⟨by decide, by decide⟩ rfl (dl_at t_X25_index 119 rfl)) (dl_at t_X25_index 119 rfl) (cat24 (st := [iv v201, iv 0, iv a1, rv D a0]) (Nat.le_of_ble_eq_true rfl)) (Nat.le_of_ble_eq_true rfl) (Nat.le_of_ble_eq_true rfl) fun v207 g207 => ?_
        refine r_callTi (pc := 210) X (fun _ hv => s_X25_ended k201 r1 (r32_c rfl) g201 g207 hv) cw_code q4853 q379 (in_Vk X (As := [iv a1, iv 0, iv v201, jv v207]) kX25 k201 (Or.inl q4850) q4852 qs299 cw_code q4853 ⟨by decide, by decide⟩ rfl (dl_at t_X25_index 120 rfl)) (dl_at t_X25_index 120 rfl) (cat24 (st := []) (Nat.le_of_ble_eq_true rfl)) (Nat.le_of_ble_eq_true rfl) (Nat.le_of_ble_eq_true rfl) (fun v210 h210 g210 E210 => ?_) (fun _ _ ha _ => gt_at fun Q hQ => gt_out (Q := Q) X rfl ha (hno _) _ Q rfl hQ)
        refine g_istore (pc := 213) X (i := 6) (x := v210) (rest := [(0, rv D a0), (1, iv a1), (2, iv v13), (3, iv x3_19)]) (Nat.le_of_ble_eq_true rfl) [0, 1, 2, 3] rfl rfl (dl_at t_X25_index 121 rfl) ?_
        refine g_iload (pc := 215) X (i := 6) (q := 0) (x := v210) rfl (dl_at t_X25_index 122 rfl) ?_
        refine g_join (γ := Hp) (fun q => Ext h210 q) 227 (fun q => [(0, rv D a0), (1, iv a1), (2, iv v13), (3, iv x3_19)]) (fun q => []) (fun q => q) (fun q => m_X25_index_j227 x3_19 q) ?_ ?_
        · rintro h_227 E_227
          try dsimp only
          unfold m_X25_index_j227
          refine r_iincN (pc := 227) X (i := 3) (q := 3) (n := 1) (x := x3_19) (b := 2) (w := iv v13) (rest := [(0, rv D a0), (1, iv a1)]) rfl r3_19 (r32_c rfl) (Nat.le_of_ble_eq_true rfl) [2, 0, 1] rfl (by decide) rfl rfl (dl_at t_X25_index 128 rfl) fun x3_227 r3_227 => ?_
          refine g_goto (pc := 230) X (off := (-211)) (tgt := 19) rfl (dl_at t_X25_index 129 rfl) ?_
          refine g_ls (ls2 := [(0, rv D a0), (1, iv a1), (2, iv v13), (3, iv x3_227)]) [2, 3, 1, 0] rfl ?_
          exact g_at fun Q hQ => hQ ⟨r3_227, (E_19.trans (E_69.trans (E72.trans (E_196.trans (E210.trans E_227)))))⟩
        intro J227
        refine g_iflt (pc := 217) X g210 (off := 10) (tgt := 227) rfl (dl_at t_X25_index 123 rfl) (fun _ => ?_) (fun _ => ?_)
        · refine g_ls (ls2 := [(0, rv D a0), (1, iv a1), (2, iv v13), (3, iv x3_19)]) [1, 2, 3, 4] rfl ?_
          exact J227 h210 (Ext.refl _)
        refine g_aload_n (pc := 220) X (j := 0) (i := 0) (q := 1) (x := a0) rfl rfl (dl_at t_X25_index 124 rfl) ?_
        refine g_iconst (pc := 221) X (n := 0) (dl_at t_X25_index 125 rfl) ?_
        refine g_iload (pc := 222) X (i := 6) (q := 0) (x := v210) rfl (dl_at t_X25_index 126 rfl) ?_
        have k224 := kx E210 (by decide) k201
        refine r_callV (pc := 224) X (fun _ hv => s_X25_addFlow k224 (r32_c rfl) g210 hv) cw_code q4857 q379 (in_Vk X (As := [iv 0, iv v210]) kX25 k224 (Or.inl q4854) q4856 qs300 cw_code q4857 ⟨by decide, by decide⟩ rfl (dl_at t_X25_index 127 rfl)) (dl_at t_X25_index 127 rfl) (cat24 (st := []) (Nat.le_of_ble_eq_true rfl)) (Nat.le_of_ble_eq_true rfl) (Nat.le_of_ble_eq_true rfl) fun h224 E224 => ?_
        refine g_ls (ls2 := [(0, rv D a0), (1, iv a1), (2, iv v13), (3, iv x3_19)]) [1, 2, 3, 4] rfl ?_
        exact J227 h224 E224
def k_X25_label : List (Nat × Instr × Nat) := [(0, .aload_n 0, 1), (1, .getfield 14, 3), (4, .iload_n 1, 1), (5, .invokevirtual 513, 3), (8, .ifCond .ne 4, 3), (11, .return_, 1), (12, .aload_n 0, 1), (13, .getfield 14, 3), (16, .aload_n 0, 1), (17, .getfield 14, 3), (20, .getfield 516, 3), (23, .iload_n 1, 1), (24, .iaload, 1), (25, .aload_n 0, 1), (26, .getfield 14, 3), (29, .iload_n 1, 1), (30, .bipush 18, 2), (32, .invokevirtual 477, 3), (35, .invokevirtual 519, 3), (38, .istore_n 3, 1), (39, .aload_n 0, 1), (40, .getfield 14, 3), (43, .getfield 522, 3), (46, .iload_n 1, 1), (47, .iaload, 1), (48, .istore 4, 2), (50, .iload 4, 2), (52, .aload_n 0, 1), (53, .getfield 14, 3), (56, .getfield 525, 3), (59, .iload_n 1, 1), (60, .iaload, 1), (61, .if_icmp .ge 89, 3), (64, .aload_n 0, 1), (65, .getfield 14, 3), (68, .getfield 528, 3), (71, .iload 4, 2), (73, .baload, 1), (74, .bipush 35, 2), (76, .if_icmp .eq 30, 3), (79, .aload_n 0, 1), (80, .aload_n 0, 1), (81, .getfield 14, 3), (84, .getfield 528, 3), (87, .iload 4, 2), (89, .baload, 1), (90, .aload_n 0, 1), (91, .getfield 14, 3), (94, .iload_n 1, 1), (95, .iconst 1, 1), (96, .invokevirtual 477, 3), (99, .iload_n 2, 1), (100, .invokevirtual 531, 3), (103, .goto 41, 3), (106, .iconst 0, 1), (107, .istore 5, 2), (109, .iload 5, 2), (111, .iload_n 3, 1), (112, .if_icmp .ge 32, 3), (115, .aload_n 0, 1), (116, .aload_n 0, 1), (117, .getfield 14, 3), (120, .iload 5, 2), (122, .invokevirtual 535, 3), (125, .aload_n 0, 1), (126, .getfield 14, 3), (129, .iload_n 1, 1), (130, .iconst 1, 1), (131, .invokevirtual 477, 3), (134, .iload_n 2, 1), (135, .invokevirtual 531, 3), (138, .iinc 5 1, 3), (141, .goto (-32), 3), (144, .iinc 4 1, 3), (147, .goto (-97), 3), (150, .return_, 1)]
theorem t_X25_label : ∀ q ∈ k_X25_label, decode cX25_label q.1 = .ok q.2 := dl_all (by decide +kernel)
noncomputable def m_X25_label_j144 (x4_50 : Int) (h_144 : Hp) : Option ((Int × Hp) ⊕ (((Int × Int) × Hp))) :=
  lt_ (w32 (x4_50 + 1)) fun x4_144 =>
  some (.inl (x4_144, h_144))
noncomputable def m_X25_label_l109 (a0 a1 a2 v35 x5_109 : Int) (h_109 : Hp) : Option ((Int × Hp) ⊕ ((Hp) ⊕ (((Int × Hp) ⊕ (((Int × Int) × Hp)))))) :=
  if v35 ≤ x5_109 then (some (.inr (.inl h_109)))
  else (gd (h_109 (h_109 a0 0) (-2) = 400) ((m_X24_digit (h_109 a0 0) x5_109 h_109).bind fun v122 =>
  (m_X24_of (h_109 a0 0) a1 1 h_109).bind fun v131 =>
  bT (m_X25_emit a0 v122 v131 a2 h_109) (fun _ h135 =>
  lt_ (w32 (x5_109 + 1)) fun x5_138 =>
  some (.inl (x5_138, h135))) (fun a_ h_ => some (.inr (.inr (.inr ((1, a_), h_)))))))
noncomputable def m_X25_label_l50 (a0 a1 a2 v35 x4_50 : Int) (h_50 : Hp) : Option ((Int × Hp) ⊕ (((Int × Int) × Hp))) :=
  gd (h_50 (h_50 a0 0) (-2) = 400) (gd (h_50 (h_50 (h_50 a0 0) 5) (-2) % 16 = 1 ∧ (0 : Int) ≤ a1 ∧ a1 < h_50 (h_50 (h_50 a0 0) 5) (-1)) (if (h_50 (h_50 (h_50 a0 0) 5) a1) ≤ x4_50 then (some (.inr ((0, 0), h_50)))
  else (gd (h_50 (h_50 (h_50 a0 0) 1) (-2) % 16 = 2 ∧ (0 : Int) ≤ x4_50 ∧ x4_50 < h_50 (h_50 (h_50 a0 0) 1) (-1)) (if (h_50 (h_50 (h_50 a0 0) 1) x4_50) = 35 then (lt_ 0 fun x5_107 =>
  (lp (fun (q : Int × Hp) => m_X25_label_l109 a0 a1 a2 v35 q.1 q.2) (x5_107, h_50)).bind (sE (fun (y144 : Hp) => m_X25_label_j144 x4_50 y144) (fun (x : (Int × Hp) ⊕ (((Int × Int) × Hp))) => some x)))
  else ((m_X24_of (h_50 a0 0) a1 1 h_50).bind fun v96 =>
  bT (m_X25_emit a0 (h_50 (h_50 (h_50 a0 0) 1) x4_50) v96 a2 h_50) (fun _ h100 =>
  m_X25_label_j144 x4_50 h100) (fun a_ h_ => some (.inr ((1, a_), h_))))))))
noncomputable def m_X25_label (a0 a1 a2 : Int) (h : Hp) : Option ((Int × Int) × Hp) :=
  gd (h (h a0 0) (-2) = 400) ((m_X24_hasLabel (h a0 0) a1 h).bind fun v5 =>
  if v5 ≠ 0 then (gd (h (h (h a0 0) 6) (-2) % 16 = 1 ∧ (0 : Int) ≤ a1 ∧ a1 < h (h (h a0 0) 6) (-1)) ((m_X24_of (h a0 0) a1 18 h).bind fun v32 =>
  bW (m_X24_form (h a0 0) (h (h (h a0 0) 6) a1) v32 h) fun v35 h35 =>
  gd (h35 (h35 a0 0) (-2) = 400) (gd (h35 (h35 (h35 a0 0) 4) (-2) % 16 = 1 ∧ (0 : Int) ≤ a1 ∧ a1 < h35 (h35 (h35 a0 0) 4) (-1)) (lt_ (h35 (h35 (h35 a0 0) 4) a1) fun x4_48 =>
  (lp (fun (q : Int × Hp) => m_X25_label_l50 a0 a1 a2 v35 q.1 q.2) (x4_48, h35)).bind (fun (x : (Int × Int) × Hp) => some x)))))
  else (some ((0, 0), h)))
theorem s_X25_label {l : Launch} [NoTr l] {D : SD} {a0 a1 a2 : Int} {h : Hp} (hk : h a0 (-2) = 416) (r1 : r32 a1) (r2 : (a2 = 0 ∨ a2 = 1)) {r : (Int × Int) × Hp} (hm : m_X25_label a0 a1 a2 h = some r) : Sim l D yX25_label (Cond.code yX25_label cX25_label 6 (Option.none : Option Jvm.ClassFile.FieldType)) 11 414 [rv D a0, iv a1, iv a2] h 0 r := by
  refine Sim.of (fin := fun (v : (Int × Int) × Hp) => v) (lsE := [(0, rv D a0), (1, iv a1), (2, iv a2)]) hm rfl cwS_code (la_r (la_i (la_i la_n))) (ll_r (ll_i (ll_i ll_n))) ?_
  intro p e s m below meth c X hcw hmm hcc hnm hname
  have hno := noh hcw hnm hmm hcc
  unfold m_X25_label
  refine g_aload_n (pc := 0) X (j := 0) (i := 0) (q := 0) (x := a0) rfl rfl (dl_at t_X25_label 0 rfl) ?_
  refine r_getr (pc := 1) X fX25_0 hk q3761 (dl_at t_X25_label 1 rfl) ?_
  refine g_iload_n (pc := 4) X (j := 1) (i := 1) (q := 1) (x := a1) rfl rfl (dl_at t_X25_label 2 rfl) ?_
  refine g_gd fun k5 => ?_
  refine r_callRz (pc := 5) X (fun _ hv => s_X24_hasLabel k5 r1 hv) cw_code q4747 q378 (in_Vk X (As := [iv a1]) kX24 k5 (Or.inl q4895) q4745 q4746 cw_code q4747 ⟨by decide, by decide⟩ rfl (dl_at t_X25_label 3 rfl)) (dl_at t_X25_label 3 rfl) (cat24 (st := []) (Nat.le_of_ble_eq_true rfl)) (Nat.le_of_ble_eq_true rfl) (Nat.le_of_ble_eq_true rfl) fun v5 g5 => ?_
  refine g_ifne (pc := 8) X (r32_z g5) (off := 4) (tgt := 12) rfl (dl_at t_X25_label 4 rfl) (fun _ => ?_) (fun _ => ?_)
  · refine g_aload_n (pc := 12) X (j := 0) (i := 0) (q := 0) (x := a0) rfl rfl (dl_at t_X25_label 6 rfl) ?_
    refine r_getr (pc := 13) X fX25_0 hk q3761 (dl_at t_X25_label 7 rfl) ?_
    refine g_aload_n (pc := 16) X (j := 0) (i := 0) (q := 0) (x := a0) rfl rfl (dl_at t_X25_label 8 rfl) ?_
    refine r_getr (pc := 17) X fX25_0 hk q3761 (dl_at t_X25_label 9 rfl) ?_
    refine r_getr (pc := 20) X fX24_6 k5 q3655 (dl_at t_X25_label 10 rfl) ?_
    refine g_iload_n (pc := 23) X (j := 1) (i := 1) (q := 1) (x := a1) rfl rfl (dl_at t_X25_label 11 rfl) ?_
    refine g_gd fun k24 => ?_
    refine g_iald (pc := 24) X r1 k24 (dl_at t_X25_label 12 rfl) fun g24 => ?_
    refine g_aload_n (pc := 25) X (j := 0) (i := 0) (q := 0) (x := a0) rfl rfl (dl_at t_X25_label 13 rfl) ?_
    refine r_getr (pc := 26) X fX25_0 hk q3761 (dl_at t_X25_label 14 rfl) ?_
    refine g_iload_n (pc := 29) X (j := 1) (i := 1) (q := 1) (x := a1) rfl rfl (dl_at t_X25_label 15 rfl) ?_
    refine g_bipush (pc := 30) X (n := 18) rfl (dl_at t_X25_label 16 rfl) ?_
    refine r_callRi (pc := 32) X (fun _ hv => s_X24_of k5 r1 (r32_c rfl) hv) cw_code q4704 q378 (in_Vk X (As := [iv a1, iv 18]) kX24 k5 (Or.inl q4844) q4702 q4703 cw_code q4704 ⟨by decide, by decide⟩ rfl (dl_at t_X25_label 17 rfl)) (dl_at t_X25_label 17 rfl) (cat24 (st := [iv (h (h (h a0 0) 6) a1), rv D (h a0 0)]) (Nat.le_of_ble_eq_true rfl)) (Nat.le_of_ble_eq_true rfl) (Nat.le_of_ble_eq_true rfl) fun v32 g32 => ?_
    refine r_callWi (pc := 35) X (fun _ hv => s_X24_form k5 g24 g32 hv) cw_code q4751 q378 (in_Vk X (As := [iv (h (h (h a0 0) 6) a1), iv v32]) kX24 k5 (Or.inl q4878) q4749 q4750 cw_code q4751 ⟨by decide, by decide⟩ rfl (dl_at t_X25_label 18 rfl)) (dl_at t_X25_label 18 rfl) (cat24 (st := []) (Nat.le_of_ble_eq_true rfl)) (Nat.le_of_ble_eq_true rfl) (Nat.le_of_ble_eq_true rfl) fun v35 h35 g35 E35 => ?_
    refine g_istore_nN (pc := 38) X (j := 3) (i := 3) (x := v35) (b := 2) (w := iv a2) (rest := [(0, rv D a0), (1, iv a1)]) rfl (Nat.le_of_ble_eq_true rfl) [2, 0, 1] rfl (by decide) rfl rfl (dl_at t_X25_label 19 rfl) ?_
    refine g_aload_n (pc := 39) X (j := 0) (i := 0) (q := 2) (x := a0) rfl rfl (dl_at t_X25_label 20 rfl) ?_
    have k40 := kx E35 (by decide) hk
    refine r_getr (pc := 40) X fX25_0 k40 q3761 (dl_at t_X25_label 21 rfl) ?_
    refine g_gd fun k43 => ?_
    refine r_getr (pc := 43) X fX24_4 k43 q3651 (dl_at t_X25_label 22 rfl) ?_
    refine g_iload_n (pc := 46) X (j := 1) (i := 1) (q := 3) (x := a1) rfl rfl (dl_at t_X25_label 23 rfl) ?_
    refine g_gd fun k47 => ?_
    refine g_iald (pc := 47) X r1 k47 (dl_at t_X25_label 24 rfl) fun g47 => ?_
    refine g_lti g47 fun x4_48 r4_48 => ?_
    refine g_istoreN (pc := 48) X (i := 4) (x := x4_48) (b := 3) (w := iv v35) (rest := [(2, iv a2), (0, rv D a0), (1, iv a1)]) (Nat.le_of_ble_eq_true rfl) [0, 1, 2, 3] rfl (by decide) rfl rfl (dl_at t_X25_label 25 rfl) ?_
    refine g_ls (ls2 := [(0, rv D a0), (1, iv a1), (2, iv a2), (3, iv v35), (4, iv x4_48)]) [3, 4, 2, 1, 0] rfl ?_
    refine g_loop0F (fun (q : Int × Hp) => [(0, rv D a0), (1, iv a1), (2, iv a2), (3, iv v35), (4, iv q.1)]) (fun (q : Int × Hp) => q.2) (fun (q : Int × Hp) => r32 q.1 ∧ Ext h35 q.2) (x4_48, h35) ⟨r4_48, (Ext.refl _)⟩ ?_ (fun _ => rfl)
    · rintro ⟨x4_50, h_50⟩ ⟨r4_50, E_50⟩
      try dsimp only
      unfold m_X25_label_l50
      refine g_iload (pc := 50) X (i := 4) (q := 4) (x := x4_50) rfl (dl_at t_X25_label 26 rfl) ?_
      refine g_aload_n (pc := 52) X (j := 0) (i := 0) (q := 0) (x := a0) rfl rfl (dl_at t_X25_label 27 rfl) ?_
      have k53 := kx E_50 (by decide) k40
      refine r_getr (pc := 53) X fX25_0 k53 q3761 (dl_at t_X25_label 28 rfl) ?_
      refine g_gd fun k56 => ?_
      refine r_getr (pc := 56) X fX24_5 k56 q3653 (dl_at t_X25_label 29 rfl) ?_
      refine g_iload_n (pc := 59) X (j := 1) (i := 1) (q := 1) (x := a1) rfl rfl (dl_at t_X25_label 30 rfl) ?_
      refine g_gd fun k60 => ?_
      refine g_iald (pc := 60) X r1 k60 (dl_at t_X25_label 31 rfl) fun g60 => ?_
      refine g_icmpge (pc := 61) X r4_50 g60 (off := 89) (tgt := 150) rfl (dl_at t_X25_label 32 rfl) (fun _ => ?_) (fun _ => ?_)
      · exact g_at fun Q hQ => (g_vret (pc := 150) X (v := 0) rfl rfl (dl_at t_X25_label 75 rfl)) _ Q rfl hQ
      refine g_aload_n (pc := 64) X (j := 0) (i := 0) (q := 0) (x := a0) rfl rfl (dl_at t_X25_label 33 rfl) ?_
      refine r_getr (pc := 65) X fX25_0 k53 q3761 (dl_at t_X25_label 34 rfl) ?_
      refine r_getr (pc := 68) X fX24_1 k56 q3645 (dl_at t_X25_label 35 rfl) ?_
      refine g_iload (pc := 71) X (i := 4) (q := 4) (x := x4_50) rfl (dl_at t_X25_label 36 rfl) ?_
      refine g_gd fun k73 => ?_
      refine g_bald (pc := 73) X r4_50 k73 (dl_at t_X25_label 37 rfl) fun g73 => ?_
      refine g_bipush (pc := 74) X (n := 35) rfl (dl_at t_X25_label 38 rfl) ?_
      refine g_join (γ := Hp) (fun q => Ext h_50 q) 144 (fun q => [(0, rv D a0), (1, iv a1), (2, iv a2), (3, iv v35), (4, iv x4_50)]) (fun q => []) (fun q => q) (fun q => m_X25_label_j144 x4_50 q) ?_ ?_
      · rintro h_144 E_144
        try dsimp only
        unfold m_X25_label_j144
        refine r_iincN (pc := 144) X (i := 4) (q := 4) (n := 1) (x := x4_50) (b := 3) (w := iv v35) (rest := [(0, rv D a0), (1, iv a1), (2, iv a2)]) rfl r4_50 (r32_c rfl) (Nat.le_of_ble_eq_true rfl) [3, 0, 1, 2] rfl (by decide) rfl rfl (dl_at t_X25_label 73 rfl) fun x4_144 r4_144 => ?_
        refine g_goto (pc := 147) X (off := (-97)) (tgt := 50) rfl (dl_at t_X25_label 74 rfl) ?_
        refine g_ls (ls2 := [(0, rv D a0), (1, iv a1), (2, iv a2), (3, iv v35), (4, iv x4_144)]) [2, 3, 4, 1, 0] rfl ?_
        exact g_at fun Q hQ => hQ ⟨r4_144, (E_50.trans E_144)⟩
      intro J144
      refine g_icmpeq (pc := 76) X (r32_b g73) (r32_c rfl) (off := 30) (tgt := 106) rfl (dl_at t_X25_label 39 rfl) (fun _ => ?_) (fun _ => ?_)
      · refine g_iconst (pc := 106) X (n := 0) (dl_at t_X25_label 54 rfl) ?_
        refine g_ltz (Or.inl rfl) fun x5_107 r5_107 => ?_
        refine g_istoreN (pc := 107) X (i := 5) (x := x5_107) (b := 4) (w := iv x4_50) (rest := [(0, rv D a0), (1, iv a1), (2, iv a2), (3, iv v35)]) (Nat.le_of_ble_eq_true rfl) [4, 0, 1, 2, 3] rfl (by decide) rfl rfl (dl_at t_X25_label 55 rfl) ?_
        refine g_ls (ls2 := [(0, rv D a0), (1, iv a1), (2, iv a2), (3, iv v35), (4, iv x4_50), (5, iv x5_107)]) [2, 3, 4, 5, 1, 0] rfl ?_
        refine g_loop1F (fun (q : Int × Hp) => [(0, rv D a0), (1, iv a1), (2, iv a2), (3, iv v35), (4, iv x4_50), (5, iv q.1)]) (fun (q : Int × Hp) => q.2) (fun (q : Int × Hp) => r32 q.1 ∧ Ext h_50 q.2) 144 (fun (y144 : Hp) => [(0, rv D a0), (1, iv a1), (2, iv a2), (3, iv v35), (4, iv x4_50)]) (fun (y144 : Hp) => y144) (fun (y144 : Hp) => Ext h_50 y144) (x5_107, h_50) ⟨(r32_z r5_107), (Ext.refl _)⟩ ?_ ?_ (fun _ => rfl)
        · rintro ⟨x5_109, h_109⟩ ⟨r5_109, E_109⟩
          try dsimp only
          unfold m_X25_label_l109
          refine g_iload (pc := 109) X (i := 5) (q := 5) (x := x5_109) rfl (dl_at t_X25_label 56 rfl) ?_
          refine g_iload_n (pc := 111) X (j := 3) (i := 3) (q := 3) (x := v35) rfl rfl (dl_at t_X25_label 57 rfl) ?_
          refine g_icmpge (pc := 112) X r5_109 g35 (off := 32) (tgt := 144) rfl (dl_at t_X25_label 58 rfl) (fun _ => ?_) (fun _ => ?_)
          · refine g_ls (ls2 := [(0, rv D a0), (1, iv a1), (2, iv a2), (3, iv v35), (4, iv x4_50)]) [0, 1, 2, 3, 4] rfl ?_
            exact g_at fun Q hQ => hQ E_109
          refine g_aload_n (pc := 115) X (j := 0) (i := 0) (q := 0) (x := a0) rfl rfl (dl_at t_X25_label 59 rfl) ?_
          refine g_aload_n (pc := 116) X (j := 0) (i := 0) (q := 0) (x := a0) rfl rfl (dl_at t_X25_label 60 rfl) ?_
          have k117 := kx E_109 (by decide) k53
          refine r_getr (pc := 117) X fX25_0 k117 q3761 (dl_at t_X25_label 61 rfl) ?_
          refine g_iload (pc := 120) X (i := 5) (q := 5) (x := x5_109) rfl (dl_at t_X25_label 62 rfl) ?_
          refine g_gd fun k122 => ?_
          refine r_callRi (pc := 122) X (fun _ hv => s_X24_digit k122 r5_109 hv) cw_code q4882 q378 (in_Vk X (As := [iv x5_109]) kX24 k122 (Or.inl q4879) q4880 q4881 cw_code q4882 ⟨by decide, by decide⟩ rfl (dl_at t_X25_label 63 rfl)) (dl_at t_X25_label 63 rfl) (cat24 (st := [rv D a0]) (Nat.le_of_ble_eq_true rfl)) (Nat.le_of_ble_eq_true rfl) (Nat.le_of_ble_eq_true rfl) fun v122 g122 => ?_
          refine g_aload_n (pc := 125) X (j := 0) (i := 0) (q := 0) (x := a0) rfl rfl (dl_at t_X25_label 64 rfl) ?_
          refine r_getr (pc := 126) X fX25_0 k117 q3761 (dl_at t_X25_label 65 rfl) ?_
          refine g_iload_n (pc := 129) X (j := 1) (i := 1) (q := 1) (x := a1) rfl rfl (dl_at t_X25_label 66 rfl) ?_
          refine g_iconst (pc := 130) X (n := 1) (dl_at t_X25_label 67 rfl) ?_
          refine r_callRi (pc := 131) X (fun _ hv => s_X24_of k122 r1 (r32_c rfl) hv) cw_code q4704 q378 (in_Vk X (As := [iv a1, iv 1]) kX24 k122 (Or.inl q4844) q4702 q4703 cw_code q4704 ⟨by decide, by decide⟩ rfl (dl_at t_X25_label 68 rfl)) (dl_at t_X25_label 68 rfl) (cat24 (st := [iv v122, rv D a0]) (Nat.le_of_ble_eq_true rfl)) (Nat.le_of_ble_eq_true rfl) (Nat.le_of_ble_eq_true rfl) fun v131 g131 => ?_
          refine g_iload_n (pc := 134) X (j := 2) (i := 2) (q := 2) (x := a2) rfl rfl (dl_at t_X25_label 69 rfl) ?_
          refine r_callTv (pc := 135) X (fun _ hv => s_X25_emit k117 g122 g131 r2 hv) cw_code q4868 q379 (in_Vk X (As := [iv v122, iv v131, iv a2]) kX25 k117 (Or.inl q4865) q4867 qs302 cw_code q4868 ⟨by decide, by decide⟩ rfl (dl_at t_X25_label 70 rfl)) (dl_at t_X25_label 70 rfl) (cat24 (st := []) (Nat.le_of_ble_eq_true rfl)) (Nat.le_of_ble_eq_true rfl) (Nat.le_of_ble_eq_true rfl) (fun v135 h135 E135 => ?_) (fun _ _ ha _ => gt_at fun Q hQ => gt_out (Q := Q) X rfl ha (hno _) _ Q rfl hQ)
          refine r_iincN (pc := 138) X (i := 5) (q := 5) (n := 1) (x := x5_109) (b := 4) (w := iv x4_50) (rest := [(0, rv D a0), (1, iv a1), (2, iv a2), (3, iv v35)]) rfl r5_109 (r32_c rfl) (Nat.le_of_ble_eq_true rfl) [4, 0, 1, 2, 3] rfl (by decide) rfl rfl (dl_at t_X25_label 71 rfl) fun x5_138 r5_138 => ?_
          refine g_goto (pc := 141) X (off := (-32)) (tgt := 109) rfl (dl_at t_X25_label 72 rfl) ?_
          refine g_ls (ls2 := [(0, rv D a0), (1, iv a1), (2, iv a2), (3, iv v35), (4, iv x4_50), (5, iv x5_138)]) [2, 3, 4, 5, 1, 0] rfl ?_
          exact g_at fun Q hQ => hQ ⟨r5_138, (E_109.trans E135)⟩
        · rintro h_144_1 E_144_1
          try dsimp only [sE]
          exact J144 h_144_1 E_144_1
      refine g_aload_n (pc := 79) X (j := 0) (i := 0) (q := 0) (x := a0) rfl rfl (dl_at t_X25_label 40 rfl) ?_
      refine g_aload_n (pc := 80) X (j := 0) (i := 0) (q := 0) (x := a0) rfl rfl (dl_at t_X25_label 41 rfl) ?_
      refine r_getr (pc := 81) X fX25_0 k53 q3761 (dl_at t_X25_label 42 rfl) ?_
      refine r_getr (pc := 84) X fX24_1 k56 q3645 (dl_at t_X25_label 43 rfl) ?_
      refine g_iload (pc := 87) X (i := 4) (q := 4) (x := x4_50) rfl (dl_at t_X25_label 44 rfl) ?_
      refine g_bald (pc := 89) X r4_50 k73 (dl_at t_X25_label 45 rfl) fun g89 => ?_
      refine g_aload_n (pc := 90) X (j := 0) (i := 0) (q := 0) (x := a0) rfl rfl (dl_at t_X25_label 46 rfl) ?_
      refine r_getr (pc := 91) X fX25_0 k53 q3761 (dl_at t_X25_label 47 rfl) ?_
      refine g_iload_n (pc := 94) X (j := 1) (i := 1) (q := 1) (x := a1) rfl rfl (dl_at t_X25_label 48 rfl) ?_
      refine g_iconst (pc := 95) X (n := 1) (dl_at t_X25_label 49 rfl) ?_
      refine r_callRi (pc := 96) X (fun _ hv => s_X24_of k56 r1 (r32_c rfl) hv) cw_code q4704 q378 (in_Vk X (As := [iv a1, iv 1]) kX24 k56 (Or.inl q4844) q4702 q4703 cw_code q4704 ⟨by decide, by decide⟩ rfl (dl_at t_X25_label 50 rfl)) (dl_at t_X25_label 50 rfl) (cat24 (st := [iv (h_50 (h_50 (h_50 a0 0) 1) x4_50), rv D a0]) (Nat.le_of_ble_eq_true rfl)) (Nat.le_of_ble_eq_true rfl) (Nat.le_of_ble_eq_true rfl) fun v96 g96 => ?_
      refine g_iload_n (pc := 99) X (j := 2) (i := 2) (q := 2) (x := a2) rfl rfl (dl_at t_X25_label 51 rfl) ?_
      refine r_callTv (pc := 100) X (fun _ hv => s_X25_emit k53 (r32_b g89) g96 r2 hv) cw_code q4868 q379 (in_Vk X (As := [iv (h_50 (h_50 (h_50 a0 0) 1) x4_50), iv v96, iv a2]) kX25 k53 (Or.inl q4865) q4867 qs302 cw_code q4868 ⟨by decide, by decide⟩ rfl (dl_at t_X25_label 52 rfl)) (dl_at t_X25_label 52 rfl) (cat24 (st := []) (Nat.le_of_ble_eq_true rfl)) (Nat.le_of_ble_eq_true rfl) (Nat.le_of_ble_eq_true rfl) (fun v100 h100 E100 => ?_) (fun _ _ ha _ => gt_at fun Q hQ => gt_out (Q := Q) X rfl ha (hno _) _ Q rfl hQ)
      refine g_goto (pc := 103) X (off := 41) (tgt := 144) rfl (dl_at t_X25_label 53 rfl) ?_
      exact J144 h100 E100
  exact g_vret (pc := 11) X (v := 0) rfl rfl (dl_at t_X25_label 5 rfl)
def k_X23_elementOf : List (Nat × Instr × Nat) := [(0, .iconst 0, 1), (1, .istore 4, 2), (3, .iload 4, 2), (5, .aload_n 0, 1), (6, .getfield 80, 3), (9, .if_icmp .ge 54, 3), (12, .aload_n 0, 1), (13, .iload 4, 2), (15, .ldc 176, 2), (17, .invokevirtual 178, 3), (20, .istore 5, 2), (22, .iload 5, 2), (24, .ifCond .lt 33, 3), (27, .aload_n 0, 1), (28, .getfield 9, 3), (31, .aload_n 0, 1), (32, .getfield 55, 3), (35, .iload 5, 2), (37, .iaload, 1), (38, .aload_n 0, 1), (39, .getfield 58, 3), (42, .iload 5, 2), (44, .iaload, 1), (45, .aload_n 1, 1), (46, .iload_n 2, 1), (47, .iload_n 3, 1), (48, .invokestatic 131, 3), (51, .ifCond .eq 6, 3), (54, .iload 4, 2), (56, .ireturn, 1), (57, .iinc 4 1, 3), (60, .goto (-57), 3), (63, .iconst (-1), 1), (64, .ireturn, 1)]
theorem t_X23_elementOf : ∀ q ∈ k_X23_elementOf, decode cX23_elementOf q.1 = .ok q.2 := dl_all (by decide +kernel)
noncomputable def m_X23_elementOf_j57 (x4_3 : Int) : Option ((Int) ⊕ ((Int))) :=
  lt_ (w32 (x4_3 + 1)) fun x4_57 =>
  some (.inl x4_57)
noncomputable def m_X23_elementOf_l3 (a0 a1 a2 a3 x4_3 : Int) (h : Hp) : Option ((Int) ⊕ ((Int))) :=
  if (h a0 3) ≤ x4_3 then (some (.inr (-1)))
  else ((m_X23_fieldOf_2 a0 x4_3 (-88) h).bind fun v17 =>
  if v17 < 0 then (m_X23_elementOf_j57 x4_3)
  else (gd (h (h a0 19) (-2) % 16 = 1 ∧ (0 : Int) ≤ v17 ∧ v17 < h (h a0 19) (-1)) (gd (h (h a0 20) (-2) % 16 = 1 ∧ (0 : Int) ≤ v17 ∧ v17 < h (h a0 20) (-1)) ((m_X18_same (h a0 0) (h (h a0 19) v17) (h (h a0 20) v17) a1 a2 a3 h).bind fun v48 =>
  if v48 = 0 then (m_X23_elementOf_j57 x4_3)
  else (some (.inr x4_3))))))
noncomputable def m_X23_elementOf (a0 a1 a2 a3 : Int) (h : Hp) : Option (Int) :=
  lt_ 0 fun x4_1 =>
  (lp (fun (q : Int) => m_X23_elementOf_l3 a0 a1 a2 a3 q h) x4_1).bind (fun (x : Int) => some x)
theorem s_X23_elementOf {l : Launch} [NoTr l] {D : SD} {a0 a1 a2 a3 : Int} {h : Hp} (hk : h a0 (-2) = 384) (r2 : r32 a2) (r3 : r32 a3) {r : Int} (hm : m_X23_elementOf a0 a1 a2 a3 h = some r) : Sim l D yX23_elementOf (Cond.code yX23_elementOf cX23_elementOf 6 (Option.some Jvm.ClassFile.FieldType.int)) 6 279 [rv D a0, rv D a1, iv a2, iv a3] h 1 ((0, r), h) := by
  refine Sim.of (fin := fun (v : Int) => ((0, v), h)) (lsE := [(0, rv D a0), (1, rv D a1), (2, iv a2), (3, iv a3)]) hm rfl cwS_code (la_r (la_r (la_i (la_i la_n)))) (ll_r (ll_r (ll_i (ll_i ll_n)))) ?_
  intro p e s m below meth c X hcw hmm hcc hnm hname
  unfold m_X23_elementOf
  refine g_iconst (pc := 0) X (n := 0) (dl_at t_X23_elementOf 0 rfl) ?_
  refine g_ltz (Or.inl rfl) fun x4_1 r4_1 => ?_
  refine g_istoreN (pc := 1) X (i := 4) (x := x4_1) (b := 3) (w := iv a3) (rest := [(0, rv D a0), (1, rv D a1), (2, iv a2)]) (Nat.le_of_ble_eq_true rfl) [3, 0, 1, 2] rfl (by decide) rfl rfl (dl_at t_X23_elementOf 1 rfl) ?_
  refine g_ls (ls2 := [(0, rv D a0), (1, rv D a1), (2, iv a2), (3, iv a3), (4, iv x4_1)]) [2, 3, 4, 1, 0] rfl ?_
  refine g_loop0F (fun (q : Int) => [(0, rv D a0), (1, rv D a1), (2, iv a2), (3, iv a3), (4, iv q)]) (fun (q : Int) => h) (fun (q : Int) => r32 q) x4_1 (r32_z r4_1) ?_ (fun _ => rfl)
  · rintro x4_3 r4_3
    try dsimp only
    unfold m_X23_elementOf_l3
    refine g_iload (pc := 3) X (i := 4) (q := 4) (x := x4_3) rfl (dl_at t_X23_elementOf 2 rfl) ?_
    refine g_aload_n (pc := 5) X (j := 0) (i := 0) (q := 0) (x := a0) rfl rfl (dl_at t_X23_elementOf 3 rfl) ?_
    refine r_geti (pc := 6) X fX23_3 hk q3525 (dl_at t_X23_elementOf 4 rfl) fun g6 => ?_
    refine g_icmpge (pc := 9) X r4_3 g6 (off := 54) (tgt := 63) rfl (dl_at t_X23_elementOf 5 rfl) (fun _ => ?_) (fun _ => ?_)
    · refine g_iconst (pc := 63) X (n := (-1)) (dl_at t_X23_elementOf 32 rfl) ?_
      exact g_at fun Q hQ => (g_iret (pc := 64) X (r32_c rfl) rfl rfl (dl_at t_X23_elementOf 33 rfl)) _ Q rfl hQ
    refine g_aload_n (pc := 12) X (j := 0) (i := 0) (q := 0) (x := a0) rfl rfl (dl_at t_X23_elementOf 6 rfl) ?_
    refine g_iload (pc := 13) X (i := 4) (q := 4) (x := x4_3) rfl (dl_at t_X23_elementOf 7 rfl) ?_
    refine g_ldcS (pc := 15) X (index := 176) (id := (-88)) 86 rfl rfl (dl_at t_X23_elementOf 8 rfl) ?_
    refine r_callRi (pc := 17) X (fun _ hv => s_X23_fieldOf_2 hk r4_3 hv) cw_code q4735 q377 (in_Vk X (As := [iv x4_3, rv D (-88)]) kX23 hk (Or.inl q4911) q4733 q4734 cw_code q4735 ⟨by decide, by decide⟩ rfl (dl_at t_X23_elementOf 9 rfl)) (dl_at t_X23_elementOf 9 rfl) (cat24 (st := []) (Nat.le_of_ble_eq_true rfl)) (Nat.le_of_ble_eq_true rfl) (Nat.le_of_ble_eq_true rfl) fun v17 g17 => ?_
    refine g_istoreN (pc := 20) X (i := 5) (x := v17) (b := 4) (w := iv x4_3) (rest := [(0, rv D a0), (1, rv D a1), (2, iv a2), (3, iv a3)]) (Nat.le_of_ble_eq_true rfl) [4, 0, 1, 2, 3] rfl (by decide) rfl rfl (dl_at t_X23_elementOf 10 rfl) ?_
    refine g_iload (pc := 22) X (i := 5) (q := 0) (x := v17) rfl (dl_at t_X23_elementOf 11 rfl) ?_
    refine g_join (γ := Unit) (fun q => True) 57 (fun q => [(0, rv D a0), (1, rv D a1), (2, iv a2), (3, iv a3), (4, iv x4_3)]) (fun q => []) (fun q => h) (fun q => m_X23_elementOf_j57 x4_3) ?_ ?_
    · rintro _ _
      try dsimp only
      unfold m_X23_elementOf_j57
      refine r_iincN (pc := 57) X (i := 4) (q := 4) (n := 1) (x := x4_3) (b := 3) (w := iv a3) (rest := [(0, rv D a0), (1, rv D a1), (2, iv a2)]) rfl r4_3 (r32_c rfl) (Nat.le_of_ble_eq_true rfl) [3, 0, 1, 2] rfl (by decide) rfl rfl (dl_at t_X23_elementOf 30 rfl) fun x4_57 r4_57 => ?_
      refine g_goto (pc := 60) X (off := (-57)) (tgt := 3) rfl (dl_at t_X23_elementOf 31 rfl) ?_
      refine g_ls (ls2 := [(0, rv D a0), (1, rv D a1), (2, iv a2), (3, iv a3), (4, iv x4_57)]) [2, 3, 4, 1, 0] rfl ?_
      exact g_at fun Q hQ => hQ r4_57
    intro J57
    refine g_iflt (pc := 24) X g17 (off := 33) (tgt := 57) rfl (dl_at t_X23_elementOf 12 rfl) (fun _ => ?_) (fun _ => ?_)
    · refine g_ls (ls2 := [(0, rv D a0), (1, rv D a1), (2, iv a2), (3, iv a3), (4, iv x4_3)]) [2, 3, 4, 5, 1] rfl ?_
      exact J57 () trivial
    refine g_aload_n (pc := 27) X (j := 0) (i := 0) (q := 2) (x := a0) rfl rfl (dl_at t_X23_elementOf 13 rfl) ?_
    refine r_getr (pc := 28) X fX23_0 hk q3516 (dl_at t_X23_elementOf 14 rfl) ?_
    refine g_aload_n (pc := 31) X (j := 0) (i := 0) (q := 2) (x := a0) rfl rfl (dl_at t_X23_elementOf 15 rfl) ?_
    refine r_getr (pc := 32) X fX23_19 hk q3564 (dl_at t_X23_elementOf 16 rfl) ?_
    refine g_iload (pc := 35) X (i := 5) (q := 0) (x := v17) rfl (dl_at t_X23_elementOf 17 rfl) ?_
    refine g_gd fun k37 => ?_
    refine g_iald (pc := 37) X g17 k37 (dl_at t_X23_elementOf 18 rfl) fun g37 => ?_
    refine g_aload_n (pc := 38) X (j := 0) (i := 0) (q := 2) (x := a0) rfl rfl (dl_at t_X23_elementOf 19 rfl) ?_
    refine r_getr (pc := 39) X fX23_20 hk q3567 (dl_at t_X23_elementOf 20 rfl) ?_
    refine g_iload (pc := 42) X (i := 5) (q := 0) (x := v17) rfl (dl_at t_X23_elementOf 21 rfl) ?_
    refine g_gd fun k44 => ?_
    refine g_iald (pc := 44) X g17 k44 (dl_at t_X23_elementOf 22 rfl) fun g44 => ?_
    refine g_aload_n (pc := 45) X (j := 1) (i := 1) (q := 3) (x := a1) rfl rfl (dl_at t_X23_elementOf 23 rfl) ?_
    refine g_iload_n (pc := 46) X (j := 2) (i := 2) (q := 4) (x := a2) rfl rfl (dl_at t_X23_elementOf 24 rfl) ?_
    refine g_iload_n (pc := 47) X (j := 3) (i := 3) (q := 5) (x := a3) rfl rfl (dl_at t_X23_elementOf 25 rfl) ?_
    refine r_callRz (pc := 48) X (fun _ hv => s_X18_same g37 g44 r2 r3 hv) cw_code q4464 q372 (in_Sc X (As := [rv D (h a0 0), iv (h (h a0 19) v17), iv (h (h a0 20) v17), rv D a1, iv a2, iv a3]) (Or.inr ⟨_, nw_in q4590 rfl⟩) q4463 q372 q4464 ⟨by decide, by decide⟩ rfl (dl_at t_X23_elementOf 26 rfl)) (dl_at t_X23_elementOf 26 rfl) (cat24 (st := []) (Nat.le_of_ble_eq_true rfl)) (Nat.le_of_ble_eq_true rfl) (Nat.le_of_ble_eq_true rfl) fun v48 g48 => ?_
    refine g_ifeq (pc := 51) X (r32_z g48) (off := 6) (tgt := 57) rfl (dl_at t_X23_elementOf 27 rfl) (fun _ => ?_) (fun _ => ?_)
    · refine g_ls (ls2 := [(0, rv D a0), (1, rv D a1), (2, iv a2), (3, iv a3), (4, iv x4_3)]) [2, 3, 4, 5, 1] rfl ?_
      exact J57 () trivial
    refine g_iload (pc := 54) X (i := 4) (q := 1) (x := x4_3) rfl (dl_at t_X23_elementOf 28 rfl) ?_
    exact g_at fun Q hQ => (g_iret (pc := 56) X r4_3 rfl rfl (dl_at t_X23_elementOf 29 rfl)) _ Q rfl hQ
def k_X25_target : List (Nat × Instr × Nat) := [(0, .aload_n 0, 1), (1, .getfield 342, 3), (4, .iload_n 1, 1), (5, .aload_n 2, 1), (6, .invokevirtual 431, 3), (9, .istore_n 3, 1), (10, .iload_n 3, 1), (11, .ifCond .ge 7, 3), (14, .iconst (-1), 1), (15, .goto 35, 3), (18, .aload_n 0, 1), (19, .getfield 342, 3), (22, .aload_n 0, 1), (23, .getfield 342, 3), (26, .getfield 399, 3), (29, .aload_n 0, 1), (30, .getfield 342, 3), (33, .getfield 435, 3), (36, .iload_n 3, 1), (37, .iaload, 1), (38, .aload_n 0, 1), (39, .getfield 342, 3), (42, .getfield 438, 3), (45, .iload_n 3, 1), (46, .iaload, 1), (47, .invokevirtual 550, 3), (50, .istore 4, 2), (52, .iload 4, 2), (54, .ifCond .lt 21, 3), (57, .aload_n 0, 1), (58, .getfield 14, 3), (61, .getfield 423, 3), (64, .iload 4, 2), (66, .baload, 1), (67, .ifCond .eq 8, 3), (70, .iload 4, 2), (72, .goto 4, 3), (75, .iconst (-1), 1), (76, .ireturn, 1)]
theorem t_X25_target : ∀ q ∈ k_X25_target, decode cX25_target q.1 = .ok q.2 := dl_all (by decide +kernel)
noncomputable def m_X25_target_j50 (a0 s0_50 : Int) (h : Hp) : Option (Int) :=
  if s0_50 < 0 then (some (-1))
  else (gd (h (h a0 0) (-2) = 400) (gd (h (h (h a0 0) 10) (-2) % 16 = 3 ∧ (0 : Int) ≤ s0_50 ∧ s0_50 < h (h (h a0 0) 10) (-1)) (if (h (h (h a0 0) 10) s0_50) = 0 then (some (-1))
  else (some s0_50))))
noncomputable def m_X25_target (a0 a1 a2 : Int) (h : Hp) : Option (Int) :=
  gd (h (h a0 1) (-2) = 384) ((m_X23_fieldOf_2 (h a0 1) a1 a2 h).bind fun v6 =>
  if 0 ≤ v6 then (gd (h (h (h a0 1) 19) (-2) % 16 = 1 ∧ (0 : Int) ≤ v6 ∧ v6 < h (h (h a0 1) 19) (-1)) (gd (h (h (h a0 1) 20) (-2) % 16 = 1 ∧ (0 : Int) ≤ v6 ∧ v6 < h (h (h a0 1) 20) (-1)) ((m_X23_elementOf (h a0 1) (h (h a0 1) 0) (h (h (h a0 1) 19) v6) (h (h (h a0 1) 20) v6) h).bind fun v47 =>
  m_X25_target_j50 a0 v47 h)))
  else (m_X25_target_j50 a0 (-1) h))
theorem s_X25_target {l : Launch} [NoTr l] {D : SD} {a0 a1 a2 : Int} {h : Hp} (hk : h a0 (-2) = 416) (r1 : r32 a1) {r : Int} (hm : m_X25_target a0 a1 a2 h = some r) : Sim l D yX25_target (Cond.code yX25_target cX25_target 5 (Option.some Jvm.ClassFile.FieldType.int)) 7 320 [rv D a0, iv a1, rv D a2] h 1 ((0, r), h) := by
  refine Sim.of (fin := fun (v : Int) => ((0, v), h)) (lsE := [(0, rv D a0), (1, iv a1), (2, rv D a2)]) hm rfl cwS_code (la_r (la_i (la_r la_n))) (ll_r (ll_i (ll_r ll_n))) ?_
  intro p e s m below meth c X hcw hmm hcc hnm hname
  unfold m_X25_target
  refine g_aload_n (pc := 0) X (j := 0) (i := 0) (q := 0) (x := a0) rfl rfl (dl_at t_X25_target 0 rfl) ?_
  refine r_getr (pc := 1) X fX25_1 hk q3763 (dl_at t_X25_target 1 rfl) ?_
  refine g_iload_n (pc := 4) X (j := 1) (i := 1) (q := 1) (x := a1) rfl rfl (dl_at t_X25_target 2 rfl) ?_
  refine g_aload_n (pc := 5) X (j := 2) (i := 2) (q := 2) (x := a2) rfl rfl (dl_at t_X25_target 3 rfl) ?_
  refine g_gd fun k6 => ?_
  refine r_callRi (pc := 6) X (fun _ hv => s_X23_fieldOf_2 k6 r1 hv) cw_code q4735 q377 (in_Vk X (As := [iv a1, rv D a2]) kX23 k6 (Or.inl q4732) q4733 q4734 cw_code q4735 ⟨by decide, by decide⟩ rfl (dl_at t_X25_target 4 rfl)) (dl_at t_X25_target 4 rfl) (cat24 (st := []) (Nat.le_of_ble_eq_true rfl)) (Nat.le_of_ble_eq_true rfl) (Nat.le_of_ble_eq_true rfl) fun v6 g6 => ?_
  refine g_istore_n (pc := 9) X (j := 3) (i := 3) (x := v6) (rest := [(0, rv D a0)]) rfl (Nat.le_of_ble_eq_true rfl) [0] rfl rfl (dl_at t_X25_target 5 rfl) ?_
  refine g_iload_n (pc := 10) X (j := 3) (i := 3) (q := 0) (x := v6) rfl rfl (dl_at t_X25_target 6 rfl) ?_
  refine g_join (γ := Int) (fun q => r32 q) 50 (fun q => [(0, rv D a0)]) (fun q => [iv q]) (fun q => h) (fun q => m_X25_target_j50 a0 q h) ?_ ?_
  · rintro s0_50 rs0_50
    try dsimp only
    unfold m_X25_target_j50
    refine g_istore (pc := 50) X (i := 4) (x := s0_50) (rest := [(0, rv D a0)]) (Nat.le_of_ble_eq_true rfl) [0] rfl rfl (dl_at t_X25_target 26 rfl) ?_
    refine g_iload (pc := 52) X (i := 4) (q := 0) (x := s0_50) rfl (dl_at t_X25_target 27 rfl) ?_
    refine g_iflt (pc := 54) X rs0_50 (off := 21) (tgt := 75) rfl (dl_at t_X25_target 28 rfl) (fun _ => ?_) (fun _ => ?_)
    · refine g_iconst (pc := 75) X (n := (-1)) (dl_at t_X25_target 37 rfl) ?_
      exact g_iret (pc := 76) X (r32_c rfl) rfl rfl (dl_at t_X25_target 38 rfl)
    refine g_aload_n (pc := 57) X (j := 0) (i := 0) (q := 1) (x := a0) rfl rfl (dl_at t_X25_target 29 rfl) ?_
    refine r_getr (pc := 58) X fX25_0 hk q3761 (dl_at t_X25_target 30 rfl) ?_
    refine g_gd fun k61 => ?_
    refine r_getr (pc := 61) X fX24_10 k61 q3666 (dl_at t_X25_target 31 rfl) ?_
    refine g_iload (pc := 64) X (i := 4) (q := 0) (x := s0_50) rfl (dl_at t_X25_target 32 rfl) ?_
    refine g_gd fun k66 => ?_
    refine g_zald (pc := 66) X rs0_50 k66 (dl_at t_X25_target 33 rfl) fun g66 => ?_
    refine g_ifeq (pc := 67) X (r32_z g66) (off := 8) (tgt := 75) rfl (dl_at t_X25_target 34 rfl) (fun _ => ?_) (fun _ => ?_)
    · refine g_iconst (pc := 75) X (n := (-1)) (dl_at t_X25_target 37 rfl) ?_
      exact g_iret (pc := 76) X (r32_c rfl) rfl rfl (dl_at t_X25_target 38 rfl)
    refine g_iload (pc := 70) X (i := 4) (q := 0) (x := s0_50) rfl (dl_at t_X25_target 35 rfl) ?_
    refine g_goto (pc := 72) X (off := 4) (tgt := 76) rfl (dl_at t_X25_target 36 rfl) ?_
    exact g_iret (pc := 76) X rs0_50 rfl rfl (dl_at t_X25_target 38 rfl)
  intro J50
  refine g_ifge (pc := 11) X g6 (off := 7) (tgt := 18) rfl (dl_at t_X25_target 7 rfl) (fun _ => ?_) (fun _ => ?_)
  · refine g_aload_n (pc := 18) X (j := 0) (i := 0) (q := 1) (x := a0) rfl rfl (dl_at t_X25_target 10 rfl) ?_
    refine r_getr (pc := 19) X fX25_1 hk q3763 (dl_at t_X25_target 11 rfl) ?_
    refine g_aload_n (pc := 22) X (j := 0) (i := 0) (q := 1) (x := a0) rfl rfl (dl_at t_X25_target 12 rfl) ?_
    refine r_getr (pc := 23) X fX25_1 hk q3763 (dl_at t_X25_target 13 rfl) ?_
    refine r_getr (pc := 26) X fX23_0 k6 q3517 (dl_at t_X25_target 14 rfl) ?_
    refine g_aload_n (pc := 29) X (j := 0) (i := 0) (q := 1) (x := a0) rfl rfl (dl_at t_X25_target 15 rfl) ?_
    refine r_getr (pc := 30) X fX25_1 hk q3763 (dl_at t_X25_target 16 rfl) ?_
    refine r_getr (pc := 33) X fX23_19 k6 q3566 (dl_at t_X25_target 17 rfl) ?_
    refine g_iload_n (pc := 36) X (j := 3) (i := 3) (q := 0) (x := v6) rfl rfl (dl_at t_X25_target 18 rfl) ?_
    refine g_gd fun k37 => ?_
    refine g_iald (pc := 37) X g6 k37 (dl_at t_X25_target 19 rfl) fun g37 => ?_
    refine g_aload_n (pc := 38) X (j := 0) (i := 0) (q := 1) (x := a0) rfl rfl (dl_at t_X25_target 20 rfl) ?_
    refine r_getr (pc := 39) X fX25_1 hk q3763 (dl_at t_X25_target 21 rfl) ?_
    refine r_getr (pc := 42) X fX23_20 k6 q3569 (dl_at t_X25_target 22 rfl) ?_
    refine g_iload_n (pc := 45) X (j := 3) (i := 3) (q := 0) (x := v6) rfl rfl (dl_at t_X25_target 23 rfl) ?_
    refine g_gd fun k46 => ?_
    refine g_iald (pc := 46) X g6 k46 (dl_at t_X25_target 24 rfl) fun g46 => ?_
    refine r_callRi (pc := 47) X (fun _ hv => s_X23_elementOf k6 g37 g46 hv) cw_code q4909 q377 (in_Vk X (As := [rv D (h (h a0 1) 0), iv (h (h (h a0 1) 19) v6), iv (h (h (h a0 1) 20) v6)]) kX23 k6 (Or.inl q4906) q4907 q4908 cw_code q4909 ⟨by decide, by decide⟩ rfl (dl_at t_X25_target 25 rfl)) (dl_at t_X25_target 25 rfl) (cat24 (st := []) (Nat.le_of_ble_eq_true rfl)) (Nat.le_of_ble_eq_true rfl) (Nat.le_of_ble_eq_true rfl) fun v47 g47 => ?_
    refine g_ls (ls2 := [(0, rv D a0)]) [1] rfl ?_
    exact J50 v47 g47
  refine g_iconst (pc := 14) X (n := (-1)) (dl_at t_X25_target 8 rfl) ?_
  refine g_goto (pc := 15) X (off := 35) (tgt := 50) rfl (dl_at t_X25_target 9 rfl) ?_
  refine g_ls (ls2 := [(0, rv D a0)]) [1] rfl ?_
  exact J50 (-1) (r32_c rfl)
def k_X25_unknown : List (Nat × Instr × Nat) := [(0, .aload_n 0, 1), (1, .bipush 63, 2), (3, .iload_n 1, 1), (4, .iload_n 2, 1), (5, .invokevirtual 531, 3), (8, .aload_n 0, 1), (9, .bipush 63, 2), (11, .iload_n 1, 1), (12, .iload_n 2, 1), (13, .invokevirtual 531, 3), (16, .return_, 1)]
theorem t_X25_unknown : ∀ q ∈ k_X25_unknown, decode cX25_unknown q.1 = .ok q.2 := dl_all (by decide +kernel)
noncomputable def m_X25_unknown (a0 a1 a2 : Int) (h : Hp) : Option ((Int × Int) × Hp) :=
  bT (m_X25_emit a0 63 a1 a2 h) (fun _ h5 =>
  bT (m_X25_emit a0 63 a1 a2 h5) (fun _ h13 =>
  some ((0, 0), h13)) (fun a_ h_ => some ((1, a_), h_))) (fun a_ h_ => some ((1, a_), h_))
theorem s_X25_unknown {l : Launch} [NoTr l] {D : SD} {a0 a1 a2 : Int} {h : Hp} (hk : h a0 (-2) = 416) (r1 : r32 a1) (r2 : (a2 = 0 ∨ a2 = 1)) {r : (Int × Int) × Hp} (hm : m_X25_unknown a0 a1 a2 h = some r) : Sim l D yX25_unknown (Cond.code yX25_unknown cX25_unknown 3 (Option.none : Option Jvm.ClassFile.FieldType)) 11 414 [rv D a0, iv a1, iv a2] h 0 r := by
  refine Sim.of (fin := fun (v : (Int × Int) × Hp) => v) (lsE := [(0, rv D a0), (1, iv a1), (2, iv a2)]) hm rfl cwS_code (la_r (la_i (la_i la_n))) (ll_r (ll_i (ll_i ll_n))) ?_
  intro p e s m below meth c X hcw hmm hcc hnm hname
  have hno := noh hcw hnm hmm hcc
  unfold m_X25_unknown
  refine g_aload_n (pc := 0) X (j := 0) (i := 0) (q := 0) (x := a0) rfl rfl (dl_at t_X25_unknown 0 rfl) ?_
  refine g_bipush (pc := 1) X (n := 63) rfl (dl_at t_X25_unknown 1 rfl) ?_
  refine g_iload_n (pc := 3) X (j := 1) (i := 1) (q := 1) (x := a1) rfl rfl (dl_at t_X25_unknown 2 rfl) ?_
  refine g_iload_n (pc := 4) X (j := 2) (i := 2) (q := 2) (x := a2) rfl rfl (dl_at t_X25_unknown 3 rfl) ?_
  refine r_callTv (pc := 5) X (fun _ hv => s_X25_emit hk (r32_c rfl) r1 r2 hv) cw_code q4868 q379 (in_Vk X (As := [iv 63, iv a1, iv a2]) kX25 hk (Or.inl q4865) q4867 qs302 cw_code q4868 ⟨by decide, by decide⟩ rfl (dl_at t_X25_unknown 4 rfl)) (dl_at t_X25_unknown 4 rfl) (cat24 (st := []) (Nat.le_of_ble_eq_true rfl)) (Nat.le_of_ble_eq_true rfl) (Nat.le_of_ble_eq_true rfl) (fun v5 h5 E5 => ?_) (fun _ _ ha _ => gt_at fun Q hQ => gt_out (Q := Q) X rfl ha (hno _) _ Q rfl hQ)
  refine g_aload_n (pc := 8) X (j := 0) (i := 0) (q := 0) (x := a0) rfl rfl (dl_at t_X25_unknown 5 rfl) ?_
  refine g_bipush (pc := 9) X (n := 63) rfl (dl_at t_X25_unknown 6 rfl) ?_
  refine g_iload_n (pc := 11) X (j := 1) (i := 1) (q := 1) (x := a1) rfl rfl (dl_at t_X25_unknown 7 rfl) ?_
  refine g_iload_n (pc := 12) X (j := 2) (i := 2) (q := 2) (x := a2) rfl rfl (dl_at t_X25_unknown 8 rfl) ?_
  have k13 := kx E5 (by decide) hk
  refine r_callTv (pc := 13) X (fun _ hv => s_X25_emit k13 (r32_c rfl) r1 r2 hv) cw_code q4868 q379 (in_Vk X (As := [iv 63, iv a1, iv a2]) kX25 k13 (Or.inl q4865) q4867 qs302 cw_code q4868 ⟨by decide, by decide⟩ rfl (dl_at t_X25_unknown 9 rfl)) (dl_at t_X25_unknown 9 rfl) (cat24 (st := []) (Nat.le_of_ble_eq_true rfl)) (Nat.le_of_ble_eq_true rfl) (Nat.le_of_ble_eq_true rfl) (fun v13 h13 E13 => ?_) (fun _ _ ha _ => gt_at fun Q hQ => gt_out (Q := Q) X rfl ha (hno _) _ Q rfl hQ)
  exact g_vret (pc := 16) X (v := 0) rfl rfl (dl_at t_X25_unknown 10 rfl)
def k_X25_says : List (Nat × Instr × Nat) := [(0, .iload_n 1, 1), (1, .ifCond .lt 39, 3), (4, .aload_n 0, 1), (5, .getfield 342, 3), (8, .getfield 399, 3), (11, .aload_n 0, 1), (12, .getfield 342, 3), (15, .getfield 435, 3), (18, .iload_n 1, 1), (19, .iaload, 1), (20, .aload_n 0, 1), (21, .getfield 342, 3), (24, .getfield 438, 3), (27, .iload_n 1, 1), (28, .iaload, 1), (29, .aload_n 2, 1), (30, .invokestatic 554, 3), (33, .ifCond .eq 7, 3), (36, .iconst 1, 1), (37, .goto 4, 3), (40, .iconst 0, 1), (41, .ireturn, 1)]
theorem t_X25_says : ∀ q ∈ k_X25_says, decode cX25_says q.1 = .ok q.2 := dl_all (by decide +kernel)
noncomputable def m_X25_says (a0 a1 a2 : Int) (h : Hp) : Option (Int) :=
  if a1 < 0 then (some 0)
  else (gd (h (h a0 1) (-2) = 384) (gd (h (h (h a0 1) 19) (-2) % 16 = 1 ∧ (0 : Int) ≤ a1 ∧ a1 < h (h (h a0 1) 19) (-1)) (gd (h (h (h a0 1) 20) (-2) % 16 = 1 ∧ (0 : Int) ≤ a1 ∧ a1 < h (h (h a0 1) 20) (-1)) ((m_X18_is (h (h a0 1) 0) (h (h (h a0 1) 19) a1) (h (h (h a0 1) 20) a1) a2 h).bind fun v30 =>
  if v30 = 0 then (some 0)
  else (some 1)))))
theorem s_X25_says {l : Launch} [NoTr l] {D : SD} {a0 a1 a2 : Int} {h : Hp} (hk : h a0 (-2) = 416) (r1 : r32 a1) {r : Int} (hm : m_X25_says a0 a1 a2 h = some r) : Sim l D yX25_says (Cond.code yX25_says cX25_says 3 (Option.some Jvm.ClassFile.FieldType.boolean)) 5 240 [rv D a0, iv a1, rv D a2] h 3 ((0, r), h) := by
  refine Sim.of (fin := fun (v : Int) => ((0, v), h)) (lsE := [(0, rv D a0), (1, iv a1), (2, rv D a2)]) hm rfl cwS_code (la_r (la_i (la_r la_n))) (ll_r (ll_i (ll_r ll_n))) ?_
  intro p e s m below meth c X hcw hmm hcc hnm hname
  unfold m_X25_says
  refine g_iload_n (pc := 0) X (j := 1) (i := 1) (q := 1) (x := a1) rfl rfl (dl_at t_X25_says 0 rfl) ?_
  refine g_iflt (pc := 1) X r1 (off := 39) (tgt := 40) rfl (dl_at t_X25_says 1 rfl) (fun _ => ?_) (fun _ => ?_)
  · refine g_iconst (pc := 40) X (n := 0) (dl_at t_X25_says 20 rfl) ?_
    exact g_zret (pc := 41) X (Or.inl rfl) rfl rfl (dl_at t_X25_says 21 rfl)
  refine g_aload_n (pc := 4) X (j := 0) (i := 0) (q := 0) (x := a0) rfl rfl (dl_at t_X25_says 2 rfl) ?_
  refine r_getr (pc := 5) X fX25_1 hk q3763 (dl_at t_X25_says 3 rfl) ?_
  refine g_gd fun k8 => ?_
  refine r_getr (pc := 8) X fX23_0 k8 q3517 (dl_at t_X25_says 4 rfl) ?_
  refine g_aload_n (pc := 11) X (j := 0) (i := 0) (q := 0) (x := a0) rfl rfl (dl_at t_X25_says 5 rfl) ?_
  refine r_getr (pc := 12) X fX25_1 hk q3763 (dl_at t_X25_says 6 rfl) ?_
  refine r_getr (pc := 15) X fX23_19 k8 q3566 (dl_at t_X25_says 7 rfl) ?_
  refine g_iload_n (pc := 18) X (j := 1) (i := 1) (q := 1) (x := a1) rfl rfl (dl_at t_X25_says 8 rfl) ?_
  refine g_gd fun k19 => ?_
  refine g_iald (pc := 19) X r1 k19 (dl_at t_X25_says 9 rfl) fun g19 => ?_
  refine g_aload_n (pc := 20) X (j := 0) (i := 0) (q := 0) (x := a0) rfl rfl (dl_at t_X25_says 10 rfl) ?_
  refine r_getr (pc := 21) X fX25_1 hk q3763 (dl_at t_X25_says 11 rfl) ?_
  refine r_getr (pc := 24) X fX23_20 k8 q3569 (dl_at t_X25_says 12 rfl) ?_
  refine g_iload_n (pc := 27) X (j := 1) (i := 1) (q := 1) (x := a1) rfl rfl (dl_at t_X25_says 13 rfl) ?_
  refine g_gd fun k28 => ?_
  refine g_iald (pc := 28) X r1 k28 (dl_at t_X25_says 14 rfl) fun g28 => ?_
  refine g_aload_n (pc := 29) X (j := 2) (i := 2) (q := 2) (x := a2) rfl rfl (dl_at t_X25_says 15 rfl) ?_
  refine r_callRz (pc := 30) X (fun _ hv => s_X18_is g19 g28 hv) cw_code q4367 q372 (in_Sc X (As := [rv D (h (h a0 1) 0), iv (h (h (h a0 1) 19) a1), iv (h (h (h a0 1) 20) a1), rv D a2]) (Or.inr ⟨_, nw_in q4921 rfl⟩) q4366 q372 q4367 ⟨by decide, by decide⟩ rfl (dl_at t_X25_says 16 rfl)) (dl_at t_X25_says 16 rfl) (cat24 (st := []) (Nat.le_of_ble_eq_true rfl)) (Nat.le_of_ble_eq_true rfl) (Nat.le_of_ble_eq_true rfl) fun v30 g30 => ?_
  refine g_ifeq (pc := 33) X (r32_z g30) (off := 7) (tgt := 40) rfl (dl_at t_X25_says 17 rfl) (fun _ => ?_) (fun _ => ?_)
  · refine g_iconst (pc := 40) X (n := 0) (dl_at t_X25_says 20 rfl) ?_
    exact g_zret (pc := 41) X (Or.inl rfl) rfl rfl (dl_at t_X25_says 21 rfl)
  refine g_iconst (pc := 36) X (n := 1) (dl_at t_X25_says 18 rfl) ?_
  refine g_goto (pc := 37) X (off := 4) (tgt := 41) rfl (dl_at t_X25_says 19 rfl) ?_
  exact g_zret (pc := 41) X (Or.inr rfl) rfl rfl (dl_at t_X25_says 21 rfl)
def k_X25_reference : List (Nat × Instr × Nat) := [(0, .aload_n 0, 1), (1, .getfield 14, 3), (4, .iload_n 1, 1), (5, .iconst 1, 1), (6, .invokevirtual 477, 3), (9, .istore_n 3, 1), (10, .aload_n 0, 1), (11, .getfield 342, 3), (14, .iload_n 1, 1), (15, .ldc_w 558, 3), (18, .invokevirtual 431, 3), (21, .istore 4, 2), (23, .aload_n 0, 1), (24, .iload_n 1, 1), (25, .ldc_w 560, 3), (28, .invokevirtual 561, 3), (31, .istore 5, 2), (33, .iload 5, 2), (35, .ifCond .ge 12, 3), (38, .aload_n 0, 1), (39, .iload_n 3, 1), (40, .iload_n 2, 1), (41, .invokevirtual 564, 3), (44, .goto 288, 3), (47, .aload_n 0, 1), (48, .iload 4, 2), (50, .ldc_w 568, 3), (53, .invokevirtual 569, 3), (56, .ifCond .eq 34, 3), (59, .aload_n 0, 1), (60, .getfield 241, 3), (63, .iload_n 1, 1), (64, .iconst 1, 1), (65, .iastore, 1), (66, .aload_n 0, 1), (67, .getfield 244, 3), (70, .iload_n 1, 1), (71, .iload 5, 2), (73, .iastore, 1), (74, .aload_n 0, 1), (75, .aload_n 0, 1), (76, .getfield 223, 3), (79, .iload 5, 2), (81, .iaload, 1), (82, .iload_n 3, 1), (83, .iload_n 2, 1), (84, .invokevirtual 573, 3), (87, .goto 245, 3), (90, .aload_n 0, 1), (91, .iload 4, 2), (93, .ldc_w 576, 3), (96, .invokevirtual 569, 3), (99, .ifCond .eq 34, 3), (102, .aload_n 0, 1), (103, .getfield 241, 3), (106, .iload_n 1, 1), (107, .iconst 2, 1), (108, .iastore, 1), (109, .aload_n 0, 1), (110, .getfield 244, 3), (113, .iload_n 1, 1), (114, .iload 5, 2), (116, .iastore, 1), (117, .aload_n 0, 1), (118, .aload_n 0, 1), (119, .getfield 226, 3), (122, .iload 5, 2), (124, .iaload, 1), (125, .iload_n 3, 1), (126, .iload_n 2, 1), (127, .invokevirtual 573, 3), (130, .goto 202, 3), (133, .aload_n 0, 1), (134, .iload 4, 2), (136, .ldc_w 578, 3), (139, .invokevirtual 569, 3), (142, .ifCond .eq 67, 3), (145, .aload_n 0, 1), (146, .getfield 14, 3), (149, .aload_n 0, 1), (150, .getfield 14, 3), (153, .getfield 516, 3), (156, .iload 5, 2), (158, .iaload, 1), (159, .aload_n 0, 1), (160, .getfield 14, 3), (163, .iload 5, 2), (165, .bipush 18, 2), (167, .invokevirtual 477, 3), (170, .invokevirtual 519, 3), (173, .istore 6, 2), (175, .iconst 0, 1), (176, .istore 7, 2), (178, .iload 7, 2), (180, .iload 6, 2), (182, .if_icmp .ge 24, 3), (185, .aload_n 0, 1), (186, .aload_n 0, 1), (187, .getfield 14, 3), (190, .iload 7, 2), (192, .invokevirtual 535, 3), (195, .iload_n 3, 1), (196, .iload_n 2, 1), (197, .invokevirtual 531, 3), (200, .iinc 7 1, 3), (203, .goto (-25), 3), (206, .goto 126, 3), (209, .aload_n 0, 1), (210, .iload 4, 2), (212, .ldc_w 579, 3), (215, .invokevirtual 569, 3), (218, .ifCond .eq 48, 3), (221, .aload_n 0, 1), (222, .getfield 14, 3), (225, .iload 5, 2), (227, .invokevirtual 441, 3), (230, .istore 6, 2), (232, .iconst 0, 1), (233, .istore 7, 2), (235, .iload 7, 2), (237, .iload 6, 2), (239, .if_icmp .ge 24, 3), (242, .aload_n 0, 1), (243, .aload_n 0, 1), (244, .getfield 14, 3), (247, .iload 7, 2), (249, .invokevirtual 444, 3), (252, .iload_n 3, 1), (253, .iload_n 2, 1), (254, .invokevirtual 531, 3), (257, .iinc 7 1, 3), (260, .goto (-25), 3), (263, .goto 69, 3), (266, .aload_n 0, 1), (267, .iload 4, 2), (269, .ldc_w 580, 3), (272, .invokevirtual 569, 3), (275, .ifCond .eq 51, 3), (278, .iload 5, 2), (280, .iload_n 1, 1), (281, .if_icmp .ge 9, 3), (284, .ldc_w 582, 3), (287, .goto 6, 3), (290, .ldc_w 584, 3), (293, .astore 6, 2), (295, .iconst 0, 1), (296, .istore 7, 2), (298, .iload 7, 2), (300, .iconst 5, 1), (301, .if_icmp .ge 22, 3), (304, .aload_n 0, 1), (305, .aload 6, 2), (307, .iload 7, 2), (309, .invokevirtual 586, 3), (312, .iload_n 3, 1), (313, .iload_n 2, 1), (314, .invokevirtual 531, 3), (317, .iinc 7 1, 3), (320, .goto (-22), 3), (323, .goto 9, 3), (326, .aload_n 0, 1), (327, .iload_n 3, 1), (328, .iload_n 2, 1), (329, .invokevirtual 564, 3), (332, .return_, 1)]
theorem t_X25_reference : ∀ q ∈ k_X25_reference, decode cX25_reference q.1 = .ok q.2 := dl_all (by decide +kernel)
noncomputable def m_X25_reference_l298 (a0 a2 v6 s0_293 x7_298 : Int) (h_298 : Hp) : Option ((Int × Hp) ⊕ (((Int × Int) × Hp))) :=
  if 5 ≤ x7_298 then (some (.inr ((0, 0), h_298)))
  else ((x_sat s0_293 x7_298).bind fun v309 =>
  bT (m_X25_emit a0 v309 v6 a2 h_298) (fun _ h314 =>
  lt_ (w32 (x7_298 + 1)) fun x7_317 =>
  some (.inl (x7_317, h314))) (fun a_ h_ => some (.inr ((1, a_), h_))))
noncomputable def m_X25_reference_j293 (v6 a2 a0 s0_293 : Int) (h : Hp) : Option ((Int × Int) × Hp) :=
  lt_ 0 fun x7_296 =>
  (lp (fun (q : Int × Hp) => m_X25_reference_l298 a0 a2 v6 s0_293 q.1 q.2) (x7_296, h)).bind (fun (x : (Int × Int) × Hp) => some x)
noncomputable def m_X25_reference_l235 (a0 a2 v6 v227 x7_235 : Int) (h_235 : Hp) : Option ((Int × Hp) ⊕ (((Int × Int) × Hp))) :=
  if v227 ≤ x7_235 then (some (.inr ((0, 0), h_235)))
  else (gd (h_235 (h_235 a0 0) (-2) = 400) ((m_X24_titleByte (h_235 a0 0) x7_235 h_235).bind fun v249 =>
  bT (m_X25_emit a0 v249 v6 a2 h_235) (fun _ h254 =>
  lt_ (w32 (x7_235 + 1)) fun x7_257 =>
  some (.inl (x7_257, h254))) (fun a_ h_ => some (.inr ((1, a_), h_)))))
noncomputable def m_X25_reference_l178 (a0 a2 v6 v170 x7_178 : Int) (h_178 : Hp) : Option ((Int × Hp) ⊕ (((Int × Int) × Hp))) :=
  if v170 ≤ x7_178 then (some (.inr ((0, 0), h_178)))
  else (gd (h_178 (h_178 a0 0) (-2) = 400) ((m_X24_digit (h_178 a0 0) x7_178 h_178).bind fun v192 =>
  bT (m_X25_emit a0 v192 v6 a2 h_178) (fun _ h197 =>
  lt_ (w32 (x7_178 + 1)) fun x7_200 =>
  some (.inl (x7_200, h197))) (fun a_ h_ => some (.inr ((1, a_), h_)))))
noncomputable def m_X25_reference (a0 a1 a2 : Int) (h : Hp) : Option ((Int × Int) × Hp) :=
  gd (h (h a0 0) (-2) = 400) ((m_X24_of (h a0 0) a1 1 h).bind fun v6 =>
  gd (h (h a0 1) (-2) = 384) ((m_X23_fieldOf_2 (h a0 1) a1 (-76) h).bind fun v18 =>
  (m_X25_target a0 a1 (-77) h).bind fun v28 =>
  if 0 ≤ v28 then ((m_X25_says a0 v18 (-78) h).bind fun v53 =>
  if v53 = 0 then ((m_X25_says a0 v18 (-79) h).bind fun v96 =>
  if v96 = 0 then ((m_X25_says a0 v18 (-80) h).bind fun v139 =>
  if v139 = 0 then ((m_X25_says a0 v18 (-81) h).bind fun v215 =>
  if v215 = 0 then ((m_X25_says a0 v18 (-82) h).bind fun v272 =>
  if v272 = 0 then (bT (m_X25_unknown a0 v6 a2 h) (fun _ h329 =>
  some ((0, 0), h329)) (fun a_ h_ => some ((1, a_), h_)))
  else (if a1 ≤ v28 then (m_X25_reference_j293 v6 a2 a0 (-84) h)
  else (m_X25_reference_j293 v6 a2 a0 (-83) h)))
  else (bW (m_X24_title (h a0 0) v28 h) fun v227 h227 =>
  lt_ 0 fun x7_233 =>
  (lp (fun (q : Int × Hp) => m_X25_reference_l235 a0 a2 v6 v227 q.1 q.2) (x7_233, h227)).bind (fun (x : (Int × Int) × Hp) => some x)))
  else (gd (h (h (h a0 0) 6) (-2) % 16 = 1 ∧ (0 : Int) ≤ v28 ∧ v28 < h (h (h a0 0) 6) (-1)) ((m_X24_of (h a0 0) v28 18 h).bind fun v167 =>
  bW (m_X24_form (h a0 0) (h (h (h a0 0) 6) v28) v167 h) fun v170 h170 =>
  lt_ 0 fun x7_176 =>
  (lp (fun (q : Int × Hp) => m_X25_reference_l178 a0 a2 v6 v170 q.1 q.2) (x7_176, h170)).bind (fun (x : (Int × Int) × Hp) => some x))))
  else (gd (h (h a0 86) (-2) % 16 = 1 ∧ (0 : Int) ≤ a1 ∧ a1 < h (h a0 86) (-1)) (pt h (h a0 86) a1 2 fun h108 =>
  gd (h108 (h108 a0 87) (-2) % 16 = 1 ∧ (0 : Int) ≤ a1 ∧ a1 < h108 (h108 a0 87) (-1)) (pt h108 (h108 a0 87) a1 v28 fun h116 =>
  gd (h116 (h116 a0 81) (-2) % 16 = 1 ∧ (0 : Int) ≤ v28 ∧ v28 < h116 (h116 a0 81) (-1)) (bT (m_X25_digits a0 (h116 (h116 a0 81) v28) v6 a2 h116) (fun _ h127 =>
  some ((0, 0), h127)) (fun a_ h_ => some ((1, a_), h_)))))))
  else (gd (h (h a0 86) (-2) % 16 = 1 ∧ (0 : Int) ≤ a1 ∧ a1 < h (h a0 86) (-1)) (pt h (h a0 86) a1 1 fun h65 =>
  gd (h65 (h65 a0 87) (-2) % 16 = 1 ∧ (0 : Int) ≤ a1 ∧ a1 < h65 (h65 a0 87) (-1)) (pt h65 (h65 a0 87) a1 v28 fun h73 =>
  gd (h73 (h73 a0 80) (-2) % 16 = 1 ∧ (0 : Int) ≤ v28 ∧ v28 < h73 (h73 a0 80) (-1)) (bT (m_X25_digits a0 (h73 (h73 a0 80) v28) v6 a2 h73) (fun _ h84 =>
  some ((0, 0), h84)) (fun a_ h_ => some ((1, a_), h_)))))))
  else (bT (m_X25_unknown a0 v6 a2 h) (fun _ h41 =>
  some ((0, 0), h41)) (fun a_ h_ => some ((1, a_), h_)))))
theorem s_X25_reference {l : Launch} [NoTr l] {D : SD} {a0 a1 a2 : Int} {h : Hp} (hk : h a0 (-2) = 416) (r1 : r32 a1) (r2 : (a2 = 0 ∨ a2 = 1)) {r : (Int × Int) × Hp} (hm : m_X25_reference a0 a1 a2 h = some r) : Sim l D yX25_reference (Cond.code yX25_reference cX25_reference 8 (Option.none : Option Jvm.ClassFile.FieldType)) 12 455 [rv D a0, iv a1, iv a2] h 0 r := by
  refine Sim.of (fin := fun (v : (Int × Int) × Hp) => v) (lsE := [(0, rv D a0), (1, iv a1), (2, iv a2)]) hm rfl cwS_code (la_r (la_i (la_i la_n))) (ll_r (ll_i (ll_i ll_n))) ?_
  intro p e s m below meth c X hcw hmm hcc hnm hname
  have hno := noh hcw hnm hmm hcc
  unfold m_X25_reference
  refine g_aload_n (pc := 0) X (j := 0) (i := 0) (q := 0) (x := a0) rfl rfl (dl_at t_X25_reference 0 rfl) ?_
  refine r_getr (pc := 1) X fX25_0 hk q3761 (dl_at t_X25_reference 1 rfl) ?_
  refine g_iload_n (pc := 4) X (j := 1) (i := 1) (q := 1) (x := a1) rfl rfl (dl_at t_X25_reference 2 rfl) ?_
  refine g_iconst (pc := 5) X (n := 1) (dl_at t_X25_reference 3 rfl) ?_
  refine g_gd fun k6 => ?_
  refine r_callRi (pc := 6) X (fun _ hv => s_X24_of k6 r1 (r32_c rfl) hv) cw_code q4704 q378 (in_Vk X (As := [iv a1, iv 1]) kX24 k6 (Or.inl q4844) q4702 q4703 cw_code q4704 ⟨by decide, by decide⟩ rfl (dl_at t_X25_reference 4 rfl)) (dl_at t_X25_reference 4 rfl) (cat24 (st := []) (Nat.le_of_ble_eq_true rfl)) (Nat.le_of_ble_eq_true rfl) (Nat.le_of_ble_eq_true rfl) fun v6 g6 => ?_
  refine g_istore_nN (pc := 9) X (j := 3) (i := 3) (x := v6) (b := 2) (w := iv a2) (rest := [(0, rv D a0), (1, iv a1)]) rfl (Nat.le_of_ble_eq_true rfl) [2, 0, 1] rfl (by decide) rfl rfl (dl_at t_X25_reference 5 rfl) ?_
  refine g_aload_n (pc := 10) X (j := 0) (i := 0) (q := 2) (x := a0) rfl rfl (dl_at t_X25_reference 6 rfl) ?_
  refine r_getr (pc := 11) X fX25_1 hk q3763 (dl_at t_X25_reference 7 rfl) ?_
  refine g_iload_n (pc := 14) X (j := 1) (i := 1) (q := 3) (x := a1) rfl rfl (dl_at t_X25_reference 8 rfl) ?_
  refine g_ldcSw (pc := 15) X (index := 558) (id := (-76)) 74 rfl rfl (dl_at t_X25_reference 9 rfl) ?_
  refine g_gd fun k18 => ?_
  refine r_callRi (pc := 18) X (fun _ hv => s_X23_fieldOf_2 k18 r1 hv) cw_code q4735 q377 (in_Vk X (As := [iv a1, rv D (-76)]) kX23 k18 (Or.inl q4732) q4733 q4734 cw_code q4735 ⟨by decide, by decide⟩ rfl (dl_at t_X25_reference 10 rfl)) (dl_at t_X25_reference 10 rfl) (cat24 (st := []) (Nat.le_of_ble_eq_true rfl)) (Nat.le_of_ble_eq_true rfl) (Nat.le_of_ble_eq_true rfl) fun v18 g18 => ?_
  refine g_istoreN (pc := 21) X (i := 4) (x := v18) (b := 3) (w := iv v6) (rest := [(2, iv a2), (0, rv D a0), (1, iv a1)]) (Nat.le_of_ble_eq_true rfl) [0, 1, 2, 3] rfl (by decide) rfl rfl (dl_at t_X25_reference 11 rfl) ?_
  refine g_aload_n (pc := 23) X (j := 0) (i := 0) (q := 3) (x := a0) rfl rfl (dl_at t_X25_reference 12 rfl) ?_
  refine g_iload_n (pc := 24) X (j := 1) (i := 1) (q := 4) (x := a1) rfl rfl (dl_at t_X25_reference 13 rfl) ?_
  refine g_ldcSw (pc := 25) X (index := 560) (id := (-77)) 75 rfl rfl (dl_at t_X25_reference 14 rfl) ?_
  refine r_callRi (pc := 28) X (fun _ hv => s_X25_target hk r1 hv) cw_code q4905 q379 (in_Vk X (As := [iv a1, rv D (-77)]) kX25 hk (Or.inl q4902) q4904 qs309 cw_code q4905 ⟨by decide, by decide⟩ rfl (dl_at t_X25_reference 15 rfl)) (dl_at t_X25_reference 15 rfl) (cat24 (st := []) (Nat.le_of_ble_eq_true rfl)) (Nat.le_of_ble_eq_true rfl) (Nat.le_of_ble_eq_true rfl) fun v28 g28 => ?_
  refine g_istoreN (pc := 31) X (i := 5) (x := v28) (b := 4) (w := iv v18) (rest := [(3, iv v6), (2, iv a2), (0, rv D a0), (1, iv a1)]) (Nat.le_of_ble_eq_true rfl) [0, 1, 2, 3, 4] rfl (by decide) rfl rfl (dl_at t_X25_reference 16 rfl) ?_
  refine g_iload (pc := 33) X (i := 5) (q := 0) (x := v28) rfl (dl_at t_X25_reference 17 rfl) ?_
  refine g_ifge (pc := 35) X g28 (off := 12) (tgt := 47) rfl (dl_at t_X25_reference 18 rfl) (fun _ => ?_) (fun _ => ?_)
  · refine g_aload_n (pc := 47) X (j := 0) (i := 0) (q := 4) (x := a0) rfl rfl (dl_at t_X25_reference 24 rfl) ?_
    refine g_iload (pc := 48) X (i := 4) (q := 1) (x := v18) rfl (dl_at t_X25_reference 25 rfl) ?_
    refine g_ldcSw (pc := 50) X (index := 568) (id := (-78)) 76 rfl rfl (dl_at t_X25_reference 26 rfl) ?_
    refine r_callRz (pc := 53) X (fun _ hv => s_X25_says hk g18 hv) cw_code q4920 q379 (in_Vk X (As := [iv v18, rv D (-78)]) kX25 hk (Or.inl q4917) q4919 qs311 cw_code q4920 ⟨by decide, by decide⟩ rfl (dl_at t_X25_reference 27 rfl)) (dl_at t_X25_reference 27 rfl) (cat24 (st := []) (Nat.le_of_ble_eq_true rfl)) (Nat.le_of_ble_eq_true rfl) (Nat.le_of_ble_eq_true rfl) fun v53 g53 => ?_
    refine g_ifeq (pc := 56) X (r32_z g53) (off := 34) (tgt := 90) rfl (dl_at t_X25_reference 28 rfl) (fun _ => ?_) (fun _ => ?_)
    · refine g_aload_n (pc := 90) X (j := 0) (i := 0) (q := 4) (x := a0) rfl rfl (dl_at t_X25_reference 48 rfl) ?_
      refine g_iload (pc := 91) X (i := 4) (q := 1) (x := v18) rfl (dl_at t_X25_reference 49 rfl) ?_
      refine g_ldcSw (pc := 93) X (index := 576) (id := (-79)) 77 rfl rfl (dl_at t_X25_reference 50 rfl) ?_
      refine r_callRz (pc := 96) X (fun _ hv => s_X25_says hk g18 hv) cw_code q4920 q379 (in_Vk X (As := [iv v18, rv D (-79)]) kX25 hk (Or.inl q4917) q4919 qs311 cw_code q4920 ⟨by decide, by decide⟩ rfl (dl_at t_X25_reference 51 rfl)) (dl_at t_X25_reference 51 rfl) (cat24 (st := []) (Nat.le_of_ble_eq_true rfl)) (Nat.le_of_ble_eq_true rfl) (Nat.le_of_ble_eq_true rfl) fun v96 g96 => ?_
      refine g_ifeq (pc := 99) X (r32_z g96) (off := 34) (tgt := 133) rfl (dl_at t_X25_reference 52 rfl) (fun _ => ?_) (fun _ => ?_)
      · refine g_aload_n (pc := 133) X (j := 0) (i := 0) (q := 4) (x := a0) rfl rfl (dl_at t_X25_reference 72 rfl) ?_
        refine g_iload (pc := 134) X (i := 4) (q := 1) (x := v18) rfl (dl_at t_X25_reference 73 rfl) ?_
        refine g_ldcSw (pc := 136) X (index := 578) (id := (-80)) 78 rfl rfl (dl_at t_X25_reference 74 rfl) ?_
        refine r_callRz (pc := 139) X (fun _ hv => s_X25_says hk g18 hv) cw_code q4920 q379 (in_Vk X (As := [iv v18, rv D (-80)]) kX25 hk (Or.inl q4917) q4919 qs311 cw_code q4920 ⟨by decide, by decide⟩ rfl (dl_at t_X25_reference 75 rfl)) (dl_at t_X25_reference 75 rfl) (cat24 (st := []) (Nat.le_of_ble_eq_true rfl)) (Nat.le_of_ble_eq_true rfl) (Nat.le_of_ble_eq_true rfl) fun v139 g139 => ?_
        refine g_ifeq (pc := 142) X (r32_z g139) (off := 67) (tgt := 209) rfl (dl_at t_X25_reference 76 rfl) (fun _ => ?_) (fun _ => ?_)
        · refine g_aload_n (pc := 209) X (j := 0) (i := 0) (q := 4) (x := a0) rfl rfl (dl_at t_X25_reference 107 rfl) ?_
          refine g_iload (pc := 210) X (i := 4) (q := 1) (x := v18) rfl (dl_at t_X25_reference 108 rfl) ?_
          refine g_ldcSw (pc := 212) X (index := 579) (id := (-81)) 79 rfl rfl (dl_at t_X25_reference 109 rfl) ?_
          refine r_callRz (pc := 215) X (fun _ hv => s_X25_says hk g18 hv) cw_code q4920 q379 (in_Vk X (As := [iv v18, rv D (-81)]) kX25 hk (Or.inl q4917) q4919 qs311 cw_code q4920 ⟨by decide, by decide⟩ rfl (dl_at t_X25_reference 110 rfl)) (dl_at t_X25_reference 110 rfl) (cat24 (st := []) (Nat.le_of_ble_eq_true rfl)) (Nat.le_of_ble_eq_true rfl) (Nat.le_of_ble_eq_true rfl) fun v215 g215 => ?_
          refine g_ifeq (pc := 218) X (r32_z g215) (off := 48) (tgt := 266) rfl (dl_at t_X25_reference 111 rfl) (fun _ => ?_) (fun _ => ?_)
          · refine g_aload_n (pc := 266) X (j := 0) (i := 0) (q := 4) (x := a0) rfl rfl (dl_at t_X25_reference 133 rfl) ?_
            refine g_iload (pc := 267) X (i := 4) (q := 1) (x := v18) rfl (dl_at t_X25_reference 134 rfl) ?_
            refine g_ldcSw (pc := 269) X (index := 580) (id := (-82)) 80 rfl rfl (dl_at t_X25_reference 135 rfl) ?_
            refine r_callRz (pc := 272) X (fun _ hv => s_X25_says hk g18 hv) cw_code q4920 q379 (in_Vk X (As := [iv v18, rv D (-82)]) kX25 hk (Or.inl q4917) q4919 qs311 cw_code q4920 ⟨by decide, by decide⟩ rfl (dl_at t_X25_reference 136 rfl)) (dl_at t_X25_reference 136 rfl) (cat24 (st := []) (Nat.le_of_ble_eq_true rfl)) (Nat.le_of_ble_eq_true rfl) (Nat.le_of_ble_eq_true rfl) fun v272 g272 => ?_
            refine g_ifeq (pc := 275) X (r32_z g272) (off := 51) (tgt := 326) rfl (dl_at t_X25_reference 137 rfl) (fun _ => ?_) (fun _ => ?_)
            · refine g_aload_n (pc := 326) X (j := 0) (i := 0) (q := 4) (x := a0) rfl rfl (dl_at t_X25_reference 160 rfl) ?_
              refine g_iload_n (pc := 327) X (j := 3) (i := 3) (q := 2) (x := v6) rfl rfl (dl_at t_X25_reference 161 rfl) ?_
              refine g_iload_n (pc := 328) X (j := 2) (i := 2) (q := 3) (x := a2) rfl rfl (dl_at t_X25_reference 162 rfl) ?_
              refine r_callTv (pc := 329) X (fun _ hv => s_X25_unknown hk g6 r2 hv) cw_code q4915 q379 (in_Vk X (As := [iv v6, iv a2]) kX25 hk (Or.inl q4912) q4914 qs310 cw_code q4915 ⟨by decide, by decide⟩ rfl (dl_at t_X25_reference 163 rfl)) (dl_at t_X25_reference 163 rfl) (cat24 (st := []) (Nat.le_of_ble_eq_true rfl)) (Nat.le_of_ble_eq_true rfl) (Nat.le_of_ble_eq_true rfl) (fun v329 h329 E329 => ?_) (fun _ _ ha _ => gt_at fun Q hQ => gt_out (Q := Q) X rfl ha (hno _) _ Q rfl hQ)
              exact g_vret (pc := 332) X (v := 0) rfl rfl (dl_at t_X25_reference 164 rfl)
            refine g_iload (pc := 278) X (i := 5) (q := 0) (x := v28) rfl (dl_at t_X25_reference 138 rfl) ?_
            refine g_iload_n (pc := 280) X (j := 1) (i := 1) (q := 5) (x := a1) rfl rfl (dl_at t_X25_reference 139 rfl) ?_
            refine g_join (γ := Int) (fun q => True) 293 (fun q => [(0, rv D a0), (2, iv a2), (3, iv v6)]) (fun q => [rv D q]) (fun q => h) (fun q => m_X25_reference_j293 v6 a2 a0 q h) ?_ ?_
            · rintro s0_293 _
              try dsimp only
              unfold m_X25_reference_j293
              refine g_astore (pc := 293) X (i := 6) (x := s0_293) (rest := [(0, rv D a0), (2, iv a2), (3, iv v6)]) (Nat.le_of_ble_eq_true rfl) [0, 1, 2] rfl rfl (dl_at t_X25_reference 144 rfl) ?_
              refine g_iconst (pc := 295) X (n := 0) (dl_at t_X25_reference 145 rfl) ?_
              refine g_ltz (Or.inl rfl) fun x7_296 r7_296 => ?_
              refine g_istoreN (pc := 296) X (i := 7) (x := x7_296) (b := 6) (w := rv D s0_293) (rest := [(0, rv D a0), (2, iv a2), (3, iv v6)]) (Nat.le_of_ble_eq_true rfl) [0, 1, 2, 3] rfl (by decide) rv_cat rfl (dl_at t_X25_reference 146 rfl) ?_
              refine g_ls (ls2 := [(0, rv D a0), (2, iv a2), (3, iv v6), (6, rv D s0_293), (7, iv x7_296)]) [2, 3, 4, 1, 0] rfl ?_
              refine g_loop0F (fun (q : Int × Hp) => [(0, rv D a0), (2, iv a2), (3, iv v6), (6, rv D s0_293), (7, iv q.1)]) (fun (q : Int × Hp) => q.2) (fun (q : Int × Hp) => r32 q.1 ∧ Ext h q.2) (x7_296, h) ⟨(r32_z r7_296), (Ext.refl _)⟩ ?_ (fun _ => rfl)
              · rintro ⟨x7_298, h_298⟩ ⟨r7_298, E_298⟩
                try dsimp only
                unfold m_X25_reference_l298
                refine g_iload (pc := 298) X (i := 7) (q := 4) (x := x7_298) rfl (dl_at t_X25_reference 147 rfl) ?_
                refine g_iconst (pc := 300) X (n := 5) (dl_at t_X25_reference 148 rfl) ?_
                refine g_icmpge (pc := 301) X r7_298 (r32_c rfl) (off := 22) (tgt := 323) rfl (dl_at t_X25_reference 149 rfl) (fun _ => ?_) (fun _ => ?_)
                · refine g_goto (pc := 323) X (off := 9) (tgt := 332) rfl (dl_at t_X25_reference 159 rfl) ?_
                  exact g_at fun Q hQ => (g_vret (pc := 332) X (v := 0) rfl rfl (dl_at t_X25_reference 164 rfl)) _ Q rfl hQ
                refine g_aload_n (pc := 304) X (j := 0) (i := 0) (q := 0) (x := a0) rfl rfl (dl_at t_X25_reference 150 rfl) ?_
                refine g_aload (pc := 305) X (i := 6) (q := 3) (x := s0_293) rfl (dl_at t_X25_reference 151 rfl) ?_
                refine g_iload (pc := 307) X (i := 7) (q := 4) (x := x7_298) rfl (dl_at t_X25_reference 152 rfl) ?_
                refine r_sat (pc := 309) X r7_298 q4928 (cat24 (st := [rv D a0]) (Nat.le_of_ble_eq_true rfl)) (Nat.le_of_ble_eq_true rfl) (Nat.le_of_ble_eq_true rfl) (dl_at t_X25_reference 153 rfl) fun v309 g309 => ?_
                refine g_iload_n (pc := 312) X (j := 3) (i := 3) (q := 2) (x := v6) rfl rfl (dl_at t_X25_reference 154 rfl) ?_
                refine g_iload_n (pc := 313) X (j := 2) (i := 2) (q := 1) (x := a2) rfl rfl (dl_at t_X25_reference 155 rfl) ?_
                have k314 := kx E_298 (by decide) hk
                refine r_callTv (pc := 314) X (fun _ hv => s_X25_emit k314 g309 g6 r2 hv) cw_code q4868 q379 (in_Vk X (As := [iv v309, iv v6, iv a2]) kX25 k314 (Or.inl q4865) q4867 qs302 cw_code q4868 ⟨by decide, by decide⟩ rfl (dl_at t_X25_reference 156 rfl)) (dl_at t_X25_reference 156 rfl) (cat24 (st := []) (Nat.le_of_ble_eq_true rfl)) (Nat.le_of_ble_eq_true rfl) (Nat.le_of_ble_eq_true rfl) (fun v314 h314 E314 => ?_) (fun _ _ ha _ => gt_at fun Q hQ => gt_out (Q := Q) X rfl ha (hno _) _ Q rfl hQ)
                refine r_iincN (pc := 317) X (i := 7) (q := 4) (n := 1) (x := x7_298) (b := 6) (w := rv D s0_293) (rest := [(0, rv D a0), (2, iv a2), (3, iv v6)]) rfl r7_298 (r32_c rfl) (Nat.le_of_ble_eq_true rfl) [3, 0, 1, 2] rfl (by decide) rv_cat rfl (dl_at t_X25_reference 157 rfl) fun x7_317 r7_317 => ?_
                refine g_goto (pc := 320) X (off := (-22)) (tgt := 298) rfl (dl_at t_X25_reference 158 rfl) ?_
                refine g_ls (ls2 := [(0, rv D a0), (2, iv a2), (3, iv v6), (6, rv D s0_293), (7, iv x7_317)]) [2, 3, 4, 1, 0] rfl ?_
                exact g_at fun Q hQ => hQ ⟨r7_317, (E_298.trans E314)⟩
            intro J293
            refine g_icmpge (pc := 281) X g28 r1 (off := 9) (tgt := 290) rfl (dl_at t_X25_reference 140 rfl) (fun _ => ?_) (fun _ => ?_)
            · refine g_ldcSw (pc := 290) X (index := 584) (id := (-84)) 82 rfl rfl (dl_at t_X25_reference 143 rfl) ?_
              refine g_ls (ls2 := [(0, rv D a0), (2, iv a2), (3, iv v6)]) [4, 3, 2] rfl ?_
              exact J293 (-84) trivial
            refine g_ldcSw (pc := 284) X (index := 582) (id := (-83)) 81 rfl rfl (dl_at t_X25_reference 141 rfl) ?_
            refine g_goto (pc := 287) X (off := 6) (tgt := 293) rfl (dl_at t_X25_reference 142 rfl) ?_
            refine g_ls (ls2 := [(0, rv D a0), (2, iv a2), (3, iv v6)]) [4, 3, 2] rfl ?_
            exact J293 (-83) trivial
          refine g_aload_n (pc := 221) X (j := 0) (i := 0) (q := 4) (x := a0) rfl rfl (dl_at t_X25_reference 112 rfl) ?_
          refine r_getr (pc := 222) X fX25_0 hk q3761 (dl_at t_X25_reference 113 rfl) ?_
          refine g_iload (pc := 225) X (i := 5) (q := 0) (x := v28) rfl (dl_at t_X25_reference 114 rfl) ?_
          refine r_callWi (pc := 227) X (fun _ hv => s_X24_title k6 g28 hv) cw_code q4739 q378 (in_Vk X (As := [iv v28]) kX24 k6 (Or.inl q4736) q4737 q4738 cw_code q4739 ⟨by decide, by decide⟩ rfl (dl_at t_X25_reference 115 rfl)) (dl_at t_X25_reference 115 rfl) (cat24 (st := []) (Nat.le_of_ble_eq_true rfl)) (Nat.le_of_ble_eq_true rfl) (Nat.le_of_ble_eq_true rfl) fun v227 h227 g227 E227 => ?_
          refine g_istore (pc := 230) X (i := 6) (x := v227) (rest := [(3, iv v6), (2, iv a2), (0, rv D a0)]) (Nat.le_of_ble_eq_true rfl) [2, 3, 4] rfl rfl (dl_at t_X25_reference 116 rfl) ?_
          refine g_iconst (pc := 232) X (n := 0) (dl_at t_X25_reference 117 rfl) ?_
          refine g_ltz (Or.inl rfl) fun x7_233 r7_233 => ?_
          refine g_istoreN (pc := 233) X (i := 7) (x := x7_233) (b := 6) (w := iv v227) (rest := [(3, iv v6), (2, iv a2), (0, rv D a0)]) (Nat.le_of_ble_eq_true rfl) [0, 1, 2, 3] rfl (by decide) rfl rfl (dl_at t_X25_reference 118 rfl) ?_
          refine g_ls (ls2 := [(0, rv D a0), (2, iv a2), (3, iv v6), (6, iv v227), (7, iv x7_233)]) [4, 3, 2, 1, 0] rfl ?_
          refine g_loop0F (fun (q : Int × Hp) => [(0, rv D a0), (2, iv a2), (3, iv v6), (6, iv v227), (7, iv q.1)]) (fun (q : Int × Hp) => q.2) (fun (q : Int × Hp) => r32 q.1 ∧ Ext h227 q.2) (x7_233, h227) ⟨(r32_z r7_233), (Ext.refl _)⟩ ?_ (fun _ => rfl)
          · rintro ⟨x7_235, h_235⟩ ⟨r7_235, E_235⟩
            try dsimp only
            unfold m_X25_reference_l235
            refine g_iload (pc := 235) X (i := 7) (q := 4) (x := x7_235) rfl (dl_at t_X25_reference 119 rfl) ?_
            refine g_iload (pc := 237) X (i := 6) (q := 3) (x := v227) rfl (dl_at t_X25_reference 120 rfl) ?_
            refine g_icmpge (pc := 239) X r7_235 g227 (off := 24) (tgt := 263) rfl (dl_at t_X25_reference 121 rfl) (fun _ => ?_) (fun _ => ?_)
            · refine g_goto (pc := 263) X (off := 69) (tgt := 332) rfl (dl_at t_X25_reference 132 rfl) ?_
              exact g_at fun Q hQ => (g_vret (pc := 332) X (v := 0) rfl rfl (dl_at t_X25_reference 164 rfl)) _ Q rfl hQ
            refine g_aload_n (pc := 242) X (j := 0) (i := 0) (q := 0) (x := a0) rfl rfl (dl_at t_X25_reference 122 rfl) ?_
            refine g_aload_n (pc := 243) X (j := 0) (i := 0) (q := 0) (x := a0) rfl rfl (dl_at t_X25_reference 123 rfl) ?_
            have k244 := kx (E227.trans E_235) (by decide) hk
            refine r_getr (pc := 244) X fX25_0 k244 q3761 (dl_at t_X25_reference 124 rfl) ?_
            refine g_iload (pc := 247) X (i := 7) (q := 4) (x := x7_235) rfl (dl_at t_X25_reference 125 rfl) ?_
            refine g_gd fun k249 => ?_
            refine r_callRi (pc := 249) X (fun _ hv => s_X24_titleByte k249 r7_235 hv) cw_code q4778 q378 (in_Vk X (As := [iv x7_235]) kX24 k249 (Or.inl q4775) q4776 q4777 cw_code q4778 ⟨by decide, by decide⟩ rfl (dl_at t_X25_reference 126 rfl)) (dl_at t_X25_reference 126 rfl) (cat24 (st := [rv D a0]) (Nat.le_of_ble_eq_true rfl)) (Nat.le_of_ble_eq_true rfl) (Nat.le_of_ble_eq_true rfl) fun v249 g249 => ?_
            refine g_iload_n (pc := 252) X (j := 3) (i := 3) (q := 2) (x := v6) rfl rfl (dl_at t_X25_reference 127 rfl) ?_
            refine g_iload_n (pc := 253) X (j := 2) (i := 2) (q := 1) (x := a2) rfl rfl (dl_at t_X25_reference 128 rfl) ?_
            refine r_callTv (pc := 254) X (fun _ hv => s_X25_emit k244 g249 g6 r2 hv) cw_code q4868 q379 (in_Vk X (As := [iv v249, iv v6, iv a2]) kX25 k244 (Or.inl q4865) q4867 qs302 cw_code q4868 ⟨by decide, by decide⟩ rfl (dl_at t_X25_reference 129 rfl)) (dl_at t_X25_reference 129 rfl) (cat24 (st := []) (Nat.le_of_ble_eq_true rfl)) (Nat.le_of_ble_eq_true rfl) (Nat.le_of_ble_eq_true rfl) (fun v254 h254 E254 => ?_) (fun _ _ ha _ => gt_at fun Q hQ => gt_out (Q := Q) X rfl ha (hno _) _ Q rfl hQ)
            refine r_iincN (pc := 257) X (i := 7) (q := 4) (n := 1) (x := x7_235) (b := 6) (w := iv v227) (rest := [(0, rv D a0), (2, iv a2), (3, iv v6)]) rfl r7_235 (r32_c rfl) (Nat.le_of_ble_eq_true rfl) [3, 0, 1, 2] rfl (by decide) rfl rfl (dl_at t_X25_reference 130 rfl) fun x7_257 r7_257 => ?_
            refine g_goto (pc := 260) X (off := (-25)) (tgt := 235) rfl (dl_at t_X25_reference 131 rfl) ?_
            refine g_ls (ls2 := [(0, rv D a0), (2, iv a2), (3, iv v6), (6, iv v227), (7, iv x7_257)]) [2, 3, 4, 1, 0] rfl ?_
            exact g_at fun Q hQ => hQ ⟨r7_257, (E_235.trans E254)⟩
        refine g_aload_n (pc := 145) X (j := 0) (i := 0) (q := 4) (x := a0) rfl rfl (dl_at t_X25_reference 77 rfl) ?_
        refine r_getr (pc := 146) X fX25_0 hk q3761 (dl_at t_X25_reference 78 rfl) ?_
        refine g_aload_n (pc := 149) X (j := 0) (i := 0) (q := 4) (x := a0) rfl rfl (dl_at t_X25_reference 79 rfl) ?_
        refine r_getr (pc := 150) X fX25_0 hk q3761 (dl_at t_X25_reference 80 rfl) ?_
        refine r_getr (pc := 153) X fX24_6 k6 q3655 (dl_at t_X25_reference 81 rfl) ?_
        refine g_iload (pc := 156) X (i := 5) (q := 0) (x := v28) rfl (dl_at t_X25_reference 82 rfl) ?_
        refine g_gd fun k158 => ?_
        refine g_iald (pc := 158) X g28 k158 (dl_at t_X25_reference 83 rfl) fun g158 => ?_
        refine g_aload_n (pc := 159) X (j := 0) (i := 0) (q := 4) (x := a0) rfl rfl (dl_at t_X25_reference 84 rfl) ?_
        refine r_getr (pc := 160) X fX25_0 hk q3761 (dl_at t_X25_reference 85 rfl) ?_
        refine g_iload (pc := 163) X (i := 5) (q := 0) (x := v28) rfl (dl_at t_X25_reference 86 rfl) ?_
        refine g_bipush (pc := 165) X (n := 18) rfl (dl_at t_X25_reference 87 rfl) ?_
        refine r_callRi (pc := 167) X (fun _ hv => s_X24_of k6 g28 (r32_c rfl) hv) cw_code q4704 q378 (in_Vk X (As := [iv v28, iv 18]) kX24 k6 (Or.inl q4844) q4702 q4703 cw_code q4704 ⟨by decide, by decide⟩ rfl (dl_at t_X25_reference 88 rfl)) (dl_at t_X25_reference 88 rfl) (cat24 (st := [iv (h (h (h a0 0) 6) v28), rv D (h a0 0)]) (Nat.le_of_ble_eq_true rfl)) (Nat.le_of_ble_eq_true rfl) (Nat.le_of_ble_eq_true rfl) fun v167 g167 => ?_
        refine r_callWi (pc := 170) X (fun _ hv => s_X24_form k6 g158 g167 hv) cw_code q4751 q378 (in_Vk X (As := [iv (h (h (h a0 0) 6) v28), iv v167]) kX24 k6 (Or.inl q4878) q4749 q4750 cw_code q4751 ⟨by decide, by decide⟩ rfl (dl_at t_X25_reference 89 rfl)) (dl_at t_X25_reference 89 rfl) (cat24 (st := []) (Nat.le_of_ble_eq_true rfl)) (Nat.le_of_ble_eq_true rfl) (Nat.le_of_ble_eq_true rfl) fun v170 h170 g170 E170 => ?_
        refine g_istore (pc := 173) X (i := 6) (x := v170) (rest := [(3, iv v6), (2, iv a2), (0, rv D a0)]) (Nat.le_of_ble_eq_true rfl) [2, 3, 4] rfl rfl (dl_at t_X25_reference 90 rfl) ?_
        refine g_iconst (pc := 175) X (n := 0) (dl_at t_X25_reference 91 rfl) ?_
        refine g_ltz (Or.inl rfl) fun x7_176 r7_176 => ?_
        refine g_istoreN (pc := 176) X (i := 7) (x := x7_176) (b := 6) (w := iv v170) (rest := [(3, iv v6), (2, iv a2), (0, rv D a0)]) (Nat.le_of_ble_eq_true rfl) [0, 1, 2, 3] rfl (by decide) rfl rfl (dl_at t_X25_reference 92 rfl) ?_
        refine g_ls (ls2 := [(0, rv D a0), (2, iv a2), (3, iv v6), (6, iv v170), (7, iv x7_176)]) [4, 3, 2, 1, 0] rfl ?_
        refine g_loop0F (fun (q : Int × Hp) => [(0, rv D a0), (2, iv a2), (3, iv v6), (6, iv v170), (7, iv q.1)]) (fun (q : Int × Hp) => q.2) (fun (q : Int × Hp) => r32 q.1 ∧ Ext h170 q.2) (x7_176, h170) ⟨(r32_z r7_176), (Ext.refl _)⟩ ?_ (fun _ => rfl)
        · rintro ⟨x7_178, h_178⟩ ⟨r7_178, E_178⟩
          try dsimp only
          unfold m_X25_reference_l178
          refine g_iload (pc := 178) X (i := 7) (q := 4) (x := x7_178) rfl (dl_at t_X25_reference 93 rfl) ?_
          refine g_iload (pc := 180) X (i := 6) (q := 3) (x := v170) rfl (dl_at t_X25_reference 94 rfl) ?_
          refine g_icmpge (pc := 182) X r7_178 g170 (off := 24) (tgt := 206) rfl (dl_at t_X25_reference 95 rfl) (fun _ => ?_) (fun _ => ?_)
          · refine g_goto (pc := 206) X (off := 126) (tgt := 332) rfl (dl_at t_X25_reference 106 rfl) ?_
            exact g_at fun Q hQ => (g_vret (pc := 332) X (v := 0) rfl rfl (dl_at t_X25_reference 164 rfl)) _ Q rfl hQ
          refine g_aload_n (pc := 185) X (j := 0) (i := 0) (q := 0) (x := a0) rfl rfl (dl_at t_X25_reference 96 rfl) ?_
          refine g_aload_n (pc := 186) X (j := 0) (i := 0) (q := 0) (x := a0) rfl rfl (dl_at t_X25_reference 97 rfl) ?_
          have k187 := kx (E170.trans E_178) (by decide) hk
          refine r_getr (pc := 187) X fX25_0 k187 q3761 (dl_at t_X25_reference 98 rfl) ?_
          refine g_iload (pc := 190) X (i := 7) (q := 4) (x := x7_178) rfl (dl_at t_X25_reference 99 rfl) ?_
          refine g_gd fun k192 => ?_
          refine r_callRi (pc := 192) X (fun _ hv => s_X24_digit k192 r7_178 hv) cw_code q4882 q378 (in_Vk X (As := [iv x7_178]) kX24 k192 (Or.inl q4879) q4880 q4881 cw_code q4882 ⟨by decide, by decide⟩ rfl (dl_at t_X25_reference 100 rfl)) (dl_at t_X25_reference 100 rfl) (cat24 (st := [rv D a0]) (Nat.le_of_ble_eq_true rfl)) (Nat.le_of_ble_eq_true rfl) (Nat.le_of_ble_eq_true rfl) fun v192 g192 => ?_
          refine g_iload_n (pc := 195) X (j := 3) (i := 3) (q := 2) (x := v6) rfl rfl (dl_at t_X25_reference 101 rfl) ?_
          refine g_iload_n (pc := 196) X (j := 2) (i := 2) (q := 1) (x := a2) rfl rfl (dl_at t_X25_reference 102 rfl) ?_
          refine r_callTv (pc := 197) X (fun _ hv => s_X25_emit k187 g192 g6 r2 hv) cw_code q4868 q379 (in_Vk X (As := [iv v192, iv v6, iv a2]) kX25 k187 (Or.inl q4865) q4867 qs302 cw_code q4868 ⟨by decide, by decide⟩ rfl (dl_at t_X25_reference 103 rfl)) (dl_at t_X25_reference 103 rfl) (cat24 (st := []) (Nat.le_of_ble_eq_true rfl)) (Nat.le_of_ble_eq_true rfl) (Nat.le_of_ble_eq_true rfl) (fun v197 h197 E197 => ?_) (fun _ _ ha _ => gt_at fun Q hQ => gt_out (Q := Q) X rfl ha (hno _) _ Q rfl hQ)
          refine r_iincN (pc := 200) X (i := 7) (q := 4) (n := 1) (x := x7_178) (b := 6) (w := iv v170) (rest := [(0, rv D a0), (2, iv a2), (3, iv v6)]) rfl r7_178 (r32_c rfl) (Nat.le_of_ble_eq_true rfl) [3, 0, 1, 2] rfl (by decide) rfl rfl (dl_at t_X25_reference 104 rfl) fun x7_200 r7_200 => ?_
          refine g_goto (pc := 203) X (off := (-25)) (tgt := 178) rfl (dl_at t_X25_reference 105 rfl) ?_
          refine g_ls (ls2 := [(0, rv D a0), (2, iv a2), (3, iv v6), (6, iv v170), (7, iv x7_200)]) [2, 3, 4, 1, 0] rfl ?_
          exact g_at fun Q hQ => hQ ⟨r7_200, (E_178.trans E197)⟩
      refine g_aload_n (pc := 102) X (j := 0) (i := 0) (q := 4) (x := a0) rfl rfl (dl_at t_X25_reference 53 rfl) ?_
      refine r_getr (pc := 103) X fX25_86 hk q3888 (dl_at t_X25_reference 54 rfl) ?_
      refine g_iload_n (pc := 106) X (j := 1) (i := 1) (q := 5) (x := a1) rfl rfl (dl_at t_X25_reference 55 rfl) ?_
      refine g_iconst (pc := 107) X (n := 2) (dl_at t_X25_reference 56 rfl) ?_
      refine g_gd fun k108 => ?_
      refine r_iast (pc := 108) X r1 (r32_c rfl) k108 (dl_at t_X25_reference 57 rfl) (fun h108 E108 => ?_)
      refine g_aload_n (pc := 109) X (j := 0) (i := 0) (q := 4) (x := a0) rfl rfl (dl_at t_X25_reference 58 rfl) ?_
      have k110 := kx E108 (by decide) hk
      refine r_getr (pc := 110) X fX25_87 k110 q3889 (dl_at t_X25_reference 59 rfl) ?_
      refine g_iload_n (pc := 113) X (j := 1) (i := 1) (q := 5) (x := a1) rfl rfl (dl_at t_X25_reference 60 rfl) ?_
      refine g_iload (pc := 114) X (i := 5) (q := 0) (x := v28) rfl (dl_at t_X25_reference 61 rfl) ?_
      refine g_gd fun k116 => ?_
      refine r_iast (pc := 116) X r1 g28 k116 (dl_at t_X25_reference 62 rfl) (fun h116 E116 => ?_)
      refine g_aload_n (pc := 117) X (j := 0) (i := 0) (q := 4) (x := a0) rfl rfl (dl_at t_X25_reference 63 rfl) ?_
      refine g_aload_n (pc := 118) X (j := 0) (i := 0) (q := 4) (x := a0) rfl rfl (dl_at t_X25_reference 64 rfl) ?_
      have k119 := kx E116 (by decide) k110
      refine r_getr (pc := 119) X fX25_81 k119 q3881 (dl_at t_X25_reference 65 rfl) ?_
      refine g_iload (pc := 122) X (i := 5) (q := 0) (x := v28) rfl (dl_at t_X25_reference 66 rfl) ?_
      refine g_gd fun k124 => ?_
      refine g_iald (pc := 124) X g28 k124 (dl_at t_X25_reference 67 rfl) fun g124 => ?_
      refine g_iload_n (pc := 125) X (j := 3) (i := 3) (q := 2) (x := v6) rfl rfl (dl_at t_X25_reference 68 rfl) ?_
      refine g_iload_n (pc := 126) X (j := 2) (i := 2) (q := 3) (x := a2) rfl rfl (dl_at t_X25_reference 69 rfl) ?_
      refine r_callTv (pc := 127) X (fun _ hv => s_X25_digits k119 g124 g6 r2 hv) cw_code q4877 q379 (in_Vk X (As := [iv (h116 (h116 a0 81) v28), iv v6, iv a2]) kX25 k119 (Or.inl q4874) q4876 qs304 cw_code q4877 ⟨by decide, by decide⟩ rfl (dl_at t_X25_reference 70 rfl)) (dl_at t_X25_reference 70 rfl) (cat24 (st := []) (Nat.le_of_ble_eq_true rfl)) (Nat.le_of_ble_eq_true rfl) (Nat.le_of_ble_eq_true rfl) (fun v127 h127 E127 => ?_) (fun _ _ ha _ => gt_at fun Q hQ => gt_out (Q := Q) X rfl ha (hno _) _ Q rfl hQ)
      refine g_goto (pc := 130) X (off := 202) (tgt := 332) rfl (dl_at t_X25_reference 71 rfl) ?_
      exact g_vret (pc := 332) X (v := 0) rfl rfl (dl_at t_X25_reference 164 rfl)
    refine g_aload_n (pc := 59) X (j := 0) (i := 0) (q := 4) (x := a0) rfl rfl (dl_at t_X25_reference 29 rfl) ?_
    refine r_getr (pc := 60) X fX25_86 hk q3888 (dl_at t_X25_reference 30 rfl) ?_
    refine g_iload_n (pc := 63) X (j := 1) (i := 1) (q := 5) (x := a1) rfl rfl (dl_at t_X25_reference 31 rfl) ?_
    refine g_iconst (pc := 64) X (n := 1) (dl_at t_X25_reference 32 rfl) ?_
    refine g_gd fun k65 => ?_
    refine r_iast (pc := 65) X r1 (r32_c rfl) k65 (dl_at t_X25_reference 33 rfl) (fun h65 E65 => ?_)
    refine g_aload_n (pc := 66) X (j := 0) (i := 0) (q := 4) (x := a0) rfl rfl (dl_at t_X25_reference 34 rfl) ?_
    have k67 := kx E65 (by decide) hk
    refine r_getr (pc := 67) X fX25_87 k67 q3889 (dl_at t_X25_reference 35 rfl) ?_
    refine g_iload_n (pc := 70) X (j := 1) (i := 1) (q := 5) (x := a1) rfl rfl (dl_at t_X25_reference 36 rfl) ?_
    refine g_iload (pc := 71) X (i := 5) (q := 0) (x := v28) rfl (dl_at t_X25_reference 37 rfl) ?_
    refine g_gd fun k73 => ?_
    refine r_iast (pc := 73) X r1 g28 k73 (dl_at t_X25_reference 38 rfl) (fun h73 E73 => ?_)
    refine g_aload_n (pc := 74) X (j := 0) (i := 0) (q := 4) (x := a0) rfl rfl (dl_at t_X25_reference 39 rfl) ?_
    refine g_aload_n (pc := 75) X (j := 0) (i := 0) (q := 4) (x := a0) rfl rfl (dl_at t_X25_reference 40 rfl) ?_
    have k76 := kx E73 (by decide) k67
    refine r_getr (pc := 76) X fX25_80 k76 q3880 (dl_at t_X25_reference 41 rfl) ?_
    refine g_iload (pc := 79) X (i := 5) (q := 0) (x := v28) rfl (dl_at t_X25_reference 42 rfl) ?_
    refine g_gd fun k81 => ?_
    refine g_iald (pc := 81) X g28 k81 (dl_at t_X25_reference 43 rfl) fun g81 => ?_
    refine g_iload_n (pc := 82) X (j := 3) (i := 3) (q := 2) (x := v6) rfl rfl (dl_at t_X25_reference 44 rfl) ?_
    refine g_iload_n (pc := 83) X (j := 2) (i := 2) (q := 3) (x := a2) rfl rfl (dl_at t_X25_reference 45 rfl) ?_
    refine r_callTv (pc := 84) X (fun _ hv => s_X25_digits k76 g81 g6 r2 hv) cw_code q4877 q379 (in_Vk X (As := [iv (h73 (h73 a0 80) v28), iv v6, iv a2]) kX25 k76 (Or.inl q4874) q4876 qs304 cw_code q4877 ⟨by decide, by decide⟩ rfl (dl_at t_X25_reference 46 rfl)) (dl_at t_X25_reference 46 rfl) (cat24 (st := []) (Nat.le_of_ble_eq_true rfl)) (Nat.le_of_ble_eq_true rfl) (Nat.le_of_ble_eq_true rfl) (fun v84 h84 E84 => ?_) (fun _ _ ha _ => gt_at fun Q hQ => gt_out (Q := Q) X rfl ha (hno _) _ Q rfl hQ)
    refine g_goto (pc := 87) X (off := 245) (tgt := 332) rfl (dl_at t_X25_reference 47 rfl) ?_
    exact g_vret (pc := 332) X (v := 0) rfl rfl (dl_at t_X25_reference 164 rfl)
  refine g_aload_n (pc := 38) X (j := 0) (i := 0) (q := 4) (x := a0) rfl rfl (dl_at t_X25_reference 19 rfl) ?_
  refine g_iload_n (pc := 39) X (j := 3) (i := 3) (q := 2) (x := v6) rfl rfl (dl_at t_X25_reference 20 rfl) ?_
  refine g_iload_n (pc := 40) X (j := 2) (i := 2) (q := 3) (x := a2) rfl rfl (dl_at t_X25_reference 21 rfl) ?_
  refine r_callTv (pc := 41) X (fun _ hv => s_X25_unknown hk g6 r2 hv) cw_code q4915 q379 (in_Vk X (As := [iv v6, iv a2]) kX25 hk (Or.inl q4912) q4914 qs310 cw_code q4915 ⟨by decide, by decide⟩ rfl (dl_at t_X25_reference 22 rfl)) (dl_at t_X25_reference 22 rfl) (cat24 (st := []) (Nat.le_of_ble_eq_true rfl)) (Nat.le_of_ble_eq_true rfl) (Nat.le_of_ble_eq_true rfl) (fun v41 h41 E41 => ?_) (fun _ _ ha _ => gt_at fun Q hQ => gt_out (Q := Q) X rfl ha (hno _) _ Q rfl hQ)
  refine g_goto (pc := 44) X (off := 288) (tgt := 332) rfl (dl_at t_X25_reference 23 rfl) ?_
  exact g_vret (pc := 332) X (v := 0) rfl rfl (dl_at t_X25_reference 164 rfl)
def k_X25_opens : List (Nat × Instr × Nat) := [(0, .aload_n 0, 1), (1, .getfield 14, 3), (4, .getfield 483, 3), (7, .iload_n 1, 1), (8, .baload, 1), (9, .ifCond .eq 124, 3), (12, .aload_n 0, 1), (13, .aload_n 0, 1), (14, .aload_n 0, 1), (15, .getfield 342, 3), (18, .getfield 486, 3), (21, .iload_n 1, 1), (22, .iaload, 1), (23, .invokevirtual 621, 3), (26, .invokevirtual 615, 3), (29, .aload_n 0, 1), (30, .aload_n 0, 1), (31, .getfield 495, 3), (34, .aload_n 0, 1), (35, .getfield 14, 3), (38, .iload_n 1, 1), (39, .bipush 6, 2), (41, .invokevirtual 477, 3), (44, .invokestatic 624, 3), (47, .putfield 495, 3), (50, .aload_n 0, 1), (51, .getfield 14, 3), (54, .iload_n 1, 1), (55, .invokevirtual 426, 3), (58, .bipush 8, 2), (60, .if_icmp .eq 16, 3), (63, .aload_n 0, 1), (64, .getfield 14, 3), (67, .iload_n 1, 1), (68, .invokevirtual 426, 3), (71, .bipush 9, 2), (73, .if_icmp .ne 52, 3), (76, .aload_n 0, 1), (77, .getfield 14, 3), (80, .iload_n 1, 1), (81, .invokevirtual 426, 3), (84, .bipush 8, 2), (86, .if_icmp .ne 11, 3), (89, .aload_n 0, 1), (90, .iload_n 1, 1), (91, .invokevirtual 627, 3), (94, .goto 8, 3), (97, .aload_n 0, 1), (98, .iload_n 1, 1), (99, .invokevirtual 630, 3), (102, .aload_n 0, 1), (103, .aload_n 0, 1), (104, .getfield 495, 3), (107, .aload_n 0, 1), (108, .getfield 14, 3), (111, .iload_n 1, 1), (112, .bipush 7, 2), (114, .invokevirtual 477, 3), (117, .invokestatic 624, 3), (120, .putfield 495, 3), (123, .iconst 0, 1), (124, .ireturn, 1), (125, .aload_n 0, 1), (126, .iload_n 1, 1), (127, .iconst 1, 1), (128, .invokevirtual 633, 3), (131, .iconst 1, 1), (132, .ireturn, 1), (133, .aload_n 0, 1), (134, .getfield 14, 3), (137, .getfield 635, 3), (140, .iload_n 1, 1), (141, .baload, 1), (142, .ifCond .eq 5, 3), (145, .iconst 1, 1), (146, .ireturn, 1), (147, .aload_n 0, 1), (148, .getfield 14, 3), (151, .getfield 638, 3), (154, .iload_n 1, 1), (155, .baload, 1), (156, .ifCond .eq 15, 3), (159, .aload_n 0, 1), (160, .invokevirtual 480, 3), (163, .aload_n 0, 1), (164, .iload_n 1, 1), (165, .iconst 1, 1), (166, .invokevirtual 633, 3), (169, .iconst 1, 1), (170, .ireturn, 1), (171, .aload_n 0, 1), (172, .getfield 14, 3), (175, .getfield 641, 3), (178, .iload_n 1, 1), (179, .baload, 1), (180, .ifCond .eq 78, 3), (183, .aload_n 0, 1), (184, .getfield 592, 3), (187, .bipush 120, 2), (189, .if_icmp .ne 11, 3), (192, .new 451, 3), (195, .dup, 1), (196, .invokespecial 453, 3), (199, .athrow, 1), (200, .aload_n 0, 1), (201, .getfield 154, 3), (204, .aload_n 0, 1), (205, .getfield 592, 3), (208, .iload_n 1, 1), (209, .iastore, 1), (210, .aload_n 0, 1), (211, .dup, 1), (212, .getfield 592, 3), (215, .iconst 1, 1), (216, .iadd, 1), (217, .putfield 592, 3), (220, .aload_n 0, 1), (221, .getfield 184, 3), (224, .iload_n 1, 1), (225, .aload_n 0, 1), (226, .getfield 592, 3), (229, .iastore, 1), (230, .aload_n 0, 1), (231, .aload_n 0, 1), (232, .getfield 592, 3), (235, .aload_n 0, 1), (236, .getfield 14, 3), (239, .aload_n 0, 1), (240, .getfield 342, 3), (243, .getfield 486, 3), (246, .iload_n 1, 1), (247, .iaload, 1), (248, .iconst 1, 1), (249, .invokevirtual 477, 3), (252, .iconst 1, 1), (253, .invokevirtual 573, 3), (256, .iconst 0, 1), (257, .ireturn, 1), (258, .aload_n 0, 1), (259, .getfield 14, 3), (262, .iload_n 1, 1), (263, .invokevirtual 426, 3), (266, .iconst 4, 1), (267, .if_icmp .ne 54, 3), (270, .aload_n 0, 1), (271, .getfield 14, 3), (274, .getfield 423, 3), (277, .iload_n 1, 1), (278, .baload, 1), (279, .ifCond .eq 40, 3), (282, .aload_n 0, 1), (283, .getfield 595, 3), (286, .bipush 40, 2), (288, .if_icmp .ne 11, 3), (291, .new 451, 3), (294, .dup, 1), (295, .invokespecial 453, 3), (298, .athrow, 1), (299, .aload_n 0, 1), (300, .getfield 169, 3), (303, .aload_n 0, 1), (304, .getfield 595, 3), (307, .iload_n 1, 1), (308, .iastore, 1), (309, .aload_n 0, 1), (310, .dup, 1), (311, .getfield 595, 3), (314, .iconst 1, 1), (315, .iadd, 1), (316, .putfield 595, 3), (319, .iconst 0, 1), (320, .ireturn, 1), (321, .aload_n 0, 1), (322, .getfield 14, 3), (325, .iload_n 1, 1), (326, .invokevirtual 426, 3), (329, .bipush 10, 2), (331, .if_icmp .ne 11, 3), (334, .aload_n 0, 1), (335, .iload_n 1, 1), (336, .iconst 1, 1), (337, .invokevirtual 643, 3), (340, .iconst 0, 1), (341, .ireturn, 1), (342, .aload_n 0, 1), (343, .getfield 14, 3), (346, .iload_n 1, 1), (347, .invokevirtual 426, 3), (350, .bipush 8, 2), (352, .if_icmp .eq 16, 3), (355, .aload_n 0, 1), (356, .getfield 14, 3), (359, .iload_n 1, 1), (360, .invokevirtual 426, 3), (363, .bipush 9, 2), (365, .if_icmp .ne 5, 3), (368, .iconst 0, 1), (369, .ireturn, 1), (370, .aload_n 0, 1), (371, .iload_n 1, 1), (372, .iconst 1, 1), (373, .invokevirtual 633, 3), (376, .iconst 1, 1), (377, .ireturn, 1)]
theorem t_X25_opens : ∀ q ∈ k_X25_opens, decode cX25_opens q.1 = .ok q.2 := dl_all (by decide +kernel)
noncomputable def m_X25_opens_j102 (a0 a1 : Int) (h_102 : Hp) : Option ((Int × Int) × Hp) :=
  gd (h_102 (h_102 a0 0) (-2) = 400) ((m_X24_of (h_102 a0 0) a1 7 h_102).bind fun v114 =>
  pt h_102 a0 103 (max_ (h_102 a0 103) v114) fun h120 =>
  some ((0, 0), h120))
noncomputable def m_X25_opens_j76 (a0 a1 : Int) (h47 : Hp) : Option ((Int × Int) × Hp) :=
  (m_X24_show (h47 a0 0) a1 h47).bind fun v81 =>
  if v81 ≠ 8 then (bT (m_X25_index a0 a1 h47) (fun _ h99 =>
  m_X25_opens_j102 a0 a1 h99) (fun a_ h_ => some ((1, a_), h_)))
  else (bT (m_X25_contents a0 a1 h47) (fun _ h91 =>
  m_X25_opens_j102 a0 a1 h91) (fun a_ h_ => some ((1, a_), h_)))
noncomputable def m_X25_opens (a0 a1 : Int) (h : Hp) : Option ((Int × Int) × Hp) :=
  gd (h (h a0 0) (-2) = 400) (gd (h (h (h a0 0) 12) (-2) % 16 = 3 ∧ (0 : Int) ≤ a1 ∧ a1 < h (h (h a0 0) 12) (-1)) (if (h (h (h a0 0) 12) a1) = 0 then (gd (h (h (h a0 0) 14) (-2) % 16 = 3 ∧ (0 : Int) ≤ a1 ∧ a1 < h (h (h a0 0) 14) (-1)) (if (h (h (h a0 0) 14) a1) = 0 then (gd (h (h (h a0 0) 15) (-2) % 16 = 3 ∧ (0 : Int) ≤ a1 ∧ a1 < h (h (h a0 0) 15) (-1)) (if (h (h (h a0 0) 15) a1) = 0 then (gd (h (h (h a0 0) 11) (-2) % 16 = 3 ∧ (0 : Int) ≤ a1 ∧ a1 < h (h (h a0 0) 11) (-1)) (if (h (h (h a0 0) 11) a1) = 0 then ((m_X24_show (h a0 0) a1 h).bind fun v263 =>
  if v263 ≠ 4 then ((m_X24_show (h a0 0) a1 h).bind fun v326 =>
  if v326 ≠ 10 then ((m_X24_show (h a0 0) a1 h).bind fun v347 =>
  if v347 = 8 then (some ((0, 0), h))
  else ((m_X24_show (h a0 0) a1 h).bind fun v360 =>
  if v360 ≠ 9 then (bT (m_X25_label a0 a1 1 h) (fun _ h373 =>
  some ((0, 1), h373)) (fun a_ h_ => some ((1, a_), h_)))
  else (some ((0, 0), h))))
  else (bT (m_X25_reference a0 a1 1 h) (fun _ h337 =>
  some ((0, 0), h337)) (fun a_ h_ => some ((1, a_), h_))))
  else (gd (h (h (h a0 0) 10) (-2) % 16 = 3 ∧ (0 : Int) ≤ a1 ∧ a1 < h (h (h a0 0) 10) (-1)) (if (h (h (h a0 0) 10) a1) = 0 then (some ((0, 0), h))
  else (if (h a0 54) ≠ 40 then (gd (h (h a0 60) (-2) % 16 = 1 ∧ (0 : Int) ≤ (h a0 54) ∧ (h a0 54) < h (h a0 60) (-1)) (pt h (h a0 60) (h a0 54) a1 fun h308 =>
  pt h308 a0 54 (w32 ((h308 a0 54) + 1)) fun h316 =>
  some ((0, 0), h316)))
  else (al h 464 6 fun a291 h291 =>
  (x_init0 a291 h291).bind fun h295 =>
  some ((1, a291), h295))))))
  else (if (h a0 53) ≠ 120 then (gd (h (h a0 55) (-2) % 16 = 1 ∧ (0 : Int) ≤ (h a0 53) ∧ (h a0 53) < h (h a0 55) (-1)) (pt h (h a0 55) (h a0 53) a1 fun h209 =>
  pt h209 a0 53 (w32 ((h209 a0 53) + 1)) fun h217 =>
  gd (h217 (h217 a0 65) (-2) % 16 = 1 ∧ (0 : Int) ≤ a1 ∧ a1 < h217 (h217 a0 65) (-1)) (pt h217 (h217 a0 65) a1 (h217 a0 53) fun h229 =>
  gd (h229 (h229 a0 1) (-2) = 384) (gd (h229 (h229 (h229 a0 1) 11) (-2) % 16 = 1 ∧ (0 : Int) ≤ a1 ∧ a1 < h229 (h229 (h229 a0 1) 11) (-1)) (gd (h229 (h229 a0 0) (-2) = 400) ((m_X24_of (h229 a0 0) (h229 (h229 (h229 a0 1) 11) a1) 1 h229).bind fun v249 =>
  bT (m_X25_digits a0 (h229 a0 53) v249 1 h229) (fun _ h253 =>
  some ((0, 0), h253)) (fun a_ h_ => some ((1, a_), h_))))))))
  else (al h 464 6 fun a192 h192 =>
  (x_init0 a192 h192).bind fun h196 =>
  some ((1, a192), h196)))))
  else ((m_X25_begin a0 h).bind fun h160 =>
  bT (m_X25_label a0 a1 1 h160) (fun _ h166 =>
  some ((0, 1), h166)) (fun a_ h_ => some ((1, a_), h_)))))
  else (some ((0, 1), h))))
  else (gd (h (h a0 1) (-2) = 384) (gd (h (h (h a0 1) 11) (-2) % 16 = 1 ∧ (0 : Int) ≤ a1 ∧ a1 < h (h (h a0 1) 11) (-1)) ((m_X25_blockOf a0 (h (h (h a0 1) 11) a1) h).bind fun v23 =>
  bT (m_X25_flowEnds a0 v23 h) (fun _ h26 =>
  gd (h26 (h26 a0 0) (-2) = 400) ((m_X24_of (h26 a0 0) a1 6 h26).bind fun v41 =>
  pt h26 a0 103 (max_ (h26 a0 103) v41) fun h47 =>
  gd (h47 (h47 a0 0) (-2) = 400) ((m_X24_show (h47 a0 0) a1 h47).bind fun v55 =>
  if v55 = 8 then (m_X25_opens_j76 a0 a1 h47)
  else ((m_X24_show (h47 a0 0) a1 h47).bind fun v68 =>
  if v68 ≠ 9 then (bT (m_X25_label a0 a1 1 h47) (fun _ h128 =>
  some ((0, 1), h128)) (fun a_ h_ => some ((1, a_), h_)))
  else (m_X25_opens_j76 a0 a1 h47))))) (fun a_ h_ => some ((1, a_), h_)))))))
theorem s_X25_opens {l : Launch} [NoTr l] {D : SD} {a0 a1 : Int} {h : Hp} (hk : h a0 (-2) = 416) (r1 : r32 a1) {r : (Int × Int) × Hp} (hm : m_X25_opens a0 a1 h = some r) : Sim l D yX25_opens (Cond.code yX25_opens cX25_opens 2 (Option.some Jvm.ClassFile.FieldType.boolean)) 13 498 [rv D a0, iv a1] h 3 r := by
  refine Sim.of (fin := fun (v : (Int × Int) × Hp) => v) (lsE := [(0, rv D a0), (1, iv a1)]) hm rfl cwS_code (la_r (la_i la_n)) (ll_r (ll_i ll_n)) ?_
  intro p e s m below meth c X hcw hmm hcc hnm hname
  have hno := noh hcw hnm hmm hcc
  unfold m_X25_opens
  refine g_aload_n (pc := 0) X (j := 0) (i := 0) (q := 0) (x := a0) rfl rfl (dl_at t_X25_opens 0 rfl) ?_
  refine r_getr (pc := 1) X fX25_0 hk q3761 (dl_at t_X25_opens 1 rfl) ?_
  refine g_gd fun k4 => ?_
  refine r_getr (pc := 4) X fX24_12 k4 q3671 (dl_at t_X25_opens 2 rfl) ?_
  refine g_iload_n (pc := 7) X (j := 1) (i := 1) (q := 1) (x := a1) rfl rfl (dl_at t_X25_opens 3 rfl) ?_
  refine g_gd fun k8 => ?_
  refine g_zald (pc := 8) X r1 k8 (dl_at t_X25_opens 4 rfl) fun g8 => ?_
  refine g_ifeq (pc := 9) X (r32_z g8) (off := 124) (tgt := 133) rfl (dl_at t_X25_opens 5 rfl) (fun _ => ?_) (fun _ => ?_)
  · refine g_aload_n (pc := 133) X (j := 0) (i := 0) (q := 0) (x := a0) rfl rfl (dl_at t_X25_opens 68 rfl) ?_
    refine r_getr (pc := 134) X fX25_0 hk q3761 (dl_at t_X25_opens 69 rfl) ?_
    refine r_getr (pc := 137) X fX24_14 k4 q3675 (dl_at t_X25_opens 70 rfl) ?_
    refine g_iload_n (pc := 140) X (j := 1) (i := 1) (q := 1) (x := a1) rfl rfl (dl_at t_X25_opens 71 rfl) ?_
    refine g_gd fun k141 => ?_
    refine g_zald (pc := 141) X r1 k141 (dl_at t_X25_opens 72 rfl) fun g141 => ?_
    refine g_ifeq (pc := 142) X (r32_z g141) (off := 5) (tgt := 147) rfl (dl_at t_X25_opens 73 rfl) (fun _ => ?_) (fun _ => ?_)
    · refine g_aload_n (pc := 147) X (j := 0) (i := 0) (q := 0) (x := a0) rfl rfl (dl_at t_X25_opens 76 rfl) ?_
      refine r_getr (pc := 148) X fX25_0 hk q3761 (dl_at t_X25_opens 77 rfl) ?_
      refine r_getr (pc := 151) X fX24_15 k4 q3677 (dl_at t_X25_opens 78 rfl) ?_
      refine g_iload_n (pc := 154) X (j := 1) (i := 1) (q := 1) (x := a1) rfl rfl (dl_at t_X25_opens 79 rfl) ?_
      refine g_gd fun k155 => ?_
      refine g_zald (pc := 155) X r1 k155 (dl_at t_X25_opens 80 rfl) fun g155 => ?_
      refine g_ifeq (pc := 156) X (r32_z g155) (off := 15) (tgt := 171) rfl (dl_at t_X25_opens 81 rfl) (fun _ => ?_) (fun _ => ?_)
      · refine g_aload_n (pc := 171) X (j := 0) (i := 0) (q := 0) (x := a0) rfl rfl (dl_at t_X25_opens 90 rfl) ?_
        refine r_getr (pc := 172) X fX25_0 hk q3761 (dl_at t_X25_opens 91 rfl) ?_
        refine r_getr (pc := 175) X fX24_11 k4 q3669 (dl_at t_X25_opens 92 rfl) ?_
        refine g_iload_n (pc := 178) X (j := 1) (i := 1) (q := 1) (x := a1) rfl rfl (dl_at t_X25_opens 93 rfl) ?_
        refine g_gd fun k179 => ?_
        refine g_zald (pc := 179) X r1 k179 (dl_at t_X25_opens 94 rfl) fun g179 => ?_
        refine g_ifeq (pc := 180) X (r32_z g179) (off := 78) (tgt := 258) rfl (dl_at t_X25_opens 95 rfl) (fun _ => ?_) (fun _ => ?_)
        · refine g_aload_n (pc := 258) X (j := 0) (i := 0) (q := 0) (x := a0) rfl rfl (dl_at t_X25_opens 138 rfl) ?_
          refine r_getr (pc := 259) X fX25_0 hk q3761 (dl_at t_X25_opens 139 rfl) ?_
          refine g_iload_n (pc := 262) X (j := 1) (i := 1) (q := 1) (x := a1) rfl rfl (dl_at t_X25_opens 140 rfl) ?_
          refine r_callRi (pc := 263) X (fun _ hv => s_X24_show k4 r1 hv) cw_code q4717 q378 (in_Vk X (As := [iv a1]) kX24 k4 (Or.inl q4730) q4715 q4716 cw_code q4717 ⟨by decide, by decide⟩ rfl (dl_at t_X25_opens 141 rfl)) (dl_at t_X25_opens 141 rfl) (cat24 (st := []) (Nat.le_of_ble_eq_true rfl)) (Nat.le_of_ble_eq_true rfl) (Nat.le_of_ble_eq_true rfl) fun v263 g263 => ?_
          refine g_iconst (pc := 266) X (n := 4) (dl_at t_X25_opens 142 rfl) ?_
          refine g_icmpne (pc := 267) X g263 (r32_c rfl) (off := 54) (tgt := 321) rfl (dl_at t_X25_opens 143 rfl) (fun _ => ?_) (fun _ => ?_)
          · refine g_aload_n (pc := 321) X (j := 0) (i := 0) (q := 0) (x := a0) rfl rfl (dl_at t_X25_opens 172 rfl) ?_
            refine r_getr (pc := 322) X fX25_0 hk q3761 (dl_at t_X25_opens 173 rfl) ?_
            refine g_iload_n (pc := 325) X (j := 1) (i := 1) (q := 1) (x := a1) rfl rfl (dl_at t_X25_opens 174 rfl) ?_
            refine r_callRi (pc := 326) X (fun _ hv => s_X24_show k4 r1 hv) cw_code q4717 q378 (in_Vk X (As := [iv a1]) kX24 k4 (Or.inl q4730) q4715 q4716 cw_code q4717 ⟨by decide, by decide⟩ rfl (dl_at t_X25_opens 175 rfl)) (dl_at t_X25_opens 175 rfl) (cat24 (st := []) (Nat.le_of_ble_eq_true rfl)) (Nat.le_of_ble_eq_true rfl) (Nat.le_of_ble_eq_true rfl) fun v326 g326 => ?_
            refine g_bipush (pc := 329) X (n := 10) rfl (dl_at t_X25_opens 176 rfl) ?_
            refine g_icmpne (pc := 331) X g326 (r32_c rfl) (off := 11) (tgt := 342) rfl (dl_at t_X25_opens 177 rfl) (fun _ => ?_) (fun _ => ?_)
            · refine g_aload_n (pc := 342) X (j := 0) (i := 0) (q := 0) (x := a0) rfl rfl (dl_at t_X25_opens 184 rfl) ?_
              refine r_getr (pc := 343) X fX25_0 hk q3761 (dl_at t_X25_opens 185 rfl) ?_
              refine g_iload_n (pc := 346) X (j := 1) (i := 1) (q := 1) (x := a1) rfl rfl (dl_at t_X25_opens 186 rfl) ?_
              refine r_callRi (pc := 347) X (fun _ hv => s_X24_show k4 r1 hv) cw_code q4717 q378 (in_Vk X (As := [iv a1]) kX24 k4 (Or.inl q4730) q4715 q4716 cw_code q4717 ⟨by decide, by decide⟩ rfl (dl_at t_X25_opens 187 rfl)) (dl_at t_X25_opens 187 rfl) (cat24 (st := []) (Nat.le_of_ble_eq_true rfl)) (Nat.le_of_ble_eq_true rfl) (Nat.le_of_ble_eq_true rfl) fun v347 g347 => ?_
              refine g_bipush (pc := 350) X (n := 8) rfl (dl_at t_X25_opens 188 rfl) ?_
              refine g_icmpeq (pc := 352) X g347 (r32_c rfl) (off := 16) (tgt := 368) rfl (dl_at t_X25_opens 189 rfl) (fun _ => ?_) (fun _ => ?_)
              · refine g_iconst (pc := 368) X (n := 0) (dl_at t_X25_opens 196 rfl) ?_
                exact g_zret (pc := 369) X (Or.inl rfl) rfl rfl (dl_at t_X25_opens 197 rfl)
              refine g_aload_n (pc := 355) X (j := 0) (i := 0) (q := 0) (x := a0) rfl rfl (dl_at t_X25_opens 190 rfl) ?_
              refine r_getr (pc := 356) X fX25_0 hk q3761 (dl_at t_X25_opens 191 rfl) ?_
              refine g_iload_n (pc := 359) X (j := 1) (i := 1) (q := 1) (x := a1) rfl rfl (dl_at t_X25_opens 192 rfl) ?_
              refine r_callRi (pc := 360) X (fun _ hv => s_X24_show k4 r1 hv) cw_code q4717 q378 (in_Vk X (As := [iv a1]) kX24 k4 (Or.inl q4730) q4715 q4716 cw_code q4717 ⟨by decide, by decide⟩ rfl (dl_at t_X25_opens 193 rfl)) (dl_at t_X25_opens 193 rfl) (cat24 (st := []) (Nat.le_of_ble_eq_true rfl)) (Nat.le_of_ble_eq_true rfl) (Nat.le_of_ble_eq_true rfl) fun v360 g360 => ?_
              refine g_bipush (pc := 363) X (n := 9) rfl (dl_at t_X25_opens 194 rfl) ?_
              refine g_icmpne (pc := 365) X g360 (r32_c rfl) (off := 5) (tgt := 370) rfl (dl_at t_X25_opens 195 rfl) (fun _ => ?_) (fun _ => ?_)
              · refine g_aload_n (pc := 370) X (j := 0) (i := 0) (q := 0) (x := a0) rfl rfl (dl_at t_X25_opens 198 rfl) ?_
                refine g_iload_n (pc := 371) X (j := 1) (i := 1) (q := 1) (x := a1) rfl rfl (dl_at t_X25_opens 199 rfl) ?_
                refine g_iconst (pc := 372) X (n := 1) (dl_at t_X25_opens 200 rfl) ?_
                refine r_callTv (pc := 373) X (fun _ hv => s_X25_label hk r1 (Or.inr rfl) hv) cw_code q4894 q379 (in_Vk X (As := [iv a1, iv 1]) kX25 hk (Or.inl q4891) q4893 qs307 cw_code q4894 ⟨by decide, by decide⟩ rfl (dl_at t_X25_opens 201 rfl)) (dl_at t_X25_opens 201 rfl) (cat24 (st := []) (Nat.le_of_ble_eq_true rfl)) (Nat.le_of_ble_eq_true rfl) (Nat.le_of_ble_eq_true rfl) (fun v373 h373 E373 => ?_) (fun _ _ ha _ => gt_at fun Q hQ => gt_out (Q := Q) X rfl ha (hno _) _ Q rfl hQ)
                refine g_iconst (pc := 376) X (n := 1) (dl_at t_X25_opens 202 rfl) ?_
                exact g_zret (pc := 377) X (Or.inr rfl) rfl rfl (dl_at t_X25_opens 203 rfl)
              refine g_iconst (pc := 368) X (n := 0) (dl_at t_X25_opens 196 rfl) ?_
              exact g_zret (pc := 369) X (Or.inl rfl) rfl rfl (dl_at t_X25_opens 197 rfl)
            refine g_aload_n (pc := 334) X (j := 0) (i := 0) (q := 0) (x := a0) rfl rfl (dl_at t_X25_opens 178 rfl) ?_
            refine g_iload_n (pc := 335) X (j := 1) (i := 1) (q := 1) (x := a1) rfl rfl (dl_at t_X25_opens 179 rfl) ?_
            refine g_iconst (pc := 336) X (n := 1) (dl_at t_X25_opens 180 rfl) ?_
            refine r_callTv (pc := 337) X (fun _ hv => s_X25_reference hk r1 (Or.inr rfl) hv) cw_code q4899 q379 (in_Vk X (As := [iv a1, iv 1]) kX25 hk (Or.inl q4896) q4898 qs308 cw_code q4899 ⟨by decide, by decide⟩ rfl (dl_at t_X25_opens 181 rfl)) (dl_at t_X25_opens 181 rfl) (cat24 (st := []) (Nat.le_of_ble_eq_true rfl)) (Nat.le_of_ble_eq_true rfl) (Nat.le_of_ble_eq_true rfl) (fun v337 h337 E337 => ?_) (fun _ _ ha _ => gt_at fun Q hQ => gt_out (Q := Q) X rfl ha (hno _) _ Q rfl hQ)
            refine g_iconst (pc := 340) X (n := 0) (dl_at t_X25_opens 182 rfl) ?_
            exact g_zret (pc := 341) X (Or.inl rfl) rfl rfl (dl_at t_X25_opens 183 rfl)
          refine g_aload_n (pc := 270) X (j := 0) (i := 0) (q := 0) (x := a0) rfl rfl (dl_at t_X25_opens 144 rfl) ?_
          refine r_getr (pc := 271) X fX25_0 hk q3761 (dl_at t_X25_opens 145 rfl) ?_
          refine r_getr (pc := 274) X fX24_10 k4 q3666 (dl_at t_X25_opens 146 rfl) ?_
          refine g_iload_n (pc := 277) X (j := 1) (i := 1) (q := 1) (x := a1) rfl rfl (dl_at t_X25_opens 147 rfl) ?_
          refine g_gd fun k278 => ?_
          refine g_zald (pc := 278) X r1 k278 (dl_at t_X25_opens 148 rfl) fun g278 => ?_
          refine g_ifeq (pc := 279) X (r32_z g278) (off := 40) (tgt := 319) rfl (dl_at t_X25_opens 149 rfl) (fun _ => ?_) (fun _ => ?_)
          · refine g_iconst (pc := 319) X (n := 0) (dl_at t_X25_opens 170 rfl) ?_
            exact g_zret (pc := 320) X (Or.inl rfl) rfl rfl (dl_at t_X25_opens 171 rfl)
          refine g_aload_n (pc := 282) X (j := 0) (i := 0) (q := 0) (x := a0) rfl rfl (dl_at t_X25_opens 150 rfl) ?_
          refine r_geti (pc := 283) X fX25_54 hk q3840 (dl_at t_X25_opens 151 rfl) fun g283 => ?_
          refine g_bipush (pc := 286) X (n := 40) rfl (dl_at t_X25_opens 152 rfl) ?_
          refine g_icmpne (pc := 288) X g283 (r32_c rfl) (off := 11) (tgt := 299) rfl (dl_at t_X25_opens 153 rfl) (fun _ => ?_) (fun _ => ?_)
          · refine g_aload_n (pc := 299) X (j := 0) (i := 0) (q := 0) (x := a0) rfl rfl (dl_at t_X25_opens 158 rfl) ?_
            refine r_getr (pc := 300) X fX25_60 hk q3852 (dl_at t_X25_opens 159 rfl) ?_
            refine g_aload_n (pc := 303) X (j := 0) (i := 0) (q := 0) (x := a0) rfl rfl (dl_at t_X25_opens 160 rfl) ?_
            refine r_geti (pc := 304) X fX25_54 hk q3840 (dl_at t_X25_opens 161 rfl) fun g304 => ?_
            refine g_iload_n (pc := 307) X (j := 1) (i := 1) (q := 1) (x := a1) rfl rfl (dl_at t_X25_opens 162 rfl) ?_
            refine g_gd fun k308 => ?_
            refine r_iast (pc := 308) X g304 r1 k308 (dl_at t_X25_opens 163 rfl) (fun h308 E308 => ?_)
            refine g_aload_n (pc := 309) X (j := 0) (i := 0) (q := 0) (x := a0) rfl rfl (dl_at t_X25_opens 164 rfl) ?_
            refine g_dup (pc := 310) X rv_cat (dl_at t_X25_opens 165 rfl) ?_
            have k311 := kx E308 (by decide) hk
            refine r_geti (pc := 311) X fX25_54 k311 q3840 (dl_at t_X25_opens 166 rfl) fun g311 => ?_
            refine g_iconst (pc := 314) X (n := 1) (dl_at t_X25_opens 167 rfl) ?_
            refine g_iadd (pc := 315) X g311 (r32_c rfl) (dl_at t_X25_opens 168 rfl) ?_
            refine r_puti (pc := 316) X fX25_54 k311 q3840 rfl (dl_at t_X25_opens 169 rfl) (r32_w _) (fun h316 E316 => ?_)
            refine g_iconst (pc := 319) X (n := 0) (dl_at t_X25_opens 170 rfl) ?_
            exact g_zret (pc := 320) X (Or.inl rfl) rfl rfl (dl_at t_X25_opens 171 rfl)
          refine r_new (pc := 291) X kX29 q4791 (dl_at t_X25_opens 154 rfl) fun a291 h291 p291 k291 E291 => ?_
          refine g_dup (pc := 294) X rv_cat (dl_at t_X25_opens 155 rfl) ?_
          refine r_callV (pc := 295) X (fun _ hv => sx_ScholarsPressModel_Beyond_init__V k291 hv) cw_code q4802 q397 (in_I X (As := []) (Int.ne_of_gt p291) rfl (Or.inr ⟨_, nw_in q4800 rfl⟩) q4801 q4802 ⟨by decide, by decide⟩ rfl (dl_at t_X25_opens 156 rfl)) (dl_at t_X25_opens 156 rfl) (cat24 (st := [rv D a291]) (Nat.le_of_ble_eq_true rfl)) (Nat.le_of_ble_eq_true rfl) (Nat.le_of_ble_eq_true rfl) fun h295 E295 => ?_
          refine g_athrow (pc := 298) X (Int.ne_of_gt p291) (dl_at t_X25_opens 157 rfl) ?_
          exact gt_at fun Q hQ => gt_out (Q := Q) X rfl p291 (hno _) _ Q rfl hQ
        refine g_aload_n (pc := 183) X (j := 0) (i := 0) (q := 0) (x := a0) rfl rfl (dl_at t_X25_opens 96 rfl) ?_
        refine r_geti (pc := 184) X fX25_53 hk q3838 (dl_at t_X25_opens 97 rfl) fun g184 => ?_
        refine g_bipush (pc := 187) X (n := 120) rfl (dl_at t_X25_opens 98 rfl) ?_
        refine g_icmpne (pc := 189) X g184 (r32_c rfl) (off := 11) (tgt := 200) rfl (dl_at t_X25_opens 99 rfl) (fun _ => ?_) (fun _ => ?_)
        · refine g_aload_n (pc := 200) X (j := 0) (i := 0) (q := 0) (x := a0) rfl rfl (dl_at t_X25_opens 104 rfl) ?_
          refine r_getr (pc := 201) X fX25_55 hk q3842 (dl_at t_X25_opens 105 rfl) ?_
          refine g_aload_n (pc := 204) X (j := 0) (i := 0) (q := 0) (x := a0) rfl rfl (dl_at t_X25_opens 106 rfl) ?_
          refine r_geti (pc := 205) X fX25_53 hk q3838 (dl_at t_X25_opens 107 rfl) fun g205 => ?_
          refine g_iload_n (pc := 208) X (j := 1) (i := 1) (q := 1) (x := a1) rfl rfl (dl_at t_X25_opens 108 rfl) ?_
          refine g_gd fun k209 => ?_
          refine r_iast (pc := 209) X g205 r1 k209 (dl_at t_X25_opens 109 rfl) (fun h209 E209 => ?_)
          refine g_aload_n (pc := 210) X (j := 0) (i := 0) (q := 0) (x := a0) rfl rfl (dl_at t_X25_opens 110 rfl) ?_
          refine g_dup (pc := 211) X rv_cat (dl_at t_X25_opens 111 rfl) ?_
          have k212 := kx E209 (by decide) hk
          refine r_geti (pc := 212) X fX25_53 k212 q3838 (dl_at t_X25_opens 112 rfl) fun g212 => ?_
          refine g_iconst (pc := 215) X (n := 1) (dl_at t_X25_opens 113 rfl) ?_
          refine g_iadd (pc := 216) X g212 (r32_c rfl) (dl_at t_X25_opens 114 rfl) ?_
          refine r_puti (pc := 217) X fX25_53 k212 q3838 rfl (dl_at t_X25_opens 115 rfl) (r32_w _) (fun h217 E217 => ?_)
          refine g_aload_n (pc := 220) X (j := 0) (i := 0) (q := 0) (x := a0) rfl rfl (dl_at t_X25_opens 116 rfl) ?_
          have k221 := kx E217 (by decide) k212
          refine r_getr (pc := 221) X fX25_65 k221 q3862 (dl_at t_X25_opens 117 rfl) ?_
          refine g_iload_n (pc := 224) X (j := 1) (i := 1) (q := 1) (x := a1) rfl rfl (dl_at t_X25_opens 118 rfl) ?_
          refine g_aload_n (pc := 225) X (j := 0) (i := 0) (q := 0) (x := a0) rfl rfl (dl_at t_X25_opens 119 rfl) ?_
          refine r_geti (pc := 226) X fX25_53 k221 q3838 (dl_at t_X25_opens 120 rfl) fun g226 => ?_
          refine g_gd fun k229 => ?_
          refine r_iast (pc := 229) X r1 g226 k229 (dl_at t_X25_opens 121 rfl) (fun h229 E229 => ?_)
          refine g_aload_n (pc := 230) X (j := 0) (i := 0) (q := 0) (x := a0) rfl rfl (dl_at t_X25_opens 122 rfl) ?_
          refine g_aload_n (pc := 231) X (j := 0) (i := 0) (q := 0) (x := a0) rfl rfl (dl_at t_X25_opens 123 rfl) ?_
          have k232 := kx E229 (by decide) k221
          refine r_geti (pc := 232) X fX25_53 k232 q3838 (dl_at t_X25_opens 124 rfl) fun g232 => ?_
          refine g_aload_n (pc := 235) X (j := 0) (i := 0) (q := 0) (x := a0) rfl rfl (dl_at t_X25_opens 125 rfl) ?_
          refine r_getr (pc := 236) X fX25_0 k232 q3761 (dl_at t_X25_opens 126 rfl) ?_
          refine g_aload_n (pc := 239) X (j := 0) (i := 0) (q := 0) (x := a0) rfl rfl (dl_at t_X25_opens 127 rfl) ?_
          refine r_getr (pc := 240) X fX25_1 k232 q3763 (dl_at t_X25_opens 128 rfl) ?_
          refine g_gd fun k243 => ?_
          refine r_getr (pc := 243) X fX23_11 k243 q3548 (dl_at t_X25_opens 129 rfl) ?_
          refine g_iload_n (pc := 246) X (j := 1) (i := 1) (q := 1) (x := a1) rfl rfl (dl_at t_X25_opens 130 rfl) ?_
          refine g_gd fun k247 => ?_
          refine g_iald (pc := 247) X r1 k247 (dl_at t_X25_opens 131 rfl) fun g247 => ?_
          refine g_iconst (pc := 248) X (n := 1) (dl_at t_X25_opens 132 rfl) ?_
          refine g_gd fun k249 => ?_
          refine r_callRi (pc := 249) X (fun _ hv => s_X24_of k249 g247 (r32_c rfl) hv) cw_code q4704 q378 (in_Vk X (As := [iv (h229 (h229 (h229 a0 1) 11) a1), iv 1]) kX24 k249 (Or.inl q4844) q4702 q4703 cw_code q4704 ⟨by decide, by decide⟩ rfl (dl_at t_X25_opens 133 rfl)) (dl_at t_X25_opens 133 rfl) (cat24 (st := [iv (h229 a0 53), rv D a0]) (Nat.le_of_ble_eq_true rfl)) (Nat.le_of_ble_eq_true rfl) (Nat.le_of_ble_eq_true rfl) fun v249 g249 => ?_
          refine g_iconst (pc := 252) X (n := 1) (dl_at t_X25_opens 134 rfl) ?_
          refine r_callTv (pc := 253) X (fun _ hv => s_X25_digits k232 g232 g249 (Or.inr rfl) hv) cw_code q4877 q379 (in_Vk X (As := [iv (h229 a0 53), iv v249, iv 1]) kX25 k232 (Or.inl q4874) q4876 qs304 cw_code q4877 ⟨by decide, by decide⟩ rfl (dl_at t_X25_opens 135 rfl)) (dl_at t_X25_opens 135 rfl) (cat24 (st := []) (Nat.le_of_ble_eq_true rfl)) (Nat.le_of_ble_eq_true rfl) (Nat.le_of_ble_eq_true rfl) (fun v253 h253 E253 => ?_) (fun _ _ ha _ => gt_at fun Q hQ => gt_out (Q := Q) X rfl ha (hno _) _ Q rfl hQ)
          refine g_iconst (pc := 256) X (n := 0) (dl_at t_X25_opens 136 rfl) ?_
          exact g_zret (pc := 257) X (Or.inl rfl) rfl rfl (dl_at t_X25_opens 137 rfl)
        refine r_new (pc := 192) X kX29 q4791 (dl_at t_X25_opens 100 rfl) fun a192 h192 p192 k192 E192 => ?_
        refine g_dup (pc := 195) X rv_cat (dl_at t_X25_opens 101 rfl) ?_
        refine r_callV (pc := 196) X (fun _ hv => sx_ScholarsPressModel_Beyond_init__V k192 hv) cw_code q4802 q397 (in_I X (As := []) (Int.ne_of_gt p192) rfl (Or.inr ⟨_, nw_in q4800 rfl⟩) q4801 q4802 ⟨by decide, by decide⟩ rfl (dl_at t_X25_opens 102 rfl)) (dl_at t_X25_opens 102 rfl) (cat24 (st := [rv D a192]) (Nat.le_of_ble_eq_true rfl)) (Nat.le_of_ble_eq_true rfl) (Nat.le_of_ble_eq_true rfl) fun h196 E196 => ?_
        refine g_athrow (pc := 199) X (Int.ne_of_gt p192) (dl_at t_X25_opens 103 rfl) ?_
        exact gt_at fun Q hQ => gt_out (Q := Q) X rfl p192 (hno _) _ Q rfl hQ
      refine g_aload_n (pc := 159) X (j := 0) (i := 0) (q := 0) (x := a0) rfl rfl (dl_at t_X25_opens 82 rfl) ?_
      refine r_callV (pc := 160) X (fun _ hv => s_X25_begin hk hv) cw_code q4827 q379 (in_Vk X (As := []) kX25 hk (Or.inl q4824) q4826 qs293 cw_code q4827 ⟨by decide, by decide⟩ rfl (dl_at t_X25_opens 83 rfl)) (dl_at t_X25_opens 83 rfl) (cat24 (st := []) (Nat.le_of_ble_eq_true rfl)) (Nat.le_of_ble_eq_true rfl) (Nat.le_of_ble_eq_true rfl) fun h160 E160 => ?_
      refine g_aload_n (pc := 163) X (j := 0) (i := 0) (q := 0) (x := a0) rfl rfl (dl_at t_X25_opens 84 rfl) ?_
      refine g_iload_n (pc := 164) X (j := 1) (i := 1) (q := 1) (x := a1) rfl rfl (dl_at t_X25_opens 85 rfl) ?_
      refine g_iconst (pc := 165) X (n := 1) (dl_at t_X25_opens 86 rfl) ?_
      have k166 := kx E160 (by decide) hk
      refine r_callTv (pc := 166) X (fun _ hv => s_X25_label k166 r1 (Or.inr rfl) hv) cw_code q4894 q379 (in_Vk X (As := [iv a1, iv 1]) kX25 k166 (Or.inl q4891) q4893 qs307 cw_code q4894 ⟨by decide, by decide⟩ rfl (dl_at t_X25_opens 87 rfl)) (dl_at t_X25_opens 87 rfl) (cat24 (st := []) (Nat.le_of_ble_eq_true rfl)) (Nat.le_of_ble_eq_true rfl) (Nat.le_of_ble_eq_true rfl) (fun v166 h166 E166 => ?_) (fun _ _ ha _ => gt_at fun Q hQ => gt_out (Q := Q) X rfl ha (hno _) _ Q rfl hQ)
      refine g_iconst (pc := 169) X (n := 1) (dl_at t_X25_opens 88 rfl) ?_
      exact g_zret (pc := 170) X (Or.inr rfl) rfl rfl (dl_at t_X25_opens 89 rfl)
    refine g_iconst (pc := 145) X (n := 1) (dl_at t_X25_opens 74 rfl) ?_
    exact g_zret (pc := 146) X (Or.inr rfl) rfl rfl (dl_at t_X25_opens 75 rfl)
  refine g_aload_n (pc := 12) X (j := 0) (i := 0) (q := 0) (x := a0) rfl rfl (dl_at t_X25_opens 6 rfl) ?_
  refine g_aload_n (pc := 13) X (j := 0) (i := 0) (q := 0) (x := a0) rfl rfl (dl_at t_X25_opens 7 rfl) ?_
  refine g_aload_n (pc := 14) X (j := 0) (i := 0) (q := 0) (x := a0) rfl rfl (dl_at t_X25_opens 8 rfl) ?_
  refine r_getr (pc := 15) X fX25_1 hk q3763 (dl_at t_X25_opens 9 rfl) ?_
  refine g_gd fun k18 => ?_
  refine r_getr (pc := 18) X fX23_11 k18 q3548 (dl_at t_X25_opens 10 rfl) ?_
  refine g_iload_n (pc := 21) X (j := 1) (i := 1) (q := 1) (x := a1) rfl rfl (dl_at t_X25_opens 11 rfl) ?_
  refine g_gd fun k22 => ?_
  refine g_iald (pc := 22) X r1 k22 (dl_at t_X25_opens 12 rfl) fun g22 => ?_
  refine r_callRi (pc := 23) X (fun _ hv => s_X25_blockOf hk g22 hv) cw_code q4835 q379 (in_Vk X (As := [iv (h (h (h a0 1) 11) a1)]) kX25 hk (Or.inl q4832) q4834 qs295 cw_code q4835 ⟨by decide, by decide⟩ rfl (dl_at t_X25_opens 13 rfl)) (dl_at t_X25_opens 13 rfl) (cat24 (st := [rv D a0]) (Nat.le_of_ble_eq_true rfl)) (Nat.le_of_ble_eq_true rfl) (Nat.le_of_ble_eq_true rfl) fun v23 g23 => ?_
  refine r_callTv (pc := 26) X (fun _ hv => s_X25_flowEnds hk g23 hv) cw_code q4839 q379 (in_Vk X (As := [iv v23]) kX25 hk (Or.inl q4836) q4838 qs296 cw_code q4839 ⟨by decide, by decide⟩ rfl (dl_at t_X25_opens 14 rfl)) (dl_at t_X25_opens 14 rfl) (cat24 (st := []) (Nat.le_of_ble_eq_true rfl)) (Nat.le_of_ble_eq_true rfl) (Nat.le_of_ble_eq_true rfl) (fun v26 h26 E26 => ?_) (fun _ _ ha _ => gt_at fun Q hQ => gt_out (Q := Q) X rfl ha (hno _) _ Q rfl hQ)
  refine g_aload_n (pc := 29) X (j := 0) (i := 0) (q := 0) (x := a0) rfl rfl (dl_at t_X25_opens 15 rfl) ?_
  refine g_aload_n (pc := 30) X (j := 0) (i := 0) (q := 0) (x := a0) rfl rfl (dl_at t_X25_opens 16 rfl) ?_
  have k31 := kx E26 (by decide) hk
  refine r_geti (pc := 31) X fX25_103 k31 q3915 (dl_at t_X25_opens 17 rfl) fun g31 => ?_
  refine g_aload_n (pc := 34) X (j := 0) (i := 0) (q := 0) (x := a0) rfl rfl (dl_at t_X25_opens 18 rfl) ?_
  refine r_getr (pc := 35) X fX25_0 k31 q3761 (dl_at t_X25_opens 19 rfl) ?_
  refine g_iload_n (pc := 38) X (j := 1) (i := 1) (q := 1) (x := a1) rfl rfl (dl_at t_X25_opens 20 rfl) ?_
  refine g_bipush (pc := 39) X (n := 6) rfl (dl_at t_X25_opens 21 rfl) ?_
  refine g_gd fun k41 => ?_
  refine r_callRi (pc := 41) X (fun _ hv => s_X24_of k41 r1 (r32_c rfl) hv) cw_code q4704 q378 (in_Vk X (As := [iv a1, iv 6]) kX24 k41 (Or.inl q4844) q4702 q4703 cw_code q4704 ⟨by decide, by decide⟩ rfl (dl_at t_X25_opens 22 rfl)) (dl_at t_X25_opens 22 rfl) (cat24 (st := [iv (h26 a0 103), rv D a0]) (Nat.le_of_ble_eq_true rfl)) (Nat.le_of_ble_eq_true rfl) (Nat.le_of_ble_eq_true rfl) fun v41 g41 => ?_
  refine g_mmax (pc := 44) X g31 g41 q4858 q4859 q398 q4860 (cat24 (st := [rv D a0]) (Nat.le_of_ble_eq_true rfl)) (Nat.le_of_ble_eq_true rfl) (Nat.le_of_ble_eq_true rfl) (dl_at t_X25_opens 23 rfl) ?_
  refine r_puti (pc := 47) X fX25_103 k31 q3915 rfl (dl_at t_X25_opens 24 rfl) (r32_max g31 g41) (fun h47 E47 => ?_)
  refine g_aload_n (pc := 50) X (j := 0) (i := 0) (q := 0) (x := a0) rfl rfl (dl_at t_X25_opens 25 rfl) ?_
  have k51 := kx E47 (by decide) k31
  refine r_getr (pc := 51) X fX25_0 k51 q3761 (dl_at t_X25_opens 26 rfl) ?_
  refine g_iload_n (pc := 54) X (j := 1) (i := 1) (q := 1) (x := a1) rfl rfl (dl_at t_X25_opens 27 rfl) ?_
  refine g_gd fun k55 => ?_
  refine r_callRi (pc := 55) X (fun _ hv => s_X24_show k55 r1 hv) cw_code q4717 q378 (in_Vk X (As := [iv a1]) kX24 k55 (Or.inl q4730) q4715 q4716 cw_code q4717 ⟨by decide, by decide⟩ rfl (dl_at t_X25_opens 28 rfl)) (dl_at t_X25_opens 28 rfl) (cat24 (st := []) (Nat.le_of_ble_eq_true rfl)) (Nat.le_of_ble_eq_true rfl) (Nat.le_of_ble_eq_true rfl) fun v55 g55 => ?_
  refine g_bipush (pc := 58) X (n := 8) rfl (dl_at t_X25_opens 29 rfl) ?_
  refine g_join (γ := Unit) (fun q => True) 76 (fun q => [(0, rv D a0), (1, iv a1)]) (fun q => []) (fun q => h47) (fun q => m_X25_opens_j76 a0 a1 h47) ?_ ?_
  · rintro _ _
    try dsimp only
    unfold m_X25_opens_j76
    refine g_aload_n (pc := 76) X (j := 0) (i := 0) (q := 0) (x := a0) rfl rfl (dl_at t_X25_opens 37 rfl) ?_
    refine r_getr (pc := 77) X fX25_0 k51 q3761 (dl_at t_X25_opens 38 rfl) ?_
    refine g_iload_n (pc := 80) X (j := 1) (i := 1) (q := 1) (x := a1) rfl rfl (dl_at t_X25_opens 39 rfl) ?_
    refine r_callRi (pc := 81) X (fun _ hv => s_X24_show k55 r1 hv) cw_code q4717 q378 (in_Vk X (As := [iv a1]) kX24 k55 (Or.inl q4730) q4715 q4716 cw_code q4717 ⟨by decide, by decide⟩ rfl (dl_at t_X25_opens 40 rfl)) (dl_at t_X25_opens 40 rfl) (cat24 (st := []) (Nat.le_of_ble_eq_true rfl)) (Nat.le_of_ble_eq_true rfl) (Nat.le_of_ble_eq_true rfl) fun v81 g81 => ?_
    refine g_bipush (pc := 84) X (n := 8) rfl (dl_at t_X25_opens 41 rfl) ?_
    refine g_join (γ := Hp) (fun q => Ext h47 q) 102 (fun q => [(0, rv D a0), (1, iv a1)]) (fun q => []) (fun q => q) (fun q => m_X25_opens_j102 a0 a1 q) ?_ ?_
    · rintro h_102 E_102
      try dsimp only
      unfold m_X25_opens_j102
      refine g_aload_n (pc := 102) X (j := 0) (i := 0) (q := 0) (x := a0) rfl rfl (dl_at t_X25_opens 50 rfl) ?_
      refine g_aload_n (pc := 103) X (j := 0) (i := 0) (q := 0) (x := a0) rfl rfl (dl_at t_X25_opens 51 rfl) ?_
      have k104 := kx E_102 (by decide) k51
      refine r_geti (pc := 104) X fX25_103 k104 q3915 (dl_at t_X25_opens 52 rfl) fun g104 => ?_
      refine g_aload_n (pc := 107) X (j := 0) (i := 0) (q := 0) (x := a0) rfl rfl (dl_at t_X25_opens 53 rfl) ?_
      refine r_getr (pc := 108) X fX25_0 k104 q3761 (dl_at t_X25_opens 54 rfl) ?_
      refine g_iload_n (pc := 111) X (j := 1) (i := 1) (q := 1) (x := a1) rfl rfl (dl_at t_X25_opens 55 rfl) ?_
      refine g_bipush (pc := 112) X (n := 7) rfl (dl_at t_X25_opens 56 rfl) ?_
      refine g_gd fun k114 => ?_
      refine r_callRi (pc := 114) X (fun _ hv => s_X24_of k114 r1 (r32_c rfl) hv) cw_code q4704 q378 (in_Vk X (As := [iv a1, iv 7]) kX24 k114 (Or.inl q4844) q4702 q4703 cw_code q4704 ⟨by decide, by decide⟩ rfl (dl_at t_X25_opens 57 rfl)) (dl_at t_X25_opens 57 rfl) (cat24 (st := [iv (h_102 a0 103), rv D a0]) (Nat.le_of_ble_eq_true rfl)) (Nat.le_of_ble_eq_true rfl) (Nat.le_of_ble_eq_true rfl) fun v114 g114 => ?_
      refine g_mmax (pc := 117) X g104 g114 q4858 q4859 q398 q4860 (cat24 (st := [rv D a0]) (Nat.le_of_ble_eq_true rfl)) (Nat.le_of_ble_eq_true rfl) (Nat.le_of_ble_eq_true rfl) (dl_at t_X25_opens 58 rfl) ?_
      refine r_puti (pc := 120) X fX25_103 k104 q3915 rfl (dl_at t_X25_opens 59 rfl) (r32_max g104 g114) (fun h120 E120 => ?_)
      refine g_iconst (pc := 123) X (n := 0) (dl_at t_X25_opens 60 rfl) ?_
      exact g_zret (pc := 124) X (Or.inl rfl) rfl rfl (dl_at t_X25_opens 61 rfl)
    intro J102
    refine g_icmpne (pc := 86) X g81 (r32_c rfl) (off := 11) (tgt := 97) rfl (dl_at t_X25_opens 42 rfl) (fun _ => ?_) (fun _ => ?_)
    · refine g_aload_n (pc := 97) X (j := 0) (i := 0) (q := 0) (x := a0) rfl rfl (dl_at t_X25_opens 47 rfl) ?_
      refine g_iload_n (pc := 98) X (j := 1) (i := 1) (q := 1) (x := a1) rfl rfl (dl_at t_X25_opens 48 rfl) ?_
      refine r_callTv (pc := 99) X (fun _ hv => s_X25_index k51 r1 hv) cw_code q4886 q379 (in_Vk X (As := [iv a1]) kX25 k51 (Or.inl q4883) q4885 qs305 cw_code q4886 ⟨by decide, by decide⟩ rfl (dl_at t_X25_opens 49 rfl)) (dl_at t_X25_opens 49 rfl) (cat24 (st := []) (Nat.le_of_ble_eq_true rfl)) (Nat.le_of_ble_eq_true rfl) (Nat.le_of_ble_eq_true rfl) (fun v99 h99 E99 => ?_) (fun _ _ ha _ => gt_at fun Q hQ => gt_out (Q := Q) X rfl ha (hno _) _ Q rfl hQ)
      exact J102 h99 E99
    refine g_aload_n (pc := 89) X (j := 0) (i := 0) (q := 0) (x := a0) rfl rfl (dl_at t_X25_opens 43 rfl) ?_
    refine g_iload_n (pc := 90) X (j := 1) (i := 1) (q := 1) (x := a1) rfl rfl (dl_at t_X25_opens 44 rfl) ?_
    refine r_callTv (pc := 91) X (fun _ hv => s_X25_contents k51 r1 hv) cw_code q4864 q379 (in_Vk X (As := [iv a1]) kX25 k51 (Or.inl q4861) q4863 qs301 cw_code q4864 ⟨by decide, by decide⟩ rfl (dl_at t_X25_opens 45 rfl)) (dl_at t_X25_opens 45 rfl) (cat24 (st := []) (Nat.le_of_ble_eq_true rfl)) (Nat.le_of_ble_eq_true rfl) (Nat.le_of_ble_eq_true rfl) (fun v91 h91 E91 => ?_) (fun _ _ ha _ => gt_at fun Q hQ => gt_out (Q := Q) X rfl ha (hno _) _ Q rfl hQ)
    refine g_goto (pc := 94) X (off := 8) (tgt := 102) rfl (dl_at t_X25_opens 46 rfl) ?_
    exact J102 h91 E91
  intro J76
  refine g_icmpeq (pc := 60) X g55 (r32_c rfl) (off := 16) (tgt := 76) rfl (dl_at t_X25_opens 30 rfl) (fun _ => ?_) (fun _ => ?_)
  · exact J76 () trivial
  refine g_aload_n (pc := 63) X (j := 0) (i := 0) (q := 0) (x := a0) rfl rfl (dl_at t_X25_opens 31 rfl) ?_
  refine r_getr (pc := 64) X fX25_0 k51 q3761 (dl_at t_X25_opens 32 rfl) ?_
  refine g_iload_n (pc := 67) X (j := 1) (i := 1) (q := 1) (x := a1) rfl rfl (dl_at t_X25_opens 33 rfl) ?_
  refine r_callRi (pc := 68) X (fun _ hv => s_X24_show k55 r1 hv) cw_code q4717 q378 (in_Vk X (As := [iv a1]) kX24 k55 (Or.inl q4730) q4715 q4716 cw_code q4717 ⟨by decide, by decide⟩ rfl (dl_at t_X25_opens 34 rfl)) (dl_at t_X25_opens 34 rfl) (cat24 (st := []) (Nat.le_of_ble_eq_true rfl)) (Nat.le_of_ble_eq_true rfl) (Nat.le_of_ble_eq_true rfl) fun v68 g68 => ?_
  refine g_bipush (pc := 71) X (n := 9) rfl (dl_at t_X25_opens 35 rfl) ?_
  refine g_icmpne (pc := 73) X g68 (r32_c rfl) (off := 52) (tgt := 125) rfl (dl_at t_X25_opens 36 rfl) (fun _ => ?_) (fun _ => ?_)
  · refine g_aload_n (pc := 125) X (j := 0) (i := 0) (q := 0) (x := a0) rfl rfl (dl_at t_X25_opens 62 rfl) ?_
    refine g_iload_n (pc := 126) X (j := 1) (i := 1) (q := 1) (x := a1) rfl rfl (dl_at t_X25_opens 63 rfl) ?_
    refine g_iconst (pc := 127) X (n := 1) (dl_at t_X25_opens 64 rfl) ?_
    refine r_callTv (pc := 128) X (fun _ hv => s_X25_label k51 r1 (Or.inr rfl) hv) cw_code q4894 q379 (in_Vk X (As := [iv a1, iv 1]) kX25 k51 (Or.inl q4891) q4893 qs307 cw_code q4894 ⟨by decide, by decide⟩ rfl (dl_at t_X25_opens 65 rfl)) (dl_at t_X25_opens 65 rfl) (cat24 (st := []) (Nat.le_of_ble_eq_true rfl)) (Nat.le_of_ble_eq_true rfl) (Nat.le_of_ble_eq_true rfl) (fun v128 h128 E128 => ?_) (fun _ _ ha _ => gt_at fun Q hQ => gt_out (Q := Q) X rfl ha (hno _) _ Q rfl hQ)
    refine g_iconst (pc := 131) X (n := 1) (dl_at t_X25_opens 66 rfl) ?_
    exact g_zret (pc := 132) X (Or.inr rfl) rfl rfl (dl_at t_X25_opens 67 rfl)
  exact J76 () trivial
def k_X25_closes : List (Nat × Instr × Nat) := [(0, .aload_n 0, 1), (1, .getfield 14, 3), (4, .getfield 483, 3), (7, .iload_n 1, 1), (8, .baload, 1), (9, .ifCond .eq 44, 3), (12, .aload_n 0, 1), (13, .getfield 14, 3), (16, .getfield 646, 3), (19, .iload_n 1, 1), (20, .baload, 1), (21, .ifCond .ne 8, 3), (24, .aload_n 0, 1), (25, .iload_n 1, 1), (26, .invokevirtual 615, 3), (29, .aload_n 0, 1), (30, .aload_n 0, 1), (31, .getfield 495, 3), (34, .aload_n 0, 1), (35, .getfield 14, 3), (38, .iload_n 1, 1), (39, .bipush 7, 2), (41, .invokevirtual 477, 3), (44, .invokestatic 624, 3), (47, .putfield 495, 3), (50, .goto 112, 3), (53, .aload_n 0, 1), (54, .getfield 14, 3), (57, .getfield 638, 3), (60, .iload_n 1, 1), (61, .baload, 1), (62, .ifCond .eq 69, 3), (65, .aload_n 0, 1), (66, .iload_n 1, 1), (67, .iconst 1, 1), (68, .iconst 0, 1), (69, .lconst 0, 1), (70, .invokevirtual 505, 3), (73, .istore_n 2, 1), (74, .aload_n 0, 1), (75, .getfield 342, 3), (78, .getfield 486, 3), (81, .iload_n 1, 1), (82, .iaload, 1), (83, .istore_n 3, 1), (84, .aload_n 0, 1), (85, .getfield 99, 3), (88, .bipush 8, 2), (90, .iload_n 3, 1), (91, .imul, 1), (92, .aload_n 0, 1), (93, .getfield 14, 3), (96, .getfield 649, 3), (99, .iload_n 1, 1), (100, .iaload, 1), (101, .iadd, 1), (102, .iload_n 2, 1), (103, .iastore, 1), (104, .aload_n 0, 1), (105, .getfield 111, 3), (108, .iload_n 3, 1), (109, .aload_n 0, 1), (110, .getfield 111, 3), (113, .iload_n 3, 1), (114, .baload, 1), (115, .ifCond .ne 7, 3), (118, .iload_n 2, 1), (119, .ifCond .lt 7, 3), (122, .iconst 1, 1), (123, .goto 4, 3), (126, .iconst 0, 1), (127, .bastore, 1), (128, .goto 34, 3), (131, .aload_n 0, 1), (132, .getfield 14, 3), (135, .getfield 635, 3), (138, .iload_n 1, 1), (139, .baload, 1), (140, .ifCond .eq 22, 3), (143, .aload_n 0, 1), (144, .getfield 111, 3), (147, .iload_n 1, 1), (148, .baload, 1), (149, .ifCond .eq 9, 3), (152, .aload_n 0, 1), (153, .iconst 1, 1), (154, .iload_n 1, 1), (155, .invokevirtual 509, 3), (158, .aload_n 0, 1), (159, .invokevirtual 480, 3), (162, .return_, 1)]
theorem t_X25_closes : ∀ q ∈ k_X25_closes, decode cX25_closes q.1 = .ok q.2 := dl_all (by decide +kernel)
noncomputable def m_X25_closes_j29 (a0 a1 : Int) (h_29 : Hp) : Option ((Int × Int) × Hp) :=
  gd (h_29 (h_29 a0 0) (-2) = 400) ((m_X24_of (h_29 a0 0) a1 7 h_29).bind fun v41 =>
  pt h_29 a0 103 (max_ (h_29 a0 103) v41) fun h47 =>
  some ((0, 0), h47))
noncomputable def m_X25_closes (a0 a1 : Int) (h : Hp) : Option ((Int × Int) × Hp) :=
  gd (h (h a0 0) (-2) = 400) (gd (h (h (h a0 0) 12) (-2) % 16 = 3 ∧ (0 : Int) ≤ a1 ∧ a1 < h (h (h a0 0) 12) (-1)) (if (h (h (h a0 0) 12) a1) = 0 then (gd (h (h (h a0 0) 15) (-2) % 16 = 3 ∧ (0 : Int) ≤ a1 ∧ a1 < h (h (h a0 0) 15) (-1)) (if (h (h (h a0 0) 15) a1) = 0 then (gd (h (h (h a0 0) 14) (-2) % 16 = 3 ∧ (0 : Int) ≤ a1 ∧ a1 < h (h (h a0 0) 14) (-1)) (if (h (h (h a0 0) 14) a1) = 0 then (some ((0, 0), h))
  else (gd (h (h a0 38) (-2) % 16 = 3 ∧ (0 : Int) ≤ a1 ∧ a1 < h (h a0 38) (-1)) (if (h (h a0 38) a1) = 0 then ((m_X25_begin a0 h).bind fun h159 =>
  some ((0, 0), h159))
  else ((m_X25_addFlow a0 1 a1 h).bind fun h155 =>
  (m_X25_begin a0 h155).bind fun h159_1 =>
  some ((0, 0), h159_1))))))
  else (bT (m_X25_ended a0 a1 1 0 0 h) (fun v70 h70 =>
  gd (h70 (h70 a0 1) (-2) = 384) (gd (h70 (h70 (h70 a0 1) 11) (-2) % 16 = 1 ∧ (0 : Int) ≤ a1 ∧ a1 < h70 (h70 (h70 a0 1) 11) (-1)) (lt_ (h70 (h70 (h70 a0 1) 11) a1) fun x3_83 =>
  gd (h70 (h70 a0 0) (-2) = 400) (gd (h70 (h70 (h70 a0 0) 8) (-2) % 16 = 1 ∧ (0 : Int) ≤ a1 ∧ a1 < h70 (h70 (h70 a0 0) 8) (-1)) (gd (h70 (h70 a0 34) (-2) % 16 = 1 ∧ (0 : Int) ≤ (w32 ((w32 (8 * x3_83)) + (h70 (h70 (h70 a0 0) 8) a1))) ∧ (w32 ((w32 (8 * x3_83)) + (h70 (h70 (h70 a0 0) 8) a1))) < h70 (h70 a0 34) (-1)) (pt h70 (h70 a0 34) (w32 ((w32 (8 * x3_83)) + (h70 (h70 (h70 a0 0) 8) a1))) v70 fun h103 =>
  gd (h103 (h103 a0 38) (-2) % 16 = 3 ∧ (0 : Int) ≤ x3_83 ∧ x3_83 < h103 (h103 a0 38) (-1)) (if (h103 (h103 a0 38) x3_83) ≠ 0 then (pt h103 (h103 a0 38) x3_83 1 fun h127 =>
  some ((0, 0), h127))
  else (if v70 < 0 then (pt h103 (h103 a0 38) x3_83 0 fun h127_1 =>
  some ((0, 0), h127_1))
  else (pt h103 (h103 a0 38) x3_83 1 fun h127_2 =>
  some ((0, 0), h127_2)))))))))) (fun a_ h_ => some ((1, a_), h_)))))
  else (gd (h (h (h a0 0) 13) (-2) % 16 = 3 ∧ (0 : Int) ≤ a1 ∧ a1 < h (h (h a0 0) 13) (-1)) (if (h (h (h a0 0) 13) a1) ≠ 0 then (m_X25_closes_j29 a0 a1 h)
  else (bT (m_X25_flowEnds a0 a1 h) (fun _ h26 =>
  m_X25_closes_j29 a0 a1 h26) (fun a_ h_ => some ((1, a_), h_)))))))
theorem s_X25_closes {l : Launch} [NoTr l] {D : SD} {a0 a1 : Int} {h : Hp} (hk : h a0 (-2) = 416) (r1 : r32 a1) {r : (Int × Int) × Hp} (hm : m_X25_closes a0 a1 h = some r) : Sim l D yX25_closes (Cond.code yX25_closes cX25_closes 4 (Option.none : Option Jvm.ClassFile.FieldType)) 11 416 [rv D a0, iv a1] h 0 r := by
  refine Sim.of (fin := fun (v : (Int × Int) × Hp) => v) (lsE := [(0, rv D a0), (1, iv a1)]) hm rfl cwS_code (la_r (la_i la_n)) (ll_r (ll_i ll_n)) ?_
  intro p e s m below meth c X hcw hmm hcc hnm hname
  have hno := noh hcw hnm hmm hcc
  unfold m_X25_closes
  refine g_aload_n (pc := 0) X (j := 0) (i := 0) (q := 0) (x := a0) rfl rfl (dl_at t_X25_closes 0 rfl) ?_
  refine r_getr (pc := 1) X fX25_0 hk q3761 (dl_at t_X25_closes 1 rfl) ?_
  refine g_gd fun k4 => ?_
  refine r_getr (pc := 4) X fX24_12 k4 q3671 (dl_at t_X25_closes 2 rfl) ?_
  refine g_iload_n (pc := 7) X (j := 1) (i := 1) (q := 1) (x := a1) rfl rfl (dl_at t_X25_closes 3 rfl) ?_
  refine g_gd fun k8 => ?_
  refine g_zald (pc := 8) X r1 k8 (dl_at t_X25_closes 4 rfl) fun g8 => ?_
  refine g_ifeq (pc := 9) X (r32_z g8) (off := 44) (tgt := 53) rfl (dl_at t_X25_closes 5 rfl) (fun _ => ?_) (fun _ => ?_)
  · refine g_aload_n (pc := 53) X (j := 0) (i := 0) (q := 0) (x := a0) rfl rfl (dl_at t_X25_closes 26 rfl) ?_
    refine r_getr (pc := 54) X fX25_0 hk q3761 (dl_at t_X25_closes 27 rfl) ?_
    refine r_getr (pc := 57) X fX24_15 k4 q3677 (dl_at t_X25_closes 28 rfl) ?_
    refine g_iload_n (pc := 60) X (j := 1) (i := 1) (q := 1) (x := a1) rfl rfl (dl_at t_X25_closes 29 rfl) ?_
    refine g_gd fun k61 => ?_
    refine g_zald (pc := 61) X r1 k61 (dl_at t_X25_closes 30 rfl) fun g61 => ?_
    refine g_ifeq (pc := 62) X (r32_z g61) (off := 69) (tgt := 131) rfl (dl_at t_X25_closes 31 rfl) (fun _ => ?_) (fun _ => ?_)
    · refine g_aload_n (pc := 131) X (j := 0) (i := 0) (q := 0) (x := a0) rfl rfl (dl_at t_X25_closes 73 rfl) ?_
      refine r_getr (pc := 132) X fX25_0 hk q3761 (dl_at t_X25_closes 74 rfl) ?_
      refine r_getr (pc := 135) X fX24_14 k4 q3675 (dl_at t_X25_closes 75 rfl) ?_
      refine g_iload_n (pc := 138) X (j := 1) (i := 1) (q := 1) (x := a1) rfl rfl (dl_at t_X25_closes 76 rfl) ?_
      refine g_gd fun k139 => ?_
      refine g_zald (pc := 139) X r1 k139 (dl_at t_X25_closes 77 rfl) fun g139 => ?_
      refine g_ifeq (pc := 140) X (r32_z g139) (off := 22) (tgt := 162) rfl (dl_at t_X25_closes 78 rfl) (fun _ => ?_) (fun _ => ?_)
      · exact g_vret (pc := 162) X (v := 0) rfl rfl (dl_at t_X25_closes 90 rfl)
      refine g_aload_n (pc := 143) X (j := 0) (i := 0) (q := 0) (x := a0) rfl rfl (dl_at t_X25_closes 79 rfl) ?_
      refine r_getr (pc := 144) X fX25_38 hk q3816 (dl_at t_X25_closes 80 rfl) ?_
      refine g_iload_n (pc := 147) X (j := 1) (i := 1) (q := 1) (x := a1) rfl rfl (dl_at t_X25_closes 81 rfl) ?_
      refine g_gd fun k148 => ?_
      refine g_zald (pc := 148) X r1 k148 (dl_at t_X25_closes 82 rfl) fun g148 => ?_
      refine g_ifeq (pc := 149) X (r32_z g148) (off := 9) (tgt := 158) rfl (dl_at t_X25_closes 83 rfl) (fun _ => ?_) (fun _ => ?_)
      · refine g_aload_n (pc := 158) X (j := 0) (i := 0) (q := 0) (x := a0) rfl rfl (dl_at t_X25_closes 88 rfl) ?_
        refine r_callV (pc := 159) X (fun _ hv => s_X25_begin hk hv) cw_code q4827 q379 (in_Vk X (As := []) kX25 hk (Or.inl q4824) q4826 qs293 cw_code q4827 ⟨by decide, by decide⟩ rfl (dl_at t_X25_closes 89 rfl)) (dl_at t_X25_closes 89 rfl) (cat24 (st := []) (Nat.le_of_ble_eq_true rfl)) (Nat.le_of_ble_eq_true rfl) (Nat.le_of_ble_eq_true rfl) fun h159 E159 => ?_
        exact g_vret (pc := 162) X (v := 0) rfl rfl (dl_at t_X25_closes 90 rfl)
      refine g_aload_n (pc := 152) X (j := 0) (i := 0) (q := 0) (x := a0) rfl rfl (dl_at t_X25_closes 84 rfl) ?_
      refine g_iconst (pc := 153) X (n := 1) (dl_at t_X25_closes 85 rfl) ?_
      refine g_iload_n (pc := 154) X (j := 1) (i := 1) (q := 1) (x := a1) rfl rfl (dl_at t_X25_closes 86 rfl) ?_
      refine r_callV (pc := 155) X (fun _ hv => s_X25_addFlow hk (r32_c rfl) r1 hv) cw_code q4857 q379 (in_Vk X (As := [iv 1, iv a1]) kX25 hk (Or.inl q4854) q4856 qs300 cw_code q4857 ⟨by decide, by decide⟩ rfl (dl_at t_X25_closes 87 rfl)) (dl_at t_X25_closes 87 rfl) (cat24 (st := []) (Nat.le_of_ble_eq_true rfl)) (Nat.le_of_ble_eq_true rfl) (Nat.le_of_ble_eq_true rfl) fun h155 E155 => ?_
      refine g_aload_n (pc := 158) X (j := 0) (i := 0) (q := 0) (x := a0) rfl rfl (dl_at t_X25_closes 88 rfl) ?_
      have k159 := kx E155 (by decide) hk
      refine r_callV (pc := 159) X (fun _ hv => s_X25_begin k159 hv) cw_code q4827 q379 (in_Vk X (As := []) kX25 k159 (Or.inl q4824) q4826 qs293 cw_code q4827 ⟨by decide, by decide⟩ rfl (dl_at t_X25_closes 89 rfl)) (dl_at t_X25_closes 89 rfl) (cat24 (st := []) (Nat.le_of_ble_eq_true rfl)) (Nat.le_of_ble_eq_true rfl) (Nat.le_of_ble_eq_true rfl) fun h159_1 E159_1 => ?_
      exact g_vret (pc := 162) X (v := 0) rfl rfl (dl_at t_X25_closes 90 rfl)
    refine g_aload_n (pc := 65) X (j := 0) (i := 0) (q := 0) (x := a0) rfl rfl (dl_at t_X25_closes 32 rfl) ?_
    refine g_iload_n (pc := 66) X (j := 1) (i := 1) (q := 1) (x := a1) rfl rfl (dl_at t_X25_closes 33 rfl) ?_
    refine g_iconst (pc := 67) X (n := 1) (dl_at t_X25_closes 34 rfl) ?_
    refine g_iconst (pc := 68) X (n := 0) (dl_at t_X25_closes 35 rfl) ?_
    refine g_lconst0 (pc := 69) X (dl_at t_X25_closes 36 rfl) ?_
    refine r_callTi (pc := 70) X (fun _ hv => s_X25_ended hk r1 (r32_c rfl) (r32_c rfl) (r64_c rfl) hv) cw_code q4853 q379 (in_Vk X (As := [iv a1, iv 1, iv 0, jv 0]) kX25 hk (Or.inl q4850) q4852 qs299 cw_code q4853 ⟨by decide, by decide⟩ rfl (dl_at t_X25_closes 37 rfl)) (dl_at t_X25_closes 37 rfl) (cat24 (st := []) (Nat.le_of_ble_eq_true rfl)) (Nat.le_of_ble_eq_true rfl) (Nat.le_of_ble_eq_true rfl) (fun v70 h70 g70 E70 => ?_) (fun _ _ ha _ => gt_at fun Q hQ => gt_out (Q := Q) X rfl ha (hno _) _ Q rfl hQ)
    refine g_istore_nN (pc := 73) X (j := 2) (i := 2) (x := v70) (b := 1) (w := iv a1) (rest := [(0, rv D a0)]) rfl (Nat.le_of_ble_eq_true rfl) [1, 0] rfl (by decide) rfl rfl (dl_at t_X25_closes 38 rfl) ?_
    refine g_aload_n (pc := 74) X (j := 0) (i := 0) (q := 2) (x := a0) rfl rfl (dl_at t_X25_closes 39 rfl) ?_
    have k75 := kx E70 (by decide) hk
    refine r_getr (pc := 75) X fX25_1 k75 q3763 (dl_at t_X25_closes 40 rfl) ?_
    refine g_gd fun k78 => ?_
    refine r_getr (pc := 78) X fX23_11 k78 q3548 (dl_at t_X25_closes 41 rfl) ?_
    refine g_iload_n (pc := 81) X (j := 1) (i := 1) (q := 1) (x := a1) rfl rfl (dl_at t_X25_closes 42 rfl) ?_
    refine g_gd fun k82 => ?_
    refine g_iald (pc := 82) X r1 k82 (dl_at t_X25_closes 43 rfl) fun g82 => ?_
    refine g_lti g82 fun x3_83 r3_83 => ?_
    refine g_istore_nN (pc := 83) X (j := 3) (i := 3) (x := x3_83) (b := 2) (w := iv v70) (rest := [(1, iv a1), (0, rv D a0)]) rfl (Nat.le_of_ble_eq_true rfl) [0, 1, 2] rfl (by decide) rfl rfl (dl_at t_X25_closes 44 rfl) ?_
    refine g_aload_n (pc := 84) X (j := 0) (i := 0) (q := 3) (x := a0) rfl rfl (dl_at t_X25_closes 45 rfl) ?_
    refine r_getr (pc := 85) X fX25_34 k75 q3810 (dl_at t_X25_closes 46 rfl) ?_
    refine g_bipush (pc := 88) X (n := 8) rfl (dl_at t_X25_closes 47 rfl) ?_
    refine g_iload_n (pc := 90) X (j := 3) (i := 3) (q := 0) (x := x3_83) rfl rfl (dl_at t_X25_closes 48 rfl) ?_
    refine g_imul (pc := 91) X (r32_c rfl) r3_83 (dl_at t_X25_closes 49 rfl) ?_
    refine g_aload_n (pc := 92) X (j := 0) (i := 0) (q := 3) (x := a0) rfl rfl (dl_at t_X25_closes 50 rfl) ?_
    refine r_getr (pc := 93) X fX25_0 k75 q3761 (dl_at t_X25_closes 51 rfl) ?_
    refine g_gd fun k96 => ?_
    refine r_getr (pc := 96) X fX24_8 k96 q3661 (dl_at t_X25_closes 52 rfl) ?_
    refine g_iload_n (pc := 99) X (j := 1) (i := 1) (q := 2) (x := a1) rfl rfl (dl_at t_X25_closes 53 rfl) ?_
    refine g_gd fun k100 => ?_
    refine g_iald (pc := 100) X r1 k100 (dl_at t_X25_closes 54 rfl) fun g100 => ?_
    refine g_iadd (pc := 101) X (r32_w _) g100 (dl_at t_X25_closes 55 rfl) ?_
    refine g_iload_n (pc := 102) X (j := 2) (i := 2) (q := 1) (x := v70) rfl rfl (dl_at t_X25_closes 56 rfl) ?_
    refine g_gd fun k103 => ?_
    refine r_iast (pc := 103) X (r32_w _) g70 k103 (dl_at t_X25_closes 57 rfl) (fun h103 E103 => ?_)
    refine g_aload_n (pc := 104) X (j := 0) (i := 0) (q := 3) (x := a0) rfl rfl (dl_at t_X25_closes 58 rfl) ?_
    have k105 := kx E103 (by decide) k75
    refine r_getr (pc := 105) X fX25_38 k105 q3816 (dl_at t_X25_closes 59 rfl) ?_
    refine g_iload_n (pc := 108) X (j := 3) (i := 3) (q := 0) (x := x3_83) rfl rfl (dl_at t_X25_closes 60 rfl) ?_
    refine g_aload_n (pc := 109) X (j := 0) (i := 0) (q := 3) (x := a0) rfl rfl (dl_at t_X25_closes 61 rfl) ?_
    refine r_getr (pc := 110) X fX25_38 k105 q3816 (dl_at t_X25_closes 62 rfl) ?_
    refine g_iload_n (pc := 113) X (j := 3) (i := 3) (q := 0) (x := x3_83) rfl rfl (dl_at t_X25_closes 63 rfl) ?_
    refine g_gd fun k114 => ?_
    refine g_zald (pc := 114) X r3_83 k114 (dl_at t_X25_closes 64 rfl) fun g114 => ?_
    refine g_ifne (pc := 115) X (r32_z g114) (off := 7) (tgt := 122) rfl (dl_at t_X25_closes 65 rfl) (fun _ => ?_) (fun _ => ?_)
    · refine g_iconst (pc := 122) X (n := 1) (dl_at t_X25_closes 68 rfl) ?_
      refine g_goto (pc := 123) X (off := 4) (tgt := 127) rfl (dl_at t_X25_closes 69 rfl) ?_
      refine r_zast (pc := 127) X r3_83 (Or.inr rfl) k114 (dl_at t_X25_closes 71 rfl) (fun h127 E127 => ?_)
      refine g_goto (pc := 128) X (off := 34) (tgt := 162) rfl (dl_at t_X25_closes 72 rfl) ?_
      exact g_vret (pc := 162) X (v := 0) rfl rfl (dl_at t_X25_closes 90 rfl)
    refine g_iload_n (pc := 118) X (j := 2) (i := 2) (q := 1) (x := v70) rfl rfl (dl_at t_X25_closes 66 rfl) ?_
    refine g_iflt (pc := 119) X g70 (off := 7) (tgt := 126) rfl (dl_at t_X25_closes 67 rfl) (fun _ => ?_) (fun _ => ?_)
    · refine g_iconst (pc := 126) X (n := 0) (dl_at t_X25_closes 70 rfl) ?_
      refine r_zast (pc := 127) X r3_83 (Or.inl rfl) k114 (dl_at t_X25_closes 71 rfl) (fun h127_1 E127_1 => ?_)
      refine g_goto (pc := 128) X (off := 34) (tgt := 162) rfl (dl_at t_X25_closes 72 rfl) ?_
      exact g_vret (pc := 162) X (v := 0) rfl rfl (dl_at t_X25_closes 90 rfl)
    refine g_iconst (pc := 122) X (n := 1) (dl_at t_X25_closes 68 rfl) ?_
    refine g_goto (pc := 123) X (off := 4) (tgt := 127) rfl (dl_at t_X25_closes 69 rfl) ?_
    refine r_zast (pc := 127) X r3_83 (Or.inr rfl) k114 (dl_at t_X25_closes 71 rfl) (fun h127_2 E127_2 => ?_)
    refine g_goto (pc := 128) X (off := 34) (tgt := 162) rfl (dl_at t_X25_closes 72 rfl) ?_
    exact g_vret (pc := 162) X (v := 0) rfl rfl (dl_at t_X25_closes 90 rfl)
  refine g_aload_n (pc := 12) X (j := 0) (i := 0) (q := 0) (x := a0) rfl rfl (dl_at t_X25_closes 6 rfl) ?_
  refine r_getr (pc := 13) X fX25_0 hk q3761 (dl_at t_X25_closes 7 rfl) ?_
  refine r_getr (pc := 16) X fX24_13 k4 q3673 (dl_at t_X25_closes 8 rfl) ?_
  refine g_iload_n (pc := 19) X (j := 1) (i := 1) (q := 1) (x := a1) rfl rfl (dl_at t_X25_closes 9 rfl) ?_
  refine g_gd fun k20 => ?_
  refine g_zald (pc := 20) X r1 k20 (dl_at t_X25_closes 10 rfl) fun g20 => ?_
  refine g_join (γ := Hp) (fun q => Ext h q) 29 (fun q => [(0, rv D a0), (1, iv a1)]) (fun q => []) (fun q => q) (fun q => m_X25_closes_j29 a0 a1 q) ?_ ?_
  · rintro h_29 E_29
    try dsimp only
    unfold m_X25_closes_j29
    refine g_aload_n (pc := 29) X (j := 0) (i := 0) (q := 0) (x := a0) rfl rfl (dl_at t_X25_closes 15 rfl) ?_
    refine g_aload_n (pc := 30) X (j := 0) (i := 0) (q := 0) (x := a0) rfl rfl (dl_at t_X25_closes 16 rfl) ?_
    have k31 := kx E_29 (by decide) hk
    refine r_geti (pc := 31) X fX25_103 k31 q3915 (dl_at t_X25_closes 17 rfl) fun g31 => ?_
    refine g_aload_n (pc := 34) X (j := 0) (i := 0) (q := 0) (x := a0) rfl rfl (dl_at t_X25_closes 18 rfl) ?_
    refine r_getr (pc := 35) X fX25_0 k31 q3761 (dl_at t_X25_closes 19 rfl) ?_
    refine g_iload_n (pc := 38) X (j := 1) (i := 1) (q := 1) (x := a1) rfl rfl (dl_at t_X25_closes 20 rfl) ?_
    refine g_bipush (pc := 39) X (n := 7) rfl (dl_at t_X25_closes 21 rfl) ?_
    refine g_gd fun k41 => ?_
    refine r_callRi (pc := 41) X (fun _ hv => s_X24_of k41 r1 (r32_c rfl) hv) cw_code q4704 q378 (in_Vk X (As := [iv a1, iv 7]) kX24 k41 (Or.inl q4844) q4702 q4703 cw_code q4704 ⟨by decide, by decide⟩ rfl (dl_at t_X25_closes 22 rfl)) (dl_at t_X25_closes 22 rfl) (cat24 (st := [iv (h_29 a0 103), rv D a0]) (Nat.le_of_ble_eq_true rfl)) (Nat.le_of_ble_eq_true rfl) (Nat.le_of_ble_eq_true rfl) fun v41 g41 => ?_
    refine g_mmax (pc := 44) X g31 g41 q4858 q4859 q398 q4860 (cat24 (st := [rv D a0]) (Nat.le_of_ble_eq_true rfl)) (Nat.le_of_ble_eq_true rfl) (Nat.le_of_ble_eq_true rfl) (dl_at t_X25_closes 23 rfl) ?_
    refine r_puti (pc := 47) X fX25_103 k31 q3915 rfl (dl_at t_X25_closes 24 rfl) (r32_max g31 g41) (fun h47 E47 => ?_)
    refine g_goto (pc := 50) X (off := 112) (tgt := 162) rfl (dl_at t_X25_closes 25 rfl) ?_
    exact g_vret (pc := 162) X (v := 0) rfl rfl (dl_at t_X25_closes 90 rfl)
  intro J29
  refine g_ifne (pc := 21) X (r32_z g20) (off := 8) (tgt := 29) rfl (dl_at t_X25_closes 11 rfl) (fun _ => ?_) (fun _ => ?_)
  · exact J29 h (Ext.refl _)
  refine g_aload_n (pc := 24) X (j := 0) (i := 0) (q := 0) (x := a0) rfl rfl (dl_at t_X25_closes 12 rfl) ?_
  refine g_iload_n (pc := 25) X (j := 1) (i := 1) (q := 1) (x := a1) rfl rfl (dl_at t_X25_closes 13 rfl) ?_
  refine r_callTv (pc := 26) X (fun _ hv => s_X25_flowEnds hk r1 hv) cw_code q4839 q379 (in_Vk X (As := [iv a1]) kX25 hk (Or.inl q4836) q4838 qs296 cw_code q4839 ⟨by decide, by decide⟩ rfl (dl_at t_X25_closes 14 rfl)) (dl_at t_X25_closes 14 rfl) (cat24 (st := []) (Nat.le_of_ble_eq_true rfl)) (Nat.le_of_ble_eq_true rfl) (Nat.le_of_ble_eq_true rfl) (fun v26 h26 E26 => ?_) (fun _ _ ha _ => gt_at fun Q hQ => gt_out (Q := Q) X rfl ha (hno _) _ Q rfl hQ)
  exact J29 h26 E26
