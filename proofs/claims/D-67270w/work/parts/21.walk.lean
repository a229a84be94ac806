set_option maxRecDepth 100000
def k_X24_init : List (Nat × Instr × Nat) := [(0, .aload_n 0, 1), (1, .invokespecial 3, 3), (4, .aload_n 0, 1), (5, .new 9, 3), (8, .dup, 1), (9, .invokespecial 11, 3), (12, .putfield 12, 3), (15, .aload_n 0, 1), (16, .sipush 16384, 3), (19, .newarray .byte, 2), (21, .putfield 18, 3), (24, .aload_n 0, 1), (25, .bipush 6, 2), (27, .newarray .int, 2), (29, .putfield 22, 3), (32, .aload_n 0, 1), (33, .sipush 11000, 3), (36, .newarray .int, 2), (38, .putfield 26, 3), (41, .aload_n 0, 1), (42, .sipush 500, 3), (45, .newarray .int, 2), (47, .putfield 29, 3), (50, .aload_n 0, 1), (51, .sipush 500, 3), (54, .newarray .int, 2), (56, .putfield 32, 3), (59, .aload_n 0, 1), (60, .sipush 500, 3), (63, .newarray .int, 2), (65, .putfield 35, 3), (68, .aload_n 0, 1), (69, .sipush 500, 3), (72, .newarray .int, 2), (74, .putfield 38, 3), (77, .aload_n 0, 1), (78, .sipush 500, 3), (81, .newarray .int, 2), (83, .putfield 41, 3), (86, .aload_n 0, 1), (87, .sipush 500, 3), (90, .newarray .boolean, 2), (92, .putfield 44, 3), (95, .aload_n 0, 1), (96, .sipush 500, 3), (99, .newarray .boolean, 2), (101, .putfield 48, 3), (104, .aload_n 0, 1), (105, .sipush 500, 3), (108, .newarray .boolean, 2), (110, .putfield 51, 3), (113, .aload_n 0, 1), (114, .sipush 500, 3), (117, .newarray .boolean, 2), (119, .putfield 54, 3), (122, .aload_n 0, 1), (123, .sipush 500, 3), (126, .newarray .boolean, 2), (128, .putfield 57, 3), (131, .aload_n 0, 1), (132, .sipush 500, 3), (135, .newarray .boolean, 2), (137, .putfield 60, 3), (140, .aload_n 0, 1), (141, .sipush 500, 3), (144, .newarray .boolean, 2), (146, .putfield 63, 3), (149, .aload_n 0, 1), (150, .sipush 11000, 3), (153, .newarray .int, 2), (155, .putfield 66, 3), (158, .aload_n 0, 1), (159, .sipush 500, 3), (162, .newarray .boolean, 2), (164, .putfield 69, 3), (167, .aload_n 0, 1), (168, .sipush 500, 3), (171, .newarray .boolean, 2), (173, .putfield 72, 3), (176, .aload_n 0, 1), (177, .sipush 500, 3), (180, .newarray .int, 2), (182, .putfield 75, 3), (185, .aload_n 0, 1), (186, .sipush 500, 3), (189, .newarray .int, 2), (191, .putfield 78, 3), (194, .aload_n 0, 1), (195, .sipush 501, 3), (198, .newarray .int, 2), (200, .putfield 81, 3), (203, .aload_n 0, 1), (204, .sipush 501, 3), (207, .newarray .int, 2), (209, .putfield 84, 3), (212, .aload_n 0, 1), (213, .sipush 500, 3), (216, .newarray .boolean, 2), (218, .putfield 87, 3), (221, .aload_n 0, 1), (222, .bipush 12, 2), (224, .newarray .int, 2), (226, .putfield 90, 3), (229, .aload_n 0, 1), (230, .bipush 40, 2), (232, .newarray .byte, 2), (234, .putfield 93, 3), (237, .aload_n 0, 1), (238, .bipush 7, 2), (240, .newarray .int, 2), (242, .dup, 1), (243, .iconst 0, 1), (244, .sipush 1000, 3), (247, .iastore, 1), (248, .dup, 1), (249, .iconst 1, 1), (250, .sipush 500, 3), (253, .iastore, 1), (254, .dup, 1), (255, .iconst 2, 1), (256, .bipush 100, 2), (258, .iastore, 1), (259, .dup, 1), (260, .iconst 3, 1), (261, .bipush 50, 2), (263, .iastore, 1), (264, .dup, 1), (265, .iconst 4, 1), (266, .bipush 10, 2), (268, .iastore, 1), (269, .dup, 1), (270, .iconst 5, 1), (271, .iconst 5, 1), (272, .iastore, 1), (273, .dup, 1), (274, .bipush 6, 2), (276, .iconst 1, 1), (277, .iastore, 1), (278, .putfield 96, 3), (281, .aload_n 0, 1), (282, .bipush 64, 2), (284, .newarray .byte, 2), (286, .putfield 99, 3), (289, .return_, 1)]
theorem t_X24_init : ∀ q ∈ k_X24_init, decode cX24_init q.1 = .ok q.2 := dl_all (by decide +kernel)
noncomputable def m_X24_init (a0 : Int) (h : Hp) : Option (Hp) :=
  al h 384 28 fun a5 h5 =>
  (m_X23_init a5 h5).bind fun h9 =>
  pt h9 a0 0 a5 fun h12 =>
  al h12 3474 16384 fun a19 h19 =>
  pt h19 a0 1 a19 fun h21 =>
  al h21 3489 6 fun a27 h27 =>
  pt h27 a0 2 a27 fun h29 =>
  al h29 3505 11000 fun a36 h36 =>
  pt h36 a0 3 a36 fun h38 =>
  al h38 3521 500 fun a45 h45 =>
  pt h45 a0 4 a45 fun h47 =>
  al h47 3537 500 fun a54 h54 =>
  pt h54 a0 5 a54 fun h56 =>
  al h56 3553 500 fun a63 h63 =>
  pt h63 a0 6 a63 fun h65 =>
  al h65 3569 500 fun a72 h72 =>
  pt h72 a0 7 a72 fun h74 =>
  al h74 3585 500 fun a81 h81 =>
  pt h81 a0 8 a81 fun h83 =>
  al h83 3603 500 fun a90 h90 =>
  pt h90 a0 9 a90 fun h92 =>
  al h92 3619 500 fun a99 h99 =>
  pt h99 a0 10 a99 fun h101 =>
  al h101 3635 500 fun a108 h108 =>
  pt h108 a0 11 a108 fun h110 =>
  al h110 3651 500 fun a117 h117 =>
  pt h117 a0 12 a117 fun h119 =>
  al h119 3667 500 fun a126 h126 =>
  pt h126 a0 13 a126 fun h128 =>
  al h128 3683 500 fun a135 h135 =>
  pt h135 a0 14 a135 fun h137 =>
  al h137 3699 500 fun a144 h144 =>
  pt h144 a0 15 a144 fun h146 =>
  al h146 3713 11000 fun a153 h153 =>
  pt h153 a0 16 a153 fun h155 =>
  al h155 3731 500 fun a162 h162 =>
  pt h162 a0 17 a162 fun h164 =>
  al h164 3747 500 fun a171 h171 =>
  pt h171 a0 18 a171 fun h173 =>
  al h173 3761 500 fun a180 h180 =>
  pt h180 a0 19 a180 fun h182 =>
  al h182 3777 500 fun a189 h189 =>
  pt h189 a0 20 a189 fun h191 =>
  al h191 3793 501 fun a198 h198 =>
  pt h198 a0 21 a198 fun h200 =>
  al h200 3809 501 fun a207 h207 =>
  pt h207 a0 22 a207 fun h209 =>
  al h209 3827 500 fun a216 h216 =>
  pt h216 a0 23 a216 fun h218 =>
  al h218 3841 12 fun a224 h224 =>
  pt h224 a0 24 a224 fun h226 =>
  al h226 3858 40 fun a232 h232 =>
  pt h232 a0 25 a232 fun h234 =>
  al h234 3873 7 fun a240 h240 =>
  gd (h240 a240 (-2) % 16 = 1 ∧ (0 : Int) ≤ 0 ∧ 0 < h240 a240 (-1)) (pt h240 a240 0 1000 fun h247 =>
  gd (h247 a240 (-2) % 16 = 1 ∧ (0 : Int) ≤ 1 ∧ 1 < h247 a240 (-1)) (pt h247 a240 1 500 fun h253 =>
  gd (h253 a240 (-2) % 16 = 1 ∧ (0 : Int) ≤ 2 ∧ 2 < h253 a240 (-1)) (pt h253 a240 2 100 fun h258 =>
  gd (h258 a240 (-2) % 16 = 1 ∧ (0 : Int) ≤ 3 ∧ 3 < h258 a240 (-1)) (pt h258 a240 3 50 fun h263 =>
  gd (h263 a240 (-2) % 16 = 1 ∧ (0 : Int) ≤ 4 ∧ 4 < h263 a240 (-1)) (pt h263 a240 4 10 fun h268 =>
  gd (h268 a240 (-2) % 16 = 1 ∧ (0 : Int) ≤ 5 ∧ 5 < h268 a240 (-1)) (pt h268 a240 5 5 fun h272 =>
  gd (h272 a240 (-2) % 16 = 1 ∧ (0 : Int) ≤ 6 ∧ 6 < h272 a240 (-1)) (pt h272 a240 6 1 fun h277 =>
  pt h277 a0 26 a240 fun h278 =>
  al h278 3890 64 fun a284 h284 =>
  pt h284 a0 27 a284 fun h286 =>
  some h286)))))))
theorem s_X24_init {l : Launch} [NoTr l] {D : SD} {a0 : Int} {h : Hp} (hk : h a0 (-2) = 400) {r : Hp} (hm : m_X24_init a0 h = some r) : Sim l D yX24_init (Cond.code yX24_init cX24_init 1 (Option.none : Option Jvm.ClassFile.FieldType)) 2 72 [rv D a0] h 0 ((0, 0), r) := by
  refine Sim.of (fin := fun (v : Hp) => ((0, 0), v)) (lsE := [(0, rv D a0)]) hm rfl cwS_code (la_r la_n) (ll_r ll_n) ?_
  intro p e s m below meth c X hcw hmm hcc hnm hname
  unfold m_X24_init
  refine g_aload_n (pc := 0) X (j := 0) (i := 0) (q := 0) (x := a0) rfl rfl (dl_at t_X24_init 0 rfl) ?_
  refine r_oinitK (pc := 1) X hk (by decide) q3639 q406 q407 (Nat.le_of_ble_eq_true rfl) (Nat.le_trans (Nat.add_le_add_right (cat24 (st := []) (Nat.le_of_ble_eq_true rfl)) 12) (Nat.le_of_ble_eq_true rfl)) (dl_at t_X24_init 1 rfl) ?_
  refine g_aload_n (pc := 4) X (j := 0) (i := 0) (q := 0) (x := a0) rfl rfl (dl_at t_X24_init 2 rfl) ?_
  refine r_new (pc := 5) X kX23 q3640 (dl_at t_X24_init 3 rfl) fun a5 h5 p5 k5 E5 => ?_
  refine g_dup (pc := 8) X rv_cat (dl_at t_X24_init 4 rfl) ?_
  refine r_callV (pc := 9) X (fun _ hv => s_X23_init k5 hv) cw_code q3514 q377 (in_I X (As := []) (Int.ne_of_gt p5) rfl (Or.inr ⟨_, nw_in q3641 rfl⟩) q3513 q3514 ⟨by decide, by decide⟩ rfl (dl_at t_X24_init 5 rfl)) (dl_at t_X24_init 5 rfl) (cat24 (st := [rv D a5, rv D a0]) (Nat.le_of_ble_eq_true rfl)) (Nat.le_of_ble_eq_true rfl) (Nat.le_of_ble_eq_true rfl) fun h9 E9 => ?_
  have k12 := kx (E5.trans E9) (by decide) hk
  refine r_putrF (pc := 12) X hname fX24_0 k12 q3642 rfl rfl (dl_at t_X24_init 6 rfl)  (fun h12 E12 => ?_)
  refine g_aload_n (pc := 15) X (j := 0) (i := 0) (q := 0) (x := a0) rfl rfl (dl_at t_X24_init 7 rfl) ?_
  refine g_sipush (pc := 16) X (n := 16384) rfl (dl_at t_X24_init 8 rfl) ?_
  refine r_newa (pc := 19) X 2 217 (Nat.le_of_ble_eq_true rfl) (Nat.le_of_ble_eq_true rfl) rfl q449 (r32_c rfl) rfl (dl_at t_X24_init 9 rfl) fun a19 h19 p19 k19 l19 E19 => ?_
  have k21 := kx (E12.trans E19) (by decide) k12
  refine r_putrF (pc := 21) X hname fX24_1 k21 q3644 rfl rfl (dl_at t_X24_init 10 rfl)  (fun h21 E21 => ?_)
  refine g_aload_n (pc := 24) X (j := 0) (i := 0) (q := 0) (x := a0) rfl rfl (dl_at t_X24_init 11 rfl) ?_
  refine g_bipush (pc := 25) X (n := 6) rfl (dl_at t_X24_init 12 rfl) ?_
  refine r_newa (pc := 27) X 1 218 (Nat.le_of_ble_eq_true rfl) (Nat.le_of_ble_eq_true rfl) rfl q492 (r32_c rfl) rfl (dl_at t_X24_init 13 rfl) fun a27 h27 p27 k27 l27 E27 => ?_
  have k29 := kx (E21.trans E27) (by decide) k21
  refine r_putrF (pc := 29) X hname fX24_2 k29 q3646 rfl rfl (dl_at t_X24_init 14 rfl)  (fun h29 E29 => ?_)
  refine g_aload_n (pc := 32) X (j := 0) (i := 0) (q := 0) (x := a0) rfl rfl (dl_at t_X24_init 15 rfl) ?_
  refine g_sipush (pc := 33) X (n := 11000) rfl (dl_at t_X24_init 16 rfl) ?_
  refine r_newa (pc := 36) X 1 219 (Nat.le_of_ble_eq_true rfl) (Nat.le_of_ble_eq_true rfl) rfl q492 (r32_c rfl) rfl (dl_at t_X24_init 17 rfl) fun a36 h36 p36 k36 l36 E36 => ?_
  have k38 := kx (E29.trans E36) (by decide) k29
  refine r_putrF (pc := 38) X hname fX24_3 k38 q3649 rfl rfl (dl_at t_X24_init 18 rfl)  (fun h38 E38 => ?_)
  refine g_aload_n (pc := 41) X (j := 0) (i := 0) (q := 0) (x := a0) rfl rfl (dl_at t_X24_init 19 rfl) ?_
  refine g_sipush (pc := 42) X (n := 500) rfl (dl_at t_X24_init 20 rfl) ?_
  refine r_newa (pc := 45) X 1 220 (Nat.le_of_ble_eq_true rfl) (Nat.le_of_ble_eq_true rfl) rfl q492 (r32_c rfl) rfl (dl_at t_X24_init 21 rfl) fun a45 h45 p45 k45 l45 E45 => ?_
  have k47 := kx (E38.trans E45) (by decide) k38
  refine r_putrF (pc := 47) X hname fX24_4 k47 q3650 rfl rfl (dl_at t_X24_init 22 rfl)  (fun h47 E47 => ?_)
  refine g_aload_n (pc := 50) X (j := 0) (i := 0) (q := 0) (x := a0) rfl rfl (dl_at t_X24_init 23 rfl) ?_
  refine g_sipush (pc := 51) X (n := 500) rfl (dl_at t_X24_init 24 rfl) ?_
  refine r_newa (pc := 54) X 1 221 (Nat.le_of_ble_eq_true rfl) (Nat.le_of_ble_eq_true rfl) rfl q492 (r32_c rfl) rfl (dl_at t_X24_init 25 rfl) fun a54 h54 p54 k54 l54 E54 => ?_
  have k56 := kx (E47.trans E54) (by decide) k47
  refine r_putrF (pc := 56) X hname fX24_5 k56 q3652 rfl rfl (dl_at t_X24_init 26 rfl)  (fun h56 E56 => ?_)
  refine g_aload_n (pc := 59) X (j := 0) (i := 0) (q := 0) (x := a0) rfl rfl (dl_at t_X24_init 27 rfl) ?_
  refine g_sipush (pc := 60) X (n := 500) rfl (dl_at t_X24_init 28 rfl) ?_
  refine r_newa (pc := 63) X 1 222 (Nat.le_of_ble_eq_true rfl) (Nat.le_of_ble_eq_true rfl) rfl q492 (r32_c rfl) rfl (dl_at t_X24_init 29 rfl) fun a63 h63 p63 k63 l63 E63 => ?_
  have k65 := kx (E56.trans E63) (by decide) k56
  refine r_putrF (pc := 65) X hname fX24_6 k65 q3654 rfl rfl (dl_at t_X24_init 30 rfl)  (fun h65 E65 => ?_)
  refine g_aload_n (pc := 68) X (j := 0) (i := 0) (q := 0) (x := a0) rfl rfl (dl_at t_X24_init 31 rfl) ?_
  refine g_sipush (pc := 69) X (n := 500) rfl (dl_at t_X24_init 32 rfl) ?_
  refine r_newa (pc := 72) X 1 223 (Nat.le_of_ble_eq_true rfl) (Nat.le_of_ble_eq_true rfl) rfl q492 (r32_c rfl) rfl (dl_at t_X24_init 33 rfl) fun a72 h72 p72 k72 l72 E72 => ?_
  have k74 := kx (E65.trans E72) (by decide) k65
  refine r_putrF (pc := 74) X hname fX24_7 k74 q3657 rfl rfl (dl_at t_X24_init 34 rfl)  (fun h74 E74 => ?_)
  refine g_aload_n (pc := 77) X (j := 0) (i := 0) (q := 0) (x := a0) rfl rfl (dl_at t_X24_init 35 rfl) ?_
  refine g_sipush (pc := 78) X (n := 500) rfl (dl_at t_X24_init 36 rfl) ?_
  refine r_newa (pc := 81) X 1 224 (Nat.le_of_ble_eq_true rfl) (Nat.le_of_ble_eq_true rfl) rfl q492 (r32_c rfl) rfl (dl_at t_X24_init 37 rfl) fun a81 h81 p81 k81 l81 E81 => ?_
  have k83 := kx (E74.trans E81) (by decide) k74
  refine r_putrF (pc := 83) X hname fX24_8 k83 q3660 rfl rfl (dl_at t_X24_init 38 rfl)  (fun h83 E83 => ?_)
  refine g_aload_n (pc := 86) X (j := 0) (i := 0) (q := 0) (x := a0) rfl rfl (dl_at t_X24_init 39 rfl) ?_
  refine g_sipush (pc := 87) X (n := 500) rfl (dl_at t_X24_init 40 rfl) ?_
  refine r_newa (pc := 90) X 3 225 (Nat.le_of_ble_eq_true rfl) (Nat.le_of_ble_eq_true rfl) rfl q635 (r32_c rfl) rfl (dl_at t_X24_init 41 rfl) fun a90 h90 p90 k90 l90 E90 => ?_
  have k92 := kx (E83.trans E90) (by decide) k83
  refine r_putrF (pc := 92) X hname fX24_9 k92 q3662 rfl rfl (dl_at t_X24_init 42 rfl)  (fun h92 E92 => ?_)
  refine g_aload_n (pc := 95) X (j := 0) (i := 0) (q := 0) (x := a0) rfl rfl (dl_at t_X24_init 43 rfl) ?_
  refine g_sipush (pc := 96) X (n := 500) rfl (dl_at t_X24_init 44 rfl) ?_
  refine r_newa (pc := 99) X 3 226 (Nat.le_of_ble_eq_true rfl) (Nat.le_of_ble_eq_true rfl) rfl q635 (r32_c rfl) rfl (dl_at t_X24_init 45 rfl) fun a99 h99 p99 k99 l99 E99 => ?_
  have k101 := kx (E92.trans E99) (by decide) k92
  refine r_putrF (pc := 101) X hname fX24_10 k101 q3665 rfl rfl (dl_at t_X24_init 46 rfl)  (fun h101 E101 => ?_)
  refine g_aload_n (pc := 104) X (j := 0) (i := 0) (q := 0) (x := a0) rfl rfl (dl_at t_X24_init 47 rfl) ?_
  refine g_sipush (pc := 105) X (n := 500) rfl (dl_at t_X24_init 48 rfl) ?_
  refine r_newa (pc := 108) X 3 227 (Nat.le_of_ble_eq_true rfl) (Nat.le_of_ble_eq_true rfl) rfl q635 (r32_c rfl) rfl (dl_at t_X24_init 49 rfl) fun a108 h108 p108 k108 l108 E108 => ?_
  have k110 := kx (E101.trans E108) (by decide) k101
  refine r_putrF (pc := 110) X hname fX24_11 k110 q3668 rfl rfl (dl_at t_X24_init 50 rfl)  (fun h110 E110 => ?_)
  refine g_aload_n (pc := 113) X (j := 0) (i := 0) (q := 0) (x := a0) rfl rfl (dl_at t_X24_init 51 rfl) ?_
  refine g_sipush (pc := 114) X (n := 500) rfl (dl_at t_X24_init 52 rfl) ?_
  refine r_newa (pc := 117) X 3 228 (Nat.le_of_ble_eq_true rfl) (Nat.le_of_ble_eq_true rfl) rfl q635 (r32_c rfl) rfl (dl_at t_X24_init 53 rfl) fun a117 h117 p117 k117 l117 E117 => ?_
  have k119 := kx (E110.trans E117) (by decide) k110
  refine r_putrF (pc := 119) X hname fX24_12 k119 q3670 rfl rfl (dl_at t_X24_init 54 rfl)  (fun h119 E119 => ?_)
  refine g_aload_n (pc := 122) X (j := 0) (i := 0) (q := 0) (x := a0) rfl rfl (dl_at t_X24_init 55 rfl) ?_
  refine g_sipush (pc := 123) X (n := 500) rfl (dl_at t_X24_init 56 rfl) ?_
  refine r_newa (pc := 126) X 3 229 (Nat.le_of_ble_eq_true rfl) (Nat.le_of_ble_eq_true rfl) rfl q635 (r32_c rfl) rfl (dl_at t_X24_init 57 rfl) fun a126 h126 p126 k126 l126 E126 => ?_
  have k128 := kx (E119.trans E126) (by decide) k119
  refine r_putrF (pc := 128) X hname fX24_13 k128 q3672 rfl rfl (dl_at t_X24_init 58 rfl)  (fun h128 E128 => ?_)
  refine g_aload_n (pc := 131) X (j := 0) (i := 0) (q := 0) (x := a0) rfl rfl (dl_at t_X24_init 59 rfl) ?_
  refine g_sipush (pc := 132) X (n := 500) rfl (dl_at t_X24_init 60 rfl) ?_
  refine r_newa (pc := 135) X 3 230 (Nat.le_of_ble_eq_true rfl) (Nat.le_of_ble_eq_true rfl) rfl q635 (r32_c rfl) rfl (dl_at t_X24_init 61 rfl) fun a135 h135 p135 k135 l135 E135 => ?_
  have k137 := kx (E128.trans E135) (by decide) k128
  refine r_putrF (pc := 137) X hname fX24_14 k137 q3674 rfl rfl (dl_at t_X24_init 62 rfl)  (fun h137 E137 => ?_)
  refine g_aload_n (pc := 140) X (j := 0) (i := 0) (q := 0) (x := a0) rfl rfl (dl_at t_X24_init 63 rfl) ?_
  refine g_sipush (pc := 141) X (n := 500) rfl (dl_at t_X24_init 64 rfl) ?_
  refine r_newa (pc := 144) X 3 231 (Nat.le_of_ble_eq_true rfl) (Nat.le_of_ble_eq_true rfl) rfl q635 (r32_c rfl) rfl (dl_at t_X24_init 65 rfl) fun a144 h144 p144 k144 l144 E144 => ?_
  have k146 := kx (E137.trans E144) (by decide) k137
  refine r_putrF (pc := 146) X hname fX24_15 k146 q3676 rfl rfl (dl_at t_X24_init 66 rfl)  (fun h146 E146 => ?_)
  refine g_aload_n (pc := 149) X (j := 0) (i := 0) (q := 0) (x := a0) rfl rfl (dl_at t_X24_init 67 rfl) ?_
  refine g_sipush (pc := 150) X (n := 11000) rfl (dl_at t_X24_init 68 rfl) ?_
  refine r_newa (pc := 153) X 1 232 (Nat.le_of_ble_eq_true rfl) (Nat.le_of_ble_eq_true rfl) rfl q492 (r32_c rfl) rfl (dl_at t_X24_init 69 rfl) fun a153 h153 p153 k153 l153 E153 => ?_
  have k155 := kx (E146.trans E153) (by decide) k146
  refine r_putrF (pc := 155) X hname fX24_16 k155 q3678 rfl rfl (dl_at t_X24_init 70 rfl)  (fun h155 E155 => ?_)
  refine g_aload_n (pc := 158) X (j := 0) (i := 0) (q := 0) (x := a0) rfl rfl (dl_at t_X24_init 71 rfl) ?_
  refine g_sipush (pc := 159) X (n := 500) rfl (dl_at t_X24_init 72 rfl) ?_
  refine r_newa (pc := 162) X 3 233 (Nat.le_of_ble_eq_true rfl) (Nat.le_of_ble_eq_true rfl) rfl q635 (r32_c rfl) rfl (dl_at t_X24_init 73 rfl) fun a162 h162 p162 k162 l162 E162 => ?_
  have k164 := kx (E155.trans E162) (by decide) k155
  refine r_putrF (pc := 164) X hname fX24_17 k164 q3679 rfl rfl (dl_at t_X24_init 74 rfl)  (fun h164 E164 => ?_)
  refine g_aload_n (pc := 167) X (j := 0) (i := 0) (q := 0) (x := a0) rfl rfl (dl_at t_X24_init 75 rfl) ?_
  refine g_sipush (pc := 168) X (n := 500) rfl (dl_at t_X24_init 76 rfl) ?_
  refine r_newa (pc := 171) X 3 234 (Nat.le_of_ble_eq_true rfl) (Nat.le_of_ble_eq_true rfl) rfl q635 (r32_c rfl) rfl (dl_at t_X24_init 77 rfl) fun a171 h171 p171 k171 l171 E171 => ?_
  have k173 := kx (E164.trans E171) (by decide) k164
  refine r_putrF (pc := 173) X hname fX24_18 k173 q3680 rfl rfl (dl_at t_X24_init 78 rfl)  (fun h173 E173 => ?_)
  refine g_aload_n (pc := 176) X (j := 0) (i := 0) (q := 0) (x := a0) rfl rfl (dl_at t_X24_init 79 rfl) ?_
  refine g_sipush (pc := 177) X (n := 500) rfl (dl_at t_X24_init 80 rfl) ?_
  refine r_newa (pc := 180) X 1 235 (Nat.le_of_ble_eq_true rfl) (Nat.le_of_ble_eq_true rfl) rfl q492 (r32_c rfl) rfl (dl_at t_X24_init 81 rfl) fun a180 h180 p180 k180 l180 E180 => ?_
  have k182 := kx (E173.trans E180) (by decide) k173
  refine r_putrF (pc := 182) X hname fX24_19 k182 q3681 rfl rfl (dl_at t_X24_init 82 rfl)  (fun h182 E182 => ?_)
  refine g_aload_n (pc := 185) X (j := 0) (i := 0) (q := 0) (x := a0) rfl rfl (dl_at t_X24_init 83 rfl) ?_
  refine g_sipush (pc := 186) X (n := 500) rfl (dl_at t_X24_init 84 rfl) ?_
  refine r_newa (pc := 189) X 1 236 (Nat.le_of_ble_eq_true rfl) (Nat.le_of_ble_eq_true rfl) rfl q492 (r32_c rfl) rfl (dl_at t_X24_init 85 rfl) fun a189 h189 p189 k189 l189 E189 => ?_
  have k191 := kx (E182.trans E189) (by decide) k182
  refine r_putrF (pc := 191) X hname fX24_20 k191 q3682 rfl rfl (dl_at t_X24_init 86 rfl)  (fun h191 E191 => ?_)
  refine g_aload_n (pc := 194) X (j := 0) (i := 0) (q := 0) (x := a0) rfl rfl (dl_at t_X24_init 87 rfl) ?_
  refine g_sipush (pc := 195) X (n := 501) rfl (dl_at t_X24_init 88 rfl) ?_
  refine r_newa (pc := 198) X 1 237 (Nat.le_of_ble_eq_true rfl) (Nat.le_of_ble_eq_true rfl) rfl q492 (r32_c rfl) rfl (dl_at t_X24_init 89 rfl) fun a198 h198 p198 k198 l198 E198 => ?_
  have k200 := kx (E191.trans E198) (by decide) k191
  refine r_putrF (pc := 200) X hname fX24_21 k200 q3683 rfl rfl (dl_at t_X24_init 90 rfl)  (fun h200 E200 => ?_)
  refine g_aload_n (pc := 203) X (j := 0) (i := 0) (q := 0) (x := a0) rfl rfl (dl_at t_X24_init 91 rfl) ?_
  refine g_sipush (pc := 204) X (n := 501) rfl (dl_at t_X24_init 92 rfl) ?_
  refine r_newa (pc := 207) X 1 238 (Nat.le_of_ble_eq_true rfl) (Nat.le_of_ble_eq_true rfl) rfl q492 (r32_c rfl) rfl (dl_at t_X24_init 93 rfl) fun a207 h207 p207 k207 l207 E207 => ?_
  have k209 := kx (E200.trans E207) (by decide) k200
  refine r_putrF (pc := 209) X hname fX24_22 k209 q3684 rfl rfl (dl_at t_X24_init 94 rfl)  (fun h209 E209 => ?_)
  refine g_aload_n (pc := 212) X (j := 0) (i := 0) (q := 0) (x := a0) rfl rfl (dl_at t_X24_init 95 rfl) ?_
  refine g_sipush (pc := 213) X (n := 500) rfl (dl_at t_X24_init 96 rfl) ?_
  refine r_newa (pc := 216) X 3 239 (Nat.le_of_ble_eq_true rfl) (Nat.le_of_ble_eq_true rfl) rfl q635 (r32_c rfl) rfl (dl_at t_X24_init 97 rfl) fun a216 h216 p216 k216 l216 E216 => ?_
  have k218 := kx (E209.trans E216) (by decide) k209
  refine r_putrF (pc := 218) X hname fX24_23 k218 q3685 rfl rfl (dl_at t_X24_init 98 rfl)  (fun h218 E218 => ?_)
  refine g_aload_n (pc := 221) X (j := 0) (i := 0) (q := 0) (x := a0) rfl rfl (dl_at t_X24_init 99 rfl) ?_
  refine g_bipush (pc := 222) X (n := 12) rfl (dl_at t_X24_init 100 rfl) ?_
  refine r_newa (pc := 224) X 1 240 (Nat.le_of_ble_eq_true rfl) (Nat.le_of_ble_eq_true rfl) rfl q492 (r32_c rfl) rfl (dl_at t_X24_init 101 rfl) fun a224 h224 p224 k224 l224 E224 => ?_
  have k226 := kx (E218.trans E224) (by decide) k218
  refine r_putrF (pc := 226) X hname fX24_24 k226 q3686 rfl rfl (dl_at t_X24_init 102 rfl)  (fun h226 E226 => ?_)
  refine g_aload_n (pc := 229) X (j := 0) (i := 0) (q := 0) (x := a0) rfl rfl (dl_at t_X24_init 103 rfl) ?_
  refine g_bipush (pc := 230) X (n := 40) rfl (dl_at t_X24_init 104 rfl) ?_
  refine r_newa (pc := 232) X 2 241 (Nat.le_of_ble_eq_true rfl) (Nat.le_of_ble_eq_true rfl) rfl q449 (r32_c rfl) rfl (dl_at t_X24_init 105 rfl) fun a232 h232 p232 k232 l232 E232 => ?_
  have k234 := kx (E226.trans E232) (by decide) k226
  refine r_putrF (pc := 234) X hname fX24_25 k234 q3687 rfl rfl (dl_at t_X24_init 106 rfl)  (fun h234 E234 => ?_)
  refine g_aload_n (pc := 237) X (j := 0) (i := 0) (q := 0) (x := a0) rfl rfl (dl_at t_X24_init 107 rfl) ?_
  refine g_bipush (pc := 238) X (n := 7) rfl (dl_at t_X24_init 108 rfl) ?_
  refine r_newa (pc := 240) X 1 242 (Nat.le_of_ble_eq_true rfl) (Nat.le_of_ble_eq_true rfl) rfl q492 (r32_c rfl) rfl (dl_at t_X24_init 109 rfl) fun a240 h240 p240 k240 l240 E240 => ?_
  refine g_dup (pc := 242) X rv_cat (dl_at t_X24_init 110 rfl) ?_
  refine g_iconst (pc := 243) X (n := 0) (dl_at t_X24_init 111 rfl) ?_
  refine g_sipush (pc := 244) X (n := 1000) rfl (dl_at t_X24_init 112 rfl) ?_
  refine g_gd fun k247 => ?_
  refine r_iast (pc := 247) X (r32_c rfl) (r32_c rfl) k247 (dl_at t_X24_init 113 rfl) (fun h247 E247 => ?_)
  refine g_dup (pc := 248) X rv_cat (dl_at t_X24_init 114 rfl) ?_
  refine g_iconst (pc := 249) X (n := 1) (dl_at t_X24_init 115 rfl) ?_
  refine g_sipush (pc := 250) X (n := 500) rfl (dl_at t_X24_init 116 rfl) ?_
  refine g_gd fun k253 => ?_
  refine r_iast (pc := 253) X (r32_c rfl) (r32_c rfl) k253 (dl_at t_X24_init 117 rfl) (fun h253 E253 => ?_)
  refine g_dup (pc := 254) X rv_cat (dl_at t_X24_init 118 rfl) ?_
  refine g_iconst (pc := 255) X (n := 2) (dl_at t_X24_init 119 rfl) ?_
  refine g_bipush (pc := 256) X (n := 100) rfl (dl_at t_X24_init 120 rfl) ?_
  refine g_gd fun k258 => ?_
  refine r_iast (pc := 258) X (r32_c rfl) (r32_c rfl) k258 (dl_at t_X24_init 121 rfl) (fun h258 E258 => ?_)
  refine g_dup (pc := 259) X rv_cat (dl_at t_X24_init 122 rfl) ?_
  refine g_iconst (pc := 260) X (n := 3) (dl_at t_X24_init 123 rfl) ?_
  refine g_bipush (pc := 261) X (n := 50) rfl (dl_at t_X24_init 124 rfl) ?_
  refine g_gd fun k263 => ?_
  refine r_iast (pc := 263) X (r32_c rfl) (r32_c rfl) k263 (dl_at t_X24_init 125 rfl) (fun h263 E263 => ?_)
  refine g_dup (pc := 264) X rv_cat (dl_at t_X24_init 126 rfl) ?_
  refine g_iconst (pc := 265) X (n := 4) (dl_at t_X24_init 127 rfl) ?_
  refine g_bipush (pc := 266) X (n := 10) rfl (dl_at t_X24_init 128 rfl) ?_
  refine g_gd fun k268 => ?_
  refine r_iast (pc := 268) X (r32_c rfl) (r32_c rfl) k268 (dl_at t_X24_init 129 rfl) (fun h268 E268 => ?_)
  refine g_dup (pc := 269) X rv_cat (dl_at t_X24_init 130 rfl) ?_
  refine g_iconst (pc := 270) X (n := 5) (dl_at t_X24_init 131 rfl) ?_
  refine g_iconst (pc := 271) X (n := 5) (dl_at t_X24_init 132 rfl) ?_
  refine g_gd fun k272 => ?_
  refine r_iast (pc := 272) X (r32_c rfl) (r32_c rfl) k272 (dl_at t_X24_init 133 rfl) (fun h272 E272 => ?_)
  refine g_dup (pc := 273) X rv_cat (dl_at t_X24_init 134 rfl) ?_
  refine g_bipush (pc := 274) X (n := 6) rfl (dl_at t_X24_init 135 rfl) ?_
  refine g_iconst (pc := 276) X (n := 1) (dl_at t_X24_init 136 rfl) ?_
  refine g_gd fun k277 => ?_
  refine r_iast (pc := 277) X (r32_c rfl) (r32_c rfl) k277 (dl_at t_X24_init 137 rfl) (fun h277 E277 => ?_)
  have k278 := kx (E234.trans (E240.trans (E247.trans (E253.trans (E258.trans (E263.trans (E268.trans (E272.trans E277)))))))) (by decide) k234
  refine r_putrF (pc := 278) X hname fX24_26 k278 q3688 rfl rfl (dl_at t_X24_init 138 rfl)  (fun h278 E278 => ?_)
  refine g_aload_n (pc := 281) X (j := 0) (i := 0) (q := 0) (x := a0) rfl rfl (dl_at t_X24_init 139 rfl) ?_
  refine g_bipush (pc := 282) X (n := 64) rfl (dl_at t_X24_init 140 rfl) ?_
  refine r_newa (pc := 284) X 2 243 (Nat.le_of_ble_eq_true rfl) (Nat.le_of_ble_eq_true rfl) rfl q449 (r32_c rfl) rfl (dl_at t_X24_init 141 rfl) fun a284 h284 p284 k284 l284 E284 => ?_
  have k286 := kx (E278.trans E284) (by decide) k278
  refine r_putr (pc := 286) X fX24_27 k286 q3689 rfl (dl_at t_X24_init 142 rfl)  (fun h286 E286 => ?_)
  exact g_vret (pc := 289) X (v := 0) rfl rfl (dl_at t_X24_init 143 rfl)
def k_X25_init : List (Nat × Instr × Nat) := [(0, .aload_n 0, 1), (1, .invokespecial 5, 3), (4, .aload_n 0, 1), (5, .new 11, 3), (8, .dup, 1), (9, .invokespecial 13, 3), (12, .putfield 14, 3), (15, .aload_n 0, 1), (16, .sipush 24008, 3), (19, .newarray .byte, 2), (21, .putfield 18, 3), (24, .aload_n 0, 1), (25, .sipush 24008, 3), (28, .newarray .int, 2), (30, .putfield 22, 3), (33, .aload_n 0, 1), (34, .sipush 24008, 3), (37, .newarray .int, 2), (39, .putfield 26, 3), (42, .aload_n 0, 1), (43, .sipush 1200, 3), (46, .newarray .int, 2), (48, .putfield 29, 3), (51, .aload_n 0, 1), (52, .sipush 1200, 3), (55, .newarray .int, 2), (57, .putfield 32, 3), (60, .aload_n 0, 1), (61, .sipush 1200, 3), (64, .newarray .int, 2), (66, .putfield 35, 3), (69, .aload_n 0, 1), (70, .sipush 1200, 3), (73, .newarray .int, 2), (75, .putfield 38, 3), (78, .aload_n 0, 1), (79, .sipush 1200, 3), (82, .newarray .int, 2), (84, .putfield 41, 3), (87, .aload_n 0, 1), (88, .sipush 1200, 3), (91, .newarray .int, 2), (93, .putfield 44, 3), (96, .aload_n 0, 1), (97, .sipush 1201, 3), (100, .newarray .int, 2), (102, .putfield 47, 3), (105, .aload_n 0, 1), (106, .sipush 1200, 3), (109, .newarray .int, 2), (111, .putfield 50, 3), (114, .aload_n 0, 1), (115, .sipush 1201, 3), (118, .newarray .int, 2), (120, .putfield 53, 3), (123, .aload_n 0, 1), (124, .sipush 1200, 3), (127, .newarray .int, 2), (129, .putfield 56, 3), (132, .aload_n 0, 1), (133, .sipush 1200, 3), (136, .newarray .int, 2), (138, .putfield 59, 3), (141, .aload_n 0, 1), (142, .sipush 1200, 3), (145, .newarray .long, 2), (147, .putfield 62, 3), (150, .aload_n 0, 1), (151, .sipush 1200, 3), (154, .newarray .long, 2), (156, .putfield 66, 3), (159, .aload_n 0, 1), (160, .sipush 25208, 3), (163, .newarray .int, 2), (165, .putfield 69, 3), (168, .aload_n 0, 1), (169, .sipush 25208, 3), (172, .newarray .int, 2), (174, .putfield 72, 3), (177, .aload_n 0, 1), (178, .sipush 25208, 3), (181, .newarray .long, 2), (183, .putfield 75, 3), (186, .aload_n 0, 1), (187, .sipush 25208, 3), (190, .newarray .long, 2), (192, .putfield 78, 3), (195, .aload_n 0, 1), (196, .sipush 25208, 3), (199, .newarray .long, 2), (201, .putfield 81, 3), (204, .aload_n 0, 1), (205, .sipush 25208, 3), (208, .newarray .int, 2), (210, .putfield 84, 3), (213, .aload_n 0, 1), (214, .sipush 25208, 3), (217, .newarray .int, 2), (219, .putfield 87, 3), (222, .aload_n 0, 1), (223, .sipush 1700, 3), (226, .newarray .int, 2), (228, .putfield 90, 3), (231, .aload_n 0, 1), (232, .sipush 1700, 3), (235, .newarray .int, 2), (237, .putfield 93, 3), (240, .aload_n 0, 1), (241, .sipush 1700, 3), (244, .newarray .int, 2), (246, .putfield 96, 3), (249, .aload_n 0, 1), (250, .sipush 4000, 3), (253, .newarray .int, 2), (255, .putfield 99, 3), (258, .aload_n 0, 1), (259, .sipush 500, 3), (262, .newarray .int, 2), (264, .putfield 102, 3), (267, .aload_n 0, 1), (268, .sipush 500, 3), (271, .newarray .int, 2), (273, .putfield 105, 3), (276, .aload_n 0, 1), (277, .sipush 500, 3), (280, .newarray .int, 2), (282, .putfield 108, 3), (285, .aload_n 0, 1), (286, .sipush 500, 3), (289, .newarray .boolean, 2), (291, .putfield 111, 3), (294, .aload_n 0, 1), (295, .sipush 4000, 3), (298, .newarray .long, 2), (300, .putfield 115, 3), (303, .aload_n 0, 1), (304, .bipush 8, 2), (306, .newarray .long, 2), (308, .putfield 118, 3), (311, .aload_n 0, 1), (312, .bipush 8, 2), (314, .newarray .long, 2), (316, .putfield 121, 3), (319, .aload_n 0, 1), (320, .sipush 1500, 3), (323, .newarray .int, 2), (325, .putfield 124, 3), (328, .aload_n 0, 1), (329, .sipush 1500, 3), (332, .newarray .int, 2), (334, .putfield 127, 3), (337, .aload_n 0, 1), (338, .sipush 1500, 3), (341, .newarray .int, 2), (343, .putfield 130, 3), (346, .aload_n 0, 1), (347, .sipush 1500, 3), (350, .newarray .int, 2), (352, .putfield 133, 3), (355, .aload_n 0, 1), (356, .sipush 1500, 3), (359, .newarray .int, 2), (361, .putfield 136, 3), (364, .aload_n 0, 1), (365, .sipush 1500, 3), (368, .newarray .int, 2), (370, .putfield 139, 3), (373, .aload_n 0, 1), (374, .sipush 1500, 3), (377, .newarray .int, 2), (379, .putfield 142, 3), (382, .aload_n 0, 1), (383, .sipush 1500, 3), (386, .newarray .int, 2), (388, .putfield 145, 3), (391, .aload_n 0, 1), (392, .sipush 1500, 3), (395, .newarray .boolean, 2), (397, .putfield 148, 3), (400, .aload_n 0, 1), (401, .sipush 1500, 3), (404, .newarray .long, 2), (406, .putfield 151, 3), (409, .aload_n 0, 1), (410, .bipush 120, 2), (412, .newarray .int, 2), (414, .putfield 154, 3), (417, .aload_n 0, 1), (418, .bipush 120, 2), (420, .newarray .int, 2), (422, .putfield 157, 3), (425, .aload_n 0, 1), (426, .bipush 120, 2), (428, .newarray .int, 2), (430, .putfield 160, 3), (433, .aload_n 0, 1), (434, .bipush 120, 2), (436, .newarray .int, 2), (438, .putfield 163, 3), (441, .aload_n 0, 1), (442, .bipush 120, 2), (444, .newarray .int, 2), (446, .putfield 166, 3), (449, .aload_n 0, 1), (450, .bipush 40, 2), (452, .newarray .int, 2), (454, .putfield 169, 3), (457, .aload_n 0, 1), (458, .bipush 40, 2), (460, .newarray .int, 2), (462, .putfield 172, 3), (465, .aload_n 0, 1), (466, .bipush 40, 2), (468, .newarray .int, 2), (470, .putfield 175, 3), (473, .aload_n 0, 1), (474, .bipush 120, 2), (476, .newarray .long, 2), (478, .putfield 178, 3), (481, .aload_n 0, 1), (482, .bipush 40, 2), (484, .newarray .long, 2), (486, .putfield 181, 3), (489, .aload_n 0, 1), (490, .sipush 500, 3), (493, .newarray .int, 2), (495, .putfield 184, 3), (498, .aload_n 0, 1), (499, .sipush 301, 3), (502, .newarray .int, 2), (504, .putfield 187, 3), (507, .aload_n 0, 1), (508, .sipush 301, 3), (511, .newarray .int, 2), (513, .putfield 190, 3), (516, .aload_n 0, 1), (517, .sipush 500, 3), (520, .newarray .int, 2), (522, .putfield 193, 3), (525, .aload_n 0, 1), (526, .sipush 301, 3), (529, .newarray .int, 2), (531, .putfield 196, 3), (534, .aload_n 0, 1), (535, .sipush 301, 3), (538, .newarray .boolean, 2), (540, .putfield 199, 3), (543, .aload_n 0, 1), (544, .sipush 12382, 3), (547, .newarray .byte, 2), (549, .putfield 202, 3), (552, .aload_n 0, 1), (553, .sipush 500, 3), (556, .newarray .int, 2), (558, .putfield 205, 3), (561, .aload_n 0, 1), (562, .sipush 500, 3), (565, .newarray .int, 2), (567, .putfield 208, 3), (570, .aload_n 0, 1), (571, .sipush 500, 3), (574, .newarray .int, 2), (576, .putfield 211, 3), (579, .aload_n 0, 1), (580, .sipush 500, 3), (583, .newarray .int, 2), (585, .putfield 214, 3), (588, .aload_n 0, 1), (589, .sipush 500, 3), (592, .newarray .int, 2), (594, .putfield 217, 3), (597, .aload_n 0, 1), (598, .sipush 24008, 3), (601, .newarray .int, 2), (603, .putfield 220, 3), (606, .aload_n 0, 1), (607, .sipush 500, 3), (610, .newarray .int, 2), (612, .putfield 223, 3), (615, .aload_n 0, 1), (616, .sipush 500, 3), (619, .newarray .int, 2), (621, .putfield 226, 3), (624, .aload_n 0, 1), (625, .sipush 500, 3), (628, .newarray .int, 2), (630, .putfield 229, 3), (633, .aload_n 0, 1), (634, .sipush 500, 3), (637, .newarray .int, 2), (639, .putfield 232, 3), (642, .aload_n 0, 1), (643, .sipush 500, 3), (646, .newarray .int, 2), (648, .putfield 235, 3), (651, .aload_n 0, 1), (652, .sipush 500, 3), (655, .newarray .int, 2), (657, .putfield 238, 3), (660, .aload_n 0, 1), (661, .sipush 500, 3), (664, .newarray .int, 2), (666, .putfield 241, 3), (669, .aload_n 0, 1), (670, .sipush 500, 3), (673, .newarray .int, 2), (675, .putfield 244, 3), (678, .aload_n 0, 1), (679, .sipush 1628, 3), (682, .newarray .int, 2), (684, .putfield 247, 3), (687, .aload_n 0, 1), (688, .sipush 1628, 3), (691, .newarray .int, 2), (693, .putfield 250, 3), (696, .aload_n 0, 1), (697, .sipush 1628, 3), (700, .newarray .int, 2), (702, .putfield 253, 3), (705, .aload_n 0, 1), (706, .sipush 1628, 3), (709, .newarray .int, 2), (711, .putfield 256, 3), (714, .aload_n 0, 1), (715, .sipush 1628, 3), (718, .newarray .long, 2), (720, .putfield 259, 3), (723, .aload_n 0, 1), (724, .sipush 500, 3), (727, .newarray .boolean, 2), (729, .putfield 262, 3), (732, .aload_n 0, 1), (733, .sipush 24016, 3), (736, .newarray .boolean, 2), (738, .putfield 265, 3), (741, .aload_n 0, 1), (742, .sipush 602, 3), (745, .newarray .long, 2), (747, .putfield 268, 3), (750, .aload_n 0, 1), (751, .sipush 602, 3), (754, .newarray .long, 2), (756, .putfield 271, 3), (759, .aload_n 0, 1), (760, .sipush 602, 3), (763, .newarray .long, 2), (765, .putfield 274, 3), (768, .aload_n 0, 1), (769, .sipush 602, 3), (772, .newarray .long, 2), (774, .putfield 277, 3), (777, .aload_n 0, 1), (778, .sipush 2408, 3), (781, .newarray .long, 2), (783, .putfield 280, 3), (786, .aload_n 0, 1), (787, .sipush 2408, 3), (790, .newarray .boolean, 2), (792, .putfield 283, 3), (795, .aload_n 0, 1), (796, .sipush 2408, 3), (799, .newarray .int, 2), (801, .putfield 286, 3), (804, .aload_n 0, 1), (805, .sipush 2408, 3), (808, .newarray .int, 2), (810, .putfield 289, 3), (813, .aload_n 0, 1), (814, .sipush 1200, 3), (817, .newarray .int, 2), (819, .putfield 292, 3), (822, .aload_n 0, 1), (823, .sipush 1501, 3), (826, .newarray .long, 2), (828, .putfield 295, 3), (831, .aload_n 0, 1), (832, .sipush 1501, 3), (835, .newarray .int, 2), (837, .putfield 298, 3), (840, .aload_n 0, 1), (841, .sipush 1501, 3), (844, .newarray .int, 2), (846, .putfield 301, 3), (849, .aload_n 0, 1), (850, .sipush 1502, 3), (853, .newarray .int, 2), (855, .putfield 304, 3), (858, .aload_n 0, 1), (859, .sipush 256, 3), (862, .newarray .int, 2), (864, .putfield 307, 3), (867, .aload_n 0, 1), (868, .sipush 256, 3), (871, .newarray .int, 2), (873, .putfield 310, 3), (876, .aload_n 0, 1), (877, .sipush 256, 3), (880, .newarray .int, 2), (882, .putfield 313, 3), (885, .aload_n 0, 1), (886, .sipush 256, 3), (889, .newarray .int, 2), (891, .putfield 316, 3), (894, .aload_n 0, 1), (895, .sipush 256, 3), (898, .newarray .int, 2), (900, .putfield 319, 3), (903, .aload_n 0, 1), (904, .sipush 256, 3), (907, .newarray .long, 2), (909, .putfield 322, 3), (912, .aload_n 0, 1), (913, .sipush 1502, 3), (916, .newarray .int, 2), (918, .putfield 325, 3), (921, .aload_n 0, 1), (922, .sipush 500, 3), (925, .newarray .boolean, 2), (927, .putfield 328, 3), (930, .aload_n 0, 1), (931, .sipush 500, 3), (934, .newarray .boolean, 2), (936, .putfield 331, 3), (939, .return_, 1)]
theorem t_X25_init : ∀ q ∈ k_X25_init, decode cX25_init q.1 = .ok q.2 := dl_all (by decide +kernel)
noncomputable def m_X25_init (a0 : Int) (h : Hp) : Option (Hp) :=
  al h 400 30 fun a5 h5 =>
  (m_X24_init a5 h5).bind fun h9 =>
  pt h9 a0 0 a5 fun h12 =>
  al h12 3906 24008 fun a19 h19 =>
  pt h19 a0 5 a19 fun h21 =>
  al h21 3921 24008 fun a28 h28 =>
  pt h28 a0 6 a28 fun h30 =>
  al h30 3937 24008 fun a37 h37 =>
  pt h37 a0 7 a37 fun h39 =>
  al h39 3953 1200 fun a46 h46 =>
  pt h46 a0 10 a46 fun h48 =>
  al h48 3969 1200 fun a55 h55 =>
  pt h55 a0 11 a55 fun h57 =>
  al h57 3985 1200 fun a64 h64 =>
  pt h64 a0 12 a64 fun h66 =>
  al h66 4001 1200 fun a73 h73 =>
  pt h73 a0 13 a73 fun h75 =>
  al h75 4017 1200 fun a82 h82 =>
  pt h82 a0 14 a82 fun h84 =>
  al h84 4033 1200 fun a91 h91 =>
  pt h91 a0 15 a91 fun h93 =>
  al h93 4049 1201 fun a100 h100 =>
  pt h100 a0 16 a100 fun h102 =>
  al h102 4065 1200 fun a109 h109 =>
  pt h109 a0 17 a109 fun h111 =>
  al h111 4081 1201 fun a118 h118 =>
  pt h118 a0 18 a118 fun h120 =>
  al h120 4097 1200 fun a127 h127 =>
  pt h127 a0 19 a127 fun h129 =>
  al h129 4113 1200 fun a136 h136 =>
  pt h136 a0 20 a136 fun h138 =>
  al h138 4132 1200 fun a145 h145 =>
  pt h145 a0 21 a145 fun h147 =>
  al h147 4148 1200 fun a154 h154 =>
  pt h154 a0 22 a154 fun h156 =>
  al h156 4161 25208 fun a163 h163 =>
  pt h163 a0 23 a163 fun h165 =>
  al h165 4177 25208 fun a172 h172 =>
  pt h172 a0 24 a172 fun h174 =>
  al h174 4196 25208 fun a181 h181 =>
  pt h181 a0 25 a181 fun h183 =>
  al h183 4212 25208 fun a190 h190 =>
  pt h190 a0 26 a190 fun h192 =>
  al h192 4228 25208 fun a199 h199 =>
  pt h199 a0 27 a199 fun h201 =>
  al h201 4241 25208 fun a208 h208 =>
  pt h208 a0 28 a208 fun h210 =>
  al h210 4257 25208 fun a217 h217 =>
  pt h217 a0 29 a217 fun h219 =>
  al h219 4273 1700 fun a226 h226 =>
  pt h226 a0 31 a226 fun h228 =>
  al h228 4289 1700 fun a235 h235 =>
  pt h235 a0 32 a235 fun h237 =>
  al h237 4305 1700 fun a244 h244 =>
  pt h244 a0 33 a244 fun h246 =>
  al h246 4321 4000 fun a253 h253 =>
  pt h253 a0 34 a253 fun h255 =>
  al h255 4337 500 fun a262 h262 =>
  pt h262 a0 35 a262 fun h264 =>
  al h264 4353 500 fun a271 h271 =>
  pt h271 a0 36 a271 fun h273 =>
  al h273 4369 500 fun a280 h280 =>
  pt h280 a0 37 a280 fun h282 =>
  al h282 4387 500 fun a289 h289 =>
  pt h289 a0 38 a289 fun h291 =>
  al h291 4404 4000 fun a298 h298 =>
  pt h298 a0 39 a298 fun h300 =>
  al h300 4420 8 fun a306 h306 =>
  pt h306 a0 40 a306 fun h308 =>
  al h308 4436 8 fun a314 h314 =>
  pt h314 a0 41 a314 fun h316 =>
  al h316 4449 1500 fun a323 h323 =>
  pt h323 a0 43 a323 fun h325 =>
  al h325 4465 1500 fun a332 h332 =>
  pt h332 a0 44 a332 fun h334 =>
  al h334 4481 1500 fun a341 h341 =>
  pt h341 a0 45 a341 fun h343 =>
  al h343 4497 1500 fun a350 h350 =>
  pt h350 a0 46 a350 fun h352 =>
  al h352 4513 1500 fun a359 h359 =>
  pt h359 a0 47 a359 fun h361 =>
  al h361 4529 1500 fun a368 h368 =>
  pt h368 a0 48 a368 fun h370 =>
  al h370 4545 1500 fun a377 h377 =>
  pt h377 a0 49 a377 fun h379 =>
  al h379 4561 1500 fun a386 h386 =>
  pt h386 a0 50 a386 fun h388 =>
  al h388 4579 1500 fun a395 h395 =>
  pt h395 a0 51 a395 fun h397 =>
  al h397 4596 1500 fun a404 h404 =>
  pt h404 a0 52 a404 fun h406 =>
  al h406 4609 120 fun a412 h412 =>
  pt h412 a0 55 a412 fun h414 =>
  al h414 4625 120 fun a420 h420 =>
  pt h420 a0 56 a420 fun h422 =>
  al h422 4641 120 fun a428 h428 =>
  pt h428 a0 57 a428 fun h430 =>
  al h430 4657 120 fun a436 h436 =>
  pt h436 a0 58 a436 fun h438 =>
  al h438 4673 120 fun a444 h444 =>
  pt h444 a0 59 a444 fun h446 =>
  al h446 4689 40 fun a452 h452 =>
  pt h452 a0 60 a452 fun h454 =>
  al h454 4705 40 fun a460 h460 =>
  pt h460 a0 61 a460 fun h462 =>
  al h462 4721 40 fun a468 h468 =>
  pt h468 a0 62 a468 fun h470 =>
  al h470 4740 120 fun a476 h476 =>
  pt h476 a0 63 a476 fun h478 =>
  al h478 4756 40 fun a484 h484 =>
  pt h484 a0 64 a484 fun h486 =>
  al h486 4769 500 fun a493 h493 =>
  pt h493 a0 65 a493 fun h495 =>
  al h495 4785 301 fun a502 h502 =>
  pt h502 a0 67 a502 fun h504 =>
  al h504 4801 301 fun a511 h511 =>
  pt h511 a0 68 a511 fun h513 =>
  al h513 4817 500 fun a520 h520 =>
  pt h520 a0 69 a520 fun h522 =>
  al h522 4833 301 fun a529 h529 =>
  pt h529 a0 70 a529 fun h531 =>
  al h531 4851 301 fun a538 h538 =>
  pt h538 a0 71 a538 fun h540 =>
  al h540 4866 12382 fun a547 h547 =>
  pt h547 a0 72 a547 fun h549 =>
  al h549 4881 500 fun a556 h556 =>
  pt h556 a0 74 a556 fun h558 =>
  al h558 4897 500 fun a565 h565 =>
  pt h565 a0 75 a565 fun h567 =>
  al h567 4913 500 fun a574 h574 =>
  pt h574 a0 76 a574 fun h576 =>
  al h576 4929 500 fun a583 h583 =>
  pt h583 a0 77 a583 fun h585 =>
  al h585 4945 500 fun a592 h592 =>
  pt h592 a0 78 a592 fun h594 =>
  al h594 4961 24008 fun a601 h601 =>
  pt h601 a0 79 a601 fun h603 =>
  al h603 4977 500 fun a610 h610 =>
  pt h610 a0 80 a610 fun h612 =>
  al h612 4993 500 fun a619 h619 =>
  pt h619 a0 81 a619 fun h621 =>
  al h621 5009 500 fun a628 h628 =>
  pt h628 a0 82 a628 fun h630 =>
  al h630 5025 500 fun a637 h637 =>
  pt h637 a0 83 a637 fun h639 =>
  al h639 5041 500 fun a646 h646 =>
  pt h646 a0 84 a646 fun h648 =>
  al h648 5057 500 fun a655 h655 =>
  pt h655 a0 85 a655 fun h657 =>
  al h657 5073 500 fun a664 h664 =>
  pt h664 a0 86 a664 fun h666 =>
  al h666 5089 500 fun a673 h673 =>
  pt h673 a0 87 a673 fun h675 =>
  al h675 5105 1628 fun a682 h682 =>
  pt h682 a0 89 a682 fun h684 =>
  al h684 5121 1628 fun a691 h691 =>
  pt h691 a0 90 a691 fun h693 =>
  al h693 5137 1628 fun a700 h700 =>
  pt h700 a0 91 a700 fun h702 =>
  al h702 5153 1628 fun a709 h709 =>
  pt h709 a0 92 a709 fun h711 =>
  al h711 5172 1628 fun a718 h718 =>
  pt h718 a0 93 a718 fun h720 =>
  al h720 5187 500 fun a727 h727 =>
  pt h727 a0 99 a727 fun h729 =>
  al h729 5203 24016 fun a736 h736 =>
  pt h736 a0 102 a736 fun h738 =>
  al h738 5220 602 fun a745 h745 =>
  pt h745 a0 104 a745 fun h747 =>
  al h747 5236 602 fun a754 h754 =>
  pt h754 a0 105 a754 fun h756 =>
  al h756 5252 602 fun a763 h763 =>
  pt h763 a0 106 a763 fun h765 =>
  al h765 5268 602 fun a772 h772 =>
  pt h772 a0 107 a772 fun h774 =>
  al h774 5284 2408 fun a781 h781 =>
  pt h781 a0 108 a781 fun h783 =>
  al h783 5299 2408 fun a790 h790 =>
  pt h790 a0 109 a790 fun h792 =>
  al h792 5313 2408 fun a799 h799 =>
  pt h799 a0 110 a799 fun h801 =>
  al h801 5329 2408 fun a808 h808 =>
  pt h808 a0 111 a808 fun h810 =>
  al h810 5345 1200 fun a817 h817 =>
  pt h817 a0 121 a817 fun h819 =>
  al h819 5364 1501 fun a826 h826 =>
  pt h826 a0 122 a826 fun h828 =>
  al h828 5377 1501 fun a835 h835 =>
  pt h835 a0 123 a835 fun h837 =>
  al h837 5393 1501 fun a844 h844 =>
  pt h844 a0 124 a844 fun h846 =>
  al h846 5409 1502 fun a853 h853 =>
  pt h853 a0 125 a853 fun h855 =>
  al h855 5425 256 fun a862 h862 =>
  pt h862 a0 127 a862 fun h864 =>
  al h864 5441 256 fun a871 h871 =>
  pt h871 a0 128 a871 fun h873 =>
  al h873 5457 256 fun a880 h880 =>
  pt h880 a0 129 a880 fun h882 =>
  al h882 5473 256 fun a889 h889 =>
  pt h889 a0 130 a889 fun h891 =>
  al h891 5489 256 fun a898 h898 =>
  pt h898 a0 131 a898 fun h900 =>
  al h900 5508 256 fun a907 h907 =>
  pt h907 a0 132 a907 fun h909 =>
  al h909 5521 1502 fun a916 h916 =>
  pt h916 a0 138 a916 fun h918 =>
  al h918 5539 500 fun a925 h925 =>
  pt h925 a0 139 a925 fun h927 =>
  al h927 5555 500 fun a934 h934 =>
  pt h934 a0 140 a934 fun h936 =>
  some h936
theorem s_X25_init {l : Launch} [NoTr l] {D : SD} {a0 : Int} {h : Hp} (hk : h a0 (-2) = 416) {r : Hp} (hm : m_X25_init a0 h = some r) : Sim l D yX25_init (Cond.code yX25_init cX25_init 1 (Option.none : Option Jvm.ClassFile.FieldType)) 3 108 [rv D a0] h 0 ((0, 0), r) := by
  refine Sim.of (fin := fun (v : Hp) => ((0, 0), v)) (lsE := [(0, rv D a0)]) hm rfl cwS_code (la_r la_n) (ll_r ll_n) ?_
  intro p e s m below meth c X hcw hmm hcc hnm hname
  unfold m_X25_init
  refine g_aload_n (pc := 0) X (j := 0) (i := 0) (q := 0) (x := a0) rfl rfl (dl_at t_X25_init 0 rfl) ?_
  refine r_oinitK (pc := 1) X hk (by decide) q3758 q406 q407 (Nat.le_of_ble_eq_true rfl) (Nat.le_trans (Nat.add_le_add_right (cat24 (st := []) (Nat.le_of_ble_eq_true rfl)) 12) (Nat.le_of_ble_eq_true rfl)) (dl_at t_X25_init 1 rfl) ?_
  refine g_aload_n (pc := 4) X (j := 0) (i := 0) (q := 0) (x := a0) rfl rfl (dl_at t_X25_init 2 rfl) ?_
  refine r_new (pc := 5) X kX24 q3759 (dl_at t_X25_init 3 rfl) fun a5 h5 p5 k5 E5 => ?_
  refine g_dup (pc := 8) X rv_cat (dl_at t_X25_init 4 rfl) ?_
  refine r_callV (pc := 9) X (fun _ hv => s_X24_init k5 hv) cw_code q3638 q378 (in_I X (As := []) (Int.ne_of_gt p5) rfl (Or.inr ⟨_, nw_in q3760 rfl⟩) q3637 q3638 ⟨by decide, by decide⟩ rfl (dl_at t_X25_init 5 rfl)) (dl_at t_X25_init 5 rfl) (cat24 (st := [rv D a5, rv D a0]) (Nat.le_of_ble_eq_true rfl)) (Nat.le_of_ble_eq_true rfl) (Nat.le_of_ble_eq_true rfl) fun h9 E9 => ?_
  have k12 := kx (E5.trans E9) (by decide) hk
  refine r_putrF (pc := 12) X hname fX25_0 k12 q3761 rfl rfl (dl_at t_X25_init 6 rfl)  (fun h12 E12 => ?_)
  refine g_aload_n (pc := 15) X (j := 0) (i := 0) (q := 0) (x := a0) rfl rfl (dl_at t_X25_init 7 rfl) ?_
  refine g_sipush (pc := 16) X (n := 24008) rfl (dl_at t_X25_init 8 rfl) ?_
  refine r_newa (pc := 19) X 2 244 (Nat.le_of_ble_eq_true rfl) (Nat.le_of_ble_eq_true rfl) rfl q449 (r32_c rfl) rfl (dl_at t_X25_init 9 rfl) fun a19 h19 p19 k19 l19 E19 => ?_
  have k21 := kx (E12.trans E19) (by decide) k12
  refine r_putrF (pc := 21) X hname fX25_5 k21 q3768 rfl rfl (dl_at t_X25_init 10 rfl)  (fun h21 E21 => ?_)
  refine g_aload_n (pc := 24) X (j := 0) (i := 0) (q := 0) (x := a0) rfl rfl (dl_at t_X25_init 11 rfl) ?_
  refine g_sipush (pc := 25) X (n := 24008) rfl (dl_at t_X25_init 12 rfl) ?_
  refine r_newa (pc := 28) X 1 245 (Nat.le_of_ble_eq_true rfl) (Nat.le_of_ble_eq_true rfl) rfl q492 (r32_c rfl) rfl (dl_at t_X25_init 13 rfl) fun a28 h28 p28 k28 l28 E28 => ?_
  have k30 := kx (E21.trans E28) (by decide) k21
  refine r_putrF (pc := 30) X hname fX25_6 k30 q3770 rfl rfl (dl_at t_X25_init 14 rfl)  (fun h30 E30 => ?_)
  refine g_aload_n (pc := 33) X (j := 0) (i := 0) (q := 0) (x := a0) rfl rfl (dl_at t_X25_init 15 rfl) ?_
  refine g_sipush (pc := 34) X (n := 24008) rfl (dl_at t_X25_init 16 rfl) ?_
  refine r_newa (pc := 37) X 1 246 (Nat.le_of_ble_eq_true rfl) (Nat.le_of_ble_eq_true rfl) rfl q492 (r32_c rfl) rfl (dl_at t_X25_init 17 rfl) fun a37 h37 p37 k37 l37 E37 => ?_
  have k39 := kx (E30.trans E37) (by decide) k30
  refine r_putrF (pc := 39) X hname fX25_7 k39 q3771 rfl rfl (dl_at t_X25_init 18 rfl)  (fun h39 E39 => ?_)
  refine g_aload_n (pc := 42) X (j := 0) (i := 0) (q := 0) (x := a0) rfl rfl (dl_at t_X25_init 19 rfl) ?_
  refine g_sipush (pc := 43) X (n := 1200) rfl (dl_at t_X25_init 20 rfl) ?_
  refine r_newa (pc := 46) X 1 247 (Nat.le_of_ble_eq_true rfl) (Nat.le_of_ble_eq_true rfl) rfl q492 (r32_c rfl) rfl (dl_at t_X25_init 21 rfl) fun a46 h46 p46 k46 l46 E46 => ?_
  have k48 := kx (E39.trans E46) (by decide) k39
  refine r_putrF (pc := 48) X hname fX25_10 k48 q3775 rfl rfl (dl_at t_X25_init 22 rfl)  (fun h48 E48 => ?_)
  refine g_aload_n (pc := 51) X (j := 0) (i := 0) (q := 0) (x := a0) rfl rfl (dl_at t_X25_init 23 rfl) ?_
  refine g_sipush (pc := 52) X (n := 1200) rfl (dl_at t_X25_init 24 rfl) ?_
  refine r_newa (pc := 55) X 1 248 (Nat.le_of_ble_eq_true rfl) (Nat.le_of_ble_eq_true rfl) rfl q492 (r32_c rfl) rfl (dl_at t_X25_init 25 rfl) fun a55 h55 p55 k55 l55 E55 => ?_
  have k57 := kx (E48.trans E55) (by decide) k48
  refine r_putrF (pc := 57) X hname fX25_11 k57 q3777 rfl rfl (dl_at t_X25_init 26 rfl)  (fun h57 E57 => ?_)
  refine g_aload_n (pc := 60) X (j := 0) (i := 0) (q := 0) (x := a0) rfl rfl (dl_at t_X25_init 27 rfl) ?_
  refine g_sipush (pc := 61) X (n := 1200) rfl (dl_at t_X25_init 28 rfl) ?_
  refine r_newa (pc := 64) X 1 249 (Nat.le_of_ble_eq_true rfl) (Nat.le_of_ble_eq_true rfl) rfl q492 (r32_c rfl) rfl (dl_at t_X25_init 29 rfl) fun a64 h64 p64 k64 l64 E64 => ?_
  have k66 := kx (E57.trans E64) (by decide) k57
  refine r_putrF (pc := 66) X hname fX25_12 k66 q3779 rfl rfl (dl_at t_X25_init 30 rfl)  (fun h66 E66 => ?_)
  refine g_aload_n (pc := 69) X (j := 0) (i := 0) (q := 0) (x := a0) rfl rfl (dl_at t_X25_init 31 rfl) ?_
  refine g_sipush (pc := 70) X (n := 1200) rfl (dl_at t_X25_init 32 rfl) ?_
  refine r_newa (pc := 73) X 1 250 (Nat.le_of_ble_eq_true rfl) (Nat.le_of_ble_eq_true rfl) rfl q492 (r32_c rfl) rfl (dl_at t_X25_init 33 rfl) fun a73 h73 p73 k73 l73 E73 => ?_
  have k75 := kx (E66.trans E73) (by decide) k66
  refine r_putrF (pc := 75) X hname fX25_13 k75 q3781 rfl rfl (dl_at t_X25_init 34 rfl)  (fun h75 E75 => ?_)
  refine g_aload_n (pc := 78) X (j := 0) (i := 0) (q := 0) (x := a0) rfl rfl (dl_at t_X25_init 35 rfl) ?_
  refine g_sipush (pc := 79) X (n := 1200) rfl (dl_at t_X25_init 36 rfl) ?_
  refine r_newa (pc := 82) X 1 251 (Nat.le_of_ble_eq_true rfl) (Nat.le_of_ble_eq_true rfl) rfl q492 (r32_c rfl) rfl (dl_at t_X25_init 37 rfl) fun a82 h82 p82 k82 l82 E82 => ?_
  have k84 := kx (E75.trans E82) (by decide) k75
  refine r_putrF (pc := 84) X hname fX25_14 k84 q3782 rfl rfl (dl_at t_X25_init 38 rfl)  (fun h84 E84 => ?_)
  refine g_aload_n (pc := 87) X (j := 0) (i := 0) (q := 0) (x := a0) rfl rfl (dl_at t_X25_init 39 rfl) ?_
  refine g_sipush (pc := 88) X (n := 1200) rfl (dl_at t_X25_init 40 rfl) ?_
  refine r_newa (pc := 91) X 1 252 (Nat.le_of_ble_eq_true rfl) (Nat.le_of_ble_eq_true rfl) rfl q492 (r32_c rfl) rfl (dl_at t_X25_init 41 rfl) fun a91 h91 p91 k91 l91 E91 => ?_
  have k93 := kx (E84.trans E91) (by decide) k84
  refine r_putrF (pc := 93) X hname fX25_15 k93 q3783 rfl rfl (dl_at t_X25_init 42 rfl)  (fun h93 E93 => ?_)
  refine g_aload_n (pc := 96) X (j := 0) (i := 0) (q := 0) (x := a0) rfl rfl (dl_at t_X25_init 43 rfl) ?_
  refine g_sipush (pc := 97) X (n := 1201) rfl (dl_at t_X25_init 44 rfl) ?_
  refine r_newa (pc := 100) X 1 253 (Nat.le_of_ble_eq_true rfl) (Nat.le_of_ble_eq_true rfl) rfl q492 (r32_c rfl) rfl (dl_at t_X25_init 45 rfl) fun a100 h100 p100 k100 l100 E100 => ?_
  have k102 := kx (E93.trans E100) (by decide) k93
  refine r_putrF (pc := 102) X hname fX25_16 k102 q3785 rfl rfl (dl_at t_X25_init 46 rfl)  (fun h102 E102 => ?_)
  refine g_aload_n (pc := 105) X (j := 0) (i := 0) (q := 0) (x := a0) rfl rfl (dl_at t_X25_init 47 rfl) ?_
  refine g_sipush (pc := 106) X (n := 1200) rfl (dl_at t_X25_init 48 rfl) ?_
  refine r_newa (pc := 109) X 1 254 (Nat.le_of_ble_eq_true rfl) (Nat.le_of_ble_eq_true rfl) rfl q492 (r32_c rfl) rfl (dl_at t_X25_init 49 rfl) fun a109 h109 p109 k109 l109 E109 => ?_
  have k111 := kx (E102.trans E109) (by decide) k102
  refine r_putrF (pc := 111) X hname fX25_17 k111 q3786 rfl rfl (dl_at t_X25_init 50 rfl)  (fun h111 E111 => ?_)
  refine g_aload_n (pc := 114) X (j := 0) (i := 0) (q := 0) (x := a0) rfl rfl (dl_at t_X25_init 51 rfl) ?_
  refine g_sipush (pc := 115) X (n := 1201) rfl (dl_at t_X25_init 52 rfl) ?_
  refine r_newa (pc := 118) X 1 255 (Nat.le_of_ble_eq_true rfl) (Nat.le_of_ble_eq_true rfl) rfl q492 (r32_c rfl) rfl (dl_at t_X25_init 53 rfl) fun a118 h118 p118 k118 l118 E118 => ?_
  have k120 := kx (E111.trans E118) (by decide) k111
  refine r_putrF (pc := 120) X hname fX25_18 k120 q3788 rfl rfl (dl_at t_X25_init 54 rfl)  (fun h120 E120 => ?_)
  refine g_aload_n (pc := 123) X (j := 0) (i := 0) (q := 0) (x := a0) rfl rfl (dl_at t_X25_init 55 rfl) ?_
  refine g_sipush (pc := 124) X (n := 1200) rfl (dl_at t_X25_init 56 rfl) ?_
  refine r_newa (pc := 127) X 1 256 (Nat.le_of_ble_eq_true rfl) (Nat.le_of_ble_eq_true rfl) rfl q492 (r32_c rfl) rfl (dl_at t_X25_init 57 rfl) fun a127 h127 p127 k127 l127 E127 => ?_
  have k129 := kx (E120.trans E127) (by decide) k120
  refine r_putrF (pc := 129) X hname fX25_19 k129 q3790 rfl rfl (dl_at t_X25_init 58 rfl)  (fun h129 E129 => ?_)
  refine g_aload_n (pc := 132) X (j := 0) (i := 0) (q := 0) (x := a0) rfl rfl (dl_at t_X25_init 59 rfl) ?_
  refine g_sipush (pc := 133) X (n := 1200) rfl (dl_at t_X25_init 60 rfl) ?_
  refine r_newa (pc := 136) X 1 257 (Nat.le_of_ble_eq_true rfl) (Nat.le_of_ble_eq_true rfl) rfl q492 (r32_c rfl) rfl (dl_at t_X25_init 61 rfl) fun a136 h136 p136 k136 l136 E136 => ?_
  have k138 := kx (E129.trans E136) (by decide) k129
  refine r_putrF (pc := 138) X hname fX25_20 k138 q3792 rfl rfl (dl_at t_X25_init 62 rfl)  (fun h138 E138 => ?_)
  refine g_aload_n (pc := 141) X (j := 0) (i := 0) (q := 0) (x := a0) rfl rfl (dl_at t_X25_init 63 rfl) ?_
  refine g_sipush (pc := 142) X (n := 1200) rfl (dl_at t_X25_init 64 rfl) ?_
  refine r_newa (pc := 145) X 4 258 (Nat.le_of_ble_eq_true rfl) (Nat.le_of_ble_eq_true rfl) rfl q978 (r32_c rfl) rfl (dl_at t_X25_init 65 rfl) fun a145 h145 p145 k145 l145 E145 => ?_
  have k147 := kx (E138.trans E145) (by decide) k138
  refine r_putrF (pc := 147) X hname fX25_21 k147 q3793 rfl rfl (dl_at t_X25_init 66 rfl)  (fun h147 E147 => ?_)
  refine g_aload_n (pc := 150) X (j := 0) (i := 0) (q := 0) (x := a0) rfl rfl (dl_at t_X25_init 67 rfl) ?_
  refine g_sipush (pc := 151) X (n := 1200) rfl (dl_at t_X25_init 68 rfl) ?_
  refine r_newa (pc := 154) X 4 259 (Nat.le_of_ble_eq_true rfl) (Nat.le_of_ble_eq_true rfl) rfl q978 (r32_c rfl) rfl (dl_at t_X25_init 69 rfl) fun a154 h154 p154 k154 l154 E154 => ?_
  have k156 := kx (E147.trans E154) (by decide) k147
  refine r_putrF (pc := 156) X hname fX25_22 k156 q3795 rfl rfl (dl_at t_X25_init 70 rfl)  (fun h156 E156 => ?_)
  refine g_aload_n (pc := 159) X (j := 0) (i := 0) (q := 0) (x := a0) rfl rfl (dl_at t_X25_init 71 rfl) ?_
  refine g_sipush (pc := 160) X (n := 25208) rfl (dl_at t_X25_init 72 rfl) ?_
  refine r_newa (pc := 163) X 1 260 (Nat.le_of_ble_eq_true rfl) (Nat.le_of_ble_eq_true rfl) rfl q492 (r32_c rfl) rfl (dl_at t_X25_init 73 rfl) fun a163 h163 p163 k163 l163 E163 => ?_
  have k165 := kx (E156.trans E163) (by decide) k156
  refine r_putrF (pc := 165) X hname fX25_23 k165 q3797 rfl rfl (dl_at t_X25_init 74 rfl)  (fun h165 E165 => ?_)
  refine g_aload_n (pc := 168) X (j := 0) (i := 0) (q := 0) (x := a0) rfl rfl (dl_at t_X25_init 75 rfl) ?_
  refine g_sipush (pc := 169) X (n := 25208) rfl (dl_at t_X25_init 76 rfl) ?_
  refine r_newa (pc := 172) X 1 261 (Nat.le_of_ble_eq_true rfl) (Nat.le_of_ble_eq_true rfl) rfl q492 (r32_c rfl) rfl (dl_at t_X25_init 77 rfl) fun a172 h172 p172 k172 l172 E172 => ?_
  have k174 := kx (E165.trans E172) (by decide) k165
  refine r_putrF (pc := 174) X hname fX25_24 k174 q3798 rfl rfl (dl_at t_X25_init 78 rfl)  (fun h174 E174 => ?_)
  refine g_aload_n (pc := 177) X (j := 0) (i := 0) (q := 0) (x := a0) rfl rfl (dl_at t_X25_init 79 rfl) ?_
  refine g_sipush (pc := 178) X (n := 25208) rfl (dl_at t_X25_init 80 rfl) ?_
  refine r_newa (pc := 181) X 4 262 (Nat.le_of_ble_eq_true rfl) (Nat.le_of_ble_eq_true rfl) rfl q978 (r32_c rfl) rfl (dl_at t_X25_init 81 rfl) fun a181 h181 p181 k181 l181 E181 => ?_
  have k183 := kx (E174.trans E181) (by decide) k174
  refine r_putrF (pc := 183) X hname fX25_25 k183 q3799 rfl rfl (dl_at t_X25_init 82 rfl)  (fun h183 E183 => ?_)
  refine g_aload_n (pc := 186) X (j := 0) (i := 0) (q := 0) (x := a0) rfl rfl (dl_at t_X25_init 83 rfl) ?_
  refine g_sipush (pc := 187) X (n := 25208) rfl (dl_at t_X25_init 84 rfl) ?_
  refine r_newa (pc := 190) X 4 263 (Nat.le_of_ble_eq_true rfl) (Nat.le_of_ble_eq_true rfl) rfl q978 (r32_c rfl) rfl (dl_at t_X25_init 85 rfl) fun a190 h190 p190 k190 l190 E190 => ?_
  have k192 := kx (E183.trans E190) (by decide) k183
  refine r_putrF (pc := 192) X hname fX25_26 k192 q3800 rfl rfl (dl_at t_X25_init 86 rfl)  (fun h192 E192 => ?_)
  refine g_aload_n (pc := 195) X (j := 0) (i := 0) (q := 0) (x := a0) rfl rfl (dl_at t_X25_init 87 rfl) ?_
  refine g_sipush (pc := 196) X (n := 25208) rfl (dl_at t_X25_init 88 rfl) ?_
  refine r_newa (pc := 199) X 4 264 (Nat.le_of_ble_eq_true rfl) (Nat.le_of_ble_eq_true rfl) rfl q978 (r32_c rfl) rfl (dl_at t_X25_init 89 rfl) fun a199 h199 p199 k199 l199 E199 => ?_
  have k201 := kx (E192.trans E199) (by decide) k192
  refine r_putrF (pc := 201) X hname fX25_27 k201 q3801 rfl rfl (dl_at t_X25_init 90 rfl)  (fun h201 E201 => ?_)
  refine g_aload_n (pc := 204) X (j := 0) (i := 0) (q := 0) (x := a0) rfl rfl (dl_at t_X25_init 91 rfl) ?_
  refine g_sipush (pc := 205) X (n := 25208) rfl (dl_at t_X25_init 92 rfl) ?_
  refine r_newa (pc := 208) X 1 265 (Nat.le_of_ble_eq_true rfl) (Nat.le_of_ble_eq_true rfl) rfl q492 (r32_c rfl) rfl (dl_at t_X25_init 93 rfl) fun a208 h208 p208 k208 l208 E208 => ?_
  have k210 := kx (E201.trans E208) (by decide) k201
  refine r_putrF (pc := 210) X hname fX25_28 k210 q3802 rfl rfl (dl_at t_X25_init 94 rfl)  (fun h210 E210 => ?_)
  refine g_aload_n (pc := 213) X (j := 0) (i := 0) (q := 0) (x := a0) rfl rfl (dl_at t_X25_init 95 rfl) ?_
  refine g_sipush (pc := 214) X (n := 25208) rfl (dl_at t_X25_init 96 rfl) ?_
  refine r_newa (pc := 217) X 1 266 (Nat.le_of_ble_eq_true rfl) (Nat.le_of_ble_eq_true rfl) rfl q492 (r32_c rfl) rfl (dl_at t_X25_init 97 rfl) fun a217 h217 p217 k217 l217 E217 => ?_
  have k219 := kx (E210.trans E217) (by decide) k210
  refine r_putrF (pc := 219) X hname fX25_29 k219 q3804 rfl rfl (dl_at t_X25_init 98 rfl)  (fun h219 E219 => ?_)
  refine g_aload_n (pc := 222) X (j := 0) (i := 0) (q := 0) (x := a0) rfl rfl (dl_at t_X25_init 99 rfl) ?_
  refine g_sipush (pc := 223) X (n := 1700) rfl (dl_at t_X25_init 100 rfl) ?_
  refine r_newa (pc := 226) X 1 267 (Nat.le_of_ble_eq_true rfl) (Nat.le_of_ble_eq_true rfl) rfl q492 (r32_c rfl) rfl (dl_at t_X25_init 101 rfl) fun a226 h226 p226 k226 l226 E226 => ?_
  have k228 := kx (E219.trans E226) (by decide) k219
  refine r_putrF (pc := 228) X hname fX25_31 k228 q3807 rfl rfl (dl_at t_X25_init 102 rfl)  (fun h228 E228 => ?_)
  refine g_aload_n (pc := 231) X (j := 0) (i := 0) (q := 0) (x := a0) rfl rfl (dl_at t_X25_init 103 rfl) ?_
  refine g_sipush (pc := 232) X (n := 1700) rfl (dl_at t_X25_init 104 rfl) ?_
  refine r_newa (pc := 235) X 1 268 (Nat.le_of_ble_eq_true rfl) (Nat.le_of_ble_eq_true rfl) rfl q492 (r32_c rfl) rfl (dl_at t_X25_init 105 rfl) fun a235 h235 p235 k235 l235 E235 => ?_
  have k237 := kx (E228.trans E235) (by decide) k228
  refine r_putrF (pc := 237) X hname fX25_32 k237 q3808 rfl rfl (dl_at t_X25_init 106 rfl)  (fun h237 E237 => ?_)
  refine g_aload_n (pc := 240) X (j := 0) (i := 0) (q := 0) (x := a0) rfl rfl (dl_at t_X25_init 107 rfl) ?_
  refine g_sipush (pc := 241) X (n := 1700) rfl (dl_at t_X25_init 108 rfl) ?_
  refine r_newa (pc := 244) X 1 269 (Nat.le_of_ble_eq_true rfl) (Nat.le_of_ble_eq_true rfl) rfl q492 (r32_c rfl) rfl (dl_at t_X25_init 109 rfl) fun a244 h244 p244 k244 l244 E244 => ?_
  have k246 := kx (E237.trans E244) (by decide) k237
  refine r_putrF (pc := 246) X hname fX25_33 k246 q3809 rfl rfl (dl_at t_X25_init 110 rfl)  (fun h246 E246 => ?_)
  refine g_aload_n (pc := 249) X (j := 0) (i := 0) (q := 0) (x := a0) rfl rfl (dl_at t_X25_init 111 rfl) ?_
  refine g_sipush (pc := 250) X (n := 4000) rfl (dl_at t_X25_init 112 rfl) ?_
  refine r_newa (pc := 253) X 1 270 (Nat.le_of_ble_eq_true rfl) (Nat.le_of_ble_eq_true rfl) rfl q492 (r32_c rfl) rfl (dl_at t_X25_init 113 rfl) fun a253 h253 p253 k253 l253 E253 => ?_
  have k255 := kx (E246.trans E253) (by decide) k246
  refine r_putrF (pc := 255) X hname fX25_34 k255 q3810 rfl rfl (dl_at t_X25_init 114 rfl)  (fun h255 E255 => ?_)
  refine g_aload_n (pc := 258) X (j := 0) (i := 0) (q := 0) (x := a0) rfl rfl (dl_at t_X25_init 115 rfl) ?_
  refine g_sipush (pc := 259) X (n := 500) rfl (dl_at t_X25_init 116 rfl) ?_
  refine r_newa (pc := 262) X 1 271 (Nat.le_of_ble_eq_true rfl) (Nat.le_of_ble_eq_true rfl) rfl q492 (r32_c rfl) rfl (dl_at t_X25_init 117 rfl) fun a262 h262 p262 k262 l262 E262 => ?_
  have k264 := kx (E255.trans E262) (by decide) k255
  refine r_putrF (pc := 264) X hname fX25_35 k264 q3812 rfl rfl (dl_at t_X25_init 118 rfl)  (fun h264 E264 => ?_)
  refine g_aload_n (pc := 267) X (j := 0) (i := 0) (q := 0) (x := a0) rfl rfl (dl_at t_X25_init 119 rfl) ?_
  refine g_sipush (pc := 268) X (n := 500) rfl (dl_at t_X25_init 120 rfl) ?_
  refine r_newa (pc := 271) X 1 272 (Nat.le_of_ble_eq_true rfl) (Nat.le_of_ble_eq_true rfl) rfl q492 (r32_c rfl) rfl (dl_at t_X25_init 121 rfl) fun a271 h271 p271 k271 l271 E271 => ?_
  have k273 := kx (E264.trans E271) (by decide) k264
  refine r_putrF (pc := 273) X hname fX25_36 k273 q3813 rfl rfl (dl_at t_X25_init 122 rfl)  (fun h273 E273 => ?_)
  refine g_aload_n (pc := 276) X (j := 0) (i := 0) (q := 0) (x := a0) rfl rfl (dl_at t_X25_init 123 rfl) ?_
  refine g_sipush (pc := 277) X (n := 500) rfl (dl_at t_X25_init 124 rfl) ?_
  refine r_newa (pc := 280) X 1 273 (Nat.le_of_ble_eq_true rfl) (Nat.le_of_ble_eq_true rfl) rfl q492 (r32_c rfl) rfl (dl_at t_X25_init 125 rfl) fun a280 h280 p280 k280 l280 E280 => ?_
  have k282 := kx (E273.trans E280) (by decide) k273
  refine r_putrF (pc := 282) X hname fX25_37 k282 q3815 rfl rfl (dl_at t_X25_init 126 rfl)  (fun h282 E282 => ?_)
  refine g_aload_n (pc := 285) X (j := 0) (i := 0) (q := 0) (x := a0) rfl rfl (dl_at t_X25_init 127 rfl) ?_
  refine g_sipush (pc := 286) X (n := 500) rfl (dl_at t_X25_init 128 rfl) ?_
  refine r_newa (pc := 289) X 3 274 (Nat.le_of_ble_eq_true rfl) (Nat.le_of_ble_eq_true rfl) rfl q635 (r32_c rfl) rfl (dl_at t_X25_init 129 rfl) fun a289 h289 p289 k289 l289 E289 => ?_
  have k291 := kx (E282.trans E289) (by decide) k282
  refine r_putrF (pc := 291) X hname fX25_38 k291 q3816 rfl rfl (dl_at t_X25_init 130 rfl)  (fun h291 E291 => ?_)
  refine g_aload_n (pc := 294) X (j := 0) (i := 0) (q := 0) (x := a0) rfl rfl (dl_at t_X25_init 131 rfl) ?_
  refine g_sipush (pc := 295) X (n := 4000) rfl (dl_at t_X25_init 132 rfl) ?_
  refine r_newa (pc := 298) X 4 275 (Nat.le_of_ble_eq_true rfl) (Nat.le_of_ble_eq_true rfl) rfl q978 (r32_c rfl) rfl (dl_at t_X25_init 133 rfl) fun a298 h298 p298 k298 l298 E298 => ?_
  have k300 := kx (E291.trans E298) (by decide) k291
  refine r_putrF (pc := 300) X hname fX25_39 k300 q3817 rfl rfl (dl_at t_X25_init 134 rfl)  (fun h300 E300 => ?_)
  refine g_aload_n (pc := 303) X (j := 0) (i := 0) (q := 0) (x := a0) rfl rfl (dl_at t_X25_init 135 rfl) ?_
  refine g_bipush (pc := 304) X (n := 8) rfl (dl_at t_X25_init 136 rfl) ?_
  refine r_newa (pc := 306) X 4 276 (Nat.le_of_ble_eq_true rfl) (Nat.le_of_ble_eq_true rfl) rfl q978 (r32_c rfl) rfl (dl_at t_X25_init 137 rfl) fun a306 h306 p306 k306 l306 E306 => ?_
  have k308 := kx (E300.trans E306) (by decide) k300
  refine r_putrF (pc := 308) X hname fX25_40 k308 q3818 rfl rfl (dl_at t_X25_init 138 rfl)  (fun h308 E308 => ?_)
  refine g_aload_n (pc := 311) X (j := 0) (i := 0) (q := 0) (x := a0) rfl rfl (dl_at t_X25_init 139 rfl) ?_
  refine g_bipush (pc := 312) X (n := 8) rfl (dl_at t_X25_init 140 rfl) ?_
  refine r_newa (pc := 314) X 4 277 (Nat.le_of_ble_eq_true rfl) (Nat.le_of_ble_eq_true rfl) rfl q978 (r32_c rfl) rfl (dl_at t_X25_init 141 rfl) fun a314 h314 p314 k314 l314 E314 => ?_
  have k316 := kx (E308.trans E314) (by decide) k308
  refine r_putrF (pc := 316) X hname fX25_41 k316 q3819 rfl rfl (dl_at t_X25_init 142 rfl)  (fun h316 E316 => ?_)
  refine g_aload_n (pc := 319) X (j := 0) (i := 0) (q := 0) (x := a0) rfl rfl (dl_at t_X25_init 143 rfl) ?_
  refine g_sipush (pc := 320) X (n := 1500) rfl (dl_at t_X25_init 144 rfl) ?_
  refine r_newa (pc := 323) X 1 278 (Nat.le_of_ble_eq_true rfl) (Nat.le_of_ble_eq_true rfl) rfl q492 (r32_c rfl) rfl (dl_at t_X25_init 145 rfl) fun a323 h323 p323 k323 l323 E323 => ?_
  have k325 := kx (E316.trans E323) (by decide) k316
  refine r_putrF (pc := 325) X hname fX25_43 k325 q3822 rfl rfl (dl_at t_X25_init 146 rfl)  (fun h325 E325 => ?_)
  refine g_aload_n (pc := 328) X (j := 0) (i := 0) (q := 0) (x := a0) rfl rfl (dl_at t_X25_init 147 rfl) ?_
  refine g_sipush (pc := 329) X (n := 1500) rfl (dl_at t_X25_init 148 rfl) ?_
  refine r_newa (pc := 332) X 1 279 (Nat.le_of_ble_eq_true rfl) (Nat.le_of_ble_eq_true rfl) rfl q492 (r32_c rfl) rfl (dl_at t_X25_init 149 rfl) fun a332 h332 p332 k332 l332 E332 => ?_
  have k334 := kx (E325.trans E332) (by decide) k325
  refine r_putrF (pc := 334) X hname fX25_44 k334 q3824 rfl rfl (dl_at t_X25_init 150 rfl)  (fun h334 E334 => ?_)
  refine g_aload_n (pc := 337) X (j := 0) (i := 0) (q := 0) (x := a0) rfl rfl (dl_at t_X25_init 151 rfl) ?_
  refine g_sipush (pc := 338) X (n := 1500) rfl (dl_at t_X25_init 152 rfl) ?_
  refine r_newa (pc := 341) X 1 280 (Nat.le_of_ble_eq_true rfl) (Nat.le_of_ble_eq_true rfl) rfl q492 (r32_c rfl) rfl (dl_at t_X25_init 153 rfl) fun a341 h341 p341 k341 l341 E341 => ?_
  have k343 := kx (E334.trans E341) (by decide) k334
  refine r_putrF (pc := 343) X hname fX25_45 k343 q3826 rfl rfl (dl_at t_X25_init 154 rfl)  (fun h343 E343 => ?_)
  refine g_aload_n (pc := 346) X (j := 0) (i := 0) (q := 0) (x := a0) rfl rfl (dl_at t_X25_init 155 rfl) ?_
  refine g_sipush (pc := 347) X (n := 1500) rfl (dl_at t_X25_init 156 rfl) ?_
  refine r_newa (pc := 350) X 1 281 (Nat.le_of_ble_eq_true rfl) (Nat.le_of_ble_eq_true rfl) rfl q492 (r32_c rfl) rfl (dl_at t_X25_init 157 rfl) fun a350 h350 p350 k350 l350 E350 => ?_
  have k352 := kx (E343.trans E350) (by decide) k343
  refine r_putrF (pc := 352) X hname fX25_46 k352 q3828 rfl rfl (dl_at t_X25_init 158 rfl)  (fun h352 E352 => ?_)
  refine g_aload_n (pc := 355) X (j := 0) (i := 0) (q := 0) (x := a0) rfl rfl (dl_at t_X25_init 159 rfl) ?_
  refine g_sipush (pc := 356) X (n := 1500) rfl (dl_at t_X25_init 160 rfl) ?_
  refine r_newa (pc := 359) X 1 282 (Nat.le_of_ble_eq_true rfl) (Nat.le_of_ble_eq_true rfl) rfl q492 (r32_c rfl) rfl (dl_at t_X25_init 161 rfl) fun a359 h359 p359 k359 l359 E359 => ?_
  have k361 := kx (E352.trans E359) (by decide) k352
  refine r_putrF (pc := 361) X hname fX25_47 k361 q3829 rfl rfl (dl_at t_X25_init 162 rfl)  (fun h361 E361 => ?_)
  refine g_aload_n (pc := 364) X (j := 0) (i := 0) (q := 0) (x := a0) rfl rfl (dl_at t_X25_init 163 rfl) ?_
  refine g_sipush (pc := 365) X (n := 1500) rfl (dl_at t_X25_init 164 rfl) ?_
  refine r_newa (pc := 368) X 1 283 (Nat.le_of_ble_eq_true rfl) (Nat.le_of_ble_eq_true rfl) rfl q492 (r32_c rfl) rfl (dl_at t_X25_init 165 rfl) fun a368 h368 p368 k368 l368 E368 => ?_
  have k370 := kx (E361.trans E368) (by decide) k361
  refine r_putrF (pc := 370) X hname fX25_48 k370 q3830 rfl rfl (dl_at t_X25_init 166 rfl)  (fun h370 E370 => ?_)
  refine g_aload_n (pc := 373) X (j := 0) (i := 0) (q := 0) (x := a0) rfl rfl (dl_at t_X25_init 167 rfl) ?_
  refine g_sipush (pc := 374) X (n := 1500) rfl (dl_at t_X25_init 168 rfl) ?_
  refine r_newa (pc := 377) X 1 284 (Nat.le_of_ble_eq_true rfl) (Nat.le_of_ble_eq_true rfl) rfl q492 (r32_c rfl) rfl (dl_at t_X25_init 169 rfl) fun a377 h377 p377 k377 l377 E377 => ?_
  have k379 := kx (E370.trans E377) (by decide) k370
  refine r_putrF (pc := 379) X hname fX25_49 k379 q3832 rfl rfl (dl_at t_X25_init 170 rfl)  (fun h379 E379 => ?_)
  refine g_aload_n (pc := 382) X (j := 0) (i := 0) (q := 0) (x := a0) rfl rfl (dl_at t_X25_init 171 rfl) ?_
  refine g_sipush (pc := 383) X (n := 1500) rfl (dl_at t_X25_init 172 rfl) ?_
  refine r_newa (pc := 386) X 1 285 (Nat.le_of_ble_eq_true rfl) (Nat.le_of_ble_eq_true rfl) rfl q492 (r32_c rfl) rfl (dl_at t_X25_init 173 rfl) fun a386 h386 p386 k386 l386 E386 => ?_
  have k388 := kx (E379.trans E386) (by decide) k379
  refine r_putrF (pc := 388) X hname fX25_50 k388 q3834 rfl rfl (dl_at t_X25_init 174 rfl)  (fun h388 E388 => ?_)
  refine g_aload_n (pc := 391) X (j := 0) (i := 0) (q := 0) (x := a0) rfl rfl (dl_at t_X25_init 175 rfl) ?_
  refine g_sipush (pc := 392) X (n := 1500) rfl (dl_at t_X25_init 176 rfl) ?_
  refine r_newa (pc := 395) X 3 286 (Nat.le_of_ble_eq_true rfl) (Nat.le_of_ble_eq_true rfl) rfl q635 (r32_c rfl) rfl (dl_at t_X25_init 177 rfl) fun a395 h395 p395 k395 l395 E395 => ?_
  have k397 := kx (E388.trans E395) (by decide) k388
  refine r_putrF (pc := 397) X hname fX25_51 k397 q3835 rfl rfl (dl_at t_X25_init 178 rfl)  (fun h397 E397 => ?_)
  refine g_aload_n (pc := 400) X (j := 0) (i := 0) (q := 0) (x := a0) rfl rfl (dl_at t_X25_init 179 rfl) ?_
  refine g_sipush (pc := 401) X (n := 1500) rfl (dl_at t_X25_init 180 rfl) ?_
  refine r_newa (pc := 404) X 4 287 (Nat.le_of_ble_eq_true rfl) (Nat.le_of_ble_eq_true rfl) rfl q978 (r32_c rfl) rfl (dl_at t_X25_init 181 rfl) fun a404 h404 p404 k404 l404 E404 => ?_
  have k406 := kx (E397.trans E404) (by decide) k397
  refine r_putrF (pc := 406) X hname fX25_52 k406 q3836 rfl rfl (dl_at t_X25_init 182 rfl)  (fun h406 E406 => ?_)
  refine g_aload_n (pc := 409) X (j := 0) (i := 0) (q := 0) (x := a0) rfl rfl (dl_at t_X25_init 183 rfl) ?_
  refine g_bipush (pc := 410) X (n := 120) rfl (dl_at t_X25_init 184 rfl) ?_
  refine r_newa (pc := 412) X 1 288 (Nat.le_of_ble_eq_true rfl) (Nat.le_of_ble_eq_true rfl) rfl q492 (r32_c rfl) rfl (dl_at t_X25_init 185 rfl) fun a412 h412 p412 k412 l412 E412 => ?_
  have k414 := kx (E406.trans E412) (by decide) k406
  refine r_putrF (pc := 414) X hname fX25_55 k414 q3842 rfl rfl (dl_at t_X25_init 186 rfl)  (fun h414 E414 => ?_)
  refine g_aload_n (pc := 417) X (j := 0) (i := 0) (q := 0) (x := a0) rfl rfl (dl_at t_X25_init 187 rfl) ?_
  refine g_bipush (pc := 418) X (n := 120) rfl (dl_at t_X25_init 188 rfl) ?_
  refine r_newa (pc := 420) X 1 289 (Nat.le_of_ble_eq_true rfl) (Nat.le_of_ble_eq_true rfl) rfl q492 (r32_c rfl) rfl (dl_at t_X25_init 189 rfl) fun a420 h420 p420 k420 l420 E420 => ?_
  have k422 := kx (E414.trans E420) (by decide) k414
  refine r_putrF (pc := 422) X hname fX25_56 k422 q3844 rfl rfl (dl_at t_X25_init 190 rfl)  (fun h422 E422 => ?_)
  refine g_aload_n (pc := 425) X (j := 0) (i := 0) (q := 0) (x := a0) rfl rfl (dl_at t_X25_init 191 rfl) ?_
  refine g_bipush (pc := 426) X (n := 120) rfl (dl_at t_X25_init 192 rfl) ?_
  refine r_newa (pc := 428) X 1 290 (Nat.le_of_ble_eq_true rfl) (Nat.le_of_ble_eq_true rfl) rfl q492 (r32_c rfl) rfl (dl_at t_X25_init 193 rfl) fun a428 h428 p428 k428 l428 E428 => ?_
  have k430 := kx (E422.trans E428) (by decide) k422
  refine r_putrF (pc := 430) X hname fX25_57 k430 q3846 rfl rfl (dl_at t_X25_init 194 rfl)  (fun h430 E430 => ?_)
  refine g_aload_n (pc := 433) X (j := 0) (i := 0) (q := 0) (x := a0) rfl rfl (dl_at t_X25_init 195 rfl) ?_
  refine g_bipush (pc := 434) X (n := 120) rfl (dl_at t_X25_init 196 rfl) ?_
  refine r_newa (pc := 436) X 1 291 (Nat.le_of_ble_eq_true rfl) (Nat.le_of_ble_eq_true rfl) rfl q492 (r32_c rfl) rfl (dl_at t_X25_init 197 rfl) fun a436 h436 p436 k436 l436 E436 => ?_
  have k438 := kx (E430.trans E436) (by decide) k430
  refine r_putrF (pc := 438) X hname fX25_58 k438 q3848 rfl rfl (dl_at t_X25_init 198 rfl)  (fun h438 E438 => ?_)
  refine g_aload_n (pc := 441) X (j := 0) (i := 0) (q := 0) (x := a0) rfl rfl (dl_at t_X25_init 199 rfl) ?_
  refine g_bipush (pc := 442) X (n := 120) rfl (dl_at t_X25_init 200 rfl) ?_
  refine r_newa (pc := 444) X 1 292 (Nat.le_of_ble_eq_true rfl) (Nat.le_of_ble_eq_true rfl) rfl q492 (r32_c rfl) rfl (dl_at t_X25_init 201 rfl) fun a444 h444 p444 k444 l444 E444 => ?_
  have k446 := kx (E438.trans E444) (by decide) k438
  refine r_putrF (pc := 446) X hname fX25_59 k446 q3850 rfl rfl (dl_at t_X25_init 202 rfl)  (fun h446 E446 => ?_)
  refine g_aload_n (pc := 449) X (j := 0) (i := 0) (q := 0) (x := a0) rfl rfl (dl_at t_X25_init 203 rfl) ?_
  refine g_bipush (pc := 450) X (n := 40) rfl (dl_at t_X25_init 204 rfl) ?_
  refine r_newa (pc := 452) X 1 293 (Nat.le_of_ble_eq_true rfl) (Nat.le_of_ble_eq_true rfl) rfl q492 (r32_c rfl) rfl (dl_at t_X25_init 205 rfl) fun a452 h452 p452 k452 l452 E452 => ?_
  have k454 := kx (E446.trans E452) (by decide) k446
  refine r_putrF (pc := 454) X hname fX25_60 k454 q3852 rfl rfl (dl_at t_X25_init 206 rfl)  (fun h454 E454 => ?_)
  refine g_aload_n (pc := 457) X (j := 0) (i := 0) (q := 0) (x := a0) rfl rfl (dl_at t_X25_init 207 rfl) ?_
  refine g_bipush (pc := 458) X (n := 40) rfl (dl_at t_X25_init 208 rfl) ?_
  refine r_newa (pc := 460) X 1 294 (Nat.le_of_ble_eq_true rfl) (Nat.le_of_ble_eq_true rfl) rfl q492 (r32_c rfl) rfl (dl_at t_X25_init 209 rfl) fun a460 h460 p460 k460 l460 E460 => ?_
  have k462 := kx (E454.trans E460) (by decide) k454
  refine r_putrF (pc := 462) X hname fX25_61 k462 q3854 rfl rfl (dl_at t_X25_init 210 rfl)  (fun h462 E462 => ?_)
  refine g_aload_n (pc := 465) X (j := 0) (i := 0) (q := 0) (x := a0) rfl rfl (dl_at t_X25_init 211 rfl) ?_
  refine g_bipush (pc := 466) X (n := 40) rfl (dl_at t_X25_init 212 rfl) ?_
  refine r_newa (pc := 468) X 1 295 (Nat.le_of_ble_eq_true rfl) (Nat.le_of_ble_eq_true rfl) rfl q492 (r32_c rfl) rfl (dl_at t_X25_init 213 rfl) fun a468 h468 p468 k468 l468 E468 => ?_
  have k470 := kx (E462.trans E468) (by decide) k462
  refine r_putrF (pc := 470) X hname fX25_62 k470 q3856 rfl rfl (dl_at t_X25_init 214 rfl)  (fun h470 E470 => ?_)
  refine g_aload_n (pc := 473) X (j := 0) (i := 0) (q := 0) (x := a0) rfl rfl (dl_at t_X25_init 215 rfl) ?_
  refine g_bipush (pc := 474) X (n := 120) rfl (dl_at t_X25_init 216 rfl) ?_
  refine r_newa (pc := 476) X 4 296 (Nat.le_of_ble_eq_true rfl) (Nat.le_of_ble_eq_true rfl) rfl q978 (r32_c rfl) rfl (dl_at t_X25_init 217 rfl) fun a476 h476 p476 k476 l476 E476 => ?_
  have k478 := kx (E470.trans E476) (by decide) k470
  refine r_putrF (pc := 478) X hname fX25_63 k478 q3858 rfl rfl (dl_at t_X25_init 218 rfl)  (fun h478 E478 => ?_)
  refine g_aload_n (pc := 481) X (j := 0) (i := 0) (q := 0) (x := a0) rfl rfl (dl_at t_X25_init 219 rfl) ?_
  refine g_bipush (pc := 482) X (n := 40) rfl (dl_at t_X25_init 220 rfl) ?_
  refine r_newa (pc := 484) X 4 297 (Nat.le_of_ble_eq_true rfl) (Nat.le_of_ble_eq_true rfl) rfl q978 (r32_c rfl) rfl (dl_at t_X25_init 221 rfl) fun a484 h484 p484 k484 l484 E484 => ?_
  have k486 := kx (E478.trans E484) (by decide) k478
  refine r_putrF (pc := 486) X hname fX25_64 k486 q3860 rfl rfl (dl_at t_X25_init 222 rfl)  (fun h486 E486 => ?_)
  refine g_aload_n (pc := 489) X (j := 0) (i := 0) (q := 0) (x := a0) rfl rfl (dl_at t_X25_init 223 rfl) ?_
  refine g_sipush (pc := 490) X (n := 500) rfl (dl_at t_X25_init 224 rfl) ?_
  refine r_newa (pc := 493) X 1 298 (Nat.le_of_ble_eq_true rfl) (Nat.le_of_ble_eq_true rfl) rfl q492 (r32_c rfl) rfl (dl_at t_X25_init 225 rfl) fun a493 h493 p493 k493 l493 E493 => ?_
  have k495 := kx (E486.trans E493) (by decide) k486
  refine r_putrF (pc := 495) X hname fX25_65 k495 q3862 rfl rfl (dl_at t_X25_init 226 rfl)  (fun h495 E495 => ?_)
  refine g_aload_n (pc := 498) X (j := 0) (i := 0) (q := 0) (x := a0) rfl rfl (dl_at t_X25_init 227 rfl) ?_
  refine g_sipush (pc := 499) X (n := 301) rfl (dl_at t_X25_init 228 rfl) ?_
  refine r_newa (pc := 502) X 1 299 (Nat.le_of_ble_eq_true rfl) (Nat.le_of_ble_eq_true rfl) rfl q492 (r32_c rfl) rfl (dl_at t_X25_init 229 rfl) fun a502 h502 p502 k502 l502 E502 => ?_
  have k504 := kx (E495.trans E502) (by decide) k495
  refine r_putrF (pc := 504) X hname fX25_67 k504 q3865 rfl rfl (dl_at t_X25_init 230 rfl)  (fun h504 E504 => ?_)
  refine g_aload_n (pc := 507) X (j := 0) (i := 0) (q := 0) (x := a0) rfl rfl (dl_at t_X25_init 231 rfl) ?_
  refine g_sipush (pc := 508) X (n := 301) rfl (dl_at t_X25_init 232 rfl) ?_
  refine r_newa (pc := 511) X 1 300 (Nat.le_of_ble_eq_true rfl) (Nat.le_of_ble_eq_true rfl) rfl q492 (r32_c rfl) rfl (dl_at t_X25_init 233 rfl) fun a511 h511 p511 k511 l511 E511 => ?_
  have k513 := kx (E504.trans E511) (by decide) k504
  refine r_putrF (pc := 513) X hname fX25_68 k513 q3866 rfl rfl (dl_at t_X25_init 234 rfl)  (fun h513 E513 => ?_)
  refine g_aload_n (pc := 516) X (j := 0) (i := 0) (q := 0) (x := a0) rfl rfl (dl_at t_X25_init 235 rfl) ?_
  refine g_sipush (pc := 517) X (n := 500) rfl (dl_at t_X25_init 236 rfl) ?_
  refine r_newa (pc := 520) X 1 301 (Nat.le_of_ble_eq_true rfl) (Nat.le_of_ble_eq_true rfl) rfl q492 (r32_c rfl) rfl (dl_at t_X25_init 237 rfl) fun a520 h520 p520 k520 l520 E520 => ?_
  have k522 := kx (E513.trans E520) (by decide) k513
  refine r_putrF (pc := 522) X hname fX25_69 k522 q3867 rfl rfl (dl_at t_X25_init 238 rfl)  (fun h522 E522 => ?_)
  refine g_aload_n (pc := 525) X (j := 0) (i := 0) (q := 0) (x := a0) rfl rfl (dl_at t_X25_init 239 rfl) ?_
  refine g_sipush (pc := 526) X (n := 301) rfl (dl_at t_X25_init 240 rfl) ?_
  refine r_newa (pc := 529) X 1 302 (Nat.le_of_ble_eq_true rfl) (Nat.le_of_ble_eq_true rfl) rfl q492 (r32_c rfl) rfl (dl_at t_X25_init 241 rfl) fun a529 h529 p529 k529 l529 E529 => ?_
  have k531 := kx (E522.trans E529) (by decide) k522
  refine r_putrF (pc := 531) X hname fX25_70 k531 q3868 rfl rfl (dl_at t_X25_init 242 rfl)  (fun h531 E531 => ?_)
  refine g_aload_n (pc := 534) X (j := 0) (i := 0) (q := 0) (x := a0) rfl rfl (dl_at t_X25_init 243 rfl) ?_
  refine g_sipush (pc := 535) X (n := 301) rfl (dl_at t_X25_init 244 rfl) ?_
  refine r_newa (pc := 538) X 3 303 (Nat.le_of_ble_eq_true rfl) (Nat.le_of_ble_eq_true rfl) rfl q635 (r32_c rfl) rfl (dl_at t_X25_init 245 rfl) fun a538 h538 p538 k538 l538 E538 => ?_
  have k540 := kx (E531.trans E538) (by decide) k531
  refine r_putrF (pc := 540) X hname fX25_71 k540 q3869 rfl rfl (dl_at t_X25_init 246 rfl)  (fun h540 E540 => ?_)
  refine g_aload_n (pc := 543) X (j := 0) (i := 0) (q := 0) (x := a0) rfl rfl (dl_at t_X25_init 247 rfl) ?_
  refine g_sipush (pc := 544) X (n := 12382) rfl (dl_at t_X25_init 248 rfl) ?_
  refine r_newa (pc := 547) X 2 304 (Nat.le_of_ble_eq_true rfl) (Nat.le_of_ble_eq_true rfl) rfl q449 (r32_c rfl) rfl (dl_at t_X25_init 249 rfl) fun a547 h547 p547 k547 l547 E547 => ?_
  have k549 := kx (E540.trans E547) (by decide) k540
  refine r_putrF (pc := 549) X hname fX25_72 k549 q3870 rfl rfl (dl_at t_X25_init 250 rfl)  (fun h549 E549 => ?_)
  refine g_aload_n (pc := 552) X (j := 0) (i := 0) (q := 0) (x := a0) rfl rfl (dl_at t_X25_init 251 rfl) ?_
  refine g_sipush (pc := 553) X (n := 500) rfl (dl_at t_X25_init 252 rfl) ?_
  refine r_newa (pc := 556) X 1 305 (Nat.le_of_ble_eq_true rfl) (Nat.le_of_ble_eq_true rfl) rfl q492 (r32_c rfl) rfl (dl_at t_X25_init 253 rfl) fun a556 h556 p556 k556 l556 E556 => ?_
  have k558 := kx (E549.trans E556) (by decide) k549
  refine r_putrF (pc := 558) X hname fX25_74 k558 q3872 rfl rfl (dl_at t_X25_init 254 rfl)  (fun h558 E558 => ?_)
  refine g_aload_n (pc := 561) X (j := 0) (i := 0) (q := 0) (x := a0) rfl rfl (dl_at t_X25_init 255 rfl) ?_
  refine g_sipush (pc := 562) X (n := 500) rfl (dl_at t_X25_init 256 rfl) ?_
  refine r_newa (pc := 565) X 1 306 (Nat.le_of_ble_eq_true rfl) (Nat.le_of_ble_eq_true rfl) rfl q492 (r32_c rfl) rfl (dl_at t_X25_init 257 rfl) fun a565 h565 p565 k565 l565 E565 => ?_
  have k567 := kx (E558.trans E565) (by decide) k558
  refine r_putrF (pc := 567) X hname fX25_75 k567 q3873 rfl rfl (dl_at t_X25_init 258 rfl)  (fun h567 E567 => ?_)
  refine g_aload_n (pc := 570) X (j := 0) (i := 0) (q := 0) (x := a0) rfl rfl (dl_at t_X25_init 259 rfl) ?_
  refine g_sipush (pc := 571) X (n := 500) rfl (dl_at t_X25_init 260 rfl) ?_
  refine r_newa (pc := 574) X 1 307 (Nat.le_of_ble_eq_true rfl) (Nat.le_of_ble_eq_true rfl) rfl q492 (r32_c rfl) rfl (dl_at t_X25_init 261 rfl) fun a574 h574 p574 k574 l574 E574 => ?_
  have k576 := kx (E567.trans E574) (by decide) k567
  refine r_putrF (pc := 576) X hname fX25_76 k576 q3874 rfl rfl (dl_at t_X25_init 262 rfl)  (fun h576 E576 => ?_)
  refine g_aload_n (pc := 579) X (j := 0) (i := 0) (q := 0) (x := a0) rfl rfl (dl_at t_X25_init 263 rfl) ?_
  refine g_sipush (pc := 580) X (n := 500) rfl (dl_at t_X25_init 264 rfl) ?_
  refine r_newa (pc := 583) X 1 308 (Nat.le_of_ble_eq_true rfl) (Nat.le_of_ble_eq_true rfl) rfl q492 (r32_c rfl) rfl (dl_at t_X25_init 265 rfl) fun a583 h583 p583 k583 l583 E583 => ?_
  have k585 := kx (E576.trans E583) (by decide) k576
  refine r_putrF (pc := 585) X hname fX25_77 k585 q3875 rfl rfl (dl_at t_X25_init 266 rfl)  (fun h585 E585 => ?_)
  refine g_aload_n (pc := 588) X (j := 0) (i := 0) (q := 0) (x := a0) rfl rfl (dl_at t_X25_init 267 rfl) ?_
  refine g_sipush (pc := 589) X (n := 500) rfl (dl_at t_X25_init 268 rfl) ?_
  refine r_newa (pc := 592) X 1 309 (Nat.le_of_ble_eq_true rfl) (Nat.le_of_ble_eq_true rfl) rfl q492 (r32_c rfl) rfl (dl_at t_X25_init 269 rfl) fun a592 h592 p592 k592 l592 E592 => ?_
  have k594 := kx (E585.trans E592) (by decide) k585
  refine r_putrF (pc := 594) X hname fX25_78 k594 q3877 rfl rfl (dl_at t_X25_init 270 rfl)  (fun h594 E594 => ?_)
  refine g_aload_n (pc := 597) X (j := 0) (i := 0) (q := 0) (x := a0) rfl rfl (dl_at t_X25_init 271 rfl) ?_
  refine g_sipush (pc := 598) X (n := 24008) rfl (dl_at t_X25_init 272 rfl) ?_
  refine r_newa (pc := 601) X 1 310 (Nat.le_of_ble_eq_true rfl) (Nat.le_of_ble_eq_true rfl) rfl q492 (r32_c rfl) rfl (dl_at t_X25_init 273 rfl) fun a601 h601 p601 k601 l601 E601 => ?_
  have k603 := kx (E594.trans E601) (by decide) k594
  refine r_putrF (pc := 603) X hname fX25_79 k603 q3879 rfl rfl (dl_at t_X25_init 274 rfl)  (fun h603 E603 => ?_)
  refine g_aload_n (pc := 606) X (j := 0) (i := 0) (q := 0) (x := a0) rfl rfl (dl_at t_X25_init 275 rfl) ?_
  refine g_sipush (pc := 607) X (n := 500) rfl (dl_at t_X25_init 276 rfl) ?_
  refine r_newa (pc := 610) X 1 311 (Nat.le_of_ble_eq_true rfl) (Nat.le_of_ble_eq_true rfl) rfl q492 (r32_c rfl) rfl (dl_at t_X25_init 277 rfl) fun a610 h610 p610 k610 l610 E610 => ?_
  have k612 := kx (E603.trans E610) (by decide) k603
  refine r_putrF (pc := 612) X hname fX25_80 k612 q3880 rfl rfl (dl_at t_X25_init 278 rfl)  (fun h612 E612 => ?_)
  refine g_aload_n (pc := 615) X (j := 0) (i := 0) (q := 0) (x := a0) rfl rfl (dl_at t_X25_init 279 rfl) ?_
  refine g_sipush (pc := 616) X (n := 500) rfl (dl_at t_X25_init 280 rfl) ?_
  refine r_newa (pc := 619) X 1 312 (Nat.le_of_ble_eq_true rfl) (Nat.le_of_ble_eq_true rfl) rfl q492 (r32_c rfl) rfl (dl_at t_X25_init 281 rfl) fun a619 h619 p619 k619 l619 E619 => ?_
  have k621 := kx (E612.trans E619) (by decide) k612
  refine r_putrF (pc := 621) X hname fX25_81 k621 q3881 rfl rfl (dl_at t_X25_init 282 rfl)  (fun h621 E621 => ?_)
  refine g_aload_n (pc := 624) X (j := 0) (i := 0) (q := 0) (x := a0) rfl rfl (dl_at t_X25_init 283 rfl) ?_
  refine g_sipush (pc := 625) X (n := 500) rfl (dl_at t_X25_init 284 rfl) ?_
  refine r_newa (pc := 628) X 1 313 (Nat.le_of_ble_eq_true rfl) (Nat.le_of_ble_eq_true rfl) rfl q492 (r32_c rfl) rfl (dl_at t_X25_init 285 rfl) fun a628 h628 p628 k628 l628 E628 => ?_
  have k630 := kx (E621.trans E628) (by decide) k621
  refine r_putrF (pc := 630) X hname fX25_82 k630 q3882 rfl rfl (dl_at t_X25_init 286 rfl)  (fun h630 E630 => ?_)
  refine g_aload_n (pc := 633) X (j := 0) (i := 0) (q := 0) (x := a0) rfl rfl (dl_at t_X25_init 287 rfl) ?_
  refine g_sipush (pc := 634) X (n := 500) rfl (dl_at t_X25_init 288 rfl) ?_
  refine r_newa (pc := 637) X 1 314 (Nat.le_of_ble_eq_true rfl) (Nat.le_of_ble_eq_true rfl) rfl q492 (r32_c rfl) rfl (dl_at t_X25_init 289 rfl) fun a637 h637 p637 k637 l637 E637 => ?_
  have k639 := kx (E630.trans E637) (by decide) k630
  refine r_putrF (pc := 639) X hname fX25_83 k639 q3883 rfl rfl (dl_at t_X25_init 290 rfl)  (fun h639 E639 => ?_)
  refine g_aload_n (pc := 642) X (j := 0) (i := 0) (q := 0) (x := a0) rfl rfl (dl_at t_X25_init 291 rfl) ?_
  refine g_sipush (pc := 643) X (n := 500) rfl (dl_at t_X25_init 292 rfl) ?_
  refine r_newa (pc := 646) X 1 315 (Nat.le_of_ble_eq_true rfl) (Nat.le_of_ble_eq_true rfl) rfl q492 (r32_c rfl) rfl (dl_at t_X25_init 293 rfl) fun a646 h646 p646 k646 l646 E646 => ?_
  have k648 := kx (E639.trans E646) (by decide) k639
  refine r_putrF (pc := 648) X hname fX25_84 k648 q3885 rfl rfl (dl_at t_X25_init 294 rfl)  (fun h648 E648 => ?_)
  refine g_aload_n (pc := 651) X (j := 0) (i := 0) (q := 0) (x := a0) rfl rfl (dl_at t_X25_init 295 rfl) ?_
  refine g_sipush (pc := 652) X (n := 500) rfl (dl_at t_X25_init 296 rfl) ?_
  refine r_newa (pc := 655) X 1 316 (Nat.le_of_ble_eq_true rfl) (Nat.le_of_ble_eq_true rfl) rfl q492 (r32_c rfl) rfl (dl_at t_X25_init 297 rfl) fun a655 h655 p655 k655 l655 E655 => ?_
  have k657 := kx (E648.trans E655) (by decide) k648
  refine r_putrF (pc := 657) X hname fX25_85 k657 q3887 rfl rfl (dl_at t_X25_init 298 rfl)  (fun h657 E657 => ?_)
  refine g_aload_n (pc := 660) X (j := 0) (i := 0) (q := 0) (x := a0) rfl rfl (dl_at t_X25_init 299 rfl) ?_
  refine g_sipush (pc := 661) X (n := 500) rfl (dl_at t_X25_init 300 rfl) ?_
  refine r_newa (pc := 664) X 1 317 (Nat.le_of_ble_eq_true rfl) (Nat.le_of_ble_eq_true rfl) rfl q492 (r32_c rfl) rfl (dl_at t_X25_init 301 rfl) fun a664 h664 p664 k664 l664 E664 => ?_
  have k666 := kx (E657.trans E664) (by decide) k657
  refine r_putrF (pc := 666) X hname fX25_86 k666 q3888 rfl rfl (dl_at t_X25_init 302 rfl)  (fun h666 E666 => ?_)
  refine g_aload_n (pc := 669) X (j := 0) (i := 0) (q := 0) (x := a0) rfl rfl (dl_at t_X25_init 303 rfl) ?_
  refine g_sipush (pc := 670) X (n := 500) rfl (dl_at t_X25_init 304 rfl) ?_
  refine r_newa (pc := 673) X 1 318 (Nat.le_of_ble_eq_true rfl) (Nat.le_of_ble_eq_true rfl) rfl q492 (r32_c rfl) rfl (dl_at t_X25_init 305 rfl) fun a673 h673 p673 k673 l673 E673 => ?_
  have k675 := kx (E666.trans E673) (by decide) k666
  refine r_putrF (pc := 675) X hname fX25_87 k675 q3889 rfl rfl (dl_at t_X25_init 306 rfl)  (fun h675 E675 => ?_)
  refine g_aload_n (pc := 678) X (j := 0) (i := 0) (q := 0) (x := a0) rfl rfl (dl_at t_X25_init 307 rfl) ?_
  refine g_sipush (pc := 679) X (n := 1628) rfl (dl_at t_X25_init 308 rfl) ?_
  refine r_newa (pc := 682) X 1 319 (Nat.le_of_ble_eq_true rfl) (Nat.le_of_ble_eq_true rfl) rfl q492 (r32_c rfl) rfl (dl_at t_X25_init 309 rfl) fun a682 h682 p682 k682 l682 E682 => ?_
  have k684 := kx (E675.trans E682) (by decide) k675
  refine r_putrF (pc := 684) X hname fX25_89 k684 q3892 rfl rfl (dl_at t_X25_init 310 rfl)  (fun h684 E684 => ?_)
  refine g_aload_n (pc := 687) X (j := 0) (i := 0) (q := 0) (x := a0) rfl rfl (dl_at t_X25_init 311 rfl) ?_
  refine g_sipush (pc := 688) X (n := 1628) rfl (dl_at t_X25_init 312 rfl) ?_
  refine r_newa (pc := 691) X 1 320 (Nat.le_of_ble_eq_true rfl) (Nat.le_of_ble_eq_true rfl) rfl q492 (r32_c rfl) rfl (dl_at t_X25_init 313 rfl) fun a691 h691 p691 k691 l691 E691 => ?_
  have k693 := kx (E684.trans E691) (by decide) k684
  refine r_putrF (pc := 693) X hname fX25_90 k693 q3894 rfl rfl (dl_at t_X25_init 314 rfl)  (fun h693 E693 => ?_)
  refine g_aload_n (pc := 696) X (j := 0) (i := 0) (q := 0) (x := a0) rfl rfl (dl_at t_X25_init 315 rfl) ?_
  refine g_sipush (pc := 697) X (n := 1628) rfl (dl_at t_X25_init 316 rfl) ?_
  refine r_newa (pc := 700) X 1 321 (Nat.le_of_ble_eq_true rfl) (Nat.le_of_ble_eq_true rfl) rfl q492 (r32_c rfl) rfl (dl_at t_X25_init 317 rfl) fun a700 h700 p700 k700 l700 E700 => ?_
  have k702 := kx (E693.trans E700) (by decide) k693
  refine r_putrF (pc := 702) X hname fX25_91 k702 q3896 rfl rfl (dl_at t_X25_init 318 rfl)  (fun h702 E702 => ?_)
  refine g_aload_n (pc := 705) X (j := 0) (i := 0) (q := 0) (x := a0) rfl rfl (dl_at t_X25_init 319 rfl) ?_
  refine g_sipush (pc := 706) X (n := 1628) rfl (dl_at t_X25_init 320 rfl) ?_
  refine r_newa (pc := 709) X 1 322 (Nat.le_of_ble_eq_true rfl) (Nat.le_of_ble_eq_true rfl) rfl q492 (r32_c rfl) rfl (dl_at t_X25_init 321 rfl) fun a709 h709 p709 k709 l709 E709 => ?_
  have k711 := kx (E702.trans E709) (by decide) k702
  refine r_putrF (pc := 711) X hname fX25_92 k711 q3898 rfl rfl (dl_at t_X25_init 322 rfl)  (fun h711 E711 => ?_)
  refine g_aload_n (pc := 714) X (j := 0) (i := 0) (q := 0) (x := a0) rfl rfl (dl_at t_X25_init 323 rfl) ?_
  refine g_sipush (pc := 715) X (n := 1628) rfl (dl_at t_X25_init 324 rfl) ?_
  refine r_newa (pc := 718) X 4 323 (Nat.le_of_ble_eq_true rfl) (Nat.le_of_ble_eq_true rfl) rfl q978 (r32_c rfl) rfl (dl_at t_X25_init 325 rfl) fun a718 h718 p718 k718 l718 E718 => ?_
  have k720 := kx (E711.trans E718) (by decide) k711
  refine r_putrF (pc := 720) X hname fX25_93 k720 q3900 rfl rfl (dl_at t_X25_init 326 rfl)  (fun h720 E720 => ?_)
  refine g_aload_n (pc := 723) X (j := 0) (i := 0) (q := 0) (x := a0) rfl rfl (dl_at t_X25_init 327 rfl) ?_
  refine g_sipush (pc := 724) X (n := 500) rfl (dl_at t_X25_init 328 rfl) ?_
  refine r_newa (pc := 727) X 3 324 (Nat.le_of_ble_eq_true rfl) (Nat.le_of_ble_eq_true rfl) rfl q635 (r32_c rfl) rfl (dl_at t_X25_init 329 rfl) fun a727 h727 p727 k727 l727 E727 => ?_
  have k729 := kx (E720.trans E727) (by decide) k720
  refine r_putrF (pc := 729) X hname fX25_99 k729 q3910 rfl rfl (dl_at t_X25_init 330 rfl)  (fun h729 E729 => ?_)
  refine g_aload_n (pc := 732) X (j := 0) (i := 0) (q := 0) (x := a0) rfl rfl (dl_at t_X25_init 331 rfl) ?_
  refine g_sipush (pc := 733) X (n := 24016) rfl (dl_at t_X25_init 332 rfl) ?_
  refine r_newa (pc := 736) X 3 325 (Nat.le_of_ble_eq_true rfl) (Nat.le_of_ble_eq_true rfl) rfl q635 (r32_c rfl) rfl (dl_at t_X25_init 333 rfl) fun a736 h736 p736 k736 l736 E736 => ?_
  have k738 := kx (E729.trans E736) (by decide) k729
  refine r_putrF (pc := 738) X hname fX25_102 k738 q3914 rfl rfl (dl_at t_X25_init 334 rfl)  (fun h738 E738 => ?_)
  refine g_aload_n (pc := 741) X (j := 0) (i := 0) (q := 0) (x := a0) rfl rfl (dl_at t_X25_init 335 rfl) ?_
  refine g_sipush (pc := 742) X (n := 602) rfl (dl_at t_X25_init 336 rfl) ?_
  refine r_newa (pc := 745) X 4 326 (Nat.le_of_ble_eq_true rfl) (Nat.le_of_ble_eq_true rfl) rfl q978 (r32_c rfl) rfl (dl_at t_X25_init 337 rfl) fun a745 h745 p745 k745 l745 E745 => ?_
  have k747 := kx (E738.trans E745) (by decide) k738
  refine r_putrF (pc := 747) X hname fX25_104 k747 q3916 rfl rfl (dl_at t_X25_init 338 rfl)  (fun h747 E747 => ?_)
  refine g_aload_n (pc := 750) X (j := 0) (i := 0) (q := 0) (x := a0) rfl rfl (dl_at t_X25_init 339 rfl) ?_
  refine g_sipush (pc := 751) X (n := 602) rfl (dl_at t_X25_init 340 rfl) ?_
  refine r_newa (pc := 754) X 4 327 (Nat.le_of_ble_eq_true rfl) (Nat.le_of_ble_eq_true rfl) rfl q978 (r32_c rfl) rfl (dl_at t_X25_init 341 rfl) fun a754 h754 p754 k754 l754 E754 => ?_
  have k756 := kx (E747.trans E754) (by decide) k747
  refine r_putrF (pc := 756) X hname fX25_105 k756 q3917 rfl rfl (dl_at t_X25_init 342 rfl)  (fun h756 E756 => ?_)
  refine g_aload_n (pc := 759) X (j := 0) (i := 0) (q := 0) (x := a0) rfl rfl (dl_at t_X25_init 343 rfl) ?_
  refine g_sipush (pc := 760) X (n := 602) rfl (dl_at t_X25_init 344 rfl) ?_
  refine r_newa (pc := 763) X 4 328 (Nat.le_of_ble_eq_true rfl) (Nat.le_of_ble_eq_true rfl) rfl q978 (r32_c rfl) rfl (dl_at t_X25_init 345 rfl) fun a763 h763 p763 k763 l763 E763 => ?_
  have k765 := kx (E756.trans E763) (by decide) k756
  refine r_putrF (pc := 765) X hname fX25_106 k765 q3918 rfl rfl (dl_at t_X25_init 346 rfl)  (fun h765 E765 => ?_)
  refine g_aload_n (pc := 768) X (j := 0) (i := 0) (q := 0) (x := a0) rfl rfl (dl_at t_X25_init 347 rfl) ?_
  refine g_sipush (pc := 769) X (n := 602) rfl (dl_at t_X25_init 348 rfl) ?_
  refine r_newa (pc := 772) X 4 329 (Nat.le_of_ble_eq_true rfl) (Nat.le_of_ble_eq_true rfl) rfl q978 (r32_c rfl) rfl (dl_at t_X25_init 349 rfl) fun a772 h772 p772 k772 l772 E772 => ?_
  have k774 := kx (E765.trans E772) (by decide) k765
  refine r_putrF (pc := 774) X hname fX25_107 k774 q3919 rfl rfl (dl_at t_X25_init 350 rfl)  (fun h774 E774 => ?_)
  refine g_aload_n (pc := 777) X (j := 0) (i := 0) (q := 0) (x := a0) rfl rfl (dl_at t_X25_init 351 rfl) ?_
  refine g_sipush (pc := 778) X (n := 2408) rfl (dl_at t_X25_init 352 rfl) ?_
  refine r_newa (pc := 781) X 4 330 (Nat.le_of_ble_eq_true rfl) (Nat.le_of_ble_eq_true rfl) rfl q978 (r32_c rfl) rfl (dl_at t_X25_init 353 rfl) fun a781 h781 p781 k781 l781 E781 => ?_
  have k783 := kx (E774.trans E781) (by decide) k774
  refine r_putrF (pc := 783) X hname fX25_108 k783 q3920 rfl rfl (dl_at t_X25_init 354 rfl)  (fun h783 E783 => ?_)
  refine g_aload_n (pc := 786) X (j := 0) (i := 0) (q := 0) (x := a0) rfl rfl (dl_at t_X25_init 355 rfl) ?_
  refine g_sipush (pc := 787) X (n := 2408) rfl (dl_at t_X25_init 356 rfl) ?_
  refine r_newa (pc := 790) X 3 331 (Nat.le_of_ble_eq_true rfl) (Nat.le_of_ble_eq_true rfl) rfl q635 (r32_c rfl) rfl (dl_at t_X25_init 357 rfl) fun a790 h790 p790 k790 l790 E790 => ?_
  have k792 := kx (E783.trans E790) (by decide) k783
  refine r_putrF (pc := 792) X hname fX25_109 k792 q3921 rfl rfl (dl_at t_X25_init 358 rfl)  (fun h792 E792 => ?_)
  refine g_aload_n (pc := 795) X (j := 0) (i := 0) (q := 0) (x := a0) rfl rfl (dl_at t_X25_init 359 rfl) ?_
  refine g_sipush (pc := 796) X (n := 2408) rfl (dl_at t_X25_init 360 rfl) ?_
  refine r_newa (pc := 799) X 1 332 (Nat.le_of_ble_eq_true rfl) (Nat.le_of_ble_eq_true rfl) rfl q492 (r32_c rfl) rfl (dl_at t_X25_init 361 rfl) fun a799 h799 p799 k799 l799 E799 => ?_
  have k801 := kx (E792.trans E799) (by decide) k792
  refine r_putrF (pc := 801) X hname fX25_110 k801 q3922 rfl rfl (dl_at t_X25_init 362 rfl)  (fun h801 E801 => ?_)
  refine g_aload_n (pc := 804) X (j := 0) (i := 0) (q := 0) (x := a0) rfl rfl (dl_at t_X25_init 363 rfl) ?_
  refine g_sipush (pc := 805) X (n := 2408) rfl (dl_at t_X25_init 364 rfl) ?_
  refine r_newa (pc := 808) X 1 333 (Nat.le_of_ble_eq_true rfl) (Nat.le_of_ble_eq_true rfl) rfl q492 (r32_c rfl) rfl (dl_at t_X25_init 365 rfl) fun a808 h808 p808 k808 l808 E808 => ?_
  have k810 := kx (E801.trans E808) (by decide) k801
  refine r_putrF (pc := 810) X hname fX25_111 k810 q3923 rfl rfl (dl_at t_X25_init 366 rfl)  (fun h810 E810 => ?_)
  refine g_aload_n (pc := 813) X (j := 0) (i := 0) (q := 0) (x := a0) rfl rfl (dl_at t_X25_init 367 rfl) ?_
  refine g_sipush (pc := 814) X (n := 1200) rfl (dl_at t_X25_init 368 rfl) ?_
  refine r_newa (pc := 817) X 1 334 (Nat.le_of_ble_eq_true rfl) (Nat.le_of_ble_eq_true rfl) rfl q492 (r32_c rfl) rfl (dl_at t_X25_init 369 rfl) fun a817 h817 p817 k817 l817 E817 => ?_
  have k819 := kx (E810.trans E817) (by decide) k810
  refine r_putrF (pc := 819) X hname fX25_121 k819 q3933 rfl rfl (dl_at t_X25_init 370 rfl)  (fun h819 E819 => ?_)
  refine g_aload_n (pc := 822) X (j := 0) (i := 0) (q := 0) (x := a0) rfl rfl (dl_at t_X25_init 371 rfl) ?_
  refine g_sipush (pc := 823) X (n := 1501) rfl (dl_at t_X25_init 372 rfl) ?_
  refine r_newa (pc := 826) X 4 335 (Nat.le_of_ble_eq_true rfl) (Nat.le_of_ble_eq_true rfl) rfl q978 (r32_c rfl) rfl (dl_at t_X25_init 373 rfl) fun a826 h826 p826 k826 l826 E826 => ?_
  have k828 := kx (E819.trans E826) (by decide) k819
  refine r_putrF (pc := 828) X hname fX25_122 k828 q3934 rfl rfl (dl_at t_X25_init 374 rfl)  (fun h828 E828 => ?_)
  refine g_aload_n (pc := 831) X (j := 0) (i := 0) (q := 0) (x := a0) rfl rfl (dl_at t_X25_init 375 rfl) ?_
  refine g_sipush (pc := 832) X (n := 1501) rfl (dl_at t_X25_init 376 rfl) ?_
  refine r_newa (pc := 835) X 1 336 (Nat.le_of_ble_eq_true rfl) (Nat.le_of_ble_eq_true rfl) rfl q492 (r32_c rfl) rfl (dl_at t_X25_init 377 rfl) fun a835 h835 p835 k835 l835 E835 => ?_
  have k837 := kx (E828.trans E835) (by decide) k828
  refine r_putrF (pc := 837) X hname fX25_123 k837 q3935 rfl rfl (dl_at t_X25_init 378 rfl)  (fun h837 E837 => ?_)
  refine g_aload_n (pc := 840) X (j := 0) (i := 0) (q := 0) (x := a0) rfl rfl (dl_at t_X25_init 379 rfl) ?_
  refine g_sipush (pc := 841) X (n := 1501) rfl (dl_at t_X25_init 380 rfl) ?_
  refine r_newa (pc := 844) X 1 337 (Nat.le_of_ble_eq_true rfl) (Nat.le_of_ble_eq_true rfl) rfl q492 (r32_c rfl) rfl (dl_at t_X25_init 381 rfl) fun a844 h844 p844 k844 l844 E844 => ?_
  have k846 := kx (E837.trans E844) (by decide) k837
  refine r_putrF (pc := 846) X hname fX25_124 k846 q3936 rfl rfl (dl_at t_X25_init 382 rfl)  (fun h846 E846 => ?_)
  refine g_aload_n (pc := 849) X (j := 0) (i := 0) (q := 0) (x := a0) rfl rfl (dl_at t_X25_init 383 rfl) ?_
  refine g_sipush (pc := 850) X (n := 1502) rfl (dl_at t_X25_init 384 rfl) ?_
  refine r_newa (pc := 853) X 1 338 (Nat.le_of_ble_eq_true rfl) (Nat.le_of_ble_eq_true rfl) rfl q492 (r32_c rfl) rfl (dl_at t_X25_init 385 rfl) fun a853 h853 p853 k853 l853 E853 => ?_
  have k855 := kx (E846.trans E853) (by decide) k846
  refine r_putrF (pc := 855) X hname fX25_125 k855 q3937 rfl rfl (dl_at t_X25_init 386 rfl)  (fun h855 E855 => ?_)
  refine g_aload_n (pc := 858) X (j := 0) (i := 0) (q := 0) (x := a0) rfl rfl (dl_at t_X25_init 387 rfl) ?_
  refine g_sipush (pc := 859) X (n := 256) rfl (dl_at t_X25_init 388 rfl) ?_
  refine r_newa (pc := 862) X 1 339 (Nat.le_of_ble_eq_true rfl) (Nat.le_of_ble_eq_true rfl) rfl q492 (r32_c rfl) rfl (dl_at t_X25_init 389 rfl) fun a862 h862 p862 k862 l862 E862 => ?_
  have k864 := kx (E855.trans E862) (by decide) k855
  refine r_putr (pc := 864) X fX25_127 k864 q3939 rfl (dl_at t_X25_init 390 rfl)  (fun h864 E864 => ?_)
  refine g_aload_n (pc := 867) X (j := 0) (i := 0) (q := 0) (x := a0) rfl rfl (dl_at t_X25_init 391 rfl) ?_
  refine g_sipush (pc := 868) X (n := 256) rfl (dl_at t_X25_init 392 rfl) ?_
  refine r_newa (pc := 871) X 1 340 (Nat.le_of_ble_eq_true rfl) (Nat.le_of_ble_eq_true rfl) rfl q492 (r32_c rfl) rfl (dl_at t_X25_init 393 rfl) fun a871 h871 p871 k871 l871 E871 => ?_
  have k873 := kx (E864.trans E871) (by decide) k864
  refine r_putr (pc := 873) X fX25_128 k873 q3940 rfl (dl_at t_X25_init 394 rfl)  (fun h873 E873 => ?_)
  refine g_aload_n (pc := 876) X (j := 0) (i := 0) (q := 0) (x := a0) rfl rfl (dl_at t_X25_init 395 rfl) ?_
  refine g_sipush (pc := 877) X (n := 256) rfl (dl_at t_X25_init 396 rfl) ?_
  refine r_newa (pc := 880) X 1 341 (Nat.le_of_ble_eq_true rfl) (Nat.le_of_ble_eq_true rfl) rfl q492 (r32_c rfl) rfl (dl_at t_X25_init 397 rfl) fun a880 h880 p880 k880 l880 E880 => ?_
  have k882 := kx (E873.trans E880) (by decide) k873
  refine r_putr (pc := 882) X fX25_129 k882 q3941 rfl (dl_at t_X25_init 398 rfl)  (fun h882 E882 => ?_)
  refine g_aload_n (pc := 885) X (j := 0) (i := 0) (q := 0) (x := a0) rfl rfl (dl_at t_X25_init 399 rfl) ?_
  refine g_sipush (pc := 886) X (n := 256) rfl (dl_at t_X25_init 400 rfl) ?_
  refine r_newa (pc := 889) X 1 342 (Nat.le_of_ble_eq_true rfl) (Nat.le_of_ble_eq_true rfl) rfl q492 (r32_c rfl) rfl (dl_at t_X25_init 401 rfl) fun a889 h889 p889 k889 l889 E889 => ?_
  have k891 := kx (E882.trans E889) (by decide) k882
  refine r_putr (pc := 891) X fX25_130 k891 q3942 rfl (dl_at t_X25_init 402 rfl)  (fun h891 E891 => ?_)
  refine g_aload_n (pc := 894) X (j := 0) (i := 0) (q := 0) (x := a0) rfl rfl (dl_at t_X25_init 403 rfl) ?_
  refine g_sipush (pc := 895) X (n := 256) rfl (dl_at t_X25_init 404 rfl) ?_
  refine r_newa (pc := 898) X 1 343 (Nat.le_of_ble_eq_true rfl) (Nat.le_of_ble_eq_true rfl) rfl q492 (r32_c rfl) rfl (dl_at t_X25_init 405 rfl) fun a898 h898 p898 k898 l898 E898 => ?_
  have k900 := kx (E891.trans E898) (by decide) k891
  refine r_putr (pc := 900) X fX25_131 k900 q3943 rfl (dl_at t_X25_init 406 rfl)  (fun h900 E900 => ?_)
  refine g_aload_n (pc := 903) X (j := 0) (i := 0) (q := 0) (x := a0) rfl rfl (dl_at t_X25_init 407 rfl) ?_
  refine g_sipush (pc := 904) X (n := 256) rfl (dl_at t_X25_init 408 rfl) ?_
  refine r_newa (pc := 907) X 4 344 (Nat.le_of_ble_eq_true rfl) (Nat.le_of_ble_eq_true rfl) rfl q978 (r32_c rfl) rfl (dl_at t_X25_init 409 rfl) fun a907 h907 p907 k907 l907 E907 => ?_
  have k909 := kx (E900.trans E907) (by decide) k900
  refine r_putr (pc := 909) X fX25_132 k909 q3944 rfl (dl_at t_X25_init 410 rfl)  (fun h909 E909 => ?_)
  refine g_aload_n (pc := 912) X (j := 0) (i := 0) (q := 0) (x := a0) rfl rfl (dl_at t_X25_init 411 rfl) ?_
  refine g_sipush (pc := 913) X (n := 1502) rfl (dl_at t_X25_init 412 rfl) ?_
  refine r_newa (pc := 916) X 1 345 (Nat.le_of_ble_eq_true rfl) (Nat.le_of_ble_eq_true rfl) rfl q492 (r32_c rfl) rfl (dl_at t_X25_init 413 rfl) fun a916 h916 p916 k916 l916 E916 => ?_
  have k918 := kx (E909.trans E916) (by decide) k909
  refine r_putrF (pc := 918) X hname fX25_138 k918 q3950 rfl rfl (dl_at t_X25_init 414 rfl)  (fun h918 E918 => ?_)
  refine g_aload_n (pc := 921) X (j := 0) (i := 0) (q := 0) (x := a0) rfl rfl (dl_at t_X25_init 415 rfl) ?_
  refine g_sipush (pc := 922) X (n := 500) rfl (dl_at t_X25_init 416 rfl) ?_
  refine r_newa (pc := 925) X 3 346 (Nat.le_of_ble_eq_true rfl) (Nat.le_of_ble_eq_true rfl) rfl q635 (r32_c rfl) rfl (dl_at t_X25_init 417 rfl) fun a925 h925 p925 k925 l925 E925 => ?_
  have k927 := kx (E918.trans E925) (by decide) k918
  refine r_putrF (pc := 927) X hname fX25_139 k927 q3951 rfl rfl (dl_at t_X25_init 418 rfl)  (fun h927 E927 => ?_)
  refine g_aload_n (pc := 930) X (j := 0) (i := 0) (q := 0) (x := a0) rfl rfl (dl_at t_X25_init 419 rfl) ?_
  refine g_sipush (pc := 931) X (n := 500) rfl (dl_at t_X25_init 420 rfl) ?_
  refine r_newa (pc := 934) X 3 347 (Nat.le_of_ble_eq_true rfl) (Nat.le_of_ble_eq_true rfl) rfl q635 (r32_c rfl) rfl (dl_at t_X25_init 421 rfl) fun a934 h934 p934 k934 l934 E934 => ?_
  have k936 := kx (E927.trans E934) (by decide) k927
  refine r_putrF (pc := 936) X hname fX25_140 k936 q3952 rfl rfl (dl_at t_X25_init 422 rfl)  (fun h936 E936 => ?_)
  exact g_vret (pc := 939) X (v := 0) rfl rfl (dl_at t_X25_init 423 rfl)
def k_X18_init : List (Nat × Instr × Nat) := [(0, .aload_n 0, 1), (1, .invokespecial 1, 3), (4, .aload_n 0, 1), (5, .iconst (-1), 1), (6, .putfield 7, 3), (9, .aload_n 0, 1), (10, .sipush 16384, 3), (13, .newarray .byte, 2), (15, .putfield 13, 3), (18, .aload_n 0, 1), (19, .new 17, 3), (22, .dup, 1), (23, .invokespecial 19, 3), (26, .putfield 20, 3), (29, .aload_n 0, 1), (30, .new 17, 3), (33, .dup, 1), (34, .invokespecial 19, 3), (37, .putfield 24, 3), (40, .aload_n 0, 1), (41, .new 27, 3), (44, .dup, 1), (45, .invokespecial 29, 3), (48, .putfield 30, 3), (51, .aload_n 0, 1), (52, .new 27, 3), (55, .dup, 1), (56, .invokespecial 29, 3), (59, .putfield 34, 3), (62, .aload_n 0, 1), (63, .new 37, 3), (66, .dup, 1), (67, .invokespecial 39, 3), (70, .putfield 40, 3), (73, .aload_n 0, 1), (74, .new 37, 3), (77, .dup, 1), (78, .invokespecial 39, 3), (81, .putfield 44, 3), (84, .aload_n 0, 1), (85, .new 47, 3), (88, .dup, 1), (89, .invokespecial 49, 3), (92, .putfield 50, 3), (95, .aload_n 0, 1), (96, .new 47, 3), (99, .dup, 1), (100, .invokespecial 49, 3), (103, .putfield 54, 3), (106, .aload_n 0, 1), (107, .sipush 16384, 3), (110, .newarray .byte, 2), (112, .putfield 57, 3), (115, .aload_n 0, 1), (116, .new 60, 3), (119, .dup, 1), (120, .invokespecial 62, 3), (123, .putfield 63, 3), (126, .aload_n 0, 1), (127, .new 67, 3), (130, .dup, 1), (131, .invokespecial 69, 3), (134, .putfield 70, 3), (137, .aload_n 0, 1), (138, .new 67, 3), (141, .dup, 1), (142, .invokespecial 69, 3), (145, .putfield 74, 3), (148, .aload_n 0, 1), (149, .sipush 1024, 3), (152, .newarray .byte, 2), (154, .putfield 77, 3), (157, .aload_n 0, 1), (158, .sipush 1024, 3), (161, .newarray .byte, 2), (163, .putfield 80, 3), (166, .aload_n 0, 1), (167, .sipush 700, 3), (170, .newarray .int, 2), (172, .putfield 83, 3), (175, .return_, 1)]
theorem t_X18_init : ∀ q ∈ k_X18_init, decode cX18_init q.1 = .ok q.2 := dl_all (by decide +kernel)
noncomputable def m_X18_init (a0 : Int) (h : Hp) : Option (Hp) :=
  pt h a0 1 (-1) fun h6 =>
  al h6 5570 16384 fun a13 h13 =>
  pt h13 a0 2 a13 fun h15 =>
  al h15 320 9 fun a19 h19 =>
  (m_X19_init a19 h19).bind fun h23 =>
  pt h23 a0 4 a19 fun h26 =>
  al h26 320 9 fun a30 h30 =>
  (m_X19_init a30 h30).bind fun h34 =>
  pt h34 a0 5 a30 fun h37 =>
  al h37 352 14 fun a41 h41 =>
  (m_X21_init a41 h41).bind fun h45 =>
  pt h45 a0 6 a41 fun h48 =>
  al h48 352 14 fun a52 h52 =>
  (m_X21_init a52 h52).bind fun h56 =>
  pt h56 a0 7 a52 fun h59 =>
  al h59 368 28 fun a63 h63 =>
  (m_X22_init a63 h63).bind fun h67 =>
  pt h67 a0 8 a63 fun h70 =>
  al h70 368 28 fun a74 h74 =>
  (m_X22_init a74 h74).bind fun h78 =>
  pt h78 a0 9 a74 fun h81 =>
  al h81 384 28 fun a85 h85 =>
  (m_X23_init a85 h85).bind fun h89 =>
  pt h89 a0 10 a85 fun h92 =>
  al h92 384 28 fun a96 h96 =>
  (m_X23_init a96 h96).bind fun h100 =>
  pt h100 a0 11 a96 fun h103 =>
  al h103 5586 16384 fun a110 h110 =>
  pt h110 a0 12 a110 fun h112 =>
  al h112 400 30 fun a116 h116 =>
  (m_X24_init a116 h116).bind fun h120 =>
  pt h120 a0 13 a116 fun h123 =>
  al h123 416 141 fun a127 h127 =>
  (m_X25_init a127 h127).bind fun h131 =>
  pt h131 a0 15 a127 fun h134 =>
  al h134 416 141 fun a138 h138 =>
  (m_X25_init a138 h138).bind fun h142 =>
  pt h142 a0 16 a138 fun h145 =>
  al h145 5602 1024 fun a152 h152 =>
  pt h152 a0 18 a152 fun h154 =>
  al h154 5618 1024 fun a161 h161 =>
  pt h161 a0 20 a161 fun h163 =>
  al h163 5633 700 fun a170 h170 =>
  pt h170 a0 22 a170 fun h172 =>
  some h172
theorem s_X18_init {l : Launch} [NoTr l] {D : SD} {a0 : Int} {h : Hp} (hk : h a0 (-2) = 304) {r : Hp} (hm : m_X18_init a0 h = some r) : Sim l D yX18_init (Cond.code yX18_init cX18_init 1 (Option.none : Option Jvm.ClassFile.FieldType)) 4 144 [rv D a0] h 0 ((0, 0), r) := by
  refine Sim.of (fin := fun (v : Hp) => ((0, 0), v)) (lsE := [(0, rv D a0)]) hm rfl cwS_code (la_r la_n) (ll_r ll_n) ?_
  intro p e s m below meth c X hcw hmm hcc hnm hname
  unfold m_X18_init
  refine g_aload_n (pc := 0) X (j := 0) (i := 0) (q := 0) (x := a0) rfl rfl (dl_at t_X18_init 0 rfl) ?_
  refine r_oinitK (pc := 1) X hk (by decide) q3260 q406 q407 (Nat.le_of_ble_eq_true rfl) (Nat.le_trans (Nat.add_le_add_right (cat24 (st := []) (Nat.le_of_ble_eq_true rfl)) 12) (Nat.le_of_ble_eq_true rfl)) (dl_at t_X18_init 1 rfl) ?_
  refine g_aload_n (pc := 4) X (j := 0) (i := 0) (q := 0) (x := a0) rfl rfl (dl_at t_X18_init 2 rfl) ?_
  refine g_iconst (pc := 5) X (n := (-1)) (dl_at t_X18_init 3 rfl) ?_
  refine r_puti (pc := 6) X fX18_1 hk q4237 rfl (dl_at t_X18_init 4 rfl) (r32_c rfl) (fun h6 E6 => ?_)
  refine g_aload_n (pc := 9) X (j := 0) (i := 0) (q := 0) (x := a0) rfl rfl (dl_at t_X18_init 5 rfl) ?_
  refine g_sipush (pc := 10) X (n := 16384) rfl (dl_at t_X18_init 6 rfl) ?_
  refine r_newa (pc := 13) X 2 348 (Nat.le_of_ble_eq_true rfl) (Nat.le_of_ble_eq_true rfl) rfl q449 (r32_c rfl) rfl (dl_at t_X18_init 7 rfl) fun a13 h13 p13 k13 l13 E13 => ?_
  have k15 := kx (E6.trans E13) (by decide) hk
  refine r_putrF (pc := 15) X hname fX18_2 k15 q4238 rfl rfl (dl_at t_X18_init 8 rfl)  (fun h15 E15 => ?_)
  refine g_aload_n (pc := 18) X (j := 0) (i := 0) (q := 0) (x := a0) rfl rfl (dl_at t_X18_init 9 rfl) ?_
  refine r_new (pc := 19) X kX19 q3261 (dl_at t_X18_init 10 rfl) fun a19 h19 p19 k19 E19 => ?_
  refine g_dup (pc := 22) X rv_cat (dl_at t_X18_init 11 rfl) ?_
  refine r_callV (pc := 23) X (fun _ hv => s_X19_init k19 hv) cw_code q3265 q373 (in_I X (As := []) (Int.ne_of_gt p19) rfl (Or.inl q3263) q3264 q3265 ⟨by decide, by decide⟩ rfl (dl_at t_X18_init 12 rfl)) (dl_at t_X18_init 12 rfl) (cat24 (st := [rv D a19, rv D a0]) (Nat.le_of_ble_eq_true rfl)) (Nat.le_of_ble_eq_true rfl) (Nat.le_of_ble_eq_true rfl) fun h23 E23 => ?_
  have k26 := kx (E15.trans (E19.trans E23)) (by decide) k15
  refine r_putr (pc := 26) X fX18_4 k26 q4240 rfl (dl_at t_X18_init 13 rfl)  (fun h26 E26 => ?_)
  refine g_aload_n (pc := 29) X (j := 0) (i := 0) (q := 0) (x := a0) rfl rfl (dl_at t_X18_init 14 rfl) ?_
  refine r_new (pc := 30) X kX19 q3261 (dl_at t_X18_init 15 rfl) fun a30 h30 p30 k30 E30 => ?_
  refine g_dup (pc := 33) X rv_cat (dl_at t_X18_init 16 rfl) ?_
  refine r_callV (pc := 34) X (fun _ hv => s_X19_init k30 hv) cw_code q3265 q373 (in_I X (As := []) (Int.ne_of_gt p30) rfl (Or.inl q3263) q3264 q3265 ⟨by decide, by decide⟩ rfl (dl_at t_X18_init 17 rfl)) (dl_at t_X18_init 17 rfl) (cat24 (st := [rv D a30, rv D a0]) (Nat.le_of_ble_eq_true rfl)) (Nat.le_of_ble_eq_true rfl) (Nat.le_of_ble_eq_true rfl) fun h34 E34 => ?_
  have k37 := kx (E26.trans (E30.trans E34)) (by decide) k26
  refine r_putr (pc := 37) X fX18_5 k37 q4241 rfl (dl_at t_X18_init 18 rfl)  (fun h37 E37 => ?_)
  refine g_aload_n (pc := 40) X (j := 0) (i := 0) (q := 0) (x := a0) rfl rfl (dl_at t_X18_init 19 rfl) ?_
  refine r_new (pc := 41) X kX21 q3339 (dl_at t_X18_init 20 rfl) fun a41 h41 p41 k41 E41 => ?_
  refine g_dup (pc := 44) X rv_cat (dl_at t_X18_init 21 rfl) ?_
  refine r_callV (pc := 45) X (fun _ hv => s_X21_init k41 hv) cw_code q3343 q375 (in_I X (As := []) (Int.ne_of_gt p41) rfl (Or.inr ⟨_, nw_in q3341 rfl⟩) q3342 q3343 ⟨by decide, by decide⟩ rfl (dl_at t_X18_init 22 rfl)) (dl_at t_X18_init 22 rfl) (cat24 (st := [rv D a41, rv D a0]) (Nat.le_of_ble_eq_true rfl)) (Nat.le_of_ble_eq_true rfl) (Nat.le_of_ble_eq_true rfl) fun h45 E45 => ?_
  have k48 := kx (E37.trans (E41.trans E45)) (by decide) k37
  refine r_putr (pc := 48) X fX18_6 k48 q4242 rfl (dl_at t_X18_init 23 rfl)  (fun h48 E48 => ?_)
  refine g_aload_n (pc := 51) X (j := 0) (i := 0) (q := 0) (x := a0) rfl rfl (dl_at t_X18_init 24 rfl) ?_
  refine r_new (pc := 52) X kX21 q3339 (dl_at t_X18_init 25 rfl) fun a52 h52 p52 k52 E52 => ?_
  refine g_dup (pc := 55) X rv_cat (dl_at t_X18_init 26 rfl) ?_
  refine r_callV (pc := 56) X (fun _ hv => s_X21_init k52 hv) cw_code q3343 q375 (in_I X (As := []) (Int.ne_of_gt p52) rfl (Or.inr ⟨_, nw_in q3341 rfl⟩) q3342 q3343 ⟨by decide, by decide⟩ rfl (dl_at t_X18_init 27 rfl)) (dl_at t_X18_init 27 rfl) (cat24 (st := [rv D a52, rv D a0]) (Nat.le_of_ble_eq_true rfl)) (Nat.le_of_ble_eq_true rfl) (Nat.le_of_ble_eq_true rfl) fun h56 E56 => ?_
  have k59 := kx (E48.trans (E52.trans E56)) (by decide) k48
  refine r_putr (pc := 59) X fX18_7 k59 q4243 rfl (dl_at t_X18_init 28 rfl)  (fun h59 E59 => ?_)
  refine g_aload_n (pc := 62) X (j := 0) (i := 0) (q := 0) (x := a0) rfl rfl (dl_at t_X18_init 29 rfl) ?_
  refine r_new (pc := 63) X kX22 q3390 (dl_at t_X18_init 30 rfl) fun a63 h63 p63 k63 E63 => ?_
  refine g_dup (pc := 66) X rv_cat (dl_at t_X18_init 31 rfl) ?_
  refine r_callV (pc := 67) X (fun _ hv => s_X22_init k63 hv) cw_code q3394 q376 (in_I X (As := []) (Int.ne_of_gt p63) rfl (Or.inl q3392) q3393 q3394 ⟨by decide, by decide⟩ rfl (dl_at t_X18_init 32 rfl)) (dl_at t_X18_init 32 rfl) (cat24 (st := [rv D a63, rv D a0]) (Nat.le_of_ble_eq_true rfl)) (Nat.le_of_ble_eq_true rfl) (Nat.le_of_ble_eq_true rfl) fun h67 E67 => ?_
  have k70 := kx (E59.trans (E63.trans E67)) (by decide) k59
  refine r_putr (pc := 70) X fX18_8 k70 q4244 rfl (dl_at t_X18_init 33 rfl)  (fun h70 E70 => ?_)
  refine g_aload_n (pc := 73) X (j := 0) (i := 0) (q := 0) (x := a0) rfl rfl (dl_at t_X18_init 34 rfl) ?_
  refine r_new (pc := 74) X kX22 q3390 (dl_at t_X18_init 35 rfl) fun a74 h74 p74 k74 E74 => ?_
  refine g_dup (pc := 77) X rv_cat (dl_at t_X18_init 36 rfl) ?_
  refine r_callV (pc := 78) X (fun _ hv => s_X22_init k74 hv) cw_code q3394 q376 (in_I X (As := []) (Int.ne_of_gt p74) rfl (Or.inl q3392) q3393 q3394 ⟨by decide, by decide⟩ rfl (dl_at t_X18_init 37 rfl)) (dl_at t_X18_init 37 rfl) (cat24 (st := [rv D a74, rv D a0]) (Nat.le_of_ble_eq_true rfl)) (Nat.le_of_ble_eq_true rfl) (Nat.le_of_ble_eq_true rfl) fun h78 E78 => ?_
  have k81 := kx (E70.trans (E74.trans E78)) (by decide) k70
  refine r_putr (pc := 81) X fX18_9 k81 q4245 rfl (dl_at t_X18_init 38 rfl)  (fun h81 E81 => ?_)
  refine g_aload_n (pc := 84) X (j := 0) (i := 0) (q := 0) (x := a0) rfl rfl (dl_at t_X18_init 39 rfl) ?_
  refine r_new (pc := 85) X kX23 q3510 (dl_at t_X18_init 40 rfl) fun a85 h85 p85 k85 E85 => ?_
  refine g_dup (pc := 88) X rv_cat (dl_at t_X18_init 41 rfl) ?_
  refine r_callV (pc := 89) X (fun _ hv => s_X23_init k85 hv) cw_code q3514 q377 (in_I X (As := []) (Int.ne_of_gt p85) rfl (Or.inr ⟨_, nw_in q3512 rfl⟩) q3513 q3514 ⟨by decide, by decide⟩ rfl (dl_at t_X18_init 42 rfl)) (dl_at t_X18_init 42 rfl) (cat24 (st := [rv D a85, rv D a0]) (Nat.le_of_ble_eq_true rfl)) (Nat.le_of_ble_eq_true rfl) (Nat.le_of_ble_eq_true rfl) fun h89 E89 => ?_
  have k92 := kx (E81.trans (E85.trans E89)) (by decide) k81
  refine r_putr (pc := 92) X fX18_10 k92 q4246 rfl (dl_at t_X18_init 43 rfl)  (fun h92 E92 => ?_)
  refine g_aload_n (pc := 95) X (j := 0) (i := 0) (q := 0) (x := a0) rfl rfl (dl_at t_X18_init 44 rfl) ?_
  refine r_new (pc := 96) X kX23 q3510 (dl_at t_X18_init 45 rfl) fun a96 h96 p96 k96 E96 => ?_
  refine g_dup (pc := 99) X rv_cat (dl_at t_X18_init 46 rfl) ?_
  refine r_callV (pc := 100) X (fun _ hv => s_X23_init k96 hv) cw_code q3514 q377 (in_I X (As := []) (Int.ne_of_gt p96) rfl (Or.inr ⟨_, nw_in q3512 rfl⟩) q3513 q3514 ⟨by decide, by decide⟩ rfl (dl_at t_X18_init 47 rfl)) (dl_at t_X18_init 47 rfl) (cat24 (st := [rv D a96, rv D a0]) (Nat.le_of_ble_eq_true rfl)) (Nat.le_of_ble_eq_true rfl) (Nat.le_of_ble_eq_true rfl) fun h100 E100 => ?_
  have k103 := kx (E92.trans (E96.trans E100)) (by decide) k92
  refine r_putr (pc := 103) X fX18_11 k103 q4247 rfl (dl_at t_X18_init 48 rfl)  (fun h103 E103 => ?_)
  refine g_aload_n (pc := 106) X (j := 0) (i := 0) (q := 0) (x := a0) rfl rfl (dl_at t_X18_init 49 rfl) ?_
  refine g_sipush (pc := 107) X (n := 16384) rfl (dl_at t_X18_init 50 rfl) ?_
  refine r_newa (pc := 110) X 2 349 (Nat.le_of_ble_eq_true rfl) (Nat.le_of_ble_eq_true rfl) rfl q449 (r32_c rfl) rfl (dl_at t_X18_init 51 rfl) fun a110 h110 p110 k110 l110 E110 => ?_
  have k112 := kx (E103.trans E110) (by decide) k103
  refine r_putrF (pc := 112) X hname fX18_12 k112 q4248 rfl rfl (dl_at t_X18_init 52 rfl)  (fun h112 E112 => ?_)
  refine g_aload_n (pc := 115) X (j := 0) (i := 0) (q := 0) (x := a0) rfl rfl (dl_at t_X18_init 53 rfl) ?_
  refine r_new (pc := 116) X kX24 q3634 (dl_at t_X18_init 54 rfl) fun a116 h116 p116 k116 E116 => ?_
  refine g_dup (pc := 119) X rv_cat (dl_at t_X18_init 55 rfl) ?_
  refine r_callV (pc := 120) X (fun _ hv => s_X24_init k116 hv) cw_code q3638 q378 (in_I X (As := []) (Int.ne_of_gt p116) rfl (Or.inr ⟨_, nw_in q3636 rfl⟩) q3637 q3638 ⟨by decide, by decide⟩ rfl (dl_at t_X18_init 56 rfl)) (dl_at t_X18_init 56 rfl) (cat24 (st := [rv D a116, rv D a0]) (Nat.le_of_ble_eq_true rfl)) (Nat.le_of_ble_eq_true rfl) (Nat.le_of_ble_eq_true rfl) fun h120 E120 => ?_
  have k123 := kx (E112.trans (E116.trans E120)) (by decide) k112
  refine r_putrF (pc := 123) X hname fX18_13 k123 q4249 rfl rfl (dl_at t_X18_init 57 rfl)  (fun h123 E123 => ?_)
  refine g_aload_n (pc := 126) X (j := 0) (i := 0) (q := 0) (x := a0) rfl rfl (dl_at t_X18_init 58 rfl) ?_
  refine r_new (pc := 127) X kX25 q3753 (dl_at t_X18_init 59 rfl) fun a127 h127 p127 k127 E127 => ?_
  refine g_dup (pc := 130) X rv_cat (dl_at t_X18_init 60 rfl) ?_
  refine r_callV (pc := 131) X (fun _ hv => s_X25_init k127 hv) cw_code q3757 q379 (in_I X (As := []) (Int.ne_of_gt p127) rfl (Or.inr ⟨_, nw_in q3755 rfl⟩) q3756 q3757 ⟨by decide, by decide⟩ rfl (dl_at t_X18_init 61 rfl)) (dl_at t_X18_init 61 rfl) (cat24 (st := [rv D a127, rv D a0]) (Nat.le_of_ble_eq_true rfl)) (Nat.le_of_ble_eq_true rfl) (Nat.le_of_ble_eq_true rfl) fun h131 E131 => ?_
  have k134 := kx (E123.trans (E127.trans E131)) (by decide) k123
  refine r_putr (pc := 134) X fX18_15 k134 q4251 rfl (dl_at t_X18_init 62 rfl)  (fun h134 E134 => ?_)
  refine g_aload_n (pc := 137) X (j := 0) (i := 0) (q := 0) (x := a0) rfl rfl (dl_at t_X18_init 63 rfl) ?_
  refine r_new (pc := 138) X kX25 q3753 (dl_at t_X18_init 64 rfl) fun a138 h138 p138 k138 E138 => ?_
  refine g_dup (pc := 141) X rv_cat (dl_at t_X18_init 65 rfl) ?_
  refine r_callV (pc := 142) X (fun _ hv => s_X25_init k138 hv) cw_code q3757 q379 (in_I X (As := []) (Int.ne_of_gt p138) rfl (Or.inr ⟨_, nw_in q3755 rfl⟩) q3756 q3757 ⟨by decide, by decide⟩ rfl (dl_at t_X18_init 66 rfl)) (dl_at t_X18_init 66 rfl) (cat24 (st := [rv D a138, rv D a0]) (Nat.le_of_ble_eq_true rfl)) (Nat.le_of_ble_eq_true rfl) (Nat.le_of_ble_eq_true rfl) fun h142 E142 => ?_
  have k145 := kx (E134.trans (E138.trans E142)) (by decide) k134
  refine r_putr (pc := 145) X fX18_16 k145 q4252 rfl (dl_at t_X18_init 67 rfl)  (fun h145 E145 => ?_)
  refine g_aload_n (pc := 148) X (j := 0) (i := 0) (q := 0) (x := a0) rfl rfl (dl_at t_X18_init 68 rfl) ?_
  refine g_sipush (pc := 149) X (n := 1024) rfl (dl_at t_X18_init 69 rfl) ?_
  refine r_newa (pc := 152) X 2 350 (Nat.le_of_ble_eq_true rfl) (Nat.le_of_ble_eq_true rfl) rfl q449 (r32_c rfl) rfl (dl_at t_X18_init 70 rfl) fun a152 h152 p152 k152 l152 E152 => ?_
  have k154 := kx (E145.trans E152) (by decide) k145
  refine r_putr (pc := 154) X fX18_18 k154 q4254 rfl (dl_at t_X18_init 71 rfl)  (fun h154 E154 => ?_)
  refine g_aload_n (pc := 157) X (j := 0) (i := 0) (q := 0) (x := a0) rfl rfl (dl_at t_X18_init 72 rfl) ?_
  refine g_sipush (pc := 158) X (n := 1024) rfl (dl_at t_X18_init 73 rfl) ?_
  refine r_newa (pc := 161) X 2 351 (Nat.le_of_ble_eq_true rfl) (Nat.le_of_ble_eq_true rfl) rfl q449 (r32_c rfl) rfl (dl_at t_X18_init 74 rfl) fun a161 h161 p161 k161 l161 E161 => ?_
  have k163 := kx (E154.trans E161) (by decide) k154
  refine r_putr (pc := 163) X fX18_20 k163 q4256 rfl (dl_at t_X18_init 75 rfl)  (fun h163 E163 => ?_)
  refine g_aload_n (pc := 166) X (j := 0) (i := 0) (q := 0) (x := a0) rfl rfl (dl_at t_X18_init 76 rfl) ?_
  refine g_sipush (pc := 167) X (n := 700) rfl (dl_at t_X18_init 77 rfl) ?_
  refine r_newa (pc := 170) X 1 352 (Nat.le_of_ble_eq_true rfl) (Nat.le_of_ble_eq_true rfl) rfl q492 (r32_c rfl) rfl (dl_at t_X18_init 78 rfl) fun a170 h170 p170 k170 l170 E170 => ?_
  have k172 := kx (E163.trans E170) (by decide) k163
  refine r_putrF (pc := 172) X hname fX18_22 k172 q4258 rfl rfl (dl_at t_X18_init 79 rfl)  (fun h172 E172 => ?_)
  exact g_vret (pc := 175) X (v := 0) rfl rfl (dl_at t_X18_init 80 rfl)
def k_X18_thrown : List (Nat × Instr × Nat) := [(0, .aload_n 0, 1), (1, .getfield 87, 3), (4, .ireturn, 1)]
theorem t_X18_thrown : ∀ q ∈ k_X18_thrown, decode cX18_thrown q.1 = .ok q.2 := dl_all (by decide +kernel)
noncomputable def m_X18_thrown (a0 : Int) (h : Hp) : Option (Int) :=
  some (h a0 0)
theorem s_X18_thrown {l : Launch} [NoTr l] {D : SD} {a0 : Int} {h : Hp} (hk : h a0 (-2) = 304) {r : Int} (hm : m_X18_thrown a0 h = some r) : Sim l D yX18_thrown (Cond.code yX18_thrown cX18_thrown 1 (Option.some Jvm.ClassFile.FieldType.int)) 0 0 [rv D a0] h 1 ((0, r), h) := by
  refine Sim.of (fin := fun (v : Int) => ((0, v), h)) (lsE := [(0, rv D a0)]) hm rfl cwS_code (la_r la_n) (ll_r ll_n) ?_
  intro p e s m below meth c X hcw hmm hcc hnm hname
  unfold m_X18_thrown
  refine g_aload_n (pc := 0) X (j := 0) (i := 0) (q := 0) (x := a0) rfl rfl (dl_at t_X18_thrown 0 rfl) ?_
  refine r_geti (pc := 1) X fX18_0 hk q4236 (dl_at t_X18_thrown 1 rfl) fun g1 => ?_
  exact g_iret (pc := 4) X g1 rfl rfl (dl_at t_X18_thrown 2 rfl)
def k_X18_refuse : List (Nat × Instr × Nat) := [(0, .aload_n 0, 1), (1, .iload_n 1, 1), (2, .putfield 87, 3), (5, .iconst 0, 1), (6, .ireturn, 1)]
theorem t_X18_refuse : ∀ q ∈ k_X18_refuse, decode cX18_refuse q.1 = .ok q.2 := dl_all (by decide +kernel)
noncomputable def m_X18_refuse (a0 a1 : Int) (h : Hp) : Option (Int × Hp) :=
  pt h a0 0 a1 fun h2 =>
  some (0, h2)
theorem s_X18_refuse {l : Launch} [NoTr l] {D : SD} {a0 a1 : Int} {h : Hp} (hk : h a0 (-2) = 304) (r1 : r32 a1) {r : Int × Hp} (hm : m_X18_refuse a0 a1 h = some r) : Sim l D yX18_refuse (Cond.code yX18_refuse cX18_refuse 2 (Option.some Jvm.ClassFile.FieldType.int)) 0 0 [rv D a0, iv a1] h 1 ((0, r.1), r.2) := by
  refine Sim.of (fin := fun (v : Int × Hp) => ((0, v.1), v.2)) (lsE := [(0, rv D a0), (1, iv a1)]) hm rfl cwS_code (la_r (la_i la_n)) (ll_r (ll_i ll_n)) ?_
  intro p e s m below meth c X hcw hmm hcc hnm hname
  unfold m_X18_refuse
  refine g_aload_n (pc := 0) X (j := 0) (i := 0) (q := 0) (x := a0) rfl rfl (dl_at t_X18_refuse 0 rfl) ?_
  refine g_iload_n (pc := 1) X (j := 1) (i := 1) (q := 1) (x := a1) rfl rfl (dl_at t_X18_refuse 1 rfl) ?_
  refine r_puti (pc := 2) X fX18_0 hk q4236 rfl (dl_at t_X18_refuse 2 rfl) r1 (fun h2 E2 => ?_)
  refine g_iconst (pc := 5) X (n := 0) (dl_at t_X18_refuse 3 rfl) ?_
  exact g_iret (pc := 6) X (r32_c rfl) rfl rfl (dl_at t_X18_refuse 4 rfl)
def k_X18_four : List (Nat × Instr × Nat) := [(0, .bipush 24, 2), (2, .istore_n 2, 1), (3, .iload_n 2, 1), (4, .ifCond .lt 32, 3), (7, .aload_n 0, 1), (8, .getfield 13, 3), (11, .aload_n 0, 1), (12, .getfield 104, 3), (15, .iload_n 1, 1), (16, .iload_n 2, 1), (17, .ishr, 1), (18, .i2b, 1), (19, .bastore, 1), (20, .aload_n 0, 1), (21, .dup, 1), (22, .getfield 104, 3), (25, .iconst 1, 1), (26, .iadd, 1), (27, .putfield 104, 3), (30, .iinc 2 (-8), 3), (33, .goto (-30), 3), (36, .return_, 1)]
theorem t_X18_four : ∀ q ∈ k_X18_four, decode cX18_four q.1 = .ok q.2 := dl_all (by decide +kernel)
noncomputable def m_X18_four_l3 (a0 a1 x2_3 : Int) (h_3 : Hp) : Option ((Int × Hp) ⊕ ((Hp))) :=
  if x2_3 < 0 then (some (.inr h_3))
  else (gd (h_3 (h_3 a0 2) (-2) % 16 = 2 ∧ (0 : Int) ≤ (h_3 a0 3) ∧ (h_3 a0 3) < h_3 (h_3 a0 2) (-1)) (pt h_3 (h_3 a0 2) (h_3 a0 3) (w8 (ishr_ a1 x2_3)) fun h19 =>
  pt h19 a0 3 (w32 ((h19 a0 3) + 1)) fun h27 =>
  lt_ (w32 (x2_3 + (-8))) fun x2_30 =>
  some (.inl (x2_30, h27))))
noncomputable def m_X18_four (a0 a1 : Int) (h : Hp) : Option (Hp) :=
  lt_ 24 fun x2_2 =>
  (lp (fun (q : Int × Hp) => m_X18_four_l3 a0 a1 q.1 q.2) (x2_2, h)).bind (fun (x : Hp) => some x)
theorem s_X18_four {l : Launch} [NoTr l] {D : SD} {a0 a1 : Int} {h : Hp} (hk : h a0 (-2) = 304) (r1 : r32 a1) {r : Hp} (hm : m_X18_four a0 a1 h = some r) : Sim l D yX18_four (Cond.code yX18_four cX18_four 3 (Option.none : Option Jvm.ClassFile.FieldType)) 0 0 [rv D a0, iv a1] h 0 ((0, 0), r) := by
  refine Sim.of (fin := fun (v : Hp) => ((0, 0), v)) (lsE := [(0, rv D a0), (1, iv a1)]) hm rfl cwS_code (la_r (la_i la_n)) (ll_r (ll_i ll_n)) ?_
  intro p e s m below meth c X hcw hmm hcc hnm hname
  unfold m_X18_four
  refine g_bipush (pc := 0) X (n := 24) rfl (dl_at t_X18_four 0 rfl) ?_
  refine g_lti (r32_c rfl) fun x2_2 r2_2 => ?_
  refine g_istore_nN (pc := 2) X (j := 2) (i := 2) (x := x2_2) (b := 1) (w := iv a1) (rest := [(0, rv D a0)]) rfl (Nat.le_of_ble_eq_true rfl) [1, 0] rfl (by decide) rfl rfl (dl_at t_X18_four 1 rfl) ?_
  refine g_ls (ls2 := [(0, rv D a0), (1, iv a1), (2, iv x2_2)]) [2, 1, 0] rfl ?_
  refine g_loop0F (fun (q : Int × Hp) => [(0, rv D a0), (1, iv a1), (2, iv q.1)]) (fun (q : Int × Hp) => q.2) (fun (q : Int × Hp) => r32 q.1 ∧ Ext h q.2) (x2_2, h) ⟨r2_2, (Ext.refl _)⟩ ?_ (fun _ => rfl)
  · rintro ⟨x2_3, h_3⟩ ⟨r2_3, E_3⟩
    try dsimp only
    unfold m_X18_four_l3
    refine g_iload_n (pc := 3) X (j := 2) (i := 2) (q := 2) (x := x2_3) rfl rfl (dl_at t_X18_four 2 rfl) ?_
    refine g_iflt (pc := 4) X r2_3 (off := 32) (tgt := 36) rfl (dl_at t_X18_four 3 rfl) (fun _ => ?_) (fun _ => ?_)
    · exact g_at fun Q hQ => (g_vret (pc := 36) X (v := 0) rfl rfl (dl_at t_X18_four 21 rfl)) _ Q rfl hQ
    refine g_aload_n (pc := 7) X (j := 0) (i := 0) (q := 0) (x := a0) rfl rfl (dl_at t_X18_four 4 rfl) ?_
    have k8 := kx E_3 (by decide) hk
    refine r_getr (pc := 8) X fX18_2 k8 q4238 (dl_at t_X18_four 5 rfl) ?_
    refine g_aload_n (pc := 11) X (j := 0) (i := 0) (q := 0) (x := a0) rfl rfl (dl_at t_X18_four 6 rfl) ?_
    refine r_geti (pc := 12) X fX18_3 k8 q4239 (dl_at t_X18_four 7 rfl) fun g12 => ?_
    refine g_iload_n (pc := 15) X (j := 1) (i := 1) (q := 1) (x := a1) rfl rfl (dl_at t_X18_four 8 rfl) ?_
    refine g_iload_n (pc := 16) X (j := 2) (i := 2) (q := 2) (x := x2_3) rfl rfl (dl_at t_X18_four 9 rfl) ?_
    refine g_ishr (pc := 17) X (dl_at t_X18_four 10 rfl) ?_
    refine g_i2b (pc := 18) X (r32_ishr _ _) (dl_at t_X18_four 11 rfl) ?_
    refine g_gd fun k19 => ?_
    refine r_bastB (pc := 19) X g12 (b_w8 _) k19 (dl_at t_X18_four 12 rfl) (fun h19 E19 => ?_)
    refine g_aload_n (pc := 20) X (j := 0) (i := 0) (q := 0) (x := a0) rfl rfl (dl_at t_X18_four 13 rfl) ?_
    refine g_dup (pc := 21) X rv_cat (dl_at t_X18_four 14 rfl) ?_
    have k22 := kx E19 (by decide) k8
    refine r_geti (pc := 22) X fX18_3 k22 q4239 (dl_at t_X18_four 15 rfl) fun g22 => ?_
    refine g_iconst (pc := 25) X (n := 1) (dl_at t_X18_four 16 rfl) ?_
    refine g_iadd (pc := 26) X g22 (r32_c rfl) (dl_at t_X18_four 17 rfl) ?_
    refine r_puti (pc := 27) X fX18_3 k22 q4239 rfl (dl_at t_X18_four 18 rfl) (r32_w _) (fun h27 E27 => ?_)
    refine r_iincN (pc := 30) X (i := 2) (q := 2) (n := (-8)) (x := x2_3) (b := 1) (w := iv a1) (rest := [(0, rv D a0)]) rfl r2_3 (r32_c rfl) (Nat.le_of_ble_eq_true rfl) [1, 0] rfl (by decide) rfl rfl (dl_at t_X18_four 19 rfl) fun x2_30 r2_30 => ?_
    refine g_goto (pc := 33) X (off := (-30)) (tgt := 3) rfl (dl_at t_X18_four 20 rfl) ?_
    refine g_ls (ls2 := [(0, rv D a0), (1, iv a1), (2, iv x2_30)]) [2, 1, 0] rfl ?_
    exact g_at fun Q hQ => hQ ⟨r2_30, (E_3.trans (E19.trans E27))⟩
def k_X18_feed : List (Nat × Instr × Nat) := [(0, .aload_n 0, 1), (1, .getfield 104, 3), (4, .bipush 20, 2), (6, .iadd, 1), (7, .sipush 16384, 3), (10, .if_icmp .le 9, 3), (13, .aload_n 0, 1), (14, .iconst 1, 1), (15, .invokevirtual 107, 3), (18, .ireturn, 1), (19, .aload_n 0, 1), (20, .iconst 0, 1), (21, .putfield 87, 3), (24, .aload_n 0, 1), (25, .iload_n 1, 1), (26, .invokevirtual 111, 3), (29, .aload_n 0, 1), (30, .iload_n 2, 1), (31, .invokevirtual 111, 3), (34, .aload_n 0, 1), (35, .iload_n 3, 1), (36, .invokevirtual 111, 3), (39, .aload_n 0, 1), (40, .iload 4, 2), (42, .invokevirtual 111, 3), (45, .aload_n 0, 1), (46, .iload 5, 2), (48, .invokevirtual 111, 3), (51, .aload_n 0, 1), (52, .getfield 104, 3), (55, .ireturn, 1)]
theorem t_X18_feed : ∀ q ∈ k_X18_feed, decode cX18_feed q.1 = .ok q.2 := dl_all (by decide +kernel)
noncomputable def m_X18_feed (a0 a1 a2 a3 a4 a5 : Int) (h : Hp) : Option (Int × Hp) :=
  if (w32 ((h a0 3) + 20)) ≤ 16384 then (pt h a0 0 0 fun h21 =>
  (m_X18_four a0 a1 h21).bind fun h26 =>
  (m_X18_four a0 a2 h26).bind fun h31 =>
  (m_X18_four a0 a3 h31).bind fun h36 =>
  (m_X18_four a0 a4 h36).bind fun h42 =>
  (m_X18_four a0 a5 h42).bind fun h48 =>
  some ((h48 a0 3), h48))
  else (bW (m_X18_refuse a0 1 h) fun v15 h15 =>
  some (v15, h15))
theorem s_X18_feed {l : Launch} [NoTr l] {D : SD} {a0 a1 a2 a3 a4 a5 : Int} {h : Hp} (hk : h a0 (-2) = 304) (r1 : r32 a1) (r2 : r32 a2) (r3 : r32 a3) (r4 : r32 a4) (r5 : r32 a5) {r : Int × Hp} (hm : m_X18_feed a0 a1 a2 a3 a4 a5 h = some r) : Sim l D yX18_feed (Cond.code yX18_feed cX18_feed 6 (Option.some Jvm.ClassFile.FieldType.int)) 1 38 [rv D a0, iv a1, iv a2, iv a3, iv a4, iv a5] h 1 ((0, r.1), r.2) := by
  refine Sim.of (fin := fun (v : Int × Hp) => ((0, v.1), v.2)) (lsE := [(0, rv D a0), (1, iv a1), (2, iv a2), (3, iv a3), (4, iv a4), (5, iv a5)]) hm rfl cwS_code (la_r (la_i (la_i (la_i (la_i (la_i la_n)))))) (ll_r (ll_i (ll_i (ll_i (ll_i (ll_i ll_n)))))) ?_
  intro p e s m below meth c X hcw hmm hcc hnm hname
  unfold m_X18_feed
  refine g_aload_n (pc := 0) X (j := 0) (i := 0) (q := 0) (x := a0) rfl rfl (dl_at t_X18_feed 0 rfl) ?_
  refine r_geti (pc := 1) X fX18_3 hk q4239 (dl_at t_X18_feed 1 rfl) fun g1 => ?_
  refine g_bipush (pc := 4) X (n := 20) rfl (dl_at t_X18_feed 2 rfl) ?_
  refine g_iadd (pc := 6) X g1 (r32_c rfl) (dl_at t_X18_feed 3 rfl) ?_
  refine g_sipush (pc := 7) X (n := 16384) rfl (dl_at t_X18_feed 4 rfl) ?_
  refine g_icmple (pc := 10) X (r32_w _) (r32_c rfl) (off := 9) (tgt := 19) rfl (dl_at t_X18_feed 5 rfl) (fun _ => ?_) (fun _ => ?_)
  · refine g_aload_n (pc := 19) X (j := 0) (i := 0) (q := 0) (x := a0) rfl rfl (dl_at t_X18_feed 10 rfl) ?_
    refine g_iconst (pc := 20) X (n := 0) (dl_at t_X18_feed 11 rfl) ?_
    refine r_puti (pc := 21) X fX18_0 hk q4236 rfl (dl_at t_X18_feed 12 rfl) (r32_c rfl) (fun h21 E21 => ?_)
    refine g_aload_n (pc := 24) X (j := 0) (i := 0) (q := 0) (x := a0) rfl rfl (dl_at t_X18_feed 13 rfl) ?_
    refine g_iload_n (pc := 25) X (j := 1) (i := 1) (q := 1) (x := a1) rfl rfl (dl_at t_X18_feed 14 rfl) ?_
    have k26 := kx E21 (by decide) hk
    refine r_callV (pc := 26) X (fun _ hv => s_X18_four k26 r1 hv) cw_code q4321 q372 (in_Vk X (As := [iv a1]) kX18 k26 (Or.inl q4318) q4320 qs238 cw_code q4321 ⟨by decide, by decide⟩ rfl (dl_at t_X18_feed 15 rfl)) (dl_at t_X18_feed 15 rfl) (cat24 (st := []) (Nat.le_of_ble_eq_true rfl)) (Nat.le_of_ble_eq_true rfl) (Nat.le_of_ble_eq_true rfl) fun h26 E26 => ?_
    refine g_aload_n (pc := 29) X (j := 0) (i := 0) (q := 0) (x := a0) rfl rfl (dl_at t_X18_feed 16 rfl) ?_
    refine g_iload_n (pc := 30) X (j := 2) (i := 2) (q := 2) (x := a2) rfl rfl (dl_at t_X18_feed 17 rfl) ?_
    have k31 := kx E26 (by decide) k26
    refine r_callV (pc := 31) X (fun _ hv => s_X18_four k31 r2 hv) cw_code q4321 q372 (in_Vk X (As := [iv a2]) kX18 k31 (Or.inl q4318) q4320 qs238 cw_code q4321 ⟨by decide, by decide⟩ rfl (dl_at t_X18_feed 18 rfl)) (dl_at t_X18_feed 18 rfl) (cat24 (st := []) (Nat.le_of_ble_eq_true rfl)) (Nat.le_of_ble_eq_true rfl) (Nat.le_of_ble_eq_true rfl) fun h31 E31 => ?_
    refine g_aload_n (pc := 34) X (j := 0) (i := 0) (q := 0) (x := a0) rfl rfl (dl_at t_X18_feed 19 rfl) ?_
    refine g_iload_n (pc := 35) X (j := 3) (i := 3) (q := 3) (x := a3) rfl rfl (dl_at t_X18_feed 20 rfl) ?_
    have k36 := kx E31 (by decide) k31
    refine r_callV (pc := 36) X (fun _ hv => s_X18_four k36 r3 hv) cw_code q4321 q372 (in_Vk X (As := [iv a3]) kX18 k36 (Or.inl q4318) q4320 qs238 cw_code q4321 ⟨by decide, by decide⟩ rfl (dl_at t_X18_feed 21 rfl)) (dl_at t_X18_feed 21 rfl) (cat24 (st := []) (Nat.le_of_ble_eq_true rfl)) (Nat.le_of_ble_eq_true rfl) (Nat.le_of_ble_eq_true rfl) fun h36 E36 => ?_
    refine g_aload_n (pc := 39) X (j := 0) (i := 0) (q := 0) (x := a0) rfl rfl (dl_at t_X18_feed 22 rfl) ?_
    refine g_iload (pc := 40) X (i := 4) (q := 4) (x := a4) rfl (dl_at t_X18_feed 23 rfl) ?_
    have k42 := kx E36 (by decide) k36
    refine r_callV (pc := 42) X (fun _ hv => s_X18_four k42 r4 hv) cw_code q4321 q372 (in_Vk X (As := [iv a4]) kX18 k42 (Or.inl q4318) q4320 qs238 cw_code q4321 ⟨by decide, by decide⟩ rfl (dl_at t_X18_feed 24 rfl)) (dl_at t_X18_feed 24 rfl) (cat24 (st := []) (Nat.le_of_ble_eq_true rfl)) (Nat.le_of_ble_eq_true rfl) (Nat.le_of_ble_eq_true rfl) fun h42 E42 => ?_
    refine g_aload_n (pc := 45) X (j := 0) (i := 0) (q := 0) (x := a0) rfl rfl (dl_at t_X18_feed 25 rfl) ?_
    refine g_iload (pc := 46) X (i := 5) (q := 5) (x := a5) rfl (dl_at t_X18_feed 26 rfl) ?_
    have k48 := kx E42 (by decide) k42
    refine r_callV (pc := 48) X (fun _ hv => s_X18_four k48 r5 hv) cw_code q4321 q372 (in_Vk X (As := [iv a5]) kX18 k48 (Or.inl q4318) q4320 qs238 cw_code q4321 ⟨by decide, by decide⟩ rfl (dl_at t_X18_feed 27 rfl)) (dl_at t_X18_feed 27 rfl) (cat24 (st := []) (Nat.le_of_ble_eq_true rfl)) (Nat.le_of_ble_eq_true rfl) (Nat.le_of_ble_eq_true rfl) fun h48 E48 => ?_
    refine g_aload_n (pc := 51) X (j := 0) (i := 0) (q := 0) (x := a0) rfl rfl (dl_at t_X18_feed 28 rfl) ?_
    have k52 := kx E48 (by decide) k48
    refine r_geti (pc := 52) X fX18_3 k52 q4239 (dl_at t_X18_feed 29 rfl) fun g52 => ?_
    exact g_iret (pc := 55) X g52 rfl rfl (dl_at t_X18_feed 30 rfl)
  refine g_aload_n (pc := 13) X (j := 0) (i := 0) (q := 0) (x := a0) rfl rfl (dl_at t_X18_feed 6 rfl) ?_
  refine g_iconst (pc := 14) X (n := 1) (dl_at t_X18_feed 7 rfl) ?_
  refine r_callWi (pc := 15) X (fun _ hv => s_X18_refuse hk (r32_c rfl) hv) cw_code q4317 q372 (in_Vk X (As := [iv 1]) kX18 hk (Or.inl q4314) q4316 qs237 cw_code q4317 ⟨by decide, by decide⟩ rfl (dl_at t_X18_feed 8 rfl)) (dl_at t_X18_feed 8 rfl) (cat24 (st := []) (Nat.le_of_ble_eq_true rfl)) (Nat.le_of_ble_eq_true rfl) (Nat.le_of_ble_eq_true rfl) fun v15 h15 g15 E15 => ?_
  exact g_iret (pc := 18) X g15 rfl rfl (dl_at t_X18_feed 9 rfl)
def k_X18_end : List (Nat × Instr × Nat) := [(0, .iload_n 1, 1), (1, .ifCond .lt 11, 3), (4, .iload_n 1, 1), (5, .aload_n 0, 1), (6, .getfield 104, 3), (9, .if_icmp .le 9, 3), (12, .aload_n 0, 1), (13, .iconst 1, 1), (14, .invokevirtual 107, 3), (17, .ireturn, 1), (18, .aload_n 0, 1), (19, .iconst 0, 1), (20, .putfield 87, 3), (23, .aload_n 0, 1), (24, .iload_n 1, 1), (25, .putfield 104, 3), (28, .iload_n 1, 1), (29, .ireturn, 1)]
theorem t_X18_end : ∀ q ∈ k_X18_end, decode cX18_end q.1 = .ok q.2 := dl_all (by decide +kernel)
noncomputable def m_X18_end (a0 a1 : Int) (h : Hp) : Option (Int × Hp) :=
  if a1 < 0 then (bW (m_X18_refuse a0 1 h) fun v14 h14 =>
  some (v14, h14))
  else (if a1 ≤ (h a0 3) then (pt h a0 0 0 fun h20 =>
  pt h20 a0 3 a1 fun h25 =>
  some (a1, h25))
  else (bW (m_X18_refuse a0 1 h) fun v14_1 h14_1 =>
  some (v14_1, h14_1)))
theorem s_X18_end {l : Launch} [NoTr l] {D : SD} {a0 a1 : Int} {h : Hp} (hk : h a0 (-2) = 304) (r1 : r32 a1) {r : Int × Hp} (hm : m_X18_end a0 a1 h = some r) : Sim l D yX18_end (Cond.code yX18_end cX18_end 2 (Option.some Jvm.ClassFile.FieldType.int)) 1 37 [rv D a0, iv a1] h 1 ((0, r.1), r.2) := by
  refine Sim.of (fin := fun (v : Int × Hp) => ((0, v.1), v.2)) (lsE := [(0, rv D a0), (1, iv a1)]) hm rfl cwS_code (la_r (la_i la_n)) (ll_r (ll_i ll_n)) ?_
  intro p e s m below meth c X hcw hmm hcc hnm hname
  unfold m_X18_end
  refine g_iload_n (pc := 0) X (j := 1) (i := 1) (q := 1) (x := a1) rfl rfl (dl_at t_X18_end 0 rfl) ?_
  refine g_iflt (pc := 1) X r1 (off := 11) (tgt := 12) rfl (dl_at t_X18_end 1 rfl) (fun _ => ?_) (fun _ => ?_)
  · refine g_aload_n (pc := 12) X (j := 0) (i := 0) (q := 0) (x := a0) rfl rfl (dl_at t_X18_end 6 rfl) ?_
    refine g_iconst (pc := 13) X (n := 1) (dl_at t_X18_end 7 rfl) ?_
    refine r_callWi (pc := 14) X (fun _ hv => s_X18_refuse hk (r32_c rfl) hv) cw_code q4317 q372 (in_Vk X (As := [iv 1]) kX18 hk (Or.inl q4314) q4316 qs237 cw_code q4317 ⟨by decide, by decide⟩ rfl (dl_at t_X18_end 8 rfl)) (dl_at t_X18_end 8 rfl) (cat24 (st := []) (Nat.le_of_ble_eq_true rfl)) (Nat.le_of_ble_eq_true rfl) (Nat.le_of_ble_eq_true rfl) fun v14 h14 g14 E14 => ?_
    exact g_iret (pc := 17) X g14 rfl rfl (dl_at t_X18_end 9 rfl)
  refine g_iload_n (pc := 4) X (j := 1) (i := 1) (q := 1) (x := a1) rfl rfl (dl_at t_X18_end 2 rfl) ?_
  refine g_aload_n (pc := 5) X (j := 0) (i := 0) (q := 0) (x := a0) rfl rfl (dl_at t_X18_end 3 rfl) ?_
  refine r_geti (pc := 6) X fX18_3 hk q4239 (dl_at t_X18_end 4 rfl) fun g6 => ?_
  refine g_icmple (pc := 9) X r1 g6 (off := 9) (tgt := 18) rfl (dl_at t_X18_end 5 rfl) (fun _ => ?_) (fun _ => ?_)
  · refine g_aload_n (pc := 18) X (j := 0) (i := 0) (q := 0) (x := a0) rfl rfl (dl_at t_X18_end 10 rfl) ?_
    refine g_iconst (pc := 19) X (n := 0) (dl_at t_X18_end 11 rfl) ?_
    refine r_puti (pc := 20) X fX18_0 hk q4236 rfl (dl_at t_X18_end 12 rfl) (r32_c rfl) (fun h20 E20 => ?_)
    refine g_aload_n (pc := 23) X (j := 0) (i := 0) (q := 0) (x := a0) rfl rfl (dl_at t_X18_end 13 rfl) ?_
    refine g_iload_n (pc := 24) X (j := 1) (i := 1) (q := 1) (x := a1) rfl rfl (dl_at t_X18_end 14 rfl) ?_
    have k25 := kx E20 (by decide) hk
    refine r_puti (pc := 25) X fX18_3 k25 q4239 rfl (dl_at t_X18_end 15 rfl) r1 (fun h25 E25 => ?_)
    refine g_iload_n (pc := 28) X (j := 1) (i := 1) (q := 1) (x := a1) rfl rfl (dl_at t_X18_end 16 rfl) ?_
    exact g_iret (pc := 29) X r1 rfl rfl (dl_at t_X18_end 17 rfl)
  refine g_aload_n (pc := 12) X (j := 0) (i := 0) (q := 0) (x := a0) rfl rfl (dl_at t_X18_end 6 rfl) ?_
  refine g_iconst (pc := 13) X (n := 1) (dl_at t_X18_end 7 rfl) ?_
  refine r_callWi (pc := 14) X (fun _ hv => s_X18_refuse hk (r32_c rfl) hv) cw_code q4317 q372 (in_Vk X (As := [iv 1]) kX18 hk (Or.inl q4314) q4316 qs237 cw_code q4317 ⟨by decide, by decide⟩ rfl (dl_at t_X18_end 8 rfl)) (dl_at t_X18_end 8 rfl) (cat24 (st := []) (Nat.le_of_ble_eq_true rfl)) (Nat.le_of_ble_eq_true rfl) (Nat.le_of_ble_eq_true rfl) fun v14_1 h14_1 g14_1 E14_1 => ?_
  exact g_iret (pc := 17) X g14_1 rfl rfl (dl_at t_X18_end 9 rfl)
def k_X20_byteAt : List (Nat × Instr × Nat) := [(0, .iload_n 1, 1), (1, .aload_n 0, 1), (2, .getfield 13, 3), (5, .if_icmp .ge 16, 3), (8, .aload_n 0, 1), (9, .getfield 7, 3), (12, .iload_n 1, 1), (13, .baload, 1), (14, .sipush 255, 3), (17, .iand, 1), (18, .goto 4, 3), (21, .iconst (-1), 1), (22, .ireturn, 1)]
theorem t_X20_byteAt : ∀ q ∈ k_X20_byteAt, decode cX20_byteAt q.1 = .ok q.2 := dl_all (by decide +kernel)
noncomputable def m_X20_byteAt (a0 a1 : Int) (h : Hp) : Option (Int) :=
  if (h a0 1) ≤ a1 then (some (-1))
  else (gd (h (h a0 0) (-2) % 16 = 2 ∧ (0 : Int) ≤ a1 ∧ a1 < h (h a0 0) (-1)) (some (iand_ (h (h a0 0) a1) 255)))
theorem s_X20_byteAt {l : Launch} [NoTr l] {D : SD} {a0 a1 : Int} {h : Hp} (hk : h a0 (-2) = 336) (r1 : r32 a1) {r : Int} (hm : m_X20_byteAt a0 a1 h = some r) : Sim l D yX20_byteAt (Cond.code yX20_byteAt cX20_byteAt 2 (Option.some Jvm.ClassFile.FieldType.int)) 0 0 [rv D a0, iv a1] h 1 ((0, r), h) := by
  refine Sim.of (fin := fun (v : Int) => ((0, v), h)) (lsE := [(0, rv D a0), (1, iv a1)]) hm rfl cwS_code (la_r (la_i la_n)) (ll_r (ll_i ll_n)) ?_
  intro p e s m below meth c X hcw hmm hcc hnm hname
  unfold m_X20_byteAt
  refine g_iload_n (pc := 0) X (j := 1) (i := 1) (q := 1) (x := a1) rfl rfl (dl_at t_X20_byteAt 0 rfl) ?_
  refine g_aload_n (pc := 1) X (j := 0) (i := 0) (q := 0) (x := a0) rfl rfl (dl_at t_X20_byteAt 1 rfl) ?_
  refine r_geti (pc := 2) X fX20_1 hk q3275 (dl_at t_X20_byteAt 2 rfl) fun g2 => ?_
  refine g_icmpge (pc := 5) X r1 g2 (off := 16) (tgt := 21) rfl (dl_at t_X20_byteAt 3 rfl) (fun _ => ?_) (fun _ => ?_)
  · refine g_iconst (pc := 21) X (n := (-1)) (dl_at t_X20_byteAt 11 rfl) ?_
    exact g_iret (pc := 22) X (r32_c rfl) rfl rfl (dl_at t_X20_byteAt 12 rfl)
  refine g_aload_n (pc := 8) X (j := 0) (i := 0) (q := 0) (x := a0) rfl rfl (dl_at t_X20_byteAt 4 rfl) ?_
  refine r_getr (pc := 9) X fX20_0 hk q3273 (dl_at t_X20_byteAt 5 rfl) ?_
  refine g_iload_n (pc := 12) X (j := 1) (i := 1) (q := 1) (x := a1) rfl rfl (dl_at t_X20_byteAt 6 rfl) ?_
  refine g_gd fun k13 => ?_
  refine g_bald (pc := 13) X r1 k13 (dl_at t_X20_byteAt 7 rfl) fun g13 => ?_
  refine g_sipush (pc := 14) X (n := 255) rfl (dl_at t_X20_byteAt 8 rfl) ?_
  refine g_iand (pc := 17) X (dl_at t_X20_byteAt 9 rfl) ?_
  refine g_goto (pc := 18) X (off := 4) (tgt := 22) rfl (dl_at t_X20_byteAt 10 rfl) ?_
  exact g_iret (pc := 22) X (r32_iand _ _) rfl rfl (dl_at t_X20_byteAt 12 rfl)
def k_X18_isBlank : List (Nat × Instr × Nat) := [(0, .iload_n 0, 1), (1, .bipush 10, 2), (3, .if_icmp .eq 9, 3), (6, .iload_n 0, 1), (7, .bipush 32, 2), (9, .if_icmp .ne 7, 3), (12, .iconst 1, 1), (13, .goto 4, 3), (16, .iconst 0, 1), (17, .ireturn, 1)]
theorem t_X18_isBlank : ∀ q ∈ k_X18_isBlank, decode cX18_isBlank q.1 = .ok q.2 := dl_all (by decide +kernel)
noncomputable def m_X18_isBlank (a0 : Int) : Option (Int) :=
  if a0 = 10 then (some 1)
  else (if a0 ≠ 32 then (some 0)
  else (some 1))
theorem s_X18_isBlank {l : Launch} [NoTr l] {D : SD} {a0 : Int} {h : Hp} (r0 : r32 a0) {r : Int} (hm : m_X18_isBlank a0 = some r) : Sim l D yX18_isBlank (Cond.code yX18_isBlank cX18_isBlank 1 (Option.some Jvm.ClassFile.FieldType.boolean)) 0 0 [iv a0] h 3 ((0, r), h) := by
  refine Sim.of (fin := fun (v : Int) => ((0, v), h)) (lsE := [(0, iv a0)]) hm rfl cwS_code (la_i la_n) (ll_i ll_n) ?_
  intro p e s m below meth c X hcw hmm hcc hnm hname
  unfold m_X18_isBlank
  refine g_iload_n (pc := 0) X (j := 0) (i := 0) (q := 0) (x := a0) rfl rfl (dl_at t_X18_isBlank 0 rfl) ?_
  refine g_bipush (pc := 1) X (n := 10) rfl (dl_at t_X18_isBlank 1 rfl) ?_
  refine g_icmpeq (pc := 3) X r0 (r32_c rfl) (off := 9) (tgt := 12) rfl (dl_at t_X18_isBlank 2 rfl) (fun _ => ?_) (fun _ => ?_)
  · refine g_iconst (pc := 12) X (n := 1) (dl_at t_X18_isBlank 6 rfl) ?_
    refine g_goto (pc := 13) X (off := 4) (tgt := 17) rfl (dl_at t_X18_isBlank 7 rfl) ?_
    exact g_zret (pc := 17) X (Or.inr rfl) rfl rfl (dl_at t_X18_isBlank 9 rfl)
  refine g_iload_n (pc := 6) X (j := 0) (i := 0) (q := 0) (x := a0) rfl rfl (dl_at t_X18_isBlank 3 rfl) ?_
  refine g_bipush (pc := 7) X (n := 32) rfl (dl_at t_X18_isBlank 4 rfl) ?_
  refine g_icmpne (pc := 9) X r0 (r32_c rfl) (off := 7) (tgt := 16) rfl (dl_at t_X18_isBlank 5 rfl) (fun _ => ?_) (fun _ => ?_)
  · refine g_iconst (pc := 16) X (n := 0) (dl_at t_X18_isBlank 8 rfl) ?_
    exact g_zret (pc := 17) X (Or.inl rfl) rfl rfl (dl_at t_X18_isBlank 9 rfl)
  refine g_iconst (pc := 12) X (n := 1) (dl_at t_X18_isBlank 6 rfl) ?_
  refine g_goto (pc := 13) X (off := 4) (tgt := 17) rfl (dl_at t_X18_isBlank 7 rfl) ?_
  exact g_zret (pc := 17) X (Or.inr rfl) rfl rfl (dl_at t_X18_isBlank 9 rfl)
def k_X18_isSmall : List (Nat × Instr × Nat) := [(0, .iload_n 0, 1), (1, .bipush 97, 2), (3, .if_icmp .lt 13, 3), (6, .iload_n 0, 1), (7, .bipush 122, 2), (9, .if_icmp .gt 7, 3), (12, .iconst 1, 1), (13, .goto 4, 3), (16, .iconst 0, 1), (17, .ireturn, 1)]
theorem t_X18_isSmall : ∀ q ∈ k_X18_isSmall, decode cX18_isSmall q.1 = .ok q.2 := dl_all (by decide +kernel)
noncomputable def m_X18_isSmall (a0 : Int) : Option (Int) :=
  if a0 < 97 then (some 0)
  else (if 122 < a0 then (some 0)
  else (some 1))
theorem s_X18_isSmall {l : Launch} [NoTr l] {D : SD} {a0 : Int} {h : Hp} (r0 : r32 a0) {r : Int} (hm : m_X18_isSmall a0 = some r) : Sim l D yX18_isSmall (Cond.code yX18_isSmall cX18_isSmall 1 (Option.some Jvm.ClassFile.FieldType.boolean)) 0 0 [iv a0] h 3 ((0, r), h) := by
  refine Sim.of (fin := fun (v : Int) => ((0, v), h)) (lsE := [(0, iv a0)]) hm rfl cwS_code (la_i la_n) (ll_i ll_n) ?_
  intro p e s m below meth c X hcw hmm hcc hnm hname
  unfold m_X18_isSmall
  refine g_iload_n (pc := 0) X (j := 0) (i := 0) (q := 0) (x := a0) rfl rfl (dl_at t_X18_isSmall 0 rfl) ?_
  refine g_bipush (pc := 1) X (n := 97) rfl (dl_at t_X18_isSmall 1 rfl) ?_
  refine g_icmplt (pc := 3) X r0 (r32_c rfl) (off := 13) (tgt := 16) rfl (dl_at t_X18_isSmall 2 rfl) (fun _ => ?_) (fun _ => ?_)
  · refine g_iconst (pc := 16) X (n := 0) (dl_at t_X18_isSmall 8 rfl) ?_
    exact g_zret (pc := 17) X (Or.inl rfl) rfl rfl (dl_at t_X18_isSmall 9 rfl)
  refine g_iload_n (pc := 6) X (j := 0) (i := 0) (q := 0) (x := a0) rfl rfl (dl_at t_X18_isSmall 3 rfl) ?_
  refine g_bipush (pc := 7) X (n := 122) rfl (dl_at t_X18_isSmall 4 rfl) ?_
  refine g_icmpgt (pc := 9) X r0 (r32_c rfl) (off := 7) (tgt := 16) rfl (dl_at t_X18_isSmall 5 rfl) (fun _ => ?_) (fun _ => ?_)
  · refine g_iconst (pc := 16) X (n := 0) (dl_at t_X18_isSmall 8 rfl) ?_
    exact g_zret (pc := 17) X (Or.inl rfl) rfl rfl (dl_at t_X18_isSmall 9 rfl)
  refine g_iconst (pc := 12) X (n := 1) (dl_at t_X18_isSmall 6 rfl) ?_
  refine g_goto (pc := 13) X (off := 4) (tgt := 17) rfl (dl_at t_X18_isSmall 7 rfl) ?_
  exact g_zret (pc := 17) X (Or.inr rfl) rfl rfl (dl_at t_X18_isSmall 9 rfl)
def k_X18_isDigit : List (Nat × Instr × Nat) := [(0, .iload_n 0, 1), (1, .bipush 48, 2), (3, .if_icmp .lt 13, 3), (6, .iload_n 0, 1), (7, .bipush 57, 2), (9, .if_icmp .gt 7, 3), (12, .iconst 1, 1), (13, .goto 4, 3), (16, .iconst 0, 1), (17, .ireturn, 1)]
theorem t_X18_isDigit : ∀ q ∈ k_X18_isDigit, decode cX18_isDigit q.1 = .ok q.2 := dl_all (by decide +kernel)
noncomputable def m_X18_isDigit (a0 : Int) : Option (Int) :=
  if a0 < 48 then (some 0)
  else (if 57 < a0 then (some 0)
  else (some 1))
theorem s_X18_isDigit {l : Launch} [NoTr l] {D : SD} {a0 : Int} {h : Hp} (r0 : r32 a0) {r : Int} (hm : m_X18_isDigit a0 = some r) : Sim l D yX18_isDigit (Cond.code yX18_isDigit cX18_isDigit 1 (Option.some Jvm.ClassFile.FieldType.boolean)) 0 0 [iv a0] h 3 ((0, r), h) := by
  refine Sim.of (fin := fun (v : Int) => ((0, v), h)) (lsE := [(0, iv a0)]) hm rfl cwS_code (la_i la_n) (ll_i ll_n) ?_
  intro p e s m below meth c X hcw hmm hcc hnm hname
  unfold m_X18_isDigit
  refine g_iload_n (pc := 0) X (j := 0) (i := 0) (q := 0) (x := a0) rfl rfl (dl_at t_X18_isDigit 0 rfl) ?_
  refine g_bipush (pc := 1) X (n := 48) rfl (dl_at t_X18_isDigit 1 rfl) ?_
  refine g_icmplt (pc := 3) X r0 (r32_c rfl) (off := 13) (tgt := 16) rfl (dl_at t_X18_isDigit 2 rfl) (fun _ => ?_) (fun _ => ?_)
  · refine g_iconst (pc := 16) X (n := 0) (dl_at t_X18_isDigit 8 rfl) ?_
    exact g_zret (pc := 17) X (Or.inl rfl) rfl rfl (dl_at t_X18_isDigit 9 rfl)
  refine g_iload_n (pc := 6) X (j := 0) (i := 0) (q := 0) (x := a0) rfl rfl (dl_at t_X18_isDigit 3 rfl) ?_
  refine g_bipush (pc := 7) X (n := 57) rfl (dl_at t_X18_isDigit 4 rfl) ?_
  refine g_icmpgt (pc := 9) X r0 (r32_c rfl) (off := 7) (tgt := 16) rfl (dl_at t_X18_isDigit 5 rfl) (fun _ => ?_) (fun _ => ?_)
  · refine g_iconst (pc := 16) X (n := 0) (dl_at t_X18_isDigit 8 rfl) ?_
    exact g_zret (pc := 17) X (Or.inl rfl) rfl rfl (dl_at t_X18_isDigit 9 rfl)
  refine g_iconst (pc := 12) X (n := 1) (dl_at t_X18_isDigit 6 rfl) ?_
  refine g_goto (pc := 13) X (off := 4) (tgt := 17) rfl (dl_at t_X18_isDigit 7 rfl) ?_
  exact g_zret (pc := 17) X (Or.inr rfl) rfl rfl (dl_at t_X18_isDigit 9 rfl)
def k_X20_next : List (Nat × Instr × Nat) := [(0, .aload_n 0, 1), (1, .getfield 17, 3), (4, .aload_n 0, 1), (5, .getfield 13, 3), (8, .if_icmp .ge 30, 3), (11, .aload_n 0, 1), (12, .aload_n 0, 1), (13, .getfield 17, 3), (16, .invokevirtual 23, 3), (19, .invokestatic 27, 3), (22, .ifCond .eq 16, 3), (25, .aload_n 0, 1), (26, .dup, 1), (27, .getfield 17, 3), (30, .iconst 1, 1), (31, .iadd, 1), (32, .putfield 17, 3), (35, .goto (-35), 3), (38, .aload_n 0, 1), (39, .aload_n 0, 1), (40, .getfield 17, 3), (43, .putfield 33, 3), (46, .aload_n 0, 1), (47, .aload_n 0, 1), (48, .getfield 17, 3), (51, .putfield 36, 3), (54, .aload_n 0, 1), (55, .getfield 17, 3), (58, .aload_n 0, 1), (59, .getfield 13, 3), (62, .if_icmp .ne 9, 3), (65, .aload_n 0, 1), (66, .iconst 5, 1), (67, .putfield 39, 3), (70, .return_, 1), (71, .aload_n 0, 1), (72, .aload_n 0, 1), (73, .getfield 17, 3), (76, .invokevirtual 23, 3), (79, .istore_n 1, 1), (80, .iload_n 1, 1), (81, .invokestatic 42, 3), (84, .ifCond .eq 75, 3), (87, .aload_n 0, 1), (88, .aload_n 0, 1), (89, .getfield 36, 3), (92, .invokevirtual 23, 3), (95, .invokestatic 42, 3), (98, .ifCond .ne 17, 3), (101, .aload_n 0, 1), (102, .aload_n 0, 1), (103, .getfield 36, 3), (106, .invokevirtual 23, 3), (109, .invokestatic 45, 3), (112, .ifCond .eq 16, 3), (115, .aload_n 0, 1), (116, .dup, 1), (117, .getfield 36, 3), (120, .iconst 1, 1), (121, .iadd, 1), (122, .putfield 36, 3), (125, .goto (-38), 3), (128, .aload_n 0, 1), (129, .aload_n 0, 1), (130, .getfield 36, 3), (133, .aload_n 0, 1), (134, .getfield 33, 3), (137, .isub, 1), (138, .bipush 12, 2), (140, .if_icmp .le 7, 3), (143, .iconst 4, 1), (144, .goto 4, 3), (147, .iconst 1, 1), (148, .putfield 39, 3), (151, .aload_n 0, 1), (152, .iconst (-1), 1), (153, .putfield 48, 3), (156, .goto 245, 3), (159, .iload_n 1, 1), (160, .invokestatic 45, 3), (163, .ifCond .eq 110, 3), (166, .aload_n 0, 1), (167, .iconst 0, 1), (168, .putfield 51, 3), (171, .aload_n 0, 1), (172, .aload_n 0, 1), (173, .getfield 36, 3), (176, .invokevirtual 23, 3), (179, .invokestatic 45, 3), (182, .ifCond .eq 60, 3), (185, .aload_n 0, 1), (186, .aload_n 0, 1), (187, .getfield 36, 3), (190, .aload_n 0, 1), (191, .getfield 33, 3), (194, .isub, 1), (195, .bipush 7, 2), (197, .if_icmp .ge 25, 3), (200, .bipush 10, 2), (202, .aload_n 0, 1), (203, .getfield 51, 3), (206, .imul, 1), (207, .aload_n 0, 1), (208, .aload_n 0, 1), (209, .getfield 36, 3), (212, .invokevirtual 23, 3), (215, .iadd, 1), (216, .bipush 48, 2), (218, .isub, 1), (219, .goto 7, 3), (222, .aload_n 0, 1), (223, .getfield 51, 3), (226, .putfield 51, 3), (229, .aload_n 0, 1), (230, .dup, 1), (231, .getfield 36, 3), (234, .iconst 1, 1), (235, .iadd, 1), (236, .putfield 36, 3), (239, .goto (-68), 3), (242, .aload_n 0, 1), (243, .aload_n 0, 1), (244, .getfield 36, 3), (247, .aload_n 0, 1), (248, .getfield 33, 3), (251, .isub, 1), (252, .bipush 7, 2), (254, .if_icmp .le 7, 3), (257, .iconst 4, 1), (258, .goto 4, 3), (261, .iconst 2, 1), (262, .putfield 39, 3), (265, .aload_n 0, 1), (266, .iconst (-1), 1), (267, .putfield 48, 3), (270, .goto 131, 3), (273, .iload_n 1, 1), (274, .bipush 34, 2), (276, .if_icmp .ne 105, 3), (279, .aload_n 0, 1), (280, .dup, 1), (281, .getfield 36, 3), (284, .iconst 1, 1), (285, .iadd, 1), (286, .putfield 36, 3), (289, .aload_n 0, 1), (290, .aload_n 0, 1), (291, .getfield 36, 3), (294, .invokevirtual 23, 3), (297, .bipush 32, 2), (299, .if_icmp .lt 42, 3), (302, .aload_n 0, 1), (303, .aload_n 0, 1), (304, .getfield 36, 3), (307, .invokevirtual 23, 3), (310, .bipush 126, 2), (312, .if_icmp .gt 29, 3), (315, .aload_n 0, 1), (316, .aload_n 0, 1), (317, .getfield 36, 3), (320, .invokevirtual 23, 3), (323, .bipush 34, 2), (325, .if_icmp .eq 16, 3), (328, .aload_n 0, 1), (329, .dup, 1), (330, .getfield 36, 3), (333, .iconst 1, 1), (334, .iadd, 1), (335, .putfield 36, 3), (338, .goto (-49), 3), (341, .aload_n 0, 1), (342, .aload_n 0, 1), (343, .aload_n 0, 1), (344, .getfield 36, 3), (347, .invokevirtual 23, 3), (350, .bipush 34, 2), (352, .if_icmp .ne 7, 3), (355, .iconst 3, 1), (356, .goto 4, 3), (359, .iconst 4, 1), (360, .putfield 39, 3), (363, .aload_n 0, 1), (364, .dup, 1), (365, .getfield 36, 3), (368, .iconst 1, 1), (369, .iadd, 1), (370, .putfield 36, 3), (373, .aload_n 0, 1), (374, .iconst (-1), 1), (375, .putfield 48, 3), (378, .goto 23, 3), (381, .aload_n 0, 1), (382, .iconst 4, 1), (383, .putfield 39, 3), (386, .aload_n 0, 1), (387, .iload_n 1, 1), (388, .putfield 48, 3), (391, .aload_n 0, 1), (392, .dup, 1), (393, .getfield 36, 3), (396, .iconst 1, 1), (397, .iadd, 1), (398, .putfield 36, 3), (401, .aload_n 0, 1), (402, .aload_n 0, 1), (403, .getfield 36, 3), (406, .putfield 17, 3), (409, .return_, 1)]
theorem t_X20_next : ∀ q ∈ k_X20_next, decode cX20_next q.1 = .ok q.2 := dl_all (by decide +kernel)
noncomputable def m_X20_next_l0 (a0 : Int) (h_0 : Hp) : Option ((Hp) ⊕ ((Hp))) :=
  if (h_0 a0 1) ≤ (h_0 a0 2) then (some (.inr h_0))
  else ((m_X20_byteAt a0 (h_0 a0 2) h_0).bind fun v16 =>
  (m_X18_isBlank v16).bind fun v19 =>
  if v19 = 0 then (some (.inr h_0))
  else (pt h_0 a0 2 (w32 ((h_0 a0 2) + 1)) fun h32 =>
  some (.inl h32)))
noncomputable def m_X20_next_l289 (a0 : Int) (h_289 : Hp) : Option ((Hp) ⊕ ((Hp))) :=
  (m_X20_byteAt a0 (h_289 a0 5) h_289).bind fun v294 =>
  if v294 < 32 then (some (.inr h_289))
  else ((m_X20_byteAt a0 (h_289 a0 5) h_289).bind fun v307 =>
  if 126 < v307 then (some (.inr h_289))
  else ((m_X20_byteAt a0 (h_289 a0 5) h_289).bind fun v320 =>
  if v320 = 34 then (some (.inr h_289))
  else (pt h_289 a0 5 (w32 ((h_289 a0 5) + 1)) fun h335 =>
  some (.inl h335))))
noncomputable def m_X20_next_j360 (a0 s1_360 : Int) (h_341 : Hp) : Option (Hp) :=
  pt h_341 a0 3 s1_360 fun h360 =>
  pt h360 a0 5 (w32 ((h360 a0 5) + 1)) fun h370 =>
  pt h370 a0 7 (-1) fun h375 =>
  pt h375 a0 2 (h375 a0 5) fun h406_1 =>
  some h406_1
noncomputable def m_X20_next_j226 (a0 s1_226 : Int) (h_171 : Hp) : Option ((Hp) ⊕ ((Hp))) :=
  pt h_171 a0 6 s1_226 fun h226 =>
  pt h226 a0 5 (w32 ((h226 a0 5) + 1)) fun h236 =>
  some (.inl h236)
noncomputable def m_X20_next_l171 (a0 : Int) (h_171 : Hp) : Option ((Hp) ⊕ ((Hp))) :=
  (m_X20_byteAt a0 (h_171 a0 5) h_171).bind fun v176 =>
  (m_X18_isDigit v176).bind fun v179 =>
  if v179 = 0 then (some (.inr h_171))
  else (if 7 ≤ (w32 ((h_171 a0 5) - (h_171 a0 4))) then (m_X20_next_j226 a0 (h_171 a0 6) h_171)
  else ((m_X20_byteAt a0 (h_171 a0 5) h_171).bind fun v212 =>
  m_X20_next_j226 a0 (w32 ((w32 ((w32 (10 * (h_171 a0 6))) + v212)) - 48)) h_171))
noncomputable def m_X20_next_j262 (a0 s1_262 : Int) (h_242 : Hp) : Option (Hp) :=
  pt h_242 a0 3 s1_262 fun h262 =>
  pt h262 a0 7 (-1) fun h267 =>
  pt h267 a0 2 (h267 a0 5) fun h406_2 =>
  some h406_2
noncomputable def m_X20_next_j115 (a0 : Int) (h_87 : Hp) : Option ((Hp) ⊕ ((Hp))) :=
  pt h_87 a0 5 (w32 ((h_87 a0 5) + 1)) fun h122 =>
  some (.inl h122)
noncomputable def m_X20_next_l87 (a0 : Int) (h_87 : Hp) : Option ((Hp) ⊕ ((Hp))) :=
  (m_X20_byteAt a0 (h_87 a0 5) h_87).bind fun v92 =>
  (m_X18_isSmall v92).bind fun v95 =>
  if v95 ≠ 0 then (m_X20_next_j115 a0 h_87)
  else ((m_X20_byteAt a0 (h_87 a0 5) h_87).bind fun v106 =>
  (m_X18_isDigit v106).bind fun v109 =>
  if v109 = 0 then (some (.inr h_87))
  else (m_X20_next_j115 a0 h_87))
noncomputable def m_X20_next_j148 (a0 s1_148 : Int) (h_128 : Hp) : Option (Hp) :=
  pt h_128 a0 3 s1_148 fun h148 =>
  pt h148 a0 7 (-1) fun h153 =>
  pt h153 a0 2 (h153 a0 5) fun h406_3 =>
  some h406_3
noncomputable def m_X20_next (a0 : Int) (h : Hp) : Option (Hp) :=
  (lp (fun (q : Hp) => m_X20_next_l0 a0 q) h).bind (fun (y38 : Hp) => pt y38 a0 4 (y38 a0 2) fun h43 =>
  pt h43 a0 5 (h43 a0 2) fun h51 =>
  if (h51 a0 2) ≠ (h51 a0 1) then ((m_X20_byteAt a0 (h51 a0 2) h51).bind fun v76 =>
  (m_X18_isSmall v76).bind fun v81 =>
  if v81 = 0 then ((m_X18_isDigit v76).bind fun v160 =>
  if v160 = 0 then (if v76 ≠ 34 then (pt h51 a0 3 4 fun h383 =>
  pt h383 a0 7 v76 fun h388 =>
  pt h388 a0 5 (w32 ((h388 a0 5) + 1)) fun h398 =>
  pt h398 a0 2 (h398 a0 5) fun h406 =>
  some h406)
  else (pt h51 a0 5 (w32 ((h51 a0 5) + 1)) fun h286 =>
  (lp (fun (q : Hp) => m_X20_next_l289 a0 q) h286).bind (fun (y341 : Hp) => (m_X20_byteAt a0 (y341 a0 5) y341).bind fun v347 =>
  if v347 ≠ 34 then (m_X20_next_j360 a0 4 y341)
  else (m_X20_next_j360 a0 3 y341))))
  else (pt h51 a0 6 0 fun h168 =>
  (lp (fun (q : Hp) => m_X20_next_l171 a0 q) h168).bind (fun (y242 : Hp) => if (w32 ((y242 a0 5) - (y242 a0 4))) ≤ 7 then (m_X20_next_j262 a0 2 y242)
  else (m_X20_next_j262 a0 4 y242))))
  else ((lp (fun (q : Hp) => m_X20_next_l87 a0 q) h51).bind (fun (y128 : Hp) => if (w32 ((y128 a0 5) - (y128 a0 4))) ≤ 12 then (m_X20_next_j148 a0 1 y128)
  else (m_X20_next_j148 a0 4 y128))))
  else (pt h51 a0 3 5 fun h67 =>
  some h67))
theorem s_X20_next {l : Launch} [NoTr l] {D : SD} {a0 : Int} {h : Hp} (hk : h a0 (-2) = 336) {r : Hp} (hm : m_X20_next a0 h = some r) : Sim l D yX20_next (Cond.code yX20_next cX20_next 2 (Option.none : Option Jvm.ClassFile.FieldType)) 1 37 [rv D a0] h 0 ((0, 0), r) := by
  refine Sim.of (fin := fun (v : Hp) => ((0, 0), v)) (lsE := [(0, rv D a0)]) hm rfl cwS_code (la_r la_n) (ll_r ll_n) ?_
  intro p e s m below meth c X hcw hmm hcc hnm hname
  unfold m_X20_next
  refine g_loop1 (fun (q : Hp) => [(0, rv D a0)]) (fun (q : Hp) => q) (fun (q : Hp) => Ext h q) 38 (fun (y38 : Hp) => [(0, rv D a0)]) (fun (y38 : Hp) => y38) (fun (y38 : Hp) => Ext h y38) h (Ext.refl _) ?_ ?_
  · rintro h_0 E_0
    try dsimp only
    unfold m_X20_next_l0
    refine g_aload_n (pc := 0) X (j := 0) (i := 0) (q := 0) (x := a0) rfl rfl (dl_at t_X20_next 0 rfl) ?_
    have k1 := kx E_0 (by decide) hk
    refine r_geti (pc := 1) X fX20_2 k1 q3276 (dl_at t_X20_next 1 rfl) fun g1 => ?_
    refine g_aload_n (pc := 4) X (j := 0) (i := 0) (q := 0) (x := a0) rfl rfl (dl_at t_X20_next 2 rfl) ?_
    refine r_geti (pc := 5) X fX20_1 k1 q3275 (dl_at t_X20_next 3 rfl) fun g5 => ?_
    refine g_icmpge (pc := 8) X g1 g5 (off := 30) (tgt := 38) rfl (dl_at t_X20_next 4 rfl) (fun _ => ?_) (fun _ => ?_)
    · exact g_at fun Q hQ => hQ E_0
    refine g_aload_n (pc := 11) X (j := 0) (i := 0) (q := 0) (x := a0) rfl rfl (dl_at t_X20_next 5 rfl) ?_
    refine g_aload_n (pc := 12) X (j := 0) (i := 0) (q := 0) (x := a0) rfl rfl (dl_at t_X20_next 6 rfl) ?_
    refine r_geti (pc := 13) X fX20_2 k1 q3276 (dl_at t_X20_next 7 rfl) fun g13 => ?_
    refine r_callRi (pc := 16) X (fun _ hv => s_X20_byteAt k1 g13 hv) cw_code q4346 q374 (in_Vk X (As := [iv (h_0 a0 2)]) kX20 k1 (Or.inl q4343) q4344 q4345 cw_code q4346 ⟨by decide, by decide⟩ rfl (dl_at t_X20_next 8 rfl)) (dl_at t_X20_next 8 rfl) (cat24 (st := []) (Nat.le_of_ble_eq_true rfl)) (Nat.le_of_ble_eq_true rfl) (Nat.le_of_ble_eq_true rfl) fun v16 g16 => ?_
    refine r_callRz (pc := 19) X (fun _ hv => s_X18_isBlank g16 hv) cw_code q4349 q372 (in_Sc X (As := [iv v16]) (Or.inr ⟨_, nw_in q4347 rfl⟩) q4348 q372 q4349 ⟨by decide, by decide⟩ rfl (dl_at t_X20_next 9 rfl)) (dl_at t_X20_next 9 rfl) (cat24 (st := []) (Nat.le_of_ble_eq_true rfl)) (Nat.le_of_ble_eq_true rfl) (Nat.le_of_ble_eq_true rfl) fun v19 g19 => ?_
    refine g_ifeq (pc := 22) X (r32_z g19) (off := 16) (tgt := 38) rfl (dl_at t_X20_next 10 rfl) (fun _ => ?_) (fun _ => ?_)
    · exact g_at fun Q hQ => hQ E_0
    refine g_aload_n (pc := 25) X (j := 0) (i := 0) (q := 0) (x := a0) rfl rfl (dl_at t_X20_next 11 rfl) ?_
    refine g_dup (pc := 26) X rv_cat (dl_at t_X20_next 12 rfl) ?_
    refine r_geti (pc := 27) X fX20_2 k1 q3276 (dl_at t_X20_next 13 rfl) fun g27 => ?_
    refine g_iconst (pc := 30) X (n := 1) (dl_at t_X20_next 14 rfl) ?_
    refine g_iadd (pc := 31) X g27 (r32_c rfl) (dl_at t_X20_next 15 rfl) ?_
    refine r_puti (pc := 32) X fX20_2 k1 q3276 rfl (dl_at t_X20_next 16 rfl) (r32_w _) (fun h32 E32 => ?_)
    refine g_goto (pc := 35) X (off := (-35)) (tgt := 0) rfl (dl_at t_X20_next 17 rfl) ?_
    exact g_at fun Q hQ => hQ (E_0.trans E32)
  · rintro h_38 E_38
    try dsimp only [sE]
    refine g_aload_n (pc := 38) X (j := 0) (i := 0) (q := 0) (x := a0) rfl rfl (dl_at t_X20_next 18 rfl) ?_
    refine g_aload_n (pc := 39) X (j := 0) (i := 0) (q := 0) (x := a0) rfl rfl (dl_at t_X20_next 19 rfl) ?_
    have k40 := kx E_38 (by decide) hk
    refine r_geti (pc := 40) X fX20_2 k40 q3276 (dl_at t_X20_next 20 rfl) fun g40 => ?_
    refine r_puti (pc := 43) X fX20_4 k40 q3280 rfl (dl_at t_X20_next 21 rfl) g40 (fun h43 E43 => ?_)
    refine g_aload_n (pc := 46) X (j := 0) (i := 0) (q := 0) (x := a0) rfl rfl (dl_at t_X20_next 22 rfl) ?_
    refine g_aload_n (pc := 47) X (j := 0) (i := 0) (q := 0) (x := a0) rfl rfl (dl_at t_X20_next 23 rfl) ?_
    have k48 := kx E43 (by decide) k40
    refine r_geti (pc := 48) X fX20_2 k48 q3276 (dl_at t_X20_next 24 rfl) fun g48 => ?_
    refine r_puti (pc := 51) X fX20_5 k48 q3283 rfl (dl_at t_X20_next 25 rfl) g48 (fun h51 E51 => ?_)
    refine g_aload_n (pc := 54) X (j := 0) (i := 0) (q := 0) (x := a0) rfl rfl (dl_at t_X20_next 26 rfl) ?_
    have k55 := kx E51 (by decide) k48
    refine r_geti (pc := 55) X fX20_2 k55 q3276 (dl_at t_X20_next 27 rfl) fun g55 => ?_
    refine g_aload_n (pc := 58) X (j := 0) (i := 0) (q := 0) (x := a0) rfl rfl (dl_at t_X20_next 28 rfl) ?_
    refine r_geti (pc := 59) X fX20_1 k55 q3275 (dl_at t_X20_next 29 rfl) fun g59 => ?_
    refine g_icmpne (pc := 62) X g55 g59 (off := 9) (tgt := 71) rfl (dl_at t_X20_next 30 rfl) (fun _ => ?_) (fun _ => ?_)
    · refine g_aload_n (pc := 71) X (j := 0) (i := 0) (q := 0) (x := a0) rfl rfl (dl_at t_X20_next 35 rfl) ?_
      refine g_aload_n (pc := 72) X (j := 0) (i := 0) (q := 0) (x := a0) rfl rfl (dl_at t_X20_next 36 rfl) ?_
      refine r_geti (pc := 73) X fX20_2 k55 q3276 (dl_at t_X20_next 37 rfl) fun g73 => ?_
      refine r_callRi (pc := 76) X (fun _ hv => s_X20_byteAt k55 g73 hv) cw_code q4346 q374 (in_Vk X (As := [iv (h51 a0 2)]) kX20 k55 (Or.inl q4343) q4344 q4345 cw_code q4346 ⟨by decide, by decide⟩ rfl (dl_at t_X20_next 38 rfl)) (dl_at t_X20_next 38 rfl) (cat24 (st := []) (Nat.le_of_ble_eq_true rfl)) (Nat.le_of_ble_eq_true rfl) (Nat.le_of_ble_eq_true rfl) fun v76 g76 => ?_
      refine g_istore_nN (pc := 79) X (j := 1) (i := 1) (x := v76) (b := 0) (w := rv D a0) (rest := []) rfl (Nat.le_of_ble_eq_true rfl) [0] rfl (by decide) rv_cat rfl (dl_at t_X20_next 39 rfl) ?_
      refine g_iload_n (pc := 80) X (j := 1) (i := 1) (q := 0) (x := v76) rfl rfl (dl_at t_X20_next 40 rfl) ?_
      refine r_callRz (pc := 81) X (fun _ hv => s_X18_isSmall g76 hv) cw_code q4352 q372 (in_Sc X (As := [iv v76]) (Or.inr ⟨_, nw_in q4350 rfl⟩) q4351 q372 q4352 ⟨by decide, by decide⟩ rfl (dl_at t_X20_next 41 rfl)) (dl_at t_X20_next 41 rfl) (cat24 (st := []) (Nat.le_of_ble_eq_true rfl)) (Nat.le_of_ble_eq_true rfl) (Nat.le_of_ble_eq_true rfl) fun v81 g81 => ?_
      refine g_ifeq (pc := 84) X (r32_z g81) (off := 75) (tgt := 159) rfl (dl_at t_X20_next 42 rfl) (fun _ => ?_) (fun _ => ?_)
      · refine g_iload_n (pc := 159) X (j := 1) (i := 1) (q := 0) (x := v76) rfl rfl (dl_at t_X20_next 78 rfl) ?_
        refine r_callRz (pc := 160) X (fun _ hv => s_X18_isDigit g76 hv) cw_code q4355 q372 (in_Sc X (As := [iv v76]) (Or.inr ⟨_, nw_in q4353 rfl⟩) q4354 q372 q4355 ⟨by decide, by decide⟩ rfl (dl_at t_X20_next 79 rfl)) (dl_at t_X20_next 79 rfl) (cat24 (st := []) (Nat.le_of_ble_eq_true rfl)) (Nat.le_of_ble_eq_true rfl) (Nat.le_of_ble_eq_true rfl) fun v160 g160 => ?_
        refine g_ifeq (pc := 163) X (r32_z g160) (off := 110) (tgt := 273) rfl (dl_at t_X20_next 80 rfl) (fun _ => ?_) (fun _ => ?_)
        · refine g_iload_n (pc := 273) X (j := 1) (i := 1) (q := 0) (x := v76) rfl rfl (dl_at t_X20_next 136 rfl) ?_
          refine g_bipush (pc := 274) X (n := 34) rfl (dl_at t_X20_next 137 rfl) ?_
          refine g_icmpne (pc := 276) X g76 (r32_c rfl) (off := 105) (tgt := 381) rfl (dl_at t_X20_next 138 rfl) (fun _ => ?_) (fun _ => ?_)
          · refine g_aload_n (pc := 381) X (j := 0) (i := 0) (q := 1) (x := a0) rfl rfl (dl_at t_X20_next 191 rfl) ?_
            refine g_iconst (pc := 382) X (n := 4) (dl_at t_X20_next 192 rfl) ?_
            refine r_puti (pc := 383) X fX20_3 k55 q3279 rfl (dl_at t_X20_next 193 rfl) (r32_c rfl) (fun h383 E383 => ?_)
            refine g_aload_n (pc := 386) X (j := 0) (i := 0) (q := 1) (x := a0) rfl rfl (dl_at t_X20_next 194 rfl) ?_
            refine g_iload_n (pc := 387) X (j := 1) (i := 1) (q := 0) (x := v76) rfl rfl (dl_at t_X20_next 195 rfl) ?_
            have k388 := kx E383 (by decide) k55
            refine r_puti (pc := 388) X fX20_7 k388 q3287 rfl (dl_at t_X20_next 196 rfl) g76 (fun h388 E388 => ?_)
            refine g_aload_n (pc := 391) X (j := 0) (i := 0) (q := 1) (x := a0) rfl rfl (dl_at t_X20_next 197 rfl) ?_
            refine g_dup (pc := 392) X rv_cat (dl_at t_X20_next 198 rfl) ?_
            have k393 := kx E388 (by decide) k388
            refine r_geti (pc := 393) X fX20_5 k393 q3283 (dl_at t_X20_next 199 rfl) fun g393 => ?_
            refine g_iconst (pc := 396) X (n := 1) (dl_at t_X20_next 200 rfl) ?_
            refine g_iadd (pc := 397) X g393 (r32_c rfl) (dl_at t_X20_next 201 rfl) ?_
            refine r_puti (pc := 398) X fX20_5 k393 q3283 rfl (dl_at t_X20_next 202 rfl) (r32_w _) (fun h398 E398 => ?_)
            refine g_aload_n (pc := 401) X (j := 0) (i := 0) (q := 1) (x := a0) rfl rfl (dl_at t_X20_next 203 rfl) ?_
            refine g_aload_n (pc := 402) X (j := 0) (i := 0) (q := 1) (x := a0) rfl rfl (dl_at t_X20_next 204 rfl) ?_
            have k403 := kx E398 (by decide) k393
            refine r_geti (pc := 403) X fX20_5 k403 q3283 (dl_at t_X20_next 205 rfl) fun g403 => ?_
            refine r_puti (pc := 406) X fX20_2 k403 q3276 rfl (dl_at t_X20_next 206 rfl) g403 (fun h406 E406 => ?_)
            exact g_vret (pc := 409) X (v := 0) rfl rfl (dl_at t_X20_next 207 rfl)
          refine g_aload_n (pc := 279) X (j := 0) (i := 0) (q := 1) (x := a0) rfl rfl (dl_at t_X20_next 139 rfl) ?_
          refine g_dup (pc := 280) X rv_cat (dl_at t_X20_next 140 rfl) ?_
          refine r_geti (pc := 281) X fX20_5 k55 q3283 (dl_at t_X20_next 141 rfl) fun g281 => ?_
          refine g_iconst (pc := 284) X (n := 1) (dl_at t_X20_next 142 rfl) ?_
          refine g_iadd (pc := 285) X g281 (r32_c rfl) (dl_at t_X20_next 143 rfl) ?_
          refine r_puti (pc := 286) X fX20_5 k55 q3283 rfl (dl_at t_X20_next 144 rfl) (r32_w _) (fun h286 E286 => ?_)
          refine g_ls (ls2 := [(0, rv D a0)]) [1] rfl ?_
          refine g_loop1 (fun (q : Hp) => [(0, rv D a0)]) (fun (q : Hp) => q) (fun (q : Hp) => Ext h286 q) 341 (fun (y341 : Hp) => [(0, rv D a0)]) (fun (y341 : Hp) => y341) (fun (y341 : Hp) => Ext h286 y341) h286 (Ext.refl _) ?_ ?_
          · rintro h_289 E_289
            try dsimp only
            unfold m_X20_next_l289
            refine g_aload_n (pc := 289) X (j := 0) (i := 0) (q := 0) (x := a0) rfl rfl (dl_at t_X20_next 145 rfl) ?_
            refine g_aload_n (pc := 290) X (j := 0) (i := 0) (q := 0) (x := a0) rfl rfl (dl_at t_X20_next 146 rfl) ?_
            have k291 := kx (E286.trans E_289) (by decide) k55
            refine r_geti (pc := 291) X fX20_5 k291 q3283 (dl_at t_X20_next 147 rfl) fun g291 => ?_
            refine r_callRi (pc := 294) X (fun _ hv => s_X20_byteAt k291 g291 hv) cw_code q4346 q374 (in_Vk X (As := [iv (h_289 a0 5)]) kX20 k291 (Or.inl q4343) q4344 q4345 cw_code q4346 ⟨by decide, by decide⟩ rfl (dl_at t_X20_next 148 rfl)) (dl_at t_X20_next 148 rfl) (cat24 (st := []) (Nat.le_of_ble_eq_true rfl)) (Nat.le_of_ble_eq_true rfl) (Nat.le_of_ble_eq_true rfl) fun v294 g294 => ?_
            refine g_bipush (pc := 297) X (n := 32) rfl (dl_at t_X20_next 149 rfl) ?_
            refine g_icmplt (pc := 299) X g294 (r32_c rfl) (off := 42) (tgt := 341) rfl (dl_at t_X20_next 150 rfl) (fun _ => ?_) (fun _ => ?_)
            · exact g_at fun Q hQ => hQ E_289
            refine g_aload_n (pc := 302) X (j := 0) (i := 0) (q := 0) (x := a0) rfl rfl (dl_at t_X20_next 151 rfl) ?_
            refine g_aload_n (pc := 303) X (j := 0) (i := 0) (q := 0) (x := a0) rfl rfl (dl_at t_X20_next 152 rfl) ?_
            refine r_geti (pc := 304) X fX20_5 k291 q3283 (dl_at t_X20_next 153 rfl) fun g304 => ?_
            refine r_callRi (pc := 307) X (fun _ hv => s_X20_byteAt k291 g304 hv) cw_code q4346 q374 (in_Vk X (As := [iv (h_289 a0 5)]) kX20 k291 (Or.inl q4343) q4344 q4345 cw_code q4346 ⟨by decide, by decide⟩ rfl (dl_at t_X20_next 154 rfl)) (dl_at t_X20_next 154 rfl) (cat24 (st := []) (Nat.le_of_ble_eq_true rfl)) (Nat.le_of_ble_eq_true rfl) (Nat.le_of_ble_eq_true rfl) fun v307 g307 => ?_
            refine g_bipush (pc := 310) X (n := 126) rfl (dl_at t_X20_next 155 rfl) ?_
            refine g_icmpgt (pc := 312) X g307 (r32_c rfl) (off := 29) (tgt := 341) rfl (dl_at t_X20_next 156 rfl) (fun _ => ?_) (fun _ => ?_)
            · exact g_at fun Q hQ => hQ E_289
            refine g_aload_n (pc := 315) X (j := 0) (i := 0) (q := 0) (x := a0) rfl rfl (dl_at t_X20_next 157 rfl) ?_
            refine g_aload_n (pc := 316) X (j := 0) (i := 0) (q := 0) (x := a0) rfl rfl (dl_at t_X20_next 158 rfl) ?_
            refine r_geti (pc := 317) X fX20_5 k291 q3283 (dl_at t_X20_next 159 rfl) fun g317 => ?_
            refine r_callRi (pc := 320) X (fun _ hv => s_X20_byteAt k291 g317 hv) cw_code q4346 q374 (in_Vk X (As := [iv (h_289 a0 5)]) kX20 k291 (Or.inl q4343) q4344 q4345 cw_code q4346 ⟨by decide, by decide⟩ rfl (dl_at t_X20_next 160 rfl)) (dl_at t_X20_next 160 rfl) (cat24 (st := []) (Nat.le_of_ble_eq_true rfl)) (Nat.le_of_ble_eq_true rfl) (Nat.le_of_ble_eq_true rfl) fun v320 g320 => ?_
            refine g_bipush (pc := 323) X (n := 34) rfl (dl_at t_X20_next 161 rfl) ?_
            refine g_icmpeq (pc := 325) X g320 (r32_c rfl) (off := 16) (tgt := 341) rfl (dl_at t_X20_next 162 rfl) (fun _ => ?_) (fun _ => ?_)
            · exact g_at fun Q hQ => hQ E_289
            refine g_aload_n (pc := 328) X (j := 0) (i := 0) (q := 0) (x := a0) rfl rfl (dl_at t_X20_next 163 rfl) ?_
            refine g_dup (pc := 329) X rv_cat (dl_at t_X20_next 164 rfl) ?_
            refine r_geti (pc := 330) X fX20_5 k291 q3283 (dl_at t_X20_next 165 rfl) fun g330 => ?_
            refine g_iconst (pc := 333) X (n := 1) (dl_at t_X20_next 166 rfl) ?_
            refine g_iadd (pc := 334) X g330 (r32_c rfl) (dl_at t_X20_next 167 rfl) ?_
            refine r_puti (pc := 335) X fX20_5 k291 q3283 rfl (dl_at t_X20_next 168 rfl) (r32_w _) (fun h335 E335 => ?_)
            refine g_goto (pc := 338) X (off := (-49)) (tgt := 289) rfl (dl_at t_X20_next 169 rfl) ?_
            exact g_at fun Q hQ => hQ (E_289.trans E335)
          · rintro h_341 E_341
            try dsimp only [sE]
            refine g_aload_n (pc := 341) X (j := 0) (i := 0) (q := 0) (x := a0) rfl rfl (dl_at t_X20_next 170 rfl) ?_
            refine g_aload_n (pc := 342) X (j := 0) (i := 0) (q := 0) (x := a0) rfl rfl (dl_at t_X20_next 171 rfl) ?_
            refine g_aload_n (pc := 343) X (j := 0) (i := 0) (q := 0) (x := a0) rfl rfl (dl_at t_X20_next 172 rfl) ?_
            have k344 := kx (E286.trans E_341) (by decide) k55
            refine r_geti (pc := 344) X fX20_5 k344 q3283 (dl_at t_X20_next 173 rfl) fun g344 => ?_
            refine r_callRi (pc := 347) X (fun _ hv => s_X20_byteAt k344 g344 hv) cw_code q4346 q374 (in_Vk X (As := [iv (h_341 a0 5)]) kX20 k344 (Or.inl q4343) q4344 q4345 cw_code q4346 ⟨by decide, by decide⟩ rfl (dl_at t_X20_next 174 rfl)) (dl_at t_X20_next 174 rfl) (cat24 (st := [rv D a0]) (Nat.le_of_ble_eq_true rfl)) (Nat.le_of_ble_eq_true rfl) (Nat.le_of_ble_eq_true rfl) fun v347 g347 => ?_
            refine g_bipush (pc := 350) X (n := 34) rfl (dl_at t_X20_next 175 rfl) ?_
            refine g_join (γ := Int) (fun q => r32 q) 360 (fun q => [(0, rv D a0)]) (fun q => [iv q, rv D a0]) (fun q => h_341) (fun q => m_X20_next_j360 a0 q h_341) ?_ ?_
            · rintro s1_360 rs1_360
              try dsimp only
              unfold m_X20_next_j360
              refine r_puti (pc := 360) X fX20_3 k344 q3279 rfl (dl_at t_X20_next 180 rfl) rs1_360 (fun h360 E360 => ?_)
              refine g_aload_n (pc := 363) X (j := 0) (i := 0) (q := 0) (x := a0) rfl rfl (dl_at t_X20_next 181 rfl) ?_
              refine g_dup (pc := 364) X rv_cat (dl_at t_X20_next 182 rfl) ?_
              have k365 := kx E360 (by decide) k344
              refine r_geti (pc := 365) X fX20_5 k365 q3283 (dl_at t_X20_next 183 rfl) fun g365 => ?_
              refine g_iconst (pc := 368) X (n := 1) (dl_at t_X20_next 184 rfl) ?_
              refine g_iadd (pc := 369) X g365 (r32_c rfl) (dl_at t_X20_next 185 rfl) ?_
              refine r_puti (pc := 370) X fX20_5 k365 q3283 rfl (dl_at t_X20_next 186 rfl) (r32_w _) (fun h370 E370 => ?_)
              refine g_aload_n (pc := 373) X (j := 0) (i := 0) (q := 0) (x := a0) rfl rfl (dl_at t_X20_next 187 rfl) ?_
              refine g_iconst (pc := 374) X (n := (-1)) (dl_at t_X20_next 188 rfl) ?_
              have k375 := kx E370 (by decide) k365
              refine r_puti (pc := 375) X fX20_7 k375 q3287 rfl (dl_at t_X20_next 189 rfl) (r32_c rfl) (fun h375 E375 => ?_)
              refine g_goto (pc := 378) X (off := 23) (tgt := 401) rfl (dl_at t_X20_next 190 rfl) ?_
              refine g_aload_n (pc := 401) X (j := 0) (i := 0) (q := 0) (x := a0) rfl rfl (dl_at t_X20_next 203 rfl) ?_
              refine g_aload_n (pc := 402) X (j := 0) (i := 0) (q := 0) (x := a0) rfl rfl (dl_at t_X20_next 204 rfl) ?_
              have k403_1 := kx E375 (by decide) k375
              refine r_geti (pc := 403) X fX20_5 k403_1 q3283 (dl_at t_X20_next 205 rfl) fun g403_1 => ?_
              refine r_puti (pc := 406) X fX20_2 k403_1 q3276 rfl (dl_at t_X20_next 206 rfl) g403_1 (fun h406_1 E406_1 => ?_)
              exact g_vret (pc := 409) X (v := 0) rfl rfl (dl_at t_X20_next 207 rfl)
            intro J360
            refine g_icmpne (pc := 352) X g347 (r32_c rfl) (off := 7) (tgt := 359) rfl (dl_at t_X20_next 176 rfl) (fun _ => ?_) (fun _ => ?_)
            · refine g_iconst (pc := 359) X (n := 4) (dl_at t_X20_next 179 rfl) ?_
              exact J360 4 (r32_c rfl)
            refine g_iconst (pc := 355) X (n := 3) (dl_at t_X20_next 177 rfl) ?_
            refine g_goto (pc := 356) X (off := 4) (tgt := 360) rfl (dl_at t_X20_next 178 rfl) ?_
            exact J360 3 (r32_c rfl)
        refine g_aload_n (pc := 166) X (j := 0) (i := 0) (q := 1) (x := a0) rfl rfl (dl_at t_X20_next 81 rfl) ?_
        refine g_iconst (pc := 167) X (n := 0) (dl_at t_X20_next 82 rfl) ?_
        refine r_puti (pc := 168) X fX20_6 k55 q3285 rfl (dl_at t_X20_next 83 rfl) (r32_c rfl) (fun h168 E168 => ?_)
        refine g_ls (ls2 := [(0, rv D a0)]) [1] rfl ?_
        refine g_loop1 (fun (q : Hp) => [(0, rv D a0)]) (fun (q : Hp) => q) (fun (q : Hp) => Ext h168 q) 242 (fun (y242 : Hp) => [(0, rv D a0)]) (fun (y242 : Hp) => y242) (fun (y242 : Hp) => Ext h168 y242) h168 (Ext.refl _) ?_ ?_
        · rintro h_171 E_171
          try dsimp only
          unfold m_X20_next_l171
          refine g_aload_n (pc := 171) X (j := 0) (i := 0) (q := 0) (x := a0) rfl rfl (dl_at t_X20_next 84 rfl) ?_
          refine g_aload_n (pc := 172) X (j := 0) (i := 0) (q := 0) (x := a0) rfl rfl (dl_at t_X20_next 85 rfl) ?_
          have k173 := kx (E168.trans E_171) (by decide) k55
          refine r_geti (pc := 173) X fX20_5 k173 q3283 (dl_at t_X20_next 86 rfl) fun g173 => ?_
          refine r_callRi (pc := 176) X (fun _ hv => s_X20_byteAt k173 g173 hv) cw_code q4346 q374 (in_Vk X (As := [iv (h_171 a0 5)]) kX20 k173 (Or.inl q4343) q4344 q4345 cw_code q4346 ⟨by decide, by decide⟩ rfl (dl_at t_X20_next 87 rfl)) (dl_at t_X20_next 87 rfl) (cat24 (st := []) (Nat.le_of_ble_eq_true rfl)) (Nat.le_of_ble_eq_true rfl) (Nat.le_of_ble_eq_true rfl) fun v176 g176 => ?_
          refine r_callRz (pc := 179) X (fun _ hv => s_X18_isDigit g176 hv) cw_code q4355 q372 (in_Sc X (As := [iv v176]) (Or.inr ⟨_, nw_in q4353 rfl⟩) q4354 q372 q4355 ⟨by decide, by decide⟩ rfl (dl_at t_X20_next 88 rfl)) (dl_at t_X20_next 88 rfl) (cat24 (st := []) (Nat.le_of_ble_eq_true rfl)) (Nat.le_of_ble_eq_true rfl) (Nat.le_of_ble_eq_true rfl) fun v179 g179 => ?_
          refine g_ifeq (pc := 182) X (r32_z g179) (off := 60) (tgt := 242) rfl (dl_at t_X20_next 89 rfl) (fun _ => ?_) (fun _ => ?_)
          · exact g_at fun Q hQ => hQ E_171
          refine g_aload_n (pc := 185) X (j := 0) (i := 0) (q := 0) (x := a0) rfl rfl (dl_at t_X20_next 90 rfl) ?_
          refine g_aload_n (pc := 186) X (j := 0) (i := 0) (q := 0) (x := a0) rfl rfl (dl_at t_X20_next 91 rfl) ?_
          refine r_geti (pc := 187) X fX20_5 k173 q3283 (dl_at t_X20_next 92 rfl) fun g187 => ?_
          refine g_aload_n (pc := 190) X (j := 0) (i := 0) (q := 0) (x := a0) rfl rfl (dl_at t_X20_next 93 rfl) ?_
          refine r_geti (pc := 191) X fX20_4 k173 q3280 (dl_at t_X20_next 94 rfl) fun g191 => ?_
          refine g_isub (pc := 194) X g187 g191 (dl_at t_X20_next 95 rfl) ?_
          refine g_bipush (pc := 195) X (n := 7) rfl (dl_at t_X20_next 96 rfl) ?_
          refine g_join (γ := Int) (fun q => r32 q) 226 (fun q => [(0, rv D a0)]) (fun q => [iv q, rv D a0]) (fun q => h_171) (fun q => m_X20_next_j226 a0 q h_171) ?_ ?_
          · rintro s1_226 rs1_226
            try dsimp only
            unfold m_X20_next_j226
            refine r_puti (pc := 226) X fX20_6 k173 q3285 rfl (dl_at t_X20_next 112 rfl) rs1_226 (fun h226 E226 => ?_)
            refine g_aload_n (pc := 229) X (j := 0) (i := 0) (q := 0) (x := a0) rfl rfl (dl_at t_X20_next 113 rfl) ?_
            refine g_dup (pc := 230) X rv_cat (dl_at t_X20_next 114 rfl) ?_
            have k231 := kx E226 (by decide) k173
            refine r_geti (pc := 231) X fX20_5 k231 q3283 (dl_at t_X20_next 115 rfl) fun g231 => ?_
            refine g_iconst (pc := 234) X (n := 1) (dl_at t_X20_next 116 rfl) ?_
            refine g_iadd (pc := 235) X g231 (r32_c rfl) (dl_at t_X20_next 117 rfl) ?_
            refine r_puti (pc := 236) X fX20_5 k231 q3283 rfl (dl_at t_X20_next 118 rfl) (r32_w _) (fun h236 E236 => ?_)
            refine g_goto (pc := 239) X (off := (-68)) (tgt := 171) rfl (dl_at t_X20_next 119 rfl) ?_
            exact g_at fun Q hQ => hQ (E_171.trans (E226.trans E236))
          intro J226
          refine g_icmpge (pc := 197) X (r32_w _) (r32_c rfl) (off := 25) (tgt := 222) rfl (dl_at t_X20_next 97 rfl) (fun _ => ?_) (fun _ => ?_)
          · refine g_aload_n (pc := 222) X (j := 0) (i := 0) (q := 0) (x := a0) rfl rfl (dl_at t_X20_next 110 rfl) ?_
            refine r_geti (pc := 223) X fX20_6 k173 q3285 (dl_at t_X20_next 111 rfl) fun g223 => ?_
            exact J226 (h_171 a0 6) g223
          refine g_bipush (pc := 200) X (n := 10) rfl (dl_at t_X20_next 98 rfl) ?_
          refine g_aload_n (pc := 202) X (j := 0) (i := 0) (q := 0) (x := a0) rfl rfl (dl_at t_X20_next 99 rfl) ?_
          refine r_geti (pc := 203) X fX20_6 k173 q3285 (dl_at t_X20_next 100 rfl) fun g203 => ?_
          refine g_imul (pc := 206) X (r32_c rfl) g203 (dl_at t_X20_next 101 rfl) ?_
          refine g_aload_n (pc := 207) X (j := 0) (i := 0) (q := 0) (x := a0) rfl rfl (dl_at t_X20_next 102 rfl) ?_
          refine g_aload_n (pc := 208) X (j := 0) (i := 0) (q := 0) (x := a0) rfl rfl (dl_at t_X20_next 103 rfl) ?_
          refine r_geti (pc := 209) X fX20_5 k173 q3283 (dl_at t_X20_next 104 rfl) fun g209 => ?_
          refine r_callRi (pc := 212) X (fun _ hv => s_X20_byteAt k173 g209 hv) cw_code q4346 q374 (in_Vk X (As := [iv (h_171 a0 5)]) kX20 k173 (Or.inl q4343) q4344 q4345 cw_code q4346 ⟨by decide, by decide⟩ rfl (dl_at t_X20_next 105 rfl)) (dl_at t_X20_next 105 rfl) (cat24 (st := [iv (w32 (10 * (h_171 a0 6))), rv D a0]) (Nat.le_of_ble_eq_true rfl)) (Nat.le_of_ble_eq_true rfl) (Nat.le_of_ble_eq_true rfl) fun v212 g212 => ?_
          refine g_iadd (pc := 215) X (r32_w _) g212 (dl_at t_X20_next 106 rfl) ?_
          refine g_bipush (pc := 216) X (n := 48) rfl (dl_at t_X20_next 107 rfl) ?_
          refine g_isub (pc := 218) X (r32_w _) (r32_c rfl) (dl_at t_X20_next 108 rfl) ?_
          refine g_goto (pc := 219) X (off := 7) (tgt := 226) rfl (dl_at t_X20_next 109 rfl) ?_
          exact J226 (w32 ((w32 ((w32 (10 * (h_171 a0 6))) + v212)) - 48)) (r32_w _)
        · rintro h_242 E_242
          try dsimp only [sE]
          refine g_aload_n (pc := 242) X (j := 0) (i := 0) (q := 0) (x := a0) rfl rfl (dl_at t_X20_next 120 rfl) ?_
          refine g_aload_n (pc := 243) X (j := 0) (i := 0) (q := 0) (x := a0) rfl rfl (dl_at t_X20_next 121 rfl) ?_
          have k244 := kx (E168.trans E_242) (by decide) k55
          refine r_geti (pc := 244) X fX20_5 k244 q3283 (dl_at t_X20_next 122 rfl) fun g244 => ?_
          refine g_aload_n (pc := 247) X (j := 0) (i := 0) (q := 0) (x := a0) rfl rfl (dl_at t_X20_next 123 rfl) ?_
          refine r_geti (pc := 248) X fX20_4 k244 q3280 (dl_at t_X20_next 124 rfl) fun g248 => ?_
          refine g_isub (pc := 251) X g244 g248 (dl_at t_X20_next 125 rfl) ?_
          refine g_bipush (pc := 252) X (n := 7) rfl (dl_at t_X20_next 126 rfl) ?_
          refine g_join (γ := Int) (fun q => r32 q) 262 (fun q => [(0, rv D a0)]) (fun q => [iv q, rv D a0]) (fun q => h_242) (fun q => m_X20_next_j262 a0 q h_242) ?_ ?_
          · rintro s1_262 rs1_262
            try dsimp only
            unfold m_X20_next_j262
            refine r_puti (pc := 262) X fX20_3 k244 q3279 rfl (dl_at t_X20_next 131 rfl) rs1_262 (fun h262 E262 => ?_)
            refine g_aload_n (pc := 265) X (j := 0) (i := 0) (q := 0) (x := a0) rfl rfl (dl_at t_X20_next 132 rfl) ?_
            refine g_iconst (pc := 266) X (n := (-1)) (dl_at t_X20_next 133 rfl) ?_
            have k267 := kx E262 (by decide) k244
            refine r_puti (pc := 267) X fX20_7 k267 q3287 rfl (dl_at t_X20_next 134 rfl) (r32_c rfl) (fun h267 E267 => ?_)
            refine g_goto (pc := 270) X (off := 131) (tgt := 401) rfl (dl_at t_X20_next 135 rfl) ?_
            refine g_aload_n (pc := 401) X (j := 0) (i := 0) (q := 0) (x := a0) rfl rfl (dl_at t_X20_next 203 rfl) ?_
            refine g_aload_n (pc := 402) X (j := 0) (i := 0) (q := 0) (x := a0) rfl rfl (dl_at t_X20_next 204 rfl) ?_
            have k403_2 := kx E267 (by decide) k267
            refine r_geti (pc := 403) X fX20_5 k403_2 q3283 (dl_at t_X20_next 205 rfl) fun g403_2 => ?_
            refine r_puti (pc := 406) X fX20_2 k403_2 q3276 rfl (dl_at t_X20_next 206 rfl) g403_2 (fun h406_2 E406_2 => ?_)
            exact g_vret (pc := 409) X (v := 0) rfl rfl (dl_at t_X20_next 207 rfl)
          intro J262
          refine g_icmple (pc := 254) X (r32_w _) (r32_c rfl) (off := 7) (tgt := 261) rfl (dl_at t_X20_next 127 rfl) (fun _ => ?_) (fun _ => ?_)
          · refine g_iconst (pc := 261) X (n := 2) (dl_at t_X20_next 130 rfl) ?_
            exact J262 2 (r32_c rfl)
          refine g_iconst (pc := 257) X (n := 4) (dl_at t_X20_next 128 rfl) ?_
          refine g_goto (pc := 258) X (off := 4) (tgt := 262) rfl (dl_at t_X20_next 129 rfl) ?_
          exact J262 4 (r32_c rfl)
      refine g_ls (ls2 := [(0, rv D a0)]) [1] rfl ?_
      refine g_loop1 (fun (q : Hp) => [(0, rv D a0)]) (fun (q : Hp) => q) (fun (q : Hp) => Ext h51 q) 128 (fun (y128 : Hp) => [(0, rv D a0)]) (fun (y128 : Hp) => y128) (fun (y128 : Hp) => Ext h51 y128) h51 (Ext.refl _) ?_ ?_
      · rintro h_87 E_87
        try dsimp only
        unfold m_X20_next_l87
        refine g_aload_n (pc := 87) X (j := 0) (i := 0) (q := 0) (x := a0) rfl rfl (dl_at t_X20_next 43 rfl) ?_
        refine g_aload_n (pc := 88) X (j := 0) (i := 0) (q := 0) (x := a0) rfl rfl (dl_at t_X20_next 44 rfl) ?_
        have k89 := kx E_87 (by decide) k55
        refine r_geti (pc := 89) X fX20_5 k89 q3283 (dl_at t_X20_next 45 rfl) fun g89 => ?_
        refine r_callRi (pc := 92) X (fun _ hv => s_X20_byteAt k89 g89 hv) cw_code q4346 q374 (in_Vk X (As := [iv (h_87 a0 5)]) kX20 k89 (Or.inl q4343) q4344 q4345 cw_code q4346 ⟨by decide, by decide⟩ rfl (dl_at t_X20_next 46 rfl)) (dl_at t_X20_next 46 rfl) (cat24 (st := []) (Nat.le_of_ble_eq_true rfl)) (Nat.le_of_ble_eq_true rfl) (Nat.le_of_ble_eq_true rfl) fun v92 g92 => ?_
        refine r_callRz (pc := 95) X (fun _ hv => s_X18_isSmall g92 hv) cw_code q4352 q372 (in_Sc X (As := [iv v92]) (Or.inr ⟨_, nw_in q4350 rfl⟩) q4351 q372 q4352 ⟨by decide, by decide⟩ rfl (dl_at t_X20_next 47 rfl)) (dl_at t_X20_next 47 rfl) (cat24 (st := []) (Nat.le_of_ble_eq_true rfl)) (Nat.le_of_ble_eq_true rfl) (Nat.le_of_ble_eq_true rfl) fun v95 g95 => ?_
        refine g_join (γ := Unit) (fun q => True) 115 (fun q => [(0, rv D a0)]) (fun q => []) (fun q => h_87) (fun q => m_X20_next_j115 a0 h_87) ?_ ?_
        · rintro _ _
          try dsimp only
          unfold m_X20_next_j115
          refine g_aload_n (pc := 115) X (j := 0) (i := 0) (q := 0) (x := a0) rfl rfl (dl_at t_X20_next 55 rfl) ?_
          refine g_dup (pc := 116) X rv_cat (dl_at t_X20_next 56 rfl) ?_
          refine r_geti (pc := 117) X fX20_5 k89 q3283 (dl_at t_X20_next 57 rfl) fun g117 => ?_
          refine g_iconst (pc := 120) X (n := 1) (dl_at t_X20_next 58 rfl) ?_
          refine g_iadd (pc := 121) X g117 (r32_c rfl) (dl_at t_X20_next 59 rfl) ?_
          refine r_puti (pc := 122) X fX20_5 k89 q3283 rfl (dl_at t_X20_next 60 rfl) (r32_w _) (fun h122 E122 => ?_)
          refine g_goto (pc := 125) X (off := (-38)) (tgt := 87) rfl (dl_at t_X20_next 61 rfl) ?_
          exact g_at fun Q hQ => hQ (E_87.trans E122)
        intro J115
        refine g_ifne (pc := 98) X (r32_z g95) (off := 17) (tgt := 115) rfl (dl_at t_X20_next 48 rfl) (fun _ => ?_) (fun _ => ?_)
        · exact J115 () trivial
        refine g_aload_n (pc := 101) X (j := 0) (i := 0) (q := 0) (x := a0) rfl rfl (dl_at t_X20_next 49 rfl) ?_
        refine g_aload_n (pc := 102) X (j := 0) (i := 0) (q := 0) (x := a0) rfl rfl (dl_at t_X20_next 50 rfl) ?_
        refine r_geti (pc := 103) X fX20_5 k89 q3283 (dl_at t_X20_next 51 rfl) fun g103 => ?_
        refine r_callRi (pc := 106) X (fun _ hv => s_X20_byteAt k89 g103 hv) cw_code q4346 q374 (in_Vk X (As := [iv (h_87 a0 5)]) kX20 k89 (Or.inl q4343) q4344 q4345 cw_code q4346 ⟨by decide, by decide⟩ rfl (dl_at t_X20_next 52 rfl)) (dl_at t_X20_next 52 rfl) (cat24 (st := []) (Nat.le_of_ble_eq_true rfl)) (Nat.le_of_ble_eq_true rfl) (Nat.le_of_ble_eq_true rfl) fun v106 g106 => ?_
        refine r_callRz (pc := 109) X (fun _ hv => s_X18_isDigit g106 hv) cw_code q4355 q372 (in_Sc X (As := [iv v106]) (Or.inr ⟨_, nw_in q4353 rfl⟩) q4354 q372 q4355 ⟨by decide, by decide⟩ rfl (dl_at t_X20_next 53 rfl)) (dl_at t_X20_next 53 rfl) (cat24 (st := []) (Nat.le_of_ble_eq_true rfl)) (Nat.le_of_ble_eq_true rfl) (Nat.le_of_ble_eq_true rfl) fun v109 g109 => ?_
        refine g_ifeq (pc := 112) X (r32_z g109) (off := 16) (tgt := 128) rfl (dl_at t_X20_next 54 rfl) (fun _ => ?_) (fun _ => ?_)
        · exact g_at fun Q hQ => hQ E_87
        exact J115 () trivial
      · rintro h_128 E_128
        try dsimp only [sE]
        refine g_aload_n (pc := 128) X (j := 0) (i := 0) (q := 0) (x := a0) rfl rfl (dl_at t_X20_next 62 rfl) ?_
        refine g_aload_n (pc := 129) X (j := 0) (i := 0) (q := 0) (x := a0) rfl rfl (dl_at t_X20_next 63 rfl) ?_
        have k130 := kx E_128 (by decide) k55
        refine r_geti (pc := 130) X fX20_5 k130 q3283 (dl_at t_X20_next 64 rfl) fun g130 => ?_
        refine g_aload_n (pc := 133) X (j := 0) (i := 0) (q := 0) (x := a0) rfl rfl (dl_at t_X20_next 65 rfl) ?_
        refine r_geti (pc := 134) X fX20_4 k130 q3280 (dl_at t_X20_next 66 rfl) fun g134 => ?_
        refine g_isub (pc := 137) X g130 g134 (dl_at t_X20_next 67 rfl) ?_
        refine g_bipush (pc := 138) X (n := 12) rfl (dl_at t_X20_next 68 rfl) ?_
        refine g_join (γ := Int) (fun q => r32 q) 148 (fun q => [(0, rv D a0)]) (fun q => [iv q, rv D a0]) (fun q => h_128) (fun q => m_X20_next_j148 a0 q h_128) ?_ ?_
        · rintro s1_148 rs1_148
          try dsimp only
          unfold m_X20_next_j148
          refine r_puti (pc := 148) X fX20_3 k130 q3279 rfl (dl_at t_X20_next 73 rfl) rs1_148 (fun h148 E148 => ?_)
          refine g_aload_n (pc := 151) X (j := 0) (i := 0) (q := 0) (x := a0) rfl rfl (dl_at t_X20_next 74 rfl) ?_
          refine g_iconst (pc := 152) X (n := (-1)) (dl_at t_X20_next 75 rfl) ?_
          have k153 := kx E148 (by decide) k130
          refine r_puti (pc := 153) X fX20_7 k153 q3287 rfl (dl_at t_X20_next 76 rfl) (r32_c rfl) (fun h153 E153 => ?_)
          refine g_goto (pc := 156) X (off := 245) (tgt := 401) rfl (dl_at t_X20_next 77 rfl) ?_
          refine g_aload_n (pc := 401) X (j := 0) (i := 0) (q := 0) (x := a0) rfl rfl (dl_at t_X20_next 203 rfl) ?_
          refine g_aload_n (pc := 402) X (j := 0) (i := 0) (q := 0) (x := a0) rfl rfl (dl_at t_X20_next 204 rfl) ?_
          have k403_3 := kx E153 (by decide) k153
          refine r_geti (pc := 403) X fX20_5 k403_3 q3283 (dl_at t_X20_next 205 rfl) fun g403_3 => ?_
          refine r_puti (pc := 406) X fX20_2 k403_3 q3276 rfl (dl_at t_X20_next 206 rfl) g403_3 (fun h406_3 E406_3 => ?_)
          exact g_vret (pc := 409) X (v := 0) rfl rfl (dl_at t_X20_next 207 rfl)
        intro J148
        refine g_icmple (pc := 140) X (r32_w _) (r32_c rfl) (off := 7) (tgt := 147) rfl (dl_at t_X20_next 69 rfl) (fun _ => ?_) (fun _ => ?_)
        · refine g_iconst (pc := 147) X (n := 1) (dl_at t_X20_next 72 rfl) ?_
          exact J148 1 (r32_c rfl)
        refine g_iconst (pc := 143) X (n := 4) (dl_at t_X20_next 70 rfl) ?_
        refine g_goto (pc := 144) X (off := 4) (tgt := 148) rfl (dl_at t_X20_next 71 rfl) ?_
        exact J148 4 (r32_c rfl)
    refine g_aload_n (pc := 65) X (j := 0) (i := 0) (q := 0) (x := a0) rfl rfl (dl_at t_X20_next 31 rfl) ?_
    refine g_iconst (pc := 66) X (n := 5) (dl_at t_X20_next 32 rfl) ?_
    refine r_puti (pc := 67) X fX20_3 k55 q3279 rfl (dl_at t_X20_next 33 rfl) (r32_c rfl) (fun h67 E67 => ?_)
    exact g_vret (pc := 70) X (v := 0) rfl rfl (dl_at t_X20_next 34 rfl)
def k_X20_open : List (Nat × Instr × Nat) := [(0, .aload_n 0, 1), (1, .aload_n 1, 1), (2, .putfield 7, 3), (5, .aload_n 0, 1), (6, .iload_n 2, 1), (7, .putfield 13, 3), (10, .aload_n 0, 1), (11, .iconst 0, 1), (12, .putfield 17, 3), (15, .aload_n 0, 1), (16, .invokevirtual 20, 3), (19, .return_, 1)]
theorem t_X20_open : ∀ q ∈ k_X20_open, decode cX20_open q.1 = .ok q.2 := dl_all (by decide +kernel)
noncomputable def m_X20_open (a0 a1 a2 : Int) (h : Hp) : Option (Hp) :=
  pt h a0 0 a1 fun h2 =>
  pt h2 a0 1 a2 fun h7 =>
  pt h7 a0 2 0 fun h12 =>
  (m_X20_next a0 h12).bind fun h16 =>
  some h16
theorem s_X20_open {l : Launch} [NoTr l] {D : SD} {a0 a1 a2 : Int} {h : Hp} (hk : h a0 (-2) = 336) (r2 : r32 a2) {r : Hp} (hm : m_X20_open a0 a1 a2 h = some r) : Sim l D yX20_open (Cond.code yX20_open cX20_open 3 (Option.none : Option Jvm.ClassFile.FieldType)) 2 74 [rv D a0, rv D a1, iv a2] h 0 ((0, 0), r) := by
  refine Sim.of (fin := fun (v : Hp) => ((0, 0), v)) (lsE := [(0, rv D a0), (1, rv D a1), (2, iv a2)]) hm rfl cwS_code (la_r (la_r (la_i la_n))) (ll_r (ll_r (ll_i ll_n))) ?_
  intro p e s m below meth c X hcw hmm hcc hnm hname
  unfold m_X20_open
  refine g_aload_n (pc := 0) X (j := 0) (i := 0) (q := 0) (x := a0) rfl rfl (dl_at t_X20_open 0 rfl) ?_
  refine g_aload_n (pc := 1) X (j := 1) (i := 1) (q := 1) (x := a1) rfl rfl (dl_at t_X20_open 1 rfl) ?_
  refine r_putr (pc := 2) X fX20_0 hk q3273 rfl (dl_at t_X20_open 2 rfl)  (fun h2 E2 => ?_)
  refine g_aload_n (pc := 5) X (j := 0) (i := 0) (q := 0) (x := a0) rfl rfl (dl_at t_X20_open 3 rfl) ?_
  refine g_iload_n (pc := 6) X (j := 2) (i := 2) (q := 2) (x := a2) rfl rfl (dl_at t_X20_open 4 rfl) ?_
  have k7 := kx E2 (by decide) hk
  refine r_puti (pc := 7) X fX20_1 k7 q3275 rfl (dl_at t_X20_open 5 rfl) r2 (fun h7 E7 => ?_)
  refine g_aload_n (pc := 10) X (j := 0) (i := 0) (q := 0) (x := a0) rfl rfl (dl_at t_X20_open 6 rfl) ?_
  refine g_iconst (pc := 11) X (n := 0) (dl_at t_X20_open 7 rfl) ?_
  have k12 := kx E7 (by decide) k7
  refine r_puti (pc := 12) X fX20_2 k12 q3276 rfl (dl_at t_X20_open 8 rfl) (r32_c rfl) (fun h12 E12 => ?_)
  refine g_aload_n (pc := 15) X (j := 0) (i := 0) (q := 0) (x := a0) rfl rfl (dl_at t_X20_open 9 rfl) ?_
  have k16 := kx E12 (by decide) k12
  refine r_callV (pc := 16) X (fun _ hv => s_X20_next k16 hv) cw_code q4342 q374 (in_Vk X (As := []) kX20 k16 (Or.inl q4339) q4340 q4341 cw_code q4342 ⟨by decide, by decide⟩ rfl (dl_at t_X20_open 10 rfl)) (dl_at t_X20_open 10 rfl) (cat24 (st := []) (Nat.le_of_ble_eq_true rfl)) (Nat.le_of_ble_eq_true rfl) (Nat.le_of_ble_eq_true rfl) fun h16 E16 => ?_
  exact g_vret (pc := 19) X (v := 0) rfl rfl (dl_at t_X20_open 11 rfl)
def k_X18_is : List (Nat × Instr × Nat) := [(0, .iload_n 2, 1), (1, .iload_n 1, 1), (2, .isub, 1), (3, .aload_n 3, 1), (4, .invokevirtual 94, 3), (7, .if_icmp .eq 5, 3), (10, .iconst 0, 1), (11, .ireturn, 1), (12, .iconst 0, 1), (13, .istore 4, 2), (15, .iload 4, 2), (17, .aload_n 3, 1), (18, .invokevirtual 94, 3), (21, .if_icmp .ge 26, 3), (24, .aload_n 0, 1), (25, .iload_n 1, 1), (26, .iload 4, 2), (28, .iadd, 1), (29, .baload, 1), (30, .aload_n 3, 1), (31, .iload 4, 2), (33, .invokevirtual 100, 3), (36, .if_icmp .eq 5, 3), (39, .iconst 0, 1), (40, .ireturn, 1), (41, .iinc 4 1, 3), (44, .goto (-29), 3), (47, .iconst 1, 1), (48, .ireturn, 1)]
theorem t_X18_is : ∀ q ∈ k_X18_is, decode cX18_is q.1 = .ok q.2 := dl_all (by decide +kernel)
noncomputable def m_X18_is_l15 (a0 a1 a3 x4_15 : Int) (h : Hp) : Option ((Int) ⊕ ((Int))) :=
  (x_slen a3).bind fun v18 =>
  if v18 ≤ x4_15 then (some (.inr 1))
  else (gd (h a0 (-2) % 16 = 2 ∧ (0 : Int) ≤ (w32 (a1 + x4_15)) ∧ (w32 (a1 + x4_15)) < h a0 (-1)) ((x_sat a3 x4_15).bind fun v33 =>
  if (h a0 (w32 (a1 + x4_15))) = v33 then (lt_ (w32 (x4_15 + 1)) fun x4_41 =>
  some (.inl x4_41))
  else (some (.inr 0))))
noncomputable def m_X18_is (a0 a1 a2 a3 : Int) (h : Hp) : Option (Int) :=
  (x_slen a3).bind fun v4 =>
  if (w32 (a2 - a1)) = v4 then (lt_ 0 fun x4_13 =>
  (lp (fun (q : Int) => m_X18_is_l15 a0 a1 a3 q h) x4_13).bind (fun (x : Int) => some x))
  else (some 0)
theorem s_X18_is {l : Launch} [NoTr l] {D : SD} {a0 a1 a2 a3 : Int} {h : Hp} (r1 : r32 a1) (r2 : r32 a2) {r : Int} (hm : m_X18_is a0 a1 a2 a3 h = some r) : Sim l D yX18_is (Cond.code yX18_is cX18_is 5 (Option.some Jvm.ClassFile.FieldType.boolean)) 4 200 [rv D a0, iv a1, iv a2, rv D a3] h 3 ((0, r), h) := by
  refine Sim.of (fin := fun (v : Int) => ((0, v), h)) (lsE := [(0, rv D a0), (1, iv a1), (2, iv a2), (3, rv D a3)]) hm rfl cwS_code (la_r (la_i (la_i (la_r la_n)))) (ll_r (ll_i (ll_i (ll_r ll_n)))) ?_
  intro p e s m below meth c X hcw hmm hcc hnm hname
  unfold m_X18_is
  refine g_iload_n (pc := 0) X (j := 2) (i := 2) (q := 2) (x := a2) rfl rfl (dl_at t_X18_is 0 rfl) ?_
  refine g_iload_n (pc := 1) X (j := 1) (i := 1) (q := 1) (x := a1) rfl rfl (dl_at t_X18_is 1 rfl) ?_
  refine g_isub (pc := 2) X r2 r1 (dl_at t_X18_is 2 rfl) ?_
  refine g_aload_n (pc := 3) X (j := 3) (i := 3) (q := 3) (x := a3) rfl rfl (dl_at t_X18_is 3 rfl) ?_
  refine r_slen (pc := 4) X q4368 (cat24 (st := [iv (w32 (a2 - a1))]) (Nat.le_of_ble_eq_true rfl)) (Nat.le_of_ble_eq_true rfl) (Nat.le_of_ble_eq_true rfl) (dl_at t_X18_is 4 rfl) fun v4 g4 => ?_
  refine g_icmpeq (pc := 7) X (r32_w _) g4 (off := 5) (tgt := 12) rfl (dl_at t_X18_is 5 rfl) (fun _ => ?_) (fun _ => ?_)
  · refine g_iconst (pc := 12) X (n := 0) (dl_at t_X18_is 8 rfl) ?_
    refine g_ltz (Or.inl rfl) fun x4_13 r4_13 => ?_
    refine g_istoreN (pc := 13) X (i := 4) (x := x4_13) (b := 3) (w := rv D a3) (rest := [(0, rv D a0), (1, iv a1)]) (Nat.le_of_ble_eq_true rfl) [3, 0, 1] rfl (by decide) rv_cat rfl (dl_at t_X18_is 9 rfl) ?_
    refine g_ls (ls2 := [(0, rv D a0), (1, iv a1), (3, rv D a3), (4, iv x4_13)]) [2, 3, 1, 0] rfl ?_
    refine g_loop0F (fun (q : Int) => [(0, rv D a0), (1, iv a1), (3, rv D a3), (4, iv q)]) (fun (q : Int) => h) (fun (q : Int) => r32 q) x4_13 (r32_z r4_13) ?_ (fun _ => rfl)
    · rintro x4_15 r4_15
      try dsimp only
      unfold m_X18_is_l15
      refine g_iload (pc := 15) X (i := 4) (q := 3) (x := x4_15) rfl (dl_at t_X18_is 10 rfl) ?_
      refine g_aload_n (pc := 17) X (j := 3) (i := 3) (q := 2) (x := a3) rfl rfl (dl_at t_X18_is 11 rfl) ?_
      refine r_slen (pc := 18) X q4368 (cat24 (st := [iv x4_15]) (Nat.le_of_ble_eq_true rfl)) (Nat.le_of_ble_eq_true rfl) (Nat.le_of_ble_eq_true rfl) (dl_at t_X18_is 12 rfl) fun v18 g18 => ?_
      refine g_icmpge (pc := 21) X r4_15 g18 (off := 26) (tgt := 47) rfl (dl_at t_X18_is 13 rfl) (fun _ => ?_) (fun _ => ?_)
      · refine g_iconst (pc := 47) X (n := 1) (dl_at t_X18_is 27 rfl) ?_
        exact g_at fun Q hQ => (g_zret (pc := 48) X (Or.inr rfl) rfl rfl (dl_at t_X18_is 28 rfl)) _ Q rfl hQ
      refine g_aload_n (pc := 24) X (j := 0) (i := 0) (q := 0) (x := a0) rfl rfl (dl_at t_X18_is 14 rfl) ?_
      refine g_iload_n (pc := 25) X (j := 1) (i := 1) (q := 1) (x := a1) rfl rfl (dl_at t_X18_is 15 rfl) ?_
      refine g_iload (pc := 26) X (i := 4) (q := 3) (x := x4_15) rfl (dl_at t_X18_is 16 rfl) ?_
      refine g_iadd (pc := 28) X r1 r4_15 (dl_at t_X18_is 17 rfl) ?_
      refine g_gd fun k29 => ?_
      refine g_bald (pc := 29) X (r32_w _) k29 (dl_at t_X18_is 18 rfl) fun g29 => ?_
      refine g_aload_n (pc := 30) X (j := 3) (i := 3) (q := 2) (x := a3) rfl rfl (dl_at t_X18_is 19 rfl) ?_
      refine g_iload (pc := 31) X (i := 4) (q := 3) (x := x4_15) rfl (dl_at t_X18_is 20 rfl) ?_
      refine r_sat (pc := 33) X r4_15 q4369 (cat24 (st := [iv (h a0 (w32 (a1 + x4_15)))]) (Nat.le_of_ble_eq_true rfl)) (Nat.le_of_ble_eq_true rfl) (Nat.le_of_ble_eq_true rfl) (dl_at t_X18_is 21 rfl) fun v33 g33 => ?_
      refine g_icmpeq (pc := 36) X (r32_b g29) g33 (off := 5) (tgt := 41) rfl (dl_at t_X18_is 22 rfl) (fun _ => ?_) (fun _ => ?_)
      · refine r_iincN (pc := 41) X (i := 4) (q := 3) (n := 1) (x := x4_15) (b := 3) (w := rv D a3) (rest := [(0, rv D a0), (1, iv a1)]) rfl r4_15 (r32_c rfl) (Nat.le_of_ble_eq_true rfl) [2, 0, 1] rfl (by decide) rv_cat rfl (dl_at t_X18_is 25 rfl) fun x4_41 r4_41 => ?_
        refine g_goto (pc := 44) X (off := (-29)) (tgt := 15) rfl (dl_at t_X18_is 26 rfl) ?_
        refine g_ls (ls2 := [(0, rv D a0), (1, iv a1), (3, rv D a3), (4, iv x4_41)]) [2, 3, 1, 0] rfl ?_
        exact g_at fun Q hQ => hQ r4_41
      refine g_iconst (pc := 39) X (n := 0) (dl_at t_X18_is 23 rfl) ?_
      exact g_at fun Q hQ => (g_zret (pc := 40) X (Or.inl rfl) rfl rfl (dl_at t_X18_is 24 rfl)) _ Q rfl hQ
  refine g_iconst (pc := 10) X (n := 0) (dl_at t_X18_is 6 rfl) ?_
  exact g_zret (pc := 11) X (Or.inl rfl) rfl rfl (dl_at t_X18_is 7 rfl)
def k_X20_isName : List (Nat × Instr × Nat) := [(0, .aload_n 0, 1), (1, .getfield 39, 3), (4, .iconst 1, 1), (5, .if_icmp .ne 26, 3), (8, .aload_n 0, 1), (9, .getfield 7, 3), (12, .aload_n 0, 1), (13, .getfield 33, 3), (16, .aload_n 0, 1), (17, .getfield 36, 3), (20, .aload_n 1, 1), (21, .invokestatic 59, 3), (24, .ifCond .eq 7, 3), (27, .iconst 1, 1), (28, .goto 4, 3), (31, .iconst 0, 1), (32, .ireturn, 1)]
theorem t_X20_isName : ∀ q ∈ k_X20_isName, decode cX20_isName q.1 = .ok q.2 := dl_all (by decide +kernel)
noncomputable def m_X20_isName (a0 a1 : Int) (h : Hp) : Option (Int) :=
  if (h a0 3) ≠ 1 then (some 0)
  else ((m_X18_is (h a0 0) (h a0 4) (h a0 5) a1 h).bind fun v21 =>
  if v21 = 0 then (some 0)
  else (some 1))
theorem s_X20_isName {l : Launch} [NoTr l] {D : SD} {a0 a1 : Int} {h : Hp} (hk : h a0 (-2) = 336) {r : Int} (hm : m_X20_isName a0 a1 h = some r) : Sim l D yX20_isName (Cond.code yX20_isName cX20_isName 2 (Option.some Jvm.ClassFile.FieldType.boolean)) 5 240 [rv D a0, rv D a1] h 3 ((0, r), h) := by
  refine Sim.of (fin := fun (v : Int) => ((0, v), h)) (lsE := [(0, rv D a0), (1, rv D a1)]) hm rfl cwS_code (la_r (la_r la_n)) (ll_r (ll_r ll_n)) ?_
  intro p e s m below meth c X hcw hmm hcc hnm hname
  unfold m_X20_isName
  refine g_aload_n (pc := 0) X (j := 0) (i := 0) (q := 0) (x := a0) rfl rfl (dl_at t_X20_isName 0 rfl) ?_
  refine r_geti (pc := 1) X fX20_3 hk q3279 (dl_at t_X20_isName 1 rfl) fun g1 => ?_
  refine g_iconst (pc := 4) X (n := 1) (dl_at t_X20_isName 2 rfl) ?_
  refine g_icmpne (pc := 5) X g1 (r32_c rfl) (off := 26) (tgt := 31) rfl (dl_at t_X20_isName 3 rfl) (fun _ => ?_) (fun _ => ?_)
  · refine g_iconst (pc := 31) X (n := 0) (dl_at t_X20_isName 15 rfl) ?_
    exact g_zret (pc := 32) X (Or.inl rfl) rfl rfl (dl_at t_X20_isName 16 rfl)
  refine g_aload_n (pc := 8) X (j := 0) (i := 0) (q := 0) (x := a0) rfl rfl (dl_at t_X20_isName 4 rfl) ?_
  refine r_getr (pc := 9) X fX20_0 hk q3273 (dl_at t_X20_isName 5 rfl) ?_
  refine g_aload_n (pc := 12) X (j := 0) (i := 0) (q := 0) (x := a0) rfl rfl (dl_at t_X20_isName 6 rfl) ?_
  refine r_geti (pc := 13) X fX20_4 hk q3280 (dl_at t_X20_isName 7 rfl) fun g13 => ?_
  refine g_aload_n (pc := 16) X (j := 0) (i := 0) (q := 0) (x := a0) rfl rfl (dl_at t_X20_isName 8 rfl) ?_
  refine r_geti (pc := 17) X fX20_5 hk q3283 (dl_at t_X20_isName 9 rfl) fun g17 => ?_
  refine g_aload_n (pc := 20) X (j := 1) (i := 1) (q := 1) (x := a1) rfl rfl (dl_at t_X20_isName 10 rfl) ?_
  refine r_callRz (pc := 21) X (fun _ hv => s_X18_is g13 g17 hv) cw_code q4367 q372 (in_Sc X (As := [rv D (h a0 0), iv (h a0 4), iv (h a0 5), rv D a1]) (Or.inr ⟨_, nw_in q4365 rfl⟩) q4366 q372 q4367 ⟨by decide, by decide⟩ rfl (dl_at t_X20_isName 11 rfl)) (dl_at t_X20_isName 11 rfl) (cat24 (st := []) (Nat.le_of_ble_eq_true rfl)) (Nat.le_of_ble_eq_true rfl) (Nat.le_of_ble_eq_true rfl) fun v21 g21 => ?_
  refine g_ifeq (pc := 24) X (r32_z g21) (off := 7) (tgt := 31) rfl (dl_at t_X20_isName 12 rfl) (fun _ => ?_) (fun _ => ?_)
  · refine g_iconst (pc := 31) X (n := 0) (dl_at t_X20_isName 15 rfl) ?_
    exact g_zret (pc := 32) X (Or.inl rfl) rfl rfl (dl_at t_X20_isName 16 rfl)
  refine g_iconst (pc := 27) X (n := 1) (dl_at t_X20_isName 13 rfl) ?_
  refine g_goto (pc := 28) X (off := 4) (tgt := 32) rfl (dl_at t_X20_isName 14 rfl) ?_
  exact g_zret (pc := 32) X (Or.inr rfl) rfl rfl (dl_at t_X20_isName 16 rfl)
def k_X20_innerEnd : List (Nat × Instr × Nat) := [(0, .aload_n 0, 1), (1, .getfield 36, 3), (4, .iconst 1, 1), (5, .isub, 1), (6, .ireturn, 1)]
theorem t_X20_innerEnd : ∀ q ∈ k_X20_innerEnd, decode cX20_innerEnd q.1 = .ok q.2 := dl_all (by decide +kernel)
noncomputable def m_X20_innerEnd (a0 : Int) (h : Hp) : Option (Int) :=
  some (w32 ((h a0 5) - 1))
theorem s_X20_innerEnd {l : Launch} [NoTr l] {D : SD} {a0 : Int} {h : Hp} (hk : h a0 (-2) = 336) {r : Int} (hm : m_X20_innerEnd a0 h = some r) : Sim l D yX20_innerEnd (Cond.code yX20_innerEnd cX20_innerEnd 1 (Option.some Jvm.ClassFile.FieldType.int)) 0 0 [rv D a0] h 1 ((0, r), h) := by
  refine Sim.of (fin := fun (v : Int) => ((0, v), h)) (lsE := [(0, rv D a0)]) hm rfl cwS_code (la_r la_n) (ll_r ll_n) ?_
  intro p e s m below meth c X hcw hmm hcc hnm hname
  unfold m_X20_innerEnd
  refine g_aload_n (pc := 0) X (j := 0) (i := 0) (q := 0) (x := a0) rfl rfl (dl_at t_X20_innerEnd 0 rfl) ?_
  refine r_geti (pc := 1) X fX20_5 hk q3283 (dl_at t_X20_innerEnd 1 rfl) fun g1 => ?_
  refine g_iconst (pc := 4) X (n := 1) (dl_at t_X20_innerEnd 2 rfl) ?_
  refine g_isub (pc := 5) X g1 (r32_c rfl) (dl_at t_X20_innerEnd 3 rfl) ?_
  exact g_iret (pc := 6) X (r32_w _) rfl rfl (dl_at t_X20_innerEnd 4 rfl)
def k_X20_inner : List (Nat × Instr × Nat) := [(0, .aload_n 0, 1), (1, .getfield 33, 3), (4, .iconst 1, 1), (5, .iadd, 1), (6, .ireturn, 1)]
theorem t_X20_inner : ∀ q ∈ k_X20_inner, decode cX20_inner q.1 = .ok q.2 := dl_all (by decide +kernel)
noncomputable def m_X20_inner (a0 : Int) (h : Hp) : Option (Int) :=
  some (w32 ((h a0 4) + 1))
theorem s_X20_inner {l : Launch} [NoTr l] {D : SD} {a0 : Int} {h : Hp} (hk : h a0 (-2) = 336) {r : Int} (hm : m_X20_inner a0 h = some r) : Sim l D yX20_inner (Cond.code yX20_inner cX20_inner 1 (Option.some Jvm.ClassFile.FieldType.int)) 0 0 [rv D a0] h 1 ((0, r), h) := by
  refine Sim.of (fin := fun (v : Int) => ((0, v), h)) (lsE := [(0, rv D a0)]) hm rfl cwS_code (la_r la_n) (ll_r ll_n) ?_
  intro p e s m below meth c X hcw hmm hcc hnm hname
  unfold m_X20_inner
  refine g_aload_n (pc := 0) X (j := 0) (i := 0) (q := 0) (x := a0) rfl rfl (dl_at t_X20_inner 0 rfl) ?_
  refine r_geti (pc := 1) X fX20_4 hk q3280 (dl_at t_X20_inner 1 rfl) fun g1 => ?_
  refine g_iconst (pc := 4) X (n := 1) (dl_at t_X20_inner 2 rfl) ?_
  refine g_iadd (pc := 5) X g1 (r32_c rfl) (dl_at t_X20_inner 3 rfl) ?_
  exact g_iret (pc := 6) X (r32_w _) rfl rfl (dl_at t_X20_inner 4 rfl)
def k_X20_broken : List (Nat × Instr × Nat) := [(0, .new 54, 3), (3, .dup, 1), (4, .aload_n 0, 1), (5, .getfield 33, 3), (8, .invokespecial 56, 3), (11, .areturn, 1)]
theorem t_X20_broken : ∀ q ∈ k_X20_broken, decode cX20_broken q.1 = .ok q.2 := dl_all (by decide +kernel)
noncomputable def m_X20_broken (a0 : Int) (h : Hp) : Option (Int × Hp) :=
  al h 448 7 fun a0_1 h0 =>
  (x_broken a0_1 (h0 a0 4) h0).bind fun h8 =>
  some (a0_1, h8)
theorem s_X20_broken {l : Launch} [NoTr l] {D : SD} {a0 : Int} {h : Hp} (hk : h a0 (-2) = 336) {r : Int × Hp} (hm : m_X20_broken a0 h = some r) : Sim l D yX20_broken (Cond.code yX20_broken cX20_broken 1 (Option.some (Jvm.ClassFile.FieldType.object "ScholarsPressModel$Broken"))) 9 337 [rv D a0] h 5 ((0, r.1), r.2) := by
  refine Sim.of (fin := fun (v : Int × Hp) => ((0, v.1), v.2)) (lsE := [(0, rv D a0)]) hm rfl cwS_code (la_r la_n) (ll_r ll_n) ?_
  intro p e s m below meth c X hcw hmm hcc hnm hname
  unfold m_X20_broken
  refine r_new (pc := 0) X kX27 q4387 (dl_at t_X20_broken 0 rfl) fun a0_1 h0 p0 k0 E0 => ?_
  refine g_dup (pc := 3) X rv_cat (dl_at t_X20_broken 1 rfl) ?_
  refine g_aload_n (pc := 4) X (j := 0) (i := 0) (q := 0) (x := a0) rfl rfl (dl_at t_X20_broken 2 rfl) ?_
  have k5 := kx E0 (by decide) hk
  refine r_geti (pc := 5) X fX20_4 k5 q3280 (dl_at t_X20_broken 3 rfl) fun g5 => ?_
  refine r_callV (pc := 8) X (fun _ hv => sx_ScholarsPressModel_Broken_init_I_V k0 g5 hv) cw_code q4398 q392 (in_I X (As := [iv (h0 a0 4)]) (Int.ne_of_gt p0) rfl (Or.inl q4396) q4397 q4398 ⟨by decide, by decide⟩ rfl (dl_at t_X20_broken 4 rfl)) (dl_at t_X20_broken 4 rfl) (cat24 (st := [rv D a0_1]) (Nat.le_of_ble_eq_true rfl)) (Nat.le_of_ble_eq_true rfl) (Nat.le_of_ble_eq_true rfl) fun h8 E8 => ?_
  exact g_aret (pc := 11) X (Or.inl ⟨_, rfl⟩) rfl rfl (dl_at t_X20_broken 5 rfl)
def k_X19_single : List (Nat × Instr × Nat) := [(0, .aload_n 0, 1), (1, .getfield 32, 3), (4, .getfield 46, 3), (7, .iconst 3, 1), (8, .if_icmp .ne 22, 3), (11, .aload_n 0, 1), (12, .getfield 32, 3), (15, .invokevirtual 49, 3), (18, .aload_n 0, 1), (19, .getfield 32, 3), (22, .invokevirtual 53, 3), (25, .isub, 1), (26, .iconst 1, 1), (27, .if_icmp .eq 11, 3), (30, .aload_n 0, 1), (31, .getfield 32, 3), (34, .invokevirtual 56, 3), (37, .athrow, 1), (38, .aload_n 0, 1), (39, .getfield 32, 3), (42, .aload_n 0, 1), (43, .getfield 32, 3), (46, .invokevirtual 53, 3), (49, .invokevirtual 60, 3), (52, .istore_n 1, 1), (53, .aload_n 0, 1), (54, .getfield 32, 3), (57, .invokevirtual 64, 3), (60, .iload_n 1, 1), (61, .ireturn, 1)]
theorem t_X19_single : ∀ q ∈ k_X19_single, decode cX19_single q.1 = .ok q.2 := dl_all (by decide +kernel)
noncomputable def m_X19_single (a0 : Int) (h : Hp) : Option ((Int × Int) × Hp) :=
  gd (h (h a0 8) (-2) = 336) (if (h (h a0 8) 3) ≠ 3 then (bW (m_X20_broken (h a0 8) h) fun v34 h34 =>
  gd (0 < v34) (some ((1, v34), h34)))
  else ((m_X20_innerEnd (h a0 8) h).bind fun v15 =>
  (m_X20_inner (h a0 8) h).bind fun v22 =>
  if (w32 (v15 - v22)) = 1 then ((m_X20_inner (h a0 8) h).bind fun v46 =>
  (m_X20_byteAt (h a0 8) v46 h).bind fun v49 =>
  (m_X20_next (h a0 8) h).bind fun h57 =>
  some ((0, v49), h57))
  else (bW (m_X20_broken (h a0 8) h) fun v34_1 h34_1 =>
  gd (0 < v34_1) (some ((1, v34_1), h34_1)))))
theorem s_X19_single {l : Launch} [NoTr l] {D : SD} {a0 : Int} {h : Hp} (hk : h a0 (-2) = 320) {r : (Int × Int) × Hp} (hm : m_X19_single a0 h = some r) : Sim l D yX19_single (Cond.code yX19_single cX19_single 2 (Option.some Jvm.ClassFile.FieldType.int)) 10 373 [rv D a0] h 1 r := by
  refine Sim.of (fin := fun (v : (Int × Int) × Hp) => v) (lsE := [(0, rv D a0)]) hm rfl cwS_code (la_r la_n) (ll_r ll_n) ?_
  intro p e s m below meth c X hcw hmm hcc hnm hname
  have hno := noh hcw hnm hmm hcc
  unfold m_X19_single
  refine g_aload_n (pc := 0) X (j := 0) (i := 0) (q := 0) (x := a0) rfl rfl (dl_at t_X19_single 0 rfl) ?_
  refine r_getr (pc := 1) X fX19_8 hk q3319 (dl_at t_X19_single 1 rfl) ?_
  refine g_gd fun k4 => ?_
  refine r_geti (pc := 4) X fX20_3 k4 q3278 (dl_at t_X19_single 2 rfl) fun g4 => ?_
  refine g_iconst (pc := 7) X (n := 3) (dl_at t_X19_single 3 rfl) ?_
  refine g_icmpne (pc := 8) X g4 (r32_c rfl) (off := 22) (tgt := 30) rfl (dl_at t_X19_single 4 rfl) (fun _ => ?_) (fun _ => ?_)
  · refine g_aload_n (pc := 30) X (j := 0) (i := 0) (q := 0) (x := a0) rfl rfl (dl_at t_X19_single 14 rfl) ?_
    refine r_getr (pc := 31) X fX19_8 hk q3319 (dl_at t_X19_single 15 rfl) ?_
    refine r_callWr (pc := 34) X (fun _ hv => s_X20_broken k4 hv) cw_code q4386 q374 (in_Vk X (As := []) kX20 k4 (Or.inl q4383) q4384 q4385 cw_code q4386 ⟨by decide, by decide⟩ rfl (dl_at t_X19_single 16 rfl)) (dl_at t_X19_single 16 rfl) (cat24 (st := []) (Nat.le_of_ble_eq_true rfl)) (Nat.le_of_ble_eq_true rfl) (Nat.le_of_ble_eq_true rfl) fun v34 h34 E34 => ?_
    refine g_gd fun p37 => ?_
    refine g_athrow (pc := 37) X (Int.ne_of_gt p37) (dl_at t_X19_single 17 rfl) ?_
    exact gt_at fun Q hQ => gt_out (Q := Q) X rfl p37 (hno _) _ Q rfl hQ
  refine g_aload_n (pc := 11) X (j := 0) (i := 0) (q := 0) (x := a0) rfl rfl (dl_at t_X19_single 5 rfl) ?_
  refine r_getr (pc := 12) X fX19_8 hk q3319 (dl_at t_X19_single 6 rfl) ?_
  refine r_callRi (pc := 15) X (fun _ hv => s_X20_innerEnd k4 hv) cw_code q4378 q374 (in_Vk X (As := []) kX20 k4 (Or.inl q4375) q4376 q4377 cw_code q4378 ⟨by decide, by decide⟩ rfl (dl_at t_X19_single 7 rfl)) (dl_at t_X19_single 7 rfl) (cat24 (st := []) (Nat.le_of_ble_eq_true rfl)) (Nat.le_of_ble_eq_true rfl) (Nat.le_of_ble_eq_true rfl) fun v15 g15 => ?_
  refine g_aload_n (pc := 18) X (j := 0) (i := 0) (q := 0) (x := a0) rfl rfl (dl_at t_X19_single 8 rfl) ?_
  refine r_getr (pc := 19) X fX19_8 hk q3319 (dl_at t_X19_single 9 rfl) ?_
  refine r_callRi (pc := 22) X (fun _ hv => s_X20_inner k4 hv) cw_code q4382 q374 (in_Vk X (As := []) kX20 k4 (Or.inl q4379) q4380 q4381 cw_code q4382 ⟨by decide, by decide⟩ rfl (dl_at t_X19_single 10 rfl)) (dl_at t_X19_single 10 rfl) (cat24 (st := [iv v15]) (Nat.le_of_ble_eq_true rfl)) (Nat.le_of_ble_eq_true rfl) (Nat.le_of_ble_eq_true rfl) fun v22 g22 => ?_
  refine g_isub (pc := 25) X g15 g22 (dl_at t_X19_single 11 rfl) ?_
  refine g_iconst (pc := 26) X (n := 1) (dl_at t_X19_single 12 rfl) ?_
  refine g_icmpeq (pc := 27) X (r32_w _) (r32_c rfl) (off := 11) (tgt := 38) rfl (dl_at t_X19_single 13 rfl) (fun _ => ?_) (fun _ => ?_)
  · refine g_aload_n (pc := 38) X (j := 0) (i := 0) (q := 0) (x := a0) rfl rfl (dl_at t_X19_single 18 rfl) ?_
    refine r_getr (pc := 39) X fX19_8 hk q3319 (dl_at t_X19_single 19 rfl) ?_
    refine g_aload_n (pc := 42) X (j := 0) (i := 0) (q := 0) (x := a0) rfl rfl (dl_at t_X19_single 20 rfl) ?_
    refine r_getr (pc := 43) X fX19_8 hk q3319 (dl_at t_X19_single 21 rfl) ?_
    refine r_callRi (pc := 46) X (fun _ hv => s_X20_inner k4 hv) cw_code q4382 q374 (in_Vk X (As := []) kX20 k4 (Or.inl q4379) q4380 q4381 cw_code q4382 ⟨by decide, by decide⟩ rfl (dl_at t_X19_single 22 rfl)) (dl_at t_X19_single 22 rfl) (cat24 (st := [rv D (h a0 8)]) (Nat.le_of_ble_eq_true rfl)) (Nat.le_of_ble_eq_true rfl) (Nat.le_of_ble_eq_true rfl) fun v46 g46 => ?_
    refine r_callRi (pc := 49) X (fun _ hv => s_X20_byteAt k4 g46 hv) cw_code q4346 q374 (in_Vk X (As := [iv v46]) kX20 k4 (Or.inl q4406) q4344 q4345 cw_code q4346 ⟨by decide, by decide⟩ rfl (dl_at t_X19_single 23 rfl)) (dl_at t_X19_single 23 rfl) (cat24 (st := []) (Nat.le_of_ble_eq_true rfl)) (Nat.le_of_ble_eq_true rfl) (Nat.le_of_ble_eq_true rfl) fun v49 g49 => ?_
    refine g_istore_nN (pc := 52) X (j := 1) (i := 1) (x := v49) (b := 0) (w := rv D a0) (rest := []) rfl (Nat.le_of_ble_eq_true rfl) [0] rfl (by decide) rv_cat rfl (dl_at t_X19_single 24 rfl) ?_
    refine g_aload_n (pc := 53) X (j := 0) (i := 0) (q := 1) (x := a0) rfl rfl (dl_at t_X19_single 25 rfl) ?_
    refine r_getr (pc := 54) X fX19_8 hk q3319 (dl_at t_X19_single 26 rfl) ?_
    refine r_callV (pc := 57) X (fun _ hv => s_X20_next k4 hv) cw_code q4342 q374 (in_Vk X (As := []) kX20 k4 (Or.inl q4370) q4340 q4341 cw_code q4342 ⟨by decide, by decide⟩ rfl (dl_at t_X19_single 27 rfl)) (dl_at t_X19_single 27 rfl) (cat24 (st := []) (Nat.le_of_ble_eq_true rfl)) (Nat.le_of_ble_eq_true rfl) (Nat.le_of_ble_eq_true rfl) fun h57 E57 => ?_
    refine g_iload_n (pc := 60) X (j := 1) (i := 1) (q := 0) (x := v49) rfl rfl (dl_at t_X19_single 28 rfl) ?_
    exact g_iret (pc := 61) X g49 rfl rfl (dl_at t_X19_single 29 rfl)
  refine g_aload_n (pc := 30) X (j := 0) (i := 0) (q := 0) (x := a0) rfl rfl (dl_at t_X19_single 14 rfl) ?_
  refine r_getr (pc := 31) X fX19_8 hk q3319 (dl_at t_X19_single 15 rfl) ?_
  refine r_callWr (pc := 34) X (fun _ hv => s_X20_broken k4 hv) cw_code q4386 q374 (in_Vk X (As := []) kX20 k4 (Or.inl q4383) q4384 q4385 cw_code q4386 ⟨by decide, by decide⟩ rfl (dl_at t_X19_single 16 rfl)) (dl_at t_X19_single 16 rfl) (cat24 (st := []) (Nat.le_of_ble_eq_true rfl)) (Nat.le_of_ble_eq_true rfl) (Nat.le_of_ble_eq_true rfl) fun v34_1 h34_1 E34_1 => ?_
  refine g_gd fun p37_1 => ?_
  refine g_athrow (pc := 37) X (Int.ne_of_gt p37_1) (dl_at t_X19_single 17 rfl) ?_
  exact gt_at fun Q hQ => gt_out (Q := Q) X rfl p37_1 (hno _) _ Q rfl hQ
def k_X20_needNumber : List (Nat × Instr × Nat) := [(0, .aload_n 0, 1), (1, .getfield 39, 3), (4, .iconst 2, 1), (5, .if_icmp .ne 19, 3), (8, .aload_n 0, 1), (9, .getfield 51, 3), (12, .iload_n 1, 1), (13, .if_icmp .lt 11, 3), (16, .aload_n 0, 1), (17, .getfield 51, 3), (20, .iload_n 2, 1), (21, .if_icmp .le 8, 3), (24, .aload_n 0, 1), (25, .invokevirtual 66, 3), (28, .athrow, 1), (29, .aload_n 0, 1), (30, .getfield 51, 3), (33, .istore_n 3, 1), (34, .aload_n 0, 1), (35, .invokevirtual 20, 3), (38, .iload_n 3, 1), (39, .ireturn, 1)]
theorem t_X20_needNumber : ∀ q ∈ k_X20_needNumber, decode cX20_needNumber q.1 = .ok q.2 := dl_all (by decide +kernel)
noncomputable def m_X20_needNumber (a0 a1 a2 : Int) (h : Hp) : Option ((Int × Int) × Hp) :=
  if (h a0 3) ≠ 2 then (bW (m_X20_broken a0 h) fun v25 h25 =>
  gd (0 < v25) (some ((1, v25), h25)))
  else (if (h a0 6) < a1 then (bW (m_X20_broken a0 h) fun v25_1 h25_1 =>
  gd (0 < v25_1) (some ((1, v25_1), h25_1)))
  else (if (h a0 6) ≤ a2 then (lt_ (h a0 6) fun x3_33 =>
  (m_X20_next a0 h).bind fun h35 =>
  some ((0, x3_33), h35))
  else (bW (m_X20_broken a0 h) fun v25_2 h25_2 =>
  gd (0 < v25_2) (some ((1, v25_2), h25_2)))))
theorem s_X20_needNumber {l : Launch} [NoTr l] {D : SD} {a0 a1 a2 : Int} {h : Hp} (hk : h a0 (-2) = 336) (r1 : r32 a1) (r2 : r32 a2) {r : (Int × Int) × Hp} (hm : m_X20_needNumber a0 a1 a2 h = some r) : Sim l D yX20_needNumber (Cond.code yX20_needNumber cX20_needNumber 4 (Option.some Jvm.ClassFile.FieldType.int)) 10 373 [rv D a0, iv a1, iv a2] h 1 r := by
  refine Sim.of (fin := fun (v : (Int × Int) × Hp) => v) (lsE := [(0, rv D a0), (1, iv a1), (2, iv a2)]) hm rfl cwS_code (la_r (la_i (la_i la_n))) (ll_r (ll_i (ll_i ll_n))) ?_
  intro p e s m below meth c X hcw hmm hcc hnm hname
  have hno := noh hcw hnm hmm hcc
  unfold m_X20_needNumber
  refine g_aload_n (pc := 0) X (j := 0) (i := 0) (q := 0) (x := a0) rfl rfl (dl_at t_X20_needNumber 0 rfl) ?_
  refine r_geti (pc := 1) X fX20_3 hk q3279 (dl_at t_X20_needNumber 1 rfl) fun g1 => ?_
  refine g_iconst (pc := 4) X (n := 2) (dl_at t_X20_needNumber 2 rfl) ?_
  refine g_icmpne (pc := 5) X g1 (r32_c rfl) (off := 19) (tgt := 24) rfl (dl_at t_X20_needNumber 3 rfl) (fun _ => ?_) (fun _ => ?_)
  · refine g_aload_n (pc := 24) X (j := 0) (i := 0) (q := 0) (x := a0) rfl rfl (dl_at t_X20_needNumber 12 rfl) ?_
    refine r_callWr (pc := 25) X (fun _ hv => s_X20_broken hk hv) cw_code q4386 q374 (in_Vk X (As := []) kX20 hk (Or.inl q4411) q4384 q4385 cw_code q4386 ⟨by decide, by decide⟩ rfl (dl_at t_X20_needNumber 13 rfl)) (dl_at t_X20_needNumber 13 rfl) (cat24 (st := []) (Nat.le_of_ble_eq_true rfl)) (Nat.le_of_ble_eq_true rfl) (Nat.le_of_ble_eq_true rfl) fun v25 h25 E25 => ?_
    refine g_gd fun p28 => ?_
    refine g_athrow (pc := 28) X (Int.ne_of_gt p28) (dl_at t_X20_needNumber 14 rfl) ?_
    exact gt_at fun Q hQ => gt_out (Q := Q) X rfl p28 (hno _) _ Q rfl hQ
  refine g_aload_n (pc := 8) X (j := 0) (i := 0) (q := 0) (x := a0) rfl rfl (dl_at t_X20_needNumber 4 rfl) ?_
  refine r_geti (pc := 9) X fX20_6 hk q3285 (dl_at t_X20_needNumber 5 rfl) fun g9 => ?_
  refine g_iload_n (pc := 12) X (j := 1) (i := 1) (q := 1) (x := a1) rfl rfl (dl_at t_X20_needNumber 6 rfl) ?_
  refine g_icmplt (pc := 13) X g9 r1 (off := 11) (tgt := 24) rfl (dl_at t_X20_needNumber 7 rfl) (fun _ => ?_) (fun _ => ?_)
  · refine g_aload_n (pc := 24) X (j := 0) (i := 0) (q := 0) (x := a0) rfl rfl (dl_at t_X20_needNumber 12 rfl) ?_
    refine r_callWr (pc := 25) X (fun _ hv => s_X20_broken hk hv) cw_code q4386 q374 (in_Vk X (As := []) kX20 hk (Or.inl q4411) q4384 q4385 cw_code q4386 ⟨by decide, by decide⟩ rfl (dl_at t_X20_needNumber 13 rfl)) (dl_at t_X20_needNumber 13 rfl) (cat24 (st := []) (Nat.le_of_ble_eq_true rfl)) (Nat.le_of_ble_eq_true rfl) (Nat.le_of_ble_eq_true rfl) fun v25_1 h25_1 E25_1 => ?_
    refine g_gd fun p28_1 => ?_
    refine g_athrow (pc := 28) X (Int.ne_of_gt p28_1) (dl_at t_X20_needNumber 14 rfl) ?_
    exact gt_at fun Q hQ => gt_out (Q := Q) X rfl p28_1 (hno _) _ Q rfl hQ
  refine g_aload_n (pc := 16) X (j := 0) (i := 0) (q := 0) (x := a0) rfl rfl (dl_at t_X20_needNumber 8 rfl) ?_
  refine r_geti (pc := 17) X fX20_6 hk q3285 (dl_at t_X20_needNumber 9 rfl) fun g17 => ?_
  refine g_iload_n (pc := 20) X (j := 2) (i := 2) (q := 2) (x := a2) rfl rfl (dl_at t_X20_needNumber 10 rfl) ?_
  refine g_icmple (pc := 21) X g17 r2 (off := 8) (tgt := 29) rfl (dl_at t_X20_needNumber 11 rfl) (fun _ => ?_) (fun _ => ?_)
  · refine g_aload_n (pc := 29) X (j := 0) (i := 0) (q := 0) (x := a0) rfl rfl (dl_at t_X20_needNumber 15 rfl) ?_
    refine r_geti (pc := 30) X fX20_6 hk q3285 (dl_at t_X20_needNumber 16 rfl) fun g30 => ?_
    refine g_lti g30 fun x3_33 r3_33 => ?_
    refine g_istore_n (pc := 33) X (j := 3) (i := 3) (x := x3_33) (rest := [(0, rv D a0)]) rfl (Nat.le_of_ble_eq_true rfl) [0] rfl rfl (dl_at t_X20_needNumber 17 rfl) ?_
    refine g_aload_n (pc := 34) X (j := 0) (i := 0) (q := 1) (x := a0) rfl rfl (dl_at t_X20_needNumber 18 rfl) ?_
    refine r_callV (pc := 35) X (fun _ hv => s_X20_next hk hv) cw_code q4342 q374 (in_Vk X (As := []) kX20 hk (Or.inl q4339) q4340 q4341 cw_code q4342 ⟨by decide, by decide⟩ rfl (dl_at t_X20_needNumber 19 rfl)) (dl_at t_X20_needNumber 19 rfl) (cat24 (st := []) (Nat.le_of_ble_eq_true rfl)) (Nat.le_of_ble_eq_true rfl) (Nat.le_of_ble_eq_true rfl) fun h35 E35 => ?_
    refine g_iload_n (pc := 38) X (j := 3) (i := 3) (q := 0) (x := x3_33) rfl rfl (dl_at t_X20_needNumber 20 rfl) ?_
    exact g_iret (pc := 39) X r3_33 rfl rfl (dl_at t_X20_needNumber 21 rfl)
  refine g_aload_n (pc := 24) X (j := 0) (i := 0) (q := 0) (x := a0) rfl rfl (dl_at t_X20_needNumber 12 rfl) ?_
  refine r_callWr (pc := 25) X (fun _ hv => s_X20_broken hk hv) cw_code q4386 q374 (in_Vk X (As := []) kX20 hk (Or.inl q4411) q4384 q4385 cw_code q4386 ⟨by decide, by decide⟩ rfl (dl_at t_X20_needNumber 13 rfl)) (dl_at t_X20_needNumber 13 rfl) (cat24 (st := []) (Nat.le_of_ble_eq_true rfl)) (Nat.le_of_ble_eq_true rfl) (Nat.le_of_ble_eq_true rfl) fun v25_2 h25_2 E25_2 => ?_
  refine g_gd fun p28_2 => ?_
  refine g_athrow (pc := 28) X (Int.ne_of_gt p28_2) (dl_at t_X20_needNumber 14 rfl) ?_
  exact gt_at fun Q hQ => gt_out (Q := Q) X rfl p28_2 (hno _) _ Q rfl hQ
def k_X19_find : List (Nat × Instr × Nat) := [(0, .iconst 0, 1), (1, .istore_n 3, 1), (2, .iload_n 3, 1), (3, .iload_n 1, 1), (4, .if_icmp .ge 18, 3), (7, .aload_n 0, 1), (8, .iload_n 3, 1), (9, .iaload, 1), (10, .iload_n 2, 1), (11, .if_icmp .ne 5, 3), (14, .iload_n 3, 1), (15, .ireturn, 1), (16, .iinc 3 1, 3), (19, .goto (-17), 3), (22, .iconst (-1), 1), (23, .ireturn, 1)]
theorem t_X19_find : ∀ q ∈ k_X19_find, decode cX19_find q.1 = .ok q.2 := dl_all (by decide +kernel)
noncomputable def m_X19_find_l2 (a0 a1 a2 x3_2 : Int) (h : Hp) : Option ((Int) ⊕ ((Int))) :=
  if a1 ≤ x3_2 then (some (.inr (-1)))
  else (gd (h a0 (-2) % 16 = 1 ∧ (0 : Int) ≤ x3_2 ∧ x3_2 < h a0 (-1)) (if (h a0 x3_2) ≠ a2 then (lt_ (w32 (x3_2 + 1)) fun x3_16 =>
  some (.inl x3_16))
  else (some (.inr x3_2))))
noncomputable def m_X19_find (a0 a1 a2 : Int) (h : Hp) : Option (Int) :=
  lt_ 0 fun x3_1 =>
  (lp (fun (q : Int) => m_X19_find_l2 a0 a1 a2 q h) x3_1).bind (fun (x : Int) => some x)
theorem s_X19_find {l : Launch} [NoTr l] {D : SD} {a0 a1 a2 : Int} {h : Hp} (r1 : r32 a1) (r2 : r32 a2) {r : Int} (hm : m_X19_find a0 a1 a2 h = some r) : Sim l D yX19_find (Cond.code yX19_find cX19_find 4 (Option.some Jvm.ClassFile.FieldType.int)) 0 0 [rv D a0, iv a1, iv a2] h 1 ((0, r), h) := by
  refine Sim.of (fin := fun (v : Int) => ((0, v), h)) (lsE := [(0, rv D a0), (1, iv a1), (2, iv a2)]) hm rfl cwS_code (la_r (la_i (la_i la_n))) (ll_r (ll_i (ll_i ll_n))) ?_
  intro p e s m below meth c X hcw hmm hcc hnm hname
  unfold m_X19_find
  refine g_iconst (pc := 0) X (n := 0) (dl_at t_X19_find 0 rfl) ?_
  refine g_ltz (Or.inl rfl) fun x3_1 r3_1 => ?_
  refine g_istore_nN (pc := 1) X (j := 3) (i := 3) (x := x3_1) (b := 2) (w := iv a2) (rest := [(0, rv D a0), (1, iv a1)]) rfl (Nat.le_of_ble_eq_true rfl) [2, 0, 1] rfl (by decide) rfl rfl (dl_at t_X19_find 1 rfl) ?_
  refine g_ls (ls2 := [(0, rv D a0), (1, iv a1), (2, iv a2), (3, iv x3_1)]) [2, 3, 1, 0] rfl ?_
  refine g_loop0F (fun (q : Int) => [(0, rv D a0), (1, iv a1), (2, iv a2), (3, iv q)]) (fun (q : Int) => h) (fun (q : Int) => r32 q) x3_1 (r32_z r3_1) ?_ (fun _ => rfl)
  · rintro x3_2 r3_2
    try dsimp only
    unfold m_X19_find_l2
    refine g_iload_n (pc := 2) X (j := 3) (i := 3) (q := 3) (x := x3_2) rfl rfl (dl_at t_X19_find 2 rfl) ?_
    refine g_iload_n (pc := 3) X (j := 1) (i := 1) (q := 1) (x := a1) rfl rfl (dl_at t_X19_find 3 rfl) ?_
    refine g_icmpge (pc := 4) X r3_2 r1 (off := 18) (tgt := 22) rfl (dl_at t_X19_find 4 rfl) (fun _ => ?_) (fun _ => ?_)
    · refine g_iconst (pc := 22) X (n := (-1)) (dl_at t_X19_find 14 rfl) ?_
      exact g_at fun Q hQ => (g_iret (pc := 23) X (r32_c rfl) rfl rfl (dl_at t_X19_find 15 rfl)) _ Q rfl hQ
    refine g_aload_n (pc := 7) X (j := 0) (i := 0) (q := 0) (x := a0) rfl rfl (dl_at t_X19_find 5 rfl) ?_
    refine g_iload_n (pc := 8) X (j := 3) (i := 3) (q := 3) (x := x3_2) rfl rfl (dl_at t_X19_find 6 rfl) ?_
    refine g_gd fun k9 => ?_
    refine g_iald (pc := 9) X r3_2 k9 (dl_at t_X19_find 7 rfl) fun g9 => ?_
    refine g_iload_n (pc := 10) X (j := 2) (i := 2) (q := 2) (x := a2) rfl rfl (dl_at t_X19_find 8 rfl) ?_
    refine g_icmpne (pc := 11) X g9 r2 (off := 5) (tgt := 16) rfl (dl_at t_X19_find 9 rfl) (fun _ => ?_) (fun _ => ?_)
    · refine r_iincN (pc := 16) X (i := 3) (q := 3) (n := 1) (x := x3_2) (b := 2) (w := iv a2) (rest := [(0, rv D a0), (1, iv a1)]) rfl r3_2 (r32_c rfl) (Nat.le_of_ble_eq_true rfl) [2, 0, 1] rfl (by decide) rfl rfl (dl_at t_X19_find 12 rfl) fun x3_16 r3_16 => ?_
      refine g_goto (pc := 19) X (off := (-17)) (tgt := 2) rfl (dl_at t_X19_find 13 rfl) ?_
      refine g_ls (ls2 := [(0, rv D a0), (1, iv a1), (2, iv a2), (3, iv x3_16)]) [2, 3, 1, 0] rfl ?_
      exact g_at fun Q hQ => hQ r3_16
    refine g_iload_n (pc := 14) X (j := 3) (i := 3) (q := 3) (x := x3_2) rfl rfl (dl_at t_X19_find 10 rfl) ?_
    exact g_at fun Q hQ => (g_iret (pc := 15) X r3_2 rfl rfl (dl_at t_X19_find 11 rfl)) _ Q rfl hQ
def k_X20_isByte : List (Nat × Instr × Nat) := [(0, .aload_n 0, 1), (1, .getfield 39, 3), (4, .iconst 4, 1), (5, .if_icmp .ne 15, 3), (8, .aload_n 0, 1), (9, .getfield 48, 3), (12, .iload_n 1, 1), (13, .if_icmp .ne 7, 3), (16, .iconst 1, 1), (17, .goto 4, 3), (20, .iconst 0, 1), (21, .ireturn, 1)]
theorem t_X20_isByte : ∀ q ∈ k_X20_isByte, decode cX20_isByte q.1 = .ok q.2 := dl_all (by decide +kernel)
noncomputable def m_X20_isByte (a0 a1 : Int) (h : Hp) : Option (Int) :=
  if (h a0 3) ≠ 4 then (some 0)
  else (if (h a0 7) ≠ a1 then (some 0)
  else (some 1))
theorem s_X20_isByte {l : Launch} [NoTr l] {D : SD} {a0 a1 : Int} {h : Hp} (hk : h a0 (-2) = 336) (r1 : r32 a1) {r : Int} (hm : m_X20_isByte a0 a1 h = some r) : Sim l D yX20_isByte (Cond.code yX20_isByte cX20_isByte 2 (Option.some Jvm.ClassFile.FieldType.boolean)) 0 0 [rv D a0, iv a1] h 3 ((0, r), h) := by
  refine Sim.of (fin := fun (v : Int) => ((0, v), h)) (lsE := [(0, rv D a0), (1, iv a1)]) hm rfl cwS_code (la_r (la_i la_n)) (ll_r (ll_i ll_n)) ?_
  intro p e s m below meth c X hcw hmm hcc hnm hname
  unfold m_X20_isByte
  refine g_aload_n (pc := 0) X (j := 0) (i := 0) (q := 0) (x := a0) rfl rfl (dl_at t_X20_isByte 0 rfl) ?_
  refine r_geti (pc := 1) X fX20_3 hk q3279 (dl_at t_X20_isByte 1 rfl) fun g1 => ?_
  refine g_iconst (pc := 4) X (n := 4) (dl_at t_X20_isByte 2 rfl) ?_
  refine g_icmpne (pc := 5) X g1 (r32_c rfl) (off := 15) (tgt := 20) rfl (dl_at t_X20_isByte 3 rfl) (fun _ => ?_) (fun _ => ?_)
  · refine g_iconst (pc := 20) X (n := 0) (dl_at t_X20_isByte 10 rfl) ?_
    exact g_zret (pc := 21) X (Or.inl rfl) rfl rfl (dl_at t_X20_isByte 11 rfl)
  refine g_aload_n (pc := 8) X (j := 0) (i := 0) (q := 0) (x := a0) rfl rfl (dl_at t_X20_isByte 4 rfl) ?_
  refine r_geti (pc := 9) X fX20_7 hk q3287 (dl_at t_X20_isByte 5 rfl) fun g9 => ?_
  refine g_iload_n (pc := 12) X (j := 1) (i := 1) (q := 1) (x := a1) rfl rfl (dl_at t_X20_isByte 6 rfl) ?_
  refine g_icmpne (pc := 13) X g9 r1 (off := 7) (tgt := 20) rfl (dl_at t_X20_isByte 7 rfl) (fun _ => ?_) (fun _ => ?_)
  · refine g_iconst (pc := 20) X (n := 0) (dl_at t_X20_isByte 10 rfl) ?_
    exact g_zret (pc := 21) X (Or.inl rfl) rfl rfl (dl_at t_X20_isByte 11 rfl)
  refine g_iconst (pc := 16) X (n := 1) (dl_at t_X20_isByte 8 rfl) ?_
  refine g_goto (pc := 17) X (off := 4) (tgt := 21) rfl (dl_at t_X20_isByte 9 rfl) ?_
  exact g_zret (pc := 21) X (Or.inr rfl) rfl rfl (dl_at t_X20_isByte 11 rfl)
def k_X20_need : List (Nat × Instr × Nat) := [(0, .aload_n 0, 1), (1, .iload_n 1, 1), (2, .invokevirtual 63, 3), (5, .ifCond .ne 8, 3), (8, .aload_n 0, 1), (9, .invokevirtual 66, 3), (12, .athrow, 1), (13, .aload_n 0, 1), (14, .invokevirtual 20, 3), (17, .return_, 1)]
theorem t_X20_need : ∀ q ∈ k_X20_need, decode cX20_need q.1 = .ok q.2 := dl_all (by decide +kernel)
noncomputable def m_X20_need (a0 a1 : Int) (h : Hp) : Option ((Int × Int) × Hp) :=
  (m_X20_isByte a0 a1 h).bind fun v2 =>
  if v2 ≠ 0 then ((m_X20_next a0 h).bind fun h14 =>
  some ((0, 0), h14))
  else (bW (m_X20_broken a0 h) fun v9 h9 =>
  gd (0 < v9) (some ((1, v9), h9)))
theorem s_X20_need {l : Launch} [NoTr l] {D : SD} {a0 a1 : Int} {h : Hp} (hk : h a0 (-2) = 336) (r1 : r32 a1) {r : (Int × Int) × Hp} (hm : m_X20_need a0 a1 h = some r) : Sim l D yX20_need (Cond.code yX20_need cX20_need 2 (Option.none : Option Jvm.ClassFile.FieldType)) 10 373 [rv D a0, iv a1] h 0 r := by
  refine Sim.of (fin := fun (v : (Int × Int) × Hp) => v) (lsE := [(0, rv D a0), (1, iv a1)]) hm rfl cwS_code (la_r (la_i la_n)) (ll_r (ll_i ll_n)) ?_
  intro p e s m below meth c X hcw hmm hcc hnm hname
  have hno := noh hcw hnm hmm hcc
  unfold m_X20_need
  refine g_aload_n (pc := 0) X (j := 0) (i := 0) (q := 0) (x := a0) rfl rfl (dl_at t_X20_need 0 rfl) ?_
  refine g_iload_n (pc := 1) X (j := 1) (i := 1) (q := 1) (x := a1) rfl rfl (dl_at t_X20_need 1 rfl) ?_
  refine r_callRz (pc := 2) X (fun _ hv => s_X20_isByte hk r1 hv) cw_code q4421 q374 (in_Vk X (As := [iv a1]) kX20 hk (Or.inl q4427) q4419 q4420 cw_code q4421 ⟨by decide, by decide⟩ rfl (dl_at t_X20_need 2 rfl)) (dl_at t_X20_need 2 rfl) (cat24 (st := []) (Nat.le_of_ble_eq_true rfl)) (Nat.le_of_ble_eq_true rfl) (Nat.le_of_ble_eq_true rfl) fun v2 g2 => ?_
  refine g_ifne (pc := 5) X (r32_z g2) (off := 8) (tgt := 13) rfl (dl_at t_X20_need 3 rfl) (fun _ => ?_) (fun _ => ?_)
  · refine g_aload_n (pc := 13) X (j := 0) (i := 0) (q := 0) (x := a0) rfl rfl (dl_at t_X20_need 7 rfl) ?_
    refine r_callV (pc := 14) X (fun _ hv => s_X20_next hk hv) cw_code q4342 q374 (in_Vk X (As := []) kX20 hk (Or.inl q4339) q4340 q4341 cw_code q4342 ⟨by decide, by decide⟩ rfl (dl_at t_X20_need 8 rfl)) (dl_at t_X20_need 8 rfl) (cat24 (st := []) (Nat.le_of_ble_eq_true rfl)) (Nat.le_of_ble_eq_true rfl) (Nat.le_of_ble_eq_true rfl) fun h14 E14 => ?_
    exact g_vret (pc := 17) X (v := 0) rfl rfl (dl_at t_X20_need 9 rfl)
  refine g_aload_n (pc := 8) X (j := 0) (i := 0) (q := 0) (x := a0) rfl rfl (dl_at t_X20_need 4 rfl) ?_
  refine r_callWr (pc := 9) X (fun _ hv => s_X20_broken hk hv) cw_code q4386 q374 (in_Vk X (As := []) kX20 hk (Or.inl q4411) q4384 q4385 cw_code q4386 ⟨by decide, by decide⟩ rfl (dl_at t_X20_need 5 rfl)) (dl_at t_X20_need 5 rfl) (cat24 (st := []) (Nat.le_of_ble_eq_true rfl)) (Nat.le_of_ble_eq_true rfl) (Nat.le_of_ble_eq_true rfl) fun v9 h9 E9 => ?_
  refine g_gd fun p12 => ?_
  refine g_athrow (pc := 12) X (Int.ne_of_gt p12) (dl_at t_X20_need 6 rfl) ?_
  exact gt_at fun Q hQ => gt_out (Q := Q) X rfl p12 (hno _) _ Q rfl hQ
def k_X19_one : List (Nat × Instr × Nat) := [(0, .aload_n 0, 1), (1, .getfield 32, 3), (4, .ldc 74, 2), (6, .invokevirtual 75, 3), (9, .ifCond .eq 42, 3), (12, .aload_n 0, 1), (13, .getfield 32, 3), (16, .invokevirtual 64, 3), (19, .aload_n 0, 1), (20, .invokevirtual 79, 3), (23, .istore_n 1, 1), (24, .aload_n 0, 1), (25, .getfield 7, 3), (28, .iload_n 1, 1), (29, .aload_n 0, 1), (30, .getfield 32, 3), (33, .iconst 0, 1), (34, .sipush 5000, 3), (37, .invokevirtual 82, 3), (40, .iastore, 1), (41, .aload_n 0, 1), (42, .getfield 13, 3), (45, .iload_n 1, 1), (46, .iconst 1, 1), (47, .bastore, 1), (48, .goto 314, 3), (51, .aload_n 0, 1), (52, .getfield 32, 3), (55, .ldc 86, 2), (57, .invokevirtual 75, 3), (60, .ifCond .eq 160, 3), (63, .aload_n 0, 1), (64, .getfield 32, 3), (67, .invokevirtual 64, 3), (70, .aload_n 0, 1), (71, .invokevirtual 79, 3), (74, .istore_n 1, 1), (75, .aload_n 0, 1), (76, .getfield 32, 3), (79, .getfield 87, 3), (82, .istore_n 2, 1), (83, .sipush 256, 3), (86, .iload_n 1, 1), (87, .imul, 1), (88, .aload_n 0, 1), (89, .invokevirtual 79, 3), (92, .iadd, 1), (93, .istore_n 3, 1), (94, .aload_n 0, 1), (95, .getfield 17, 3), (98, .aload_n 0, 1), (99, .getfield 39, 3), (102, .iload_n 3, 1), (103, .invokestatic 90, 3), (106, .istore 4, 2), (108, .iload 4, 2), (110, .ifCond .ge 22, 3), (113, .aload_n 0, 1), (114, .getfield 39, 3), (117, .sipush 200, 3), (120, .if_icmp .ne 12, 3), (123, .new 94, 3), (126, .dup, 1), (127, .iload_n 2, 1), (128, .invokespecial 96, 3), (131, .athrow, 1), (132, .aload_n 0, 1), (133, .getfield 32, 3), (136, .bipush 45, 2), (138, .invokevirtual 99, 3), (141, .istore 5, 2), (143, .iload 5, 2), (145, .ifCond .eq 10, 3), (148, .aload_n 0, 1), (149, .getfield 32, 3), (152, .invokevirtual 64, 3), (155, .aload_n 0, 1), (156, .getfield 32, 3), (159, .iconst 0, 1), (160, .sipush 500, 3), (163, .invokevirtual 82, 3), (166, .istore 6, 2), (168, .iload 4, 2), (170, .ifCond .ge 19, 3), (173, .aload_n 0, 1), (174, .getfield 39, 3), (177, .istore 4, 2), (179, .aload_n 0, 1), (180, .dup, 1), (181, .getfield 39, 3), (184, .iconst 1, 1), (185, .iadd, 1), (186, .putfield 39, 3), (189, .aload_n 0, 1), (190, .getfield 17, 3), (193, .iload 4, 2), (195, .iload_n 3, 1), (196, .iastore, 1), (197, .aload_n 0, 1), (198, .getfield 20, 3), (201, .iload 4, 2), (203, .iload 5, 2), (205, .ifCond .eq 9, 3), (208, .iload 6, 2), (210, .ineg, 1), (211, .goto 5, 3), (214, .iload 6, 2), (216, .iastore, 1), (217, .goto 145, 3), (220, .aload_n 0, 1), (221, .getfield 32, 3), (224, .ldc 103, 2), (226, .invokevirtual 75, 3), (229, .ifCond .eq 125, 3), (232, .aload_n 0, 1), (233, .getfield 32, 3), (236, .invokevirtual 64, 3), (239, .aload_n 0, 1), (240, .invokevirtual 79, 3), (243, .istore_n 1, 1), (244, .aload_n 0, 1), (245, .getfield 32, 3), (248, .getfield 87, 3), (251, .istore_n 2, 1), (252, .sipush 256, 3), (255, .iload_n 1, 1), (256, .imul, 1), (257, .aload_n 0, 1), (258, .invokevirtual 79, 3), (261, .iadd, 1), (262, .istore_n 3, 1), (263, .aload_n 0, 1), (264, .getfield 23, 3), (267, .aload_n 0, 1), (268, .getfield 43, 3), (271, .iload_n 3, 1), (272, .invokestatic 90, 3), (275, .istore 4, 2), (277, .iload 4, 2), (279, .ifCond .ge 21, 3), (282, .aload_n 0, 1), (283, .getfield 43, 3), (286, .bipush 60, 2), (288, .if_icmp .ne 12, 3), (291, .new 94, 3), (294, .dup, 1), (295, .iload_n 2, 1), (296, .invokespecial 96, 3), (299, .athrow, 1), (300, .aload_n 0, 1), (301, .getfield 32, 3), (304, .iconst 0, 1), (305, .sipush 5000, 3), (308, .invokevirtual 82, 3), (311, .istore 5, 2), (313, .iload 4, 2), (315, .ifCond .ge 19, 3), (318, .aload_n 0, 1), (319, .getfield 43, 3), (322, .istore 4, 2), (324, .aload_n 0, 1), (325, .dup, 1), (326, .getfield 43, 3), (329, .iconst 1, 1), (330, .iadd, 1), (331, .putfield 43, 3), (334, .aload_n 0, 1), (335, .getfield 23, 3), (338, .iload 4, 2), (340, .iload_n 3, 1), (341, .iastore, 1), (342, .aload_n 0, 1), (343, .getfield 26, 3), (346, .iload 4, 2), (348, .iload 5, 2), (350, .iastore, 1), (351, .goto 11, 3), (354, .aload_n 0, 1), (355, .getfield 32, 3), (358, .invokevirtual 56, 3), (361, .athrow, 1), (362, .aload_n 0, 1), (363, .getfield 32, 3), (366, .bipush 59, 2), (368, .invokevirtual 104, 3), (371, .return_, 1)]
theorem t_X19_one : ∀ q ∈ k_X19_one, decode cX19_one q.1 = .ok q.2 := dl_all (by decide +kernel)
noncomputable def m_X19_one_j334 (v308 a0 x3_262 x4_334 : Int) (h_334 : Hp) : Option ((Int × Int) × Hp) :=
  gd (h_334 (h_334 a0 6) (-2) % 16 = 1 ∧ (0 : Int) ≤ x4_334 ∧ x4_334 < h_334 (h_334 a0 6) (-1)) (pt h_334 (h_334 a0 6) x4_334 x3_262 fun h341 =>
  gd (h341 (h341 a0 7) (-2) % 16 = 1 ∧ (0 : Int) ≤ x4_334 ∧ x4_334 < h341 (h341 a0 7) (-1)) (pt h341 (h341 a0 7) x4_334 v308 fun h350 =>
  gd (h350 (h350 a0 8) (-2) = 336) (bT (m_X20_need (h350 a0 8) 59 h350) (fun _ h368 =>
  some ((0, 0), h368)) (fun a_ h_ => some ((1, a_), h_)))))
noncomputable def m_X19_one_j300 (v272 x3_262 a0 : Int) (h258 : Hp) : Option ((Int × Int) × Hp) :=
  gd (h258 (h258 a0 8) (-2) = 336) (bT (m_X20_needNumber (h258 a0 8) 0 5000 h258) (fun v308 h308 =>
  if 0 ≤ v272 then (m_X19_one_j334 v308 a0 x3_262 v272 h308)
  else (lt_ (h308 a0 3) fun x4_322 =>
  pt h308 a0 3 (w32 ((h308 a0 3) + 1)) fun h331 =>
  m_X19_one_j334 v308 a0 x3_262 x4_322 h331)) (fun a_ h_ => some ((1, a_), h_)))
noncomputable def m_X19_one_j189 (v163 v138 a0 x3_93 x4_189 : Int) (h_189 : Hp) : Option ((Int × Int) × Hp) :=
  gd (h_189 (h_189 a0 4) (-2) % 16 = 1 ∧ (0 : Int) ≤ x4_189 ∧ x4_189 < h_189 (h_189 a0 4) (-1)) (pt h_189 (h_189 a0 4) x4_189 x3_93 fun h196 =>
  if v138 = 0 then (gd (h196 (h196 a0 5) (-2) % 16 = 1 ∧ (0 : Int) ≤ x4_189 ∧ x4_189 < h196 (h196 a0 5) (-1)) (pt h196 (h196 a0 5) x4_189 v163 fun h216 =>
  gd (h216 (h216 a0 8) (-2) = 336) (bT (m_X20_need (h216 a0 8) 59 h216) (fun _ h368_1 =>
  some ((0, 0), h368_1)) (fun a_ h_ => some ((1, a_), h_)))))
  else (gd (h196 (h196 a0 5) (-2) % 16 = 1 ∧ (0 : Int) ≤ x4_189 ∧ x4_189 < h196 (h196 a0 5) (-1)) (pt h196 (h196 a0 5) x4_189 (w32 (-v163)) fun h216_1 =>
  gd (h216_1 (h216_1 a0 8) (-2) = 336) (bT (m_X20_need (h216_1 a0 8) 59 h216_1) (fun _ h368_2 =>
  some ((0, 0), h368_2)) (fun a_ h_ => some ((1, a_), h_))))))
noncomputable def m_X19_one_j155 (v138 v103 a0 x3_93 : Int) (h_155 : Hp) : Option ((Int × Int) × Hp) :=
  gd (h_155 (h_155 a0 8) (-2) = 336) (bT (m_X20_needNumber (h_155 a0 8) 0 500 h_155) (fun v163 h163 =>
  if 0 ≤ v103 then (m_X19_one_j189 v163 v138 a0 x3_93 v103 h163)
  else (lt_ (h163 a0 2) fun x4_177 =>
  pt h163 a0 2 (w32 ((h163 a0 2) + 1)) fun h186 =>
  m_X19_one_j189 v163 v138 a0 x3_93 x4_177 h186)) (fun a_ h_ => some ((1, a_), h_)))
noncomputable def m_X19_one_j132 (v103 x3_93 a0 : Int) (h89 : Hp) : Option ((Int × Int) × Hp) :=
  gd (h89 (h89 a0 8) (-2) = 336) ((m_X20_isByte (h89 a0 8) 45 h89).bind fun v138 =>
  if v138 = 0 then (m_X19_one_j155 v138 v103 a0 x3_93 h89)
  else ((m_X20_next (h89 a0 8) h89).bind fun h152 =>
  m_X19_one_j155 v138 v103 a0 x3_93 h152))
noncomputable def m_X19_one (a0 : Int) (h : Hp) : Option ((Int × Int) × Hp) :=
  gd (h (h a0 8) (-2) = 336) ((m_X20_isName (h a0 8) (-72) h).bind fun v6 =>
  if v6 = 0 then ((m_X20_isName (h a0 8) (-73) h).bind fun v57 =>
  if v57 = 0 then ((m_X20_isName (h a0 8) (-71) h).bind fun v226 =>
  if v226 = 0 then (bW (m_X20_broken (h a0 8) h) fun v358 h358 =>
  gd (0 < v358) (some ((1, v358), h358)))
  else ((m_X20_next (h a0 8) h).bind fun h236 =>
  bT (m_X19_single a0 h236) (fun v240 h240 =>
  gd (h240 (h240 a0 8) (-2) = 336) (lt_ (h240 (h240 a0 8) 4) fun x2_251 =>
  bT (m_X19_single a0 h240) (fun v258 h258 =>
  lt_ (w32 ((w32 (256 * v240)) + v258)) fun x3_262 =>
  (m_X19_find (h258 a0 6) (h258 a0 3) x3_262 h258).bind fun v272 =>
  if 0 ≤ v272 then (m_X19_one_j300 v272 x3_262 a0 h258)
  else (if (h258 a0 3) ≠ 60 then (m_X19_one_j300 v272 x3_262 a0 h258)
  else (al h258 448 7 fun a291 h291 =>
  (x_broken a291 x2_251 h291).bind fun h296 =>
  some ((1, a291), h296)))) (fun a_ h_ => some ((1, a_), h_)))) (fun a_ h_ => some ((1, a_), h_))))
  else ((m_X20_next (h a0 8) h).bind fun h67 =>
  bT (m_X19_single a0 h67) (fun v71 h71 =>
  gd (h71 (h71 a0 8) (-2) = 336) (lt_ (h71 (h71 a0 8) 4) fun x2_82 =>
  bT (m_X19_single a0 h71) (fun v89 h89 =>
  lt_ (w32 ((w32 (256 * v71)) + v89)) fun x3_93 =>
  (m_X19_find (h89 a0 4) (h89 a0 2) x3_93 h89).bind fun v103 =>
  if 0 ≤ v103 then (m_X19_one_j132 v103 x3_93 a0 h89)
  else (if (h89 a0 2) ≠ 200 then (m_X19_one_j132 v103 x3_93 a0 h89)
  else (al h89 448 7 fun a123 h123 =>
  (x_broken a123 x2_82 h123).bind fun h128 =>
  some ((1, a123), h128)))) (fun a_ h_ => some ((1, a_), h_)))) (fun a_ h_ => some ((1, a_), h_))))
  else ((m_X20_next (h a0 8) h).bind fun h16 =>
  bT (m_X19_single a0 h16) (fun v20 h20 =>
  gd (h20 (h20 a0 8) (-2) = 336) (bT (m_X20_needNumber (h20 a0 8) 0 5000 h20) (fun v37 h37 =>
  gd (h37 (h20 a0 0) (-2) % 16 = 1 ∧ (0 : Int) ≤ v20 ∧ v20 < h37 (h20 a0 0) (-1)) (pt h37 (h20 a0 0) v20 v37 fun h40 =>
  gd (h40 (h40 a0 1) (-2) % 16 = 3 ∧ (0 : Int) ≤ v20 ∧ v20 < h40 (h40 a0 1) (-1)) (pt h40 (h40 a0 1) v20 1 fun h47 =>
  gd (h47 (h47 a0 8) (-2) = 336) (bT (m_X20_need (h47 a0 8) 59 h47) (fun _ h368_3 =>
  some ((0, 0), h368_3)) (fun a_ h_ => some ((1, a_), h_)))))) (fun a_ h_ => some ((1, a_), h_)))) (fun a_ h_ => some ((1, a_), h_))))
theorem s_X19_one {l : Launch} [NoTr l] {D : SD} {a0 : Int} {h : Hp} (hk : h a0 (-2) = 320) {r : (Int × Int) × Hp} (hm : m_X19_one a0 h = some r) : Sim l D yX19_one (Cond.code yX19_one cX19_one 7 (Option.none : Option Jvm.ClassFile.FieldType)) 11 412 [rv D a0] h 0 r := by
  refine Sim.of (fin := fun (v : (Int × Int) × Hp) => v) (lsE := [(0, rv D a0)]) hm rfl cwS_code (la_r la_n) (ll_r ll_n) ?_
  intro p e s m below meth c X hcw hmm hcc hnm hname
  have hno := noh hcw hnm hmm hcc
  unfold m_X19_one
  refine g_aload_n (pc := 0) X (j := 0) (i := 0) (q := 0) (x := a0) rfl rfl (dl_at t_X19_one 0 rfl) ?_
  refine r_getr (pc := 1) X fX19_8 hk q3319 (dl_at t_X19_one 1 rfl) ?_
  refine g_ldcS (pc := 4) X (index := 74) (id := (-72)) 70 rfl rfl (dl_at t_X19_one 2 rfl) ?_
  refine g_gd fun k6 => ?_
  refine r_callRz (pc := 6) X (fun _ hv => s_X20_isName k6 hv) cw_code q4364 q374 (in_Vk X (As := [rv D (-72)]) kX20 k6 (Or.inl q4361) q4362 q4363 cw_code q4364 ⟨by decide, by decide⟩ rfl (dl_at t_X19_one 3 rfl)) (dl_at t_X19_one 3 rfl) (cat24 (st := []) (Nat.le_of_ble_eq_true rfl)) (Nat.le_of_ble_eq_true rfl) (Nat.le_of_ble_eq_true rfl) fun v6 g6 => ?_
  refine g_ifeq (pc := 9) X (r32_z g6) (off := 42) (tgt := 51) rfl (dl_at t_X19_one 4 rfl) (fun _ => ?_) (fun _ => ?_)
  · refine g_aload_n (pc := 51) X (j := 0) (i := 0) (q := 0) (x := a0) rfl rfl (dl_at t_X19_one 26 rfl) ?_
    refine r_getr (pc := 52) X fX19_8 hk q3319 (dl_at t_X19_one 27 rfl) ?_
    refine g_ldcS (pc := 55) X (index := 86) (id := (-73)) 71 rfl rfl (dl_at t_X19_one 28 rfl) ?_
    refine r_callRz (pc := 57) X (fun _ hv => s_X20_isName k6 hv) cw_code q4364 q374 (in_Vk X (As := [rv D (-73)]) kX20 k6 (Or.inl q4361) q4362 q4363 cw_code q4364 ⟨by decide, by decide⟩ rfl (dl_at t_X19_one 29 rfl)) (dl_at t_X19_one 29 rfl) (cat24 (st := []) (Nat.le_of_ble_eq_true rfl)) (Nat.le_of_ble_eq_true rfl) (Nat.le_of_ble_eq_true rfl) fun v57 g57 => ?_
    refine g_ifeq (pc := 60) X (r32_z g57) (off := 160) (tgt := 220) rfl (dl_at t_X19_one 30 rfl) (fun _ => ?_) (fun _ => ?_)
    · refine g_aload_n (pc := 220) X (j := 0) (i := 0) (q := 0) (x := a0) rfl rfl (dl_at t_X19_one 109 rfl) ?_
      refine r_getr (pc := 221) X fX19_8 hk q3319 (dl_at t_X19_one 110 rfl) ?_
      refine g_ldcS (pc := 224) X (index := 103) (id := (-71)) 69 rfl rfl (dl_at t_X19_one 111 rfl) ?_
      refine r_callRz (pc := 226) X (fun _ hv => s_X20_isName k6 hv) cw_code q4364 q374 (in_Vk X (As := [rv D (-71)]) kX20 k6 (Or.inl q4361) q4362 q4363 cw_code q4364 ⟨by decide, by decide⟩ rfl (dl_at t_X19_one 112 rfl)) (dl_at t_X19_one 112 rfl) (cat24 (st := []) (Nat.le_of_ble_eq_true rfl)) (Nat.le_of_ble_eq_true rfl) (Nat.le_of_ble_eq_true rfl) fun v226 g226 => ?_
      refine g_ifeq (pc := 229) X (r32_z g226) (off := 125) (tgt := 354) rfl (dl_at t_X19_one 113 rfl) (fun _ => ?_) (fun _ => ?_)
      · refine g_aload_n (pc := 354) X (j := 0) (i := 0) (q := 0) (x := a0) rfl rfl (dl_at t_X19_one 177 rfl) ?_
        refine r_getr (pc := 355) X fX19_8 hk q3319 (dl_at t_X19_one 178 rfl) ?_
        refine r_callWr (pc := 358) X (fun _ hv => s_X20_broken k6 hv) cw_code q4386 q374 (in_Vk X (As := []) kX20 k6 (Or.inl q4383) q4384 q4385 cw_code q4386 ⟨by decide, by decide⟩ rfl (dl_at t_X19_one 179 rfl)) (dl_at t_X19_one 179 rfl) (cat24 (st := []) (Nat.le_of_ble_eq_true rfl)) (Nat.le_of_ble_eq_true rfl) (Nat.le_of_ble_eq_true rfl) fun v358 h358 E358 => ?_
        refine g_gd fun p361 => ?_
        refine g_athrow (pc := 361) X (Int.ne_of_gt p361) (dl_at t_X19_one 180 rfl) ?_
        exact gt_at fun Q hQ => gt_out (Q := Q) X rfl p361 (hno _) _ Q rfl hQ
      refine g_aload_n (pc := 232) X (j := 0) (i := 0) (q := 0) (x := a0) rfl rfl (dl_at t_X19_one 114 rfl) ?_
      refine r_getr (pc := 233) X fX19_8 hk q3319 (dl_at t_X19_one 115 rfl) ?_
      refine r_callV (pc := 236) X (fun _ hv => s_X20_next k6 hv) cw_code q4342 q374 (in_Vk X (As := []) kX20 k6 (Or.inl q4370) q4340 q4341 cw_code q4342 ⟨by decide, by decide⟩ rfl (dl_at t_X19_one 116 rfl)) (dl_at t_X19_one 116 rfl) (cat24 (st := []) (Nat.le_of_ble_eq_true rfl)) (Nat.le_of_ble_eq_true rfl) (Nat.le_of_ble_eq_true rfl) fun h236 E236 => ?_
      refine g_aload_n (pc := 239) X (j := 0) (i := 0) (q := 0) (x := a0) rfl rfl (dl_at t_X19_one 117 rfl) ?_
      have k240 := kx E236 (by decide) hk
      refine r_callTi (pc := 240) X (fun _ hv => s_X19_single k240 hv) cw_code q4374 q373 (in_Vk X (As := []) kX19 k240 (Or.inl q4371) q4373 qs240 cw_code q4374 ⟨by decide, by decide⟩ rfl (dl_at t_X19_one 118 rfl)) (dl_at t_X19_one 118 rfl) (cat24 (st := []) (Nat.le_of_ble_eq_true rfl)) (Nat.le_of_ble_eq_true rfl) (Nat.le_of_ble_eq_true rfl) (fun v240 h240 g240 E240 => ?_) (fun _ _ ha _ => gt_at fun Q hQ => gt_out (Q := Q) X rfl ha (hno _) _ Q rfl hQ)
      refine g_istore_nN (pc := 243) X (j := 1) (i := 1) (x := v240) (b := 0) (w := rv D a0) (rest := []) rfl (Nat.le_of_ble_eq_true rfl) [0] rfl (by decide) rv_cat rfl (dl_at t_X19_one 119 rfl) ?_
      refine g_aload_n (pc := 244) X (j := 0) (i := 0) (q := 1) (x := a0) rfl rfl (dl_at t_X19_one 120 rfl) ?_
      have k245 := kx E240 (by decide) k240
      refine r_getr (pc := 245) X fX19_8 k245 q3319 (dl_at t_X19_one 121 rfl) ?_
      refine g_gd fun k248 => ?_
      refine r_geti (pc := 248) X fX20_4 k248 q3282 (dl_at t_X19_one 122 rfl) fun g248 => ?_
      refine g_lti g248 fun x2_251 r2_251 => ?_
      refine g_istore_nN (pc := 251) X (j := 2) (i := 2) (x := x2_251) (b := 1) (w := iv v240) (rest := [(0, rv D a0)]) rfl (Nat.le_of_ble_eq_true rfl) [0, 1] rfl (by decide) rfl rfl (dl_at t_X19_one 123 rfl) ?_
      refine g_sipush (pc := 252) X (n := 256) rfl (dl_at t_X19_one 124 rfl) ?_
      refine g_iload_n (pc := 255) X (j := 1) (i := 1) (q := 1) (x := v240) rfl rfl (dl_at t_X19_one 125 rfl) ?_
      refine g_imul (pc := 256) X (r32_c rfl) g240 (dl_at t_X19_one 126 rfl) ?_
      refine g_aload_n (pc := 257) X (j := 0) (i := 0) (q := 2) (x := a0) rfl rfl (dl_at t_X19_one 127 rfl) ?_
      refine r_callTi (pc := 258) X (fun _ hv => s_X19_single k245 hv) cw_code q4374 q373 (in_Vk X (As := []) kX19 k245 (Or.inl q4371) q4373 qs240 cw_code q4374 ⟨by decide, by decide⟩ rfl (dl_at t_X19_one 128 rfl)) (dl_at t_X19_one 128 rfl) (cat24 (st := [iv (w32 (256 * v240))]) (Nat.le_of_ble_eq_true rfl)) (Nat.le_of_ble_eq_true rfl) (Nat.le_of_ble_eq_true rfl) (fun v258 h258 g258 E258 => ?_) (fun _ _ ha _ => gt_at fun Q hQ => gt_out (Q := Q) X rfl ha (hno _) _ Q rfl hQ)
      refine g_iadd (pc := 261) X (r32_w _) g258 (dl_at t_X19_one 129 rfl) ?_
      refine g_lti (r32_w _) fun x3_262 r3_262 => ?_
      refine g_istore_nN (pc := 262) X (j := 3) (i := 3) (x := x3_262) (b := 2) (w := iv x2_251) (rest := [(0, rv D a0)]) rfl (Nat.le_of_ble_eq_true rfl) [0, 2] rfl (by decide) rfl rfl (dl_at t_X19_one 130 rfl) ?_
      refine g_aload_n (pc := 263) X (j := 0) (i := 0) (q := 2) (x := a0) rfl rfl (dl_at t_X19_one 131 rfl) ?_
      have k264 := kx E258 (by decide) k245
      refine r_getr (pc := 264) X fX19_6 k264 q3317 (dl_at t_X19_one 132 rfl) ?_
      refine g_aload_n (pc := 267) X (j := 0) (i := 0) (q := 2) (x := a0) rfl rfl (dl_at t_X19_one 133 rfl) ?_
      refine r_geti (pc := 268) X fX19_3 k264 q3314 (dl_at t_X19_one 134 rfl) fun g268 => ?_
      refine g_iload_n (pc := 271) X (j := 3) (i := 3) (q := 0) (x := x3_262) rfl rfl (dl_at t_X19_one 135 rfl) ?_
      refine r_callRi (pc := 272) X (fun _ hv => s_X19_find g268 r3_262 hv) cw_code q4415 q373 (in_Sc X (As := [rv D (h258 a0 6), iv (h258 a0 3), iv x3_262]) (Or.inl q4413) q4414 q373 q4415 ⟨by decide, by decide⟩ rfl (dl_at t_X19_one 136 rfl)) (dl_at t_X19_one 136 rfl) (cat24 (st := []) (Nat.le_of_ble_eq_true rfl)) (Nat.le_of_ble_eq_true rfl) (Nat.le_of_ble_eq_true rfl) fun v272 g272 => ?_
      refine g_istoreN (pc := 275) X (i := 4) (x := v272) (b := 3) (w := iv x3_262) (rest := [(2, iv x2_251), (0, rv D a0)]) (Nat.le_of_ble_eq_true rfl) [0, 1, 2] rfl (by decide) rfl rfl (dl_at t_X19_one 137 rfl) ?_
      refine g_iload (pc := 277) X (i := 4) (q := 0) (x := v272) rfl (dl_at t_X19_one 138 rfl) ?_
      refine g_join (γ := Unit) (fun q => True) 300 (fun q => [(0, rv D a0), (3, iv x3_262), (4, iv v272)]) (fun q => []) (fun q => h258) (fun q => m_X19_one_j300 v272 x3_262 a0 h258) ?_ ?_
      · rintro _ _
        try dsimp only
        unfold m_X19_one_j300
        refine g_aload_n (pc := 300) X (j := 0) (i := 0) (q := 0) (x := a0) rfl rfl (dl_at t_X19_one 149 rfl) ?_
        refine r_getr (pc := 301) X fX19_8 k264 q3319 (dl_at t_X19_one 150 rfl) ?_
        refine g_iconst (pc := 304) X (n := 0) (dl_at t_X19_one 151 rfl) ?_
        refine g_sipush (pc := 305) X (n := 5000) rfl (dl_at t_X19_one 152 rfl) ?_
        refine g_gd fun k308 => ?_
        refine r_callTi (pc := 308) X (fun _ hv => s_X20_needNumber k308 (r32_c rfl) (r32_c rfl) hv) cw_code q4410 q374 (in_Vk X (As := [iv 0, iv 5000]) kX20 k308 (Or.inl q4407) q4408 q4409 cw_code q4410 ⟨by decide, by decide⟩ rfl (dl_at t_X19_one 153 rfl)) (dl_at t_X19_one 153 rfl) (cat24 (st := []) (Nat.le_of_ble_eq_true rfl)) (Nat.le_of_ble_eq_true rfl) (Nat.le_of_ble_eq_true rfl) (fun v308 h308 g308 E308 => ?_) (fun _ _ ha _ => gt_at fun Q hQ => gt_out (Q := Q) X rfl ha (hno _) _ Q rfl hQ)
        refine g_istoreN (pc := 311) X (i := 5) (x := v308) (b := 4) (w := iv v272) (rest := [(0, rv D a0), (3, iv x3_262)]) (Nat.le_of_ble_eq_true rfl) [2, 0, 1] rfl (by decide) rfl rfl (dl_at t_X19_one 154 rfl) ?_
        refine g_iload (pc := 313) X (i := 4) (q := 1) (x := v272) rfl (dl_at t_X19_one 155 rfl) ?_
        refine g_join (γ := Int × Hp) (fun q => r32 q.1 ∧ Ext h308 q.2) 334 (fun q => [(0, rv D a0), (3, iv x3_262), (4, iv q.1), (5, iv v308)]) (fun q => []) (fun q => q.2) (fun q => m_X19_one_j334 v308 a0 x3_262 q.1 q.2) ?_ ?_
        · rintro ⟨x4_334, h_334⟩ ⟨r4_334, E_334⟩
          try dsimp only
          unfold m_X19_one_j334
          refine g_aload_n (pc := 334) X (j := 0) (i := 0) (q := 0) (x := a0) rfl rfl (dl_at t_X19_one 166 rfl) ?_
          have k335 := kx (E308.trans E_334) (by decide) k264
          refine r_getr (pc := 335) X fX19_6 k335 q3317 (dl_at t_X19_one 167 rfl) ?_
          refine g_iload (pc := 338) X (i := 4) (q := 2) (x := x4_334) rfl (dl_at t_X19_one 168 rfl) ?_
          refine g_iload_n (pc := 340) X (j := 3) (i := 3) (q := 1) (x := x3_262) rfl rfl (dl_at t_X19_one 169 rfl) ?_
          refine g_gd fun k341 => ?_
          refine r_iast (pc := 341) X r4_334 r3_262 k341 (dl_at t_X19_one 170 rfl) (fun h341 E341 => ?_)
          refine g_aload_n (pc := 342) X (j := 0) (i := 0) (q := 0) (x := a0) rfl rfl (dl_at t_X19_one 171 rfl) ?_
          have k343 := kx E341 (by decide) k335
          refine r_getr (pc := 343) X fX19_7 k343 q3318 (dl_at t_X19_one 172 rfl) ?_
          refine g_iload (pc := 346) X (i := 4) (q := 2) (x := x4_334) rfl (dl_at t_X19_one 173 rfl) ?_
          refine g_iload (pc := 348) X (i := 5) (q := 3) (x := v308) rfl (dl_at t_X19_one 174 rfl) ?_
          refine g_gd fun k350 => ?_
          refine r_iast (pc := 350) X r4_334 g308 k350 (dl_at t_X19_one 175 rfl) (fun h350 E350 => ?_)
          refine g_goto (pc := 351) X (off := 11) (tgt := 362) rfl (dl_at t_X19_one 176 rfl) ?_
          refine g_aload_n (pc := 362) X (j := 0) (i := 0) (q := 0) (x := a0) rfl rfl (dl_at t_X19_one 181 rfl) ?_
          have k363 := kx E350 (by decide) k343
          refine r_getr (pc := 363) X fX19_8 k363 q3319 (dl_at t_X19_one 182 rfl) ?_
          refine g_bipush (pc := 366) X (n := 59) rfl (dl_at t_X19_one 183 rfl) ?_
          refine g_gd fun k368 => ?_
          refine r_callTv (pc := 368) X (fun _ hv => s_X20_need k368 (r32_c rfl) hv) cw_code q4426 q374 (in_Vk X (As := [iv 59]) kX20 k368 (Or.inl q4423) q4424 q4425 cw_code q4426 ⟨by decide, by decide⟩ rfl (dl_at t_X19_one 184 rfl)) (dl_at t_X19_one 184 rfl) (cat24 (st := []) (Nat.le_of_ble_eq_true rfl)) (Nat.le_of_ble_eq_true rfl) (Nat.le_of_ble_eq_true rfl) (fun v368 h368 E368 => ?_) (fun _ _ ha _ => gt_at fun Q hQ => gt_out (Q := Q) X rfl ha (hno _) _ Q rfl hQ)
          exact g_vret (pc := 371) X (v := 0) rfl rfl (dl_at t_X19_one 185 rfl)
        intro J334
        refine g_ifge (pc := 315) X g272 (off := 19) (tgt := 334) rfl (dl_at t_X19_one 156 rfl) (fun _ => ?_) (fun _ => ?_)
        · refine g_ls (ls2 := [(0, rv D a0), (3, iv x3_262), (4, iv v272), (5, iv v308)]) [2, 3, 1, 0] rfl ?_
          exact J334 (v272, h308) ⟨g272, (Ext.refl _)⟩
        refine g_aload_n (pc := 318) X (j := 0) (i := 0) (q := 2) (x := a0) rfl rfl (dl_at t_X19_one 157 rfl) ?_
        have k319 := kx E308 (by decide) k264
        refine r_geti (pc := 319) X fX19_3 k319 q3314 (dl_at t_X19_one 158 rfl) fun g319 => ?_
        refine g_lti g319 fun x4_322 r4_322 => ?_
        refine g_istoreN (pc := 322) X (i := 4) (x := x4_322) (b := 3) (w := iv x3_262) (rest := [(5, iv v308), (0, rv D a0)]) (Nat.le_of_ble_eq_true rfl) [3, 0, 2] rfl (by decide) rfl rfl (dl_at t_X19_one 159 rfl) ?_
        refine g_aload_n (pc := 324) X (j := 0) (i := 0) (q := 3) (x := a0) rfl rfl (dl_at t_X19_one 160 rfl) ?_
        refine g_dup (pc := 325) X rv_cat (dl_at t_X19_one 161 rfl) ?_
        refine r_geti (pc := 326) X fX19_3 k319 q3314 (dl_at t_X19_one 162 rfl) fun g326 => ?_
        refine g_iconst (pc := 329) X (n := 1) (dl_at t_X19_one 163 rfl) ?_
        refine g_iadd (pc := 330) X g326 (r32_c rfl) (dl_at t_X19_one 164 rfl) ?_
        refine r_puti (pc := 331) X fX19_3 k319 q3314 rfl (dl_at t_X19_one 165 rfl) (r32_w _) (fun h331 E331 => ?_)
        refine g_ls (ls2 := [(0, rv D a0), (3, iv x3_262), (4, iv x4_322), (5, iv v308)]) [3, 1, 0, 2] rfl ?_
        exact J334 (x4_322, h331) ⟨r4_322, E331⟩
      intro J300
      refine g_ifge (pc := 279) X g272 (off := 21) (tgt := 300) rfl (dl_at t_X19_one 139 rfl) (fun _ => ?_) (fun _ => ?_)
      · refine g_ls (ls2 := [(0, rv D a0), (3, iv x3_262), (4, iv v272)]) [3, 1, 0] rfl ?_
        exact J300 () trivial
      refine g_aload_n (pc := 282) X (j := 0) (i := 0) (q := 3) (x := a0) rfl rfl (dl_at t_X19_one 140 rfl) ?_
      refine r_geti (pc := 283) X fX19_3 k264 q3314 (dl_at t_X19_one 141 rfl) fun g283 => ?_
      refine g_bipush (pc := 286) X (n := 60) rfl (dl_at t_X19_one 142 rfl) ?_
      refine g_icmpne (pc := 288) X g283 (r32_c rfl) (off := 12) (tgt := 300) rfl (dl_at t_X19_one 143 rfl) (fun _ => ?_) (fun _ => ?_)
      · refine g_ls (ls2 := [(0, rv D a0), (3, iv x3_262), (4, iv v272)]) [3, 1, 0] rfl ?_
        exact J300 () trivial
      refine r_new (pc := 291) X kX27 q4416 (dl_at t_X19_one 144 rfl) fun a291 h291 p291 k291 E291 => ?_
      refine g_dup (pc := 294) X rv_cat (dl_at t_X19_one 145 rfl) ?_
      refine g_iload_n (pc := 295) X (j := 2) (i := 2) (q := 2) (x := x2_251) rfl rfl (dl_at t_X19_one 146 rfl) ?_
      refine r_callV (pc := 296) X (fun _ hv => sx_ScholarsPressModel_Broken_init_I_V k291 r2_251 hv) cw_code q4398 q392 (in_I X (As := [iv x2_251]) (Int.ne_of_gt p291) rfl (Or.inl q4417) q4397 q4398 ⟨by decide, by decide⟩ rfl (dl_at t_X19_one 147 rfl)) (dl_at t_X19_one 147 rfl) (cat24 (st := [rv D a291]) (Nat.le_of_ble_eq_true rfl)) (Nat.le_of_ble_eq_true rfl) (Nat.le_of_ble_eq_true rfl) fun h296 E296 => ?_
      refine g_athrow (pc := 299) X (Int.ne_of_gt p291) (dl_at t_X19_one 148 rfl) ?_
      exact gt_at fun Q hQ => gt_out (Q := Q) X rfl p291 (hno _) _ Q rfl hQ
    refine g_aload_n (pc := 63) X (j := 0) (i := 0) (q := 0) (x := a0) rfl rfl (dl_at t_X19_one 31 rfl) ?_
    refine r_getr (pc := 64) X fX19_8 hk q3319 (dl_at t_X19_one 32 rfl) ?_
    refine r_callV (pc := 67) X (fun _ hv => s_X20_next k6 hv) cw_code q4342 q374 (in_Vk X (As := []) kX20 k6 (Or.inl q4370) q4340 q4341 cw_code q4342 ⟨by decide, by decide⟩ rfl (dl_at t_X19_one 33 rfl)) (dl_at t_X19_one 33 rfl) (cat24 (st := []) (Nat.le_of_ble_eq_true rfl)) (Nat.le_of_ble_eq_true rfl) (Nat.le_of_ble_eq_true rfl) fun h67 E67 => ?_
    refine g_aload_n (pc := 70) X (j := 0) (i := 0) (q := 0) (x := a0) rfl rfl (dl_at t_X19_one 34 rfl) ?_
    have k71 := kx E67 (by decide) hk
    refine r_callTi (pc := 71) X (fun _ hv => s_X19_single k71 hv) cw_code q4374 q373 (in_Vk X (As := []) kX19 k71 (Or.inl q4371) q4373 qs240 cw_code q4374 ⟨by decide, by decide⟩ rfl (dl_at t_X19_one 35 rfl)) (dl_at t_X19_one 35 rfl) (cat24 (st := []) (Nat.le_of_ble_eq_true rfl)) (Nat.le_of_ble_eq_true rfl) (Nat.le_of_ble_eq_true rfl) (fun v71 h71 g71 E71 => ?_) (fun _ _ ha _ => gt_at fun Q hQ => gt_out (Q := Q) X rfl ha (hno _) _ Q rfl hQ)
    refine g_istore_nN (pc := 74) X (j := 1) (i := 1) (x := v71) (b := 0) (w := rv D a0) (rest := []) rfl (Nat.le_of_ble_eq_true rfl) [0] rfl (by decide) rv_cat rfl (dl_at t_X19_one 36 rfl) ?_
    refine g_aload_n (pc := 75) X (j := 0) (i := 0) (q := 1) (x := a0) rfl rfl (dl_at t_X19_one 37 rfl) ?_
    have k76 := kx E71 (by decide) k71
    refine r_getr (pc := 76) X fX19_8 k76 q3319 (dl_at t_X19_one 38 rfl) ?_
    refine g_gd fun k79 => ?_
    refine r_geti (pc := 79) X fX20_4 k79 q3282 (dl_at t_X19_one 39 rfl) fun g79 => ?_
    refine g_lti g79 fun x2_82 r2_82 => ?_
    refine g_istore_nN (pc := 82) X (j := 2) (i := 2) (x := x2_82) (b := 1) (w := iv v71) (rest := [(0, rv D a0)]) rfl (Nat.le_of_ble_eq_true rfl) [0, 1] rfl (by decide) rfl rfl (dl_at t_X19_one 40 rfl) ?_
    refine g_sipush (pc := 83) X (n := 256) rfl (dl_at t_X19_one 41 rfl) ?_
    refine g_iload_n (pc := 86) X (j := 1) (i := 1) (q := 1) (x := v71) rfl rfl (dl_at t_X19_one 42 rfl) ?_
    refine g_imul (pc := 87) X (r32_c rfl) g71 (dl_at t_X19_one 43 rfl) ?_
    refine g_aload_n (pc := 88) X (j := 0) (i := 0) (q := 2) (x := a0) rfl rfl (dl_at t_X19_one 44 rfl) ?_
    refine r_callTi (pc := 89) X (fun _ hv => s_X19_single k76 hv) cw_code q4374 q373 (in_Vk X (As := []) kX19 k76 (Or.inl q4371) q4373 qs240 cw_code q4374 ⟨by decide, by decide⟩ rfl (dl_at t_X19_one 45 rfl)) (dl_at t_X19_one 45 rfl) (cat24 (st := [iv (w32 (256 * v71))]) (Nat.le_of_ble_eq_true rfl)) (Nat.le_of_ble_eq_true rfl) (Nat.le_of_ble_eq_true rfl) (fun v89 h89 g89 E89 => ?_) (fun _ _ ha _ => gt_at fun Q hQ => gt_out (Q := Q) X rfl ha (hno _) _ Q rfl hQ)
    refine g_iadd (pc := 92) X (r32_w _) g89 (dl_at t_X19_one 46 rfl) ?_
    refine g_lti (r32_w _) fun x3_93 r3_93 => ?_
    refine g_istore_nN (pc := 93) X (j := 3) (i := 3) (x := x3_93) (b := 2) (w := iv x2_82) (rest := [(0, rv D a0)]) rfl (Nat.le_of_ble_eq_true rfl) [0, 2] rfl (by decide) rfl rfl (dl_at t_X19_one 47 rfl) ?_
    refine g_aload_n (pc := 94) X (j := 0) (i := 0) (q := 2) (x := a0) rfl rfl (dl_at t_X19_one 48 rfl) ?_
    have k95 := kx E89 (by decide) k76
    refine r_getr (pc := 95) X fX19_4 k95 q3315 (dl_at t_X19_one 49 rfl) ?_
    refine g_aload_n (pc := 98) X (j := 0) (i := 0) (q := 2) (x := a0) rfl rfl (dl_at t_X19_one 50 rfl) ?_
    refine r_geti (pc := 99) X fX19_2 k95 q3313 (dl_at t_X19_one 51 rfl) fun g99 => ?_
    refine g_iload_n (pc := 102) X (j := 3) (i := 3) (q := 0) (x := x3_93) rfl rfl (dl_at t_X19_one 52 rfl) ?_
    refine r_callRi (pc := 103) X (fun _ hv => s_X19_find g99 r3_93 hv) cw_code q4415 q373 (in_Sc X (As := [rv D (h89 a0 4), iv (h89 a0 2), iv x3_93]) (Or.inl q4413) q4414 q373 q4415 ⟨by decide, by decide⟩ rfl (dl_at t_X19_one 53 rfl)) (dl_at t_X19_one 53 rfl) (cat24 (st := []) (Nat.le_of_ble_eq_true rfl)) (Nat.le_of_ble_eq_true rfl) (Nat.le_of_ble_eq_true rfl) fun v103 g103 => ?_
    refine g_istoreN (pc := 106) X (i := 4) (x := v103) (b := 3) (w := iv x3_93) (rest := [(2, iv x2_82), (0, rv D a0)]) (Nat.le_of_ble_eq_true rfl) [0, 1, 2] rfl (by decide) rfl rfl (dl_at t_X19_one 54 rfl) ?_
    refine g_iload (pc := 108) X (i := 4) (q := 0) (x := v103) rfl (dl_at t_X19_one 55 rfl) ?_
    refine g_join (γ := Unit) (fun q => True) 132 (fun q => [(0, rv D a0), (3, iv x3_93), (4, iv v103)]) (fun q => []) (fun q => h89) (fun q => m_X19_one_j132 v103 x3_93 a0 h89) ?_ ?_
    · rintro _ _
      try dsimp only
      unfold m_X19_one_j132
      refine g_aload_n (pc := 132) X (j := 0) (i := 0) (q := 0) (x := a0) rfl rfl (dl_at t_X19_one 66 rfl) ?_
      refine r_getr (pc := 133) X fX19_8 k95 q3319 (dl_at t_X19_one 67 rfl) ?_
      refine g_bipush (pc := 136) X (n := 45) rfl (dl_at t_X19_one 68 rfl) ?_
      refine g_gd fun k138 => ?_
      refine r_callRz (pc := 138) X (fun _ hv => s_X20_isByte k138 (r32_c rfl) hv) cw_code q4421 q374 (in_Vk X (As := [iv 45]) kX20 k138 (Or.inl q4418) q4419 q4420 cw_code q4421 ⟨by decide, by decide⟩ rfl (dl_at t_X19_one 69 rfl)) (dl_at t_X19_one 69 rfl) (cat24 (st := []) (Nat.le_of_ble_eq_true rfl)) (Nat.le_of_ble_eq_true rfl) (Nat.le_of_ble_eq_true rfl) fun v138 g138 => ?_
      refine g_istoreN (pc := 141) X (i := 5) (x := v138) (b := 4) (w := iv v103) (rest := [(0, rv D a0), (3, iv x3_93)]) (Nat.le_of_ble_eq_true rfl) [2, 0, 1] rfl (by decide) rfl rfl (dl_at t_X19_one 70 rfl) ?_
      refine g_iload (pc := 143) X (i := 5) (q := 0) (x := v138) rfl (dl_at t_X19_one 71 rfl) ?_
      refine g_join (γ := Hp) (fun q => Ext h89 q) 155 (fun q => [(0, rv D a0), (3, iv x3_93), (4, iv v103), (5, iv v138)]) (fun q => []) (fun q => q) (fun q => m_X19_one_j155 v138 v103 a0 x3_93 q) ?_ ?_
      · rintro h_155 E_155
        try dsimp only
        unfold m_X19_one_j155
        refine g_aload_n (pc := 155) X (j := 0) (i := 0) (q := 0) (x := a0) rfl rfl (dl_at t_X19_one 76 rfl) ?_
        have k156 := kx E_155 (by decide) k95
        refine r_getr (pc := 156) X fX19_8 k156 q3319 (dl_at t_X19_one 77 rfl) ?_
        refine g_iconst (pc := 159) X (n := 0) (dl_at t_X19_one 78 rfl) ?_
        refine g_sipush (pc := 160) X (n := 500) rfl (dl_at t_X19_one 79 rfl) ?_
        refine g_gd fun k163 => ?_
        refine r_callTi (pc := 163) X (fun _ hv => s_X20_needNumber k163 (r32_c rfl) (r32_c rfl) hv) cw_code q4410 q374 (in_Vk X (As := [iv 0, iv 500]) kX20 k163 (Or.inl q4407) q4408 q4409 cw_code q4410 ⟨by decide, by decide⟩ rfl (dl_at t_X19_one 80 rfl)) (dl_at t_X19_one 80 rfl) (cat24 (st := []) (Nat.le_of_ble_eq_true rfl)) (Nat.le_of_ble_eq_true rfl) (Nat.le_of_ble_eq_true rfl) (fun v163 h163 g163 E163 => ?_) (fun _ _ ha _ => gt_at fun Q hQ => gt_out (Q := Q) X rfl ha (hno _) _ Q rfl hQ)
        refine g_istoreN (pc := 166) X (i := 6) (x := v163) (b := 5) (w := iv v138) (rest := [(0, rv D a0), (3, iv x3_93), (4, iv v103)]) (Nat.le_of_ble_eq_true rfl) [3, 0, 1, 2] rfl (by decide) rfl rfl (dl_at t_X19_one 81 rfl) ?_
        refine g_iload (pc := 168) X (i := 4) (q := 4) (x := v103) rfl (dl_at t_X19_one 82 rfl) ?_
        refine g_join (γ := Int × Hp) (fun q => r32 q.1 ∧ Ext h163 q.2) 189 (fun q => [(0, rv D a0), (3, iv x3_93), (4, iv q.1), (5, iv v138), (6, iv v163)]) (fun q => []) (fun q => q.2) (fun q => m_X19_one_j189 v163 v138 a0 x3_93 q.1 q.2) ?_ ?_
        · rintro ⟨x4_189, h_189⟩ ⟨r4_189, E_189⟩
          try dsimp only
          unfold m_X19_one_j189
          refine g_aload_n (pc := 189) X (j := 0) (i := 0) (q := 0) (x := a0) rfl rfl (dl_at t_X19_one 93 rfl) ?_
          have k190 := kx (E163.trans E_189) (by decide) k156
          refine r_getr (pc := 190) X fX19_4 k190 q3315 (dl_at t_X19_one 94 rfl) ?_
          refine g_iload (pc := 193) X (i := 4) (q := 2) (x := x4_189) rfl (dl_at t_X19_one 95 rfl) ?_
          refine g_iload_n (pc := 195) X (j := 3) (i := 3) (q := 1) (x := x3_93) rfl rfl (dl_at t_X19_one 96 rfl) ?_
          refine g_gd fun k196 => ?_
          refine r_iast (pc := 196) X r4_189 r3_93 k196 (dl_at t_X19_one 97 rfl) (fun h196 E196 => ?_)
          refine g_aload_n (pc := 197) X (j := 0) (i := 0) (q := 0) (x := a0) rfl rfl (dl_at t_X19_one 98 rfl) ?_
          have k198 := kx E196 (by decide) k190
          refine r_getr (pc := 198) X fX19_5 k198 q3316 (dl_at t_X19_one 99 rfl) ?_
          refine g_iload (pc := 201) X (i := 4) (q := 2) (x := x4_189) rfl (dl_at t_X19_one 100 rfl) ?_
          refine g_iload (pc := 203) X (i := 5) (q := 3) (x := v138) rfl (dl_at t_X19_one 101 rfl) ?_
          refine g_ifeq (pc := 205) X (r32_z g138) (off := 9) (tgt := 214) rfl (dl_at t_X19_one 102 rfl) (fun _ => ?_) (fun _ => ?_)
          · refine g_iload (pc := 214) X (i := 6) (q := 4) (x := v163) rfl (dl_at t_X19_one 106 rfl) ?_
            refine g_gd fun k216 => ?_
            refine r_iast (pc := 216) X r4_189 g163 k216 (dl_at t_X19_one 107 rfl) (fun h216 E216 => ?_)
            refine g_goto (pc := 217) X (off := 145) (tgt := 362) rfl (dl_at t_X19_one 108 rfl) ?_
            refine g_aload_n (pc := 362) X (j := 0) (i := 0) (q := 0) (x := a0) rfl rfl (dl_at t_X19_one 181 rfl) ?_
            have k363_1 := kx E216 (by decide) k198
            refine r_getr (pc := 363) X fX19_8 k363_1 q3319 (dl_at t_X19_one 182 rfl) ?_
            refine g_bipush (pc := 366) X (n := 59) rfl (dl_at t_X19_one 183 rfl) ?_
            refine g_gd fun k368_1 => ?_
            refine r_callTv (pc := 368) X (fun _ hv => s_X20_need k368_1 (r32_c rfl) hv) cw_code q4426 q374 (in_Vk X (As := [iv 59]) kX20 k368_1 (Or.inl q4423) q4424 q4425 cw_code q4426 ⟨by decide, by decide⟩ rfl (dl_at t_X19_one 184 rfl)) (dl_at t_X19_one 184 rfl) (cat24 (st := []) (Nat.le_of_ble_eq_true rfl)) (Nat.le_of_ble_eq_true rfl) (Nat.le_of_ble_eq_true rfl) (fun v368_1 h368_1 E368_1 => ?_) (fun _ _ ha _ => gt_at fun Q hQ => gt_out (Q := Q) X rfl ha (hno _) _ Q rfl hQ)
            exact g_vret (pc := 371) X (v := 0) rfl rfl (dl_at t_X19_one 185 rfl)
          refine g_iload (pc := 208) X (i := 6) (q := 4) (x := v163) rfl (dl_at t_X19_one 103 rfl) ?_
          refine g_ineg (pc := 210) X g163 (dl_at t_X19_one 104 rfl) ?_
          refine g_goto (pc := 211) X (off := 5) (tgt := 216) rfl (dl_at t_X19_one 105 rfl) ?_
          refine g_gd fun k216_1 => ?_
          refine r_iast (pc := 216) X r4_189 (r32_w _) k216_1 (dl_at t_X19_one 107 rfl) (fun h216_1 E216_1 => ?_)
          refine g_goto (pc := 217) X (off := 145) (tgt := 362) rfl (dl_at t_X19_one 108 rfl) ?_
          refine g_aload_n (pc := 362) X (j := 0) (i := 0) (q := 0) (x := a0) rfl rfl (dl_at t_X19_one 181 rfl) ?_
          have k363_2 := kx E216_1 (by decide) k198
          refine r_getr (pc := 363) X fX19_8 k363_2 q3319 (dl_at t_X19_one 182 rfl) ?_
          refine g_bipush (pc := 366) X (n := 59) rfl (dl_at t_X19_one 183 rfl) ?_
          refine g_gd fun k368_2 => ?_
          refine r_callTv (pc := 368) X (fun _ hv => s_X20_need k368_2 (r32_c rfl) hv) cw_code q4426 q374 (in_Vk X (As := [iv 59]) kX20 k368_2 (Or.inl q4423) q4424 q4425 cw_code q4426 ⟨by decide, by decide⟩ rfl (dl_at t_X19_one 184 rfl)) (dl_at t_X19_one 184 rfl) (cat24 (st := []) (Nat.le_of_ble_eq_true rfl)) (Nat.le_of_ble_eq_true rfl) (Nat.le_of_ble_eq_true rfl) (fun v368_2 h368_2 E368_2 => ?_) (fun _ _ ha _ => gt_at fun Q hQ => gt_out (Q := Q) X rfl ha (hno _) _ Q rfl hQ)
          exact g_vret (pc := 371) X (v := 0) rfl rfl (dl_at t_X19_one 185 rfl)
        intro J189
        refine g_ifge (pc := 170) X g103 (off := 19) (tgt := 189) rfl (dl_at t_X19_one 83 rfl) (fun _ => ?_) (fun _ => ?_)
        · refine g_ls (ls2 := [(0, rv D a0), (3, iv x3_93), (4, iv v103), (5, iv v138), (6, iv v163)]) [2, 3, 4, 1, 0] rfl ?_
          exact J189 (v103, h163) ⟨g103, (Ext.refl _)⟩
        refine g_aload_n (pc := 173) X (j := 0) (i := 0) (q := 2) (x := a0) rfl rfl (dl_at t_X19_one 84 rfl) ?_
        have k174 := kx E163 (by decide) k156
        refine r_geti (pc := 174) X fX19_2 k174 q3313 (dl_at t_X19_one 85 rfl) fun g174 => ?_
        refine g_lti g174 fun x4_177 r4_177 => ?_
        refine g_istoreN (pc := 177) X (i := 4) (x := x4_177) (b := 3) (w := iv x3_93) (rest := [(6, iv v163), (5, iv v138), (0, rv D a0)]) (Nat.le_of_ble_eq_true rfl) [3, 0, 1, 2] rfl (by decide) rfl rfl (dl_at t_X19_one 86 rfl) ?_
        refine g_aload_n (pc := 179) X (j := 0) (i := 0) (q := 4) (x := a0) rfl rfl (dl_at t_X19_one 87 rfl) ?_
        refine g_dup (pc := 180) X rv_cat (dl_at t_X19_one 88 rfl) ?_
        refine r_geti (pc := 181) X fX19_2 k174 q3313 (dl_at t_X19_one 89 rfl) fun g181 => ?_
        refine g_iconst (pc := 184) X (n := 1) (dl_at t_X19_one 90 rfl) ?_
        refine g_iadd (pc := 185) X g181 (r32_c rfl) (dl_at t_X19_one 91 rfl) ?_
        refine r_puti (pc := 186) X fX19_2 k174 q3313 rfl (dl_at t_X19_one 92 rfl) (r32_w _) (fun h186 E186 => ?_)
        refine g_ls (ls2 := [(0, rv D a0), (3, iv x3_93), (4, iv x4_177), (5, iv v138), (6, iv v163)]) [4, 1, 0, 3, 2] rfl ?_
        exact J189 (x4_177, h186) ⟨r4_177, E186⟩
      intro J155
      refine g_ifeq (pc := 145) X (r32_z g138) (off := 10) (tgt := 155) rfl (dl_at t_X19_one 72 rfl) (fun _ => ?_) (fun _ => ?_)
      · refine g_ls (ls2 := [(0, rv D a0), (3, iv x3_93), (4, iv v103), (5, iv v138)]) [2, 3, 1, 0] rfl ?_
        exact J155 h89 (Ext.refl _)
      refine g_aload_n (pc := 148) X (j := 0) (i := 0) (q := 2) (x := a0) rfl rfl (dl_at t_X19_one 73 rfl) ?_
      refine r_getr (pc := 149) X fX19_8 k95 q3319 (dl_at t_X19_one 74 rfl) ?_
      refine r_callV (pc := 152) X (fun _ hv => s_X20_next k138 hv) cw_code q4342 q374 (in_Vk X (As := []) kX20 k138 (Or.inl q4370) q4340 q4341 cw_code q4342 ⟨by decide, by decide⟩ rfl (dl_at t_X19_one 75 rfl)) (dl_at t_X19_one 75 rfl) (cat24 (st := []) (Nat.le_of_ble_eq_true rfl)) (Nat.le_of_ble_eq_true rfl) (Nat.le_of_ble_eq_true rfl) fun h152 E152 => ?_
      refine g_ls (ls2 := [(0, rv D a0), (3, iv x3_93), (4, iv v103), (5, iv v138)]) [2, 3, 1, 0] rfl ?_
      exact J155 h152 E152
    intro J132
    refine g_ifge (pc := 110) X g103 (off := 22) (tgt := 132) rfl (dl_at t_X19_one 56 rfl) (fun _ => ?_) (fun _ => ?_)
    · refine g_ls (ls2 := [(0, rv D a0), (3, iv x3_93), (4, iv v103)]) [3, 1, 0] rfl ?_
      exact J132 () trivial
    refine g_aload_n (pc := 113) X (j := 0) (i := 0) (q := 3) (x := a0) rfl rfl (dl_at t_X19_one 57 rfl) ?_
    refine r_geti (pc := 114) X fX19_2 k95 q3313 (dl_at t_X19_one 58 rfl) fun g114 => ?_
    refine g_sipush (pc := 117) X (n := 200) rfl (dl_at t_X19_one 59 rfl) ?_
    refine g_icmpne (pc := 120) X g114 (r32_c rfl) (off := 12) (tgt := 132) rfl (dl_at t_X19_one 60 rfl) (fun _ => ?_) (fun _ => ?_)
    · refine g_ls (ls2 := [(0, rv D a0), (3, iv x3_93), (4, iv v103)]) [3, 1, 0] rfl ?_
      exact J132 () trivial
    refine r_new (pc := 123) X kX27 q4416 (dl_at t_X19_one 61 rfl) fun a123 h123 p123 k123 E123 => ?_
    refine g_dup (pc := 126) X rv_cat (dl_at t_X19_one 62 rfl) ?_
    refine g_iload_n (pc := 127) X (j := 2) (i := 2) (q := 2) (x := x2_82) rfl rfl (dl_at t_X19_one 63 rfl) ?_
    refine r_callV (pc := 128) X (fun _ hv => sx_ScholarsPressModel_Broken_init_I_V k123 r2_82 hv) cw_code q4398 q392 (in_I X (As := [iv x2_82]) (Int.ne_of_gt p123) rfl (Or.inl q4417) q4397 q4398 ⟨by decide, by decide⟩ rfl (dl_at t_X19_one 64 rfl)) (dl_at t_X19_one 64 rfl) (cat24 (st := [rv D a123]) (Nat.le_of_ble_eq_true rfl)) (Nat.le_of_ble_eq_true rfl) (Nat.le_of_ble_eq_true rfl) fun h128 E128 => ?_
    refine g_athrow (pc := 131) X (Int.ne_of_gt p123) (dl_at t_X19_one 65 rfl) ?_
    exact gt_at fun Q hQ => gt_out (Q := Q) X rfl p123 (hno _) _ Q rfl hQ
  refine g_aload_n (pc := 12) X (j := 0) (i := 0) (q := 0) (x := a0) rfl rfl (dl_at t_X19_one 5 rfl) ?_
  refine r_getr (pc := 13) X fX19_8 hk q3319 (dl_at t_X19_one 6 rfl) ?_
  refine r_callV (pc := 16) X (fun _ hv => s_X20_next k6 hv) cw_code q4342 q374 (in_Vk X (As := []) kX20 k6 (Or.inl q4370) q4340 q4341 cw_code q4342 ⟨by decide, by decide⟩ rfl (dl_at t_X19_one 7 rfl)) (dl_at t_X19_one 7 rfl) (cat24 (st := []) (Nat.le_of_ble_eq_true rfl)) (Nat.le_of_ble_eq_true rfl) (Nat.le_of_ble_eq_true rfl) fun h16 E16 => ?_
  refine g_aload_n (pc := 19) X (j := 0) (i := 0) (q := 0) (x := a0) rfl rfl (dl_at t_X19_one 8 rfl) ?_
  have k20 := kx E16 (by decide) hk
  refine r_callTi (pc := 20) X (fun _ hv => s_X19_single k20 hv) cw_code q4374 q373 (in_Vk X (As := []) kX19 k20 (Or.inl q4371) q4373 qs240 cw_code q4374 ⟨by decide, by decide⟩ rfl (dl_at t_X19_one 9 rfl)) (dl_at t_X19_one 9 rfl) (cat24 (st := []) (Nat.le_of_ble_eq_true rfl)) (Nat.le_of_ble_eq_true rfl) (Nat.le_of_ble_eq_true rfl) (fun v20 h20 g20 E20 => ?_) (fun _ _ ha _ => gt_at fun Q hQ => gt_out (Q := Q) X rfl ha (hno _) _ Q rfl hQ)
  refine g_istore_nN (pc := 23) X (j := 1) (i := 1) (x := v20) (b := 0) (w := rv D a0) (rest := []) rfl (Nat.le_of_ble_eq_true rfl) [0] rfl (by decide) rv_cat rfl (dl_at t_X19_one 10 rfl) ?_
  refine g_aload_n (pc := 24) X (j := 0) (i := 0) (q := 1) (x := a0) rfl rfl (dl_at t_X19_one 11 rfl) ?_
  have k25 := kx E20 (by decide) k20
  refine r_getr (pc := 25) X fX19_0 k25 q3310 (dl_at t_X19_one 12 rfl) ?_
  refine g_iload_n (pc := 28) X (j := 1) (i := 1) (q := 0) (x := v20) rfl rfl (dl_at t_X19_one 13 rfl) ?_
  refine g_aload_n (pc := 29) X (j := 0) (i := 0) (q := 1) (x := a0) rfl rfl (dl_at t_X19_one 14 rfl) ?_
  refine r_getr (pc := 30) X fX19_8 k25 q3319 (dl_at t_X19_one 15 rfl) ?_
  refine g_iconst (pc := 33) X (n := 0) (dl_at t_X19_one 16 rfl) ?_
  refine g_sipush (pc := 34) X (n := 5000) rfl (dl_at t_X19_one 17 rfl) ?_
  refine g_gd fun k37 => ?_
  refine r_callTi (pc := 37) X (fun _ hv => s_X20_needNumber k37 (r32_c rfl) (r32_c rfl) hv) cw_code q4410 q374 (in_Vk X (As := [iv 0, iv 5000]) kX20 k37 (Or.inl q4407) q4408 q4409 cw_code q4410 ⟨by decide, by decide⟩ rfl (dl_at t_X19_one 18 rfl)) (dl_at t_X19_one 18 rfl) (cat24 (st := [iv v20, rv D (h20 a0 0)]) (Nat.le_of_ble_eq_true rfl)) (Nat.le_of_ble_eq_true rfl) (Nat.le_of_ble_eq_true rfl) (fun v37 h37 g37 E37 => ?_) (fun _ _ ha _ => gt_at fun Q hQ => gt_out (Q := Q) X rfl ha (hno _) _ Q rfl hQ)
  refine g_gd fun k40 => ?_
  refine r_iast (pc := 40) X g20 g37 k40 (dl_at t_X19_one 19 rfl) (fun h40 E40 => ?_)
  refine g_aload_n (pc := 41) X (j := 0) (i := 0) (q := 1) (x := a0) rfl rfl (dl_at t_X19_one 20 rfl) ?_
  have k42 := kx (E37.trans E40) (by decide) k25
  refine r_getr (pc := 42) X fX19_1 k42 q3312 (dl_at t_X19_one 21 rfl) ?_
  refine g_iload_n (pc := 45) X (j := 1) (i := 1) (q := 0) (x := v20) rfl rfl (dl_at t_X19_one 22 rfl) ?_
  refine g_iconst (pc := 46) X (n := 1) (dl_at t_X19_one 23 rfl) ?_
  refine g_gd fun k47 => ?_
  refine r_zast (pc := 47) X g20 (Or.inr rfl) k47 (dl_at t_X19_one 24 rfl) (fun h47 E47 => ?_)
  refine g_goto (pc := 48) X (off := 314) (tgt := 362) rfl (dl_at t_X19_one 25 rfl) ?_
  refine g_aload_n (pc := 362) X (j := 0) (i := 0) (q := 1) (x := a0) rfl rfl (dl_at t_X19_one 181 rfl) ?_
  have k363_3 := kx E47 (by decide) k42
  refine r_getr (pc := 363) X fX19_8 k363_3 q3319 (dl_at t_X19_one 182 rfl) ?_
  refine g_bipush (pc := 366) X (n := 59) rfl (dl_at t_X19_one 183 rfl) ?_
  refine g_gd fun k368_3 => ?_
  refine r_callTv (pc := 368) X (fun _ hv => s_X20_need k368_3 (r32_c rfl) hv) cw_code q4426 q374 (in_Vk X (As := [iv 59]) kX20 k368_3 (Or.inl q4423) q4424 q4425 cw_code q4426 ⟨by decide, by decide⟩ rfl (dl_at t_X19_one 184 rfl)) (dl_at t_X19_one 184 rfl) (cat24 (st := []) (Nat.le_of_ble_eq_true rfl)) (Nat.le_of_ble_eq_true rfl) (Nat.le_of_ble_eq_true rfl) (fun v368_3 h368_3 E368_3 => ?_) (fun _ _ ha _ => gt_at fun Q hQ => gt_out (Q := Q) X rfl ha (hno _) _ Q rfl hQ)
  exact g_vret (pc := 371) X (v := 0) rfl rfl (dl_at t_X19_one 185 rfl)
def k_X19_read : List (Nat × Instr × Nat) := [(0, .aload_n 0, 1), (1, .invokevirtual 36, 3), (4, .aload_n 0, 1), (5, .getfield 32, 3), (8, .aload_n 1, 1), (9, .iload_n 2, 1), (10, .invokevirtual 67, 3), (13, .aload_n 0, 1), (14, .getfield 32, 3), (17, .getfield 46, 3), (20, .iconst 5, 1), (21, .if_icmp .eq 10, 3), (24, .aload_n 0, 1), (25, .invokevirtual 71, 3), (28, .goto (-15), 3), (31, .return_, 1)]
theorem t_X19_read : ∀ q ∈ k_X19_read, decode cX19_read q.1 = .ok q.2 := dl_all (by decide +kernel)
noncomputable def m_X19_read_l13 (a0 : Int) (h_13 : Hp) : Option ((Hp) ⊕ (((Int × Int) × Hp))) :=
  gd (h_13 (h_13 a0 8) (-2) = 336) (if (h_13 (h_13 a0 8) 3) = 5 then (some (.inr ((0, 0), h_13)))
  else (bT (m_X19_one a0 h_13) (fun _ h25 =>
  some (.inl h25)) (fun a_ h_ => some (.inr ((1, a_), h_)))))
noncomputable def m_X19_read (a0 a1 a2 : Int) (h : Hp) : Option ((Int × Int) × Hp) :=
  (m_X19_clear a0 h).bind fun h1 =>
  gd (h1 (h1 a0 8) (-2) = 336) ((m_X20_open (h1 a0 8) a1 a2 h1).bind fun h10 =>
  (lp (fun (q : Hp) => m_X19_read_l13 a0 q) h10).bind (fun (x : (Int × Int) × Hp) => some x))
theorem s_X19_read {l : Launch} [NoTr l] {D : SD} {a0 a1 a2 : Int} {h : Hp} (hk : h a0 (-2) = 320) (r2 : r32 a2) {r : (Int × Int) × Hp} (hm : m_X19_read a0 a1 a2 h = some r) : Sim l D yX19_read (Cond.code yX19_read cX19_read 3 (Option.none : Option Jvm.ClassFile.FieldType)) 12 454 [rv D a0, rv D a1, iv a2] h 0 r := by
  refine Sim.of (fin := fun (v : (Int × Int) × Hp) => v) (lsE := [(0, rv D a0), (1, rv D a1), (2, iv a2)]) hm rfl cwS_code (la_r (la_r (la_i la_n))) (ll_r (ll_r (ll_i ll_n))) ?_
  intro p e s m below meth c X hcw hmm hcc hnm hname
  have hno := noh hcw hnm hmm hcc
  unfold m_X19_read
  refine g_aload_n (pc := 0) X (j := 0) (i := 0) (q := 0) (x := a0) rfl rfl (dl_at t_X19_read 0 rfl) ?_
  refine r_callV (pc := 1) X (fun _ hv => s_X19_clear hk hv) cw_code q3309 q373 (in_Vk X (As := []) kX19 hk (Or.inl q3306) q3307 q3308 cw_code q3309 ⟨by decide, by decide⟩ rfl (dl_at t_X19_read 1 rfl)) (dl_at t_X19_read 1 rfl) (cat24 (st := []) (Nat.le_of_ble_eq_true rfl)) (Nat.le_of_ble_eq_true rfl) (Nat.le_of_ble_eq_true rfl) fun h1 E1 => ?_
  refine g_aload_n (pc := 4) X (j := 0) (i := 0) (q := 0) (x := a0) rfl rfl (dl_at t_X19_read 2 rfl) ?_
  have k5 := kx E1 (by decide) hk
  refine r_getr (pc := 5) X fX19_8 k5 q3319 (dl_at t_X19_read 3 rfl) ?_
  refine g_aload_n (pc := 8) X (j := 1) (i := 1) (q := 1) (x := a1) rfl rfl (dl_at t_X19_read 4 rfl) ?_
  refine g_iload_n (pc := 9) X (j := 2) (i := 2) (q := 2) (x := a2) rfl rfl (dl_at t_X19_read 5 rfl) ?_
  refine g_gd fun k10 => ?_
  refine r_callV (pc := 10) X (fun _ hv => s_X20_open k10 r2 hv) cw_code q4338 q374 (in_Vk X (As := [rv D a1, iv a2]) kX20 k10 (Or.inl q4335) q4336 q4337 cw_code q4338 ⟨by decide, by decide⟩ rfl (dl_at t_X19_read 6 rfl)) (dl_at t_X19_read 6 rfl) (cat24 (st := []) (Nat.le_of_ble_eq_true rfl)) (Nat.le_of_ble_eq_true rfl) (Nat.le_of_ble_eq_true rfl) fun h10 E10 => ?_
  refine g_ls (ls2 := [(0, rv D a0)]) [0] rfl ?_
  refine g_loop0F (fun (q : Hp) => [(0, rv D a0)]) (fun (q : Hp) => q) (fun (q : Hp) => Ext h10 q) h10 (Ext.refl _) ?_ (fun _ => rfl)
  · rintro h_13 E_13
    try dsimp only
    unfold m_X19_read_l13
    refine g_aload_n (pc := 13) X (j := 0) (i := 0) (q := 0) (x := a0) rfl rfl (dl_at t_X19_read 7 rfl) ?_
    have k14 := kx (E10.trans E_13) (by decide) k5
    refine r_getr (pc := 14) X fX19_8 k14 q3319 (dl_at t_X19_read 8 rfl) ?_
    refine g_gd fun k17 => ?_
    refine r_geti (pc := 17) X fX20_3 k17 q3278 (dl_at t_X19_read 9 rfl) fun g17 => ?_
    refine g_iconst (pc := 20) X (n := 5) (dl_at t_X19_read 10 rfl) ?_
    refine g_icmpeq (pc := 21) X g17 (r32_c rfl) (off := 10) (tgt := 31) rfl (dl_at t_X19_read 11 rfl) (fun _ => ?_) (fun _ => ?_)
    · exact g_at fun Q hQ => (g_vret (pc := 31) X (v := 0) rfl rfl (dl_at t_X19_read 15 rfl)) _ Q rfl hQ
    refine g_aload_n (pc := 24) X (j := 0) (i := 0) (q := 0) (x := a0) rfl rfl (dl_at t_X19_read 12 rfl) ?_
    refine r_callTv (pc := 25) X (fun _ hv => s_X19_one k14 hv) cw_code q4359 q373 (in_Vk X (As := []) kX19 k14 (Or.inl q4356) q4358 qs239 cw_code q4359 ⟨by decide, by decide⟩ rfl (dl_at t_X19_read 13 rfl)) (dl_at t_X19_read 13 rfl) (cat24 (st := []) (Nat.le_of_ble_eq_true rfl)) (Nat.le_of_ble_eq_true rfl) (Nat.le_of_ble_eq_true rfl) (fun v25 h25 E25 => ?_) (fun _ _ ha _ => gt_at fun Q hQ => gt_out (Q := Q) X rfl ha (hno _) _ Q rfl hQ)
    refine g_goto (pc := 28) X (off := (-15)) (tgt := 13) rfl (dl_at t_X19_read 14 rfl) ?_
    exact g_at fun Q hQ => hQ (E_13.trans E25)
def k_X18_wasRead : List (Nat × Instr × Nat) := [(0, .aload_n 0, 1), (1, .iconst 0, 1), (2, .putfield 104, 3), (5, .aload_n 0, 1), (6, .iload_n 1, 1), (7, .putfield 7, 3), (10, .return_, 1)]
theorem t_X18_wasRead : ∀ q ∈ k_X18_wasRead, decode cX18_wasRead q.1 = .ok q.2 := dl_all (by decide +kernel)
noncomputable def m_X18_wasRead (a0 a1 : Int) (h : Hp) : Option (Hp) :=
  pt h a0 3 0 fun h2 =>
  pt h2 a0 1 a1 fun h7 =>
  some h7
theorem s_X18_wasRead {l : Launch} [NoTr l] {D : SD} {a0 a1 : Int} {h : Hp} (hk : h a0 (-2) = 304) (r1 : r32 a1) {r : Hp} (hm : m_X18_wasRead a0 a1 h = some r) : Sim l D yX18_wasRead (Cond.code yX18_wasRead cX18_wasRead 2 (Option.none : Option Jvm.ClassFile.FieldType)) 0 0 [rv D a0, iv a1] h 0 ((0, 0), r) := by
  refine Sim.of (fin := fun (v : Hp) => ((0, 0), v)) (lsE := [(0, rv D a0), (1, iv a1)]) hm rfl cwS_code (la_r (la_i la_n)) (ll_r (ll_i ll_n)) ?_
  intro p e s m below meth c X hcw hmm hcc hnm hname
  unfold m_X18_wasRead
  refine g_aload_n (pc := 0) X (j := 0) (i := 0) (q := 0) (x := a0) rfl rfl (dl_at t_X18_wasRead 0 rfl) ?_
  refine g_iconst (pc := 1) X (n := 0) (dl_at t_X18_wasRead 1 rfl) ?_
  refine r_puti (pc := 2) X fX18_3 hk q4239 rfl (dl_at t_X18_wasRead 2 rfl) (r32_c rfl) (fun h2 E2 => ?_)
  refine g_aload_n (pc := 5) X (j := 0) (i := 0) (q := 0) (x := a0) rfl rfl (dl_at t_X18_wasRead 3 rfl) ?_
  refine g_iload_n (pc := 6) X (j := 1) (i := 1) (q := 1) (x := a1) rfl rfl (dl_at t_X18_wasRead 4 rfl) ?_
  have k7 := kx E2 (by decide) hk
  refine r_puti (pc := 7) X fX18_1 k7 q4237 rfl (dl_at t_X18_wasRead 5 rfl) r1 (fun h7 E7 => ?_)
  exact g_vret (pc := 10) X (v := 0) rfl rfl (dl_at t_X18_wasRead 6 rfl)
def k_X18_broken : List (Nat × Instr × Nat) := [(0, .aload_n 0, 1), (1, .iload_n 1, 1), (2, .invokevirtual 115, 3), (5, .aload_n 0, 1), (6, .iload_n 2, 1), (7, .invokevirtual 107, 3), (10, .ireturn, 1)]
theorem t_X18_broken : ∀ q ∈ k_X18_broken, decode cX18_broken q.1 = .ok q.2 := dl_all (by decide +kernel)
noncomputable def m_X18_broken (a0 a1 a2 : Int) (h : Hp) : Option (Int × Hp) :=
  (m_X18_wasRead a0 a1 h).bind fun h2 =>
  bW (m_X18_refuse a0 a2 h2) fun v7 h7 =>
  some (v7, h7)
theorem s_X18_broken {l : Launch} [NoTr l] {D : SD} {a0 a1 a2 : Int} {h : Hp} (hk : h a0 (-2) = 304) (r1 : r32 a1) (r2 : r32 a2) {r : Int × Hp} (hm : m_X18_broken a0 a1 a2 h = some r) : Sim l D yX18_broken (Cond.code yX18_broken cX18_broken 3 (Option.some Jvm.ClassFile.FieldType.int)) 1 37 [rv D a0, iv a1, iv a2] h 1 ((0, r.1), r.2) := by
  refine Sim.of (fin := fun (v : Int × Hp) => ((0, v.1), v.2)) (lsE := [(0, rv D a0), (1, iv a1), (2, iv a2)]) hm rfl cwS_code (la_r (la_i (la_i la_n))) (ll_r (ll_i (ll_i ll_n))) ?_
  intro p e s m below meth c X hcw hmm hcc hnm hname
  unfold m_X18_broken
  refine g_aload_n (pc := 0) X (j := 0) (i := 0) (q := 0) (x := a0) rfl rfl (dl_at t_X18_broken 0 rfl) ?_
  refine g_iload_n (pc := 1) X (j := 1) (i := 1) (q := 1) (x := a1) rfl rfl (dl_at t_X18_broken 1 rfl) ?_
  refine r_callV (pc := 2) X (fun _ hv => s_X18_wasRead hk r1 hv) cw_code q4435 q372 (in_Vk X (As := [iv a1]) kX18 hk (Or.inl q4432) q4434 qs242 cw_code q4435 ⟨by decide, by decide⟩ rfl (dl_at t_X18_broken 2 rfl)) (dl_at t_X18_broken 2 rfl) (cat24 (st := []) (Nat.le_of_ble_eq_true rfl)) (Nat.le_of_ble_eq_true rfl) (Nat.le_of_ble_eq_true rfl) fun h2 E2 => ?_
  refine g_aload_n (pc := 5) X (j := 0) (i := 0) (q := 0) (x := a0) rfl rfl (dl_at t_X18_broken 3 rfl) ?_
  refine g_iload_n (pc := 6) X (j := 2) (i := 2) (q := 2) (x := a2) rfl rfl (dl_at t_X18_broken 4 rfl) ?_
  have k7 := kx E2 (by decide) hk
  refine r_callWi (pc := 7) X (fun _ hv => s_X18_refuse k7 r2 hv) cw_code q4317 q372 (in_Vk X (As := [iv a2]) kX18 k7 (Or.inl q4314) q4316 qs237 cw_code q4317 ⟨by decide, by decide⟩ rfl (dl_at t_X18_broken 5 rfl)) (dl_at t_X18_broken 5 rfl) (cat24 (st := []) (Nat.le_of_ble_eq_true rfl)) (Nat.le_of_ble_eq_true rfl) (Nat.le_of_ble_eq_true rfl) fun v7 h7 g7 E7 => ?_
  exact g_iret (pc := 10) X g7 rfl rfl (dl_at t_X18_broken 6 rfl)
def k_X19_all : List (Nat × Instr × Nat) := [(0, .aload_n 0, 1), (1, .getfield 39, 3), (4, .aload_n 0, 1), (5, .getfield 43, 3), (8, .iadd, 1), (9, .istore_n 1, 1), (10, .iconst 0, 1), (11, .istore_n 2, 1), (12, .iload_n 2, 1), (13, .sipush 256, 3), (16, .if_icmp .ge 26, 3), (19, .iload_n 1, 1), (20, .aload_n 0, 1), (21, .getfield 13, 3), (24, .iload_n 2, 1), (25, .baload, 1), (26, .ifCond .eq 7, 3), (29, .iconst 1, 1), (30, .goto 4, 3), (33, .iconst 0, 1), (34, .iadd, 1), (35, .istore_n 1, 1), (36, .iinc 2 1, 3), (39, .goto (-27), 3), (42, .iload_n 1, 1), (43, .ireturn, 1)]
theorem t_X19_all : ∀ q ∈ k_X19_all, decode cX19_all q.1 = .ok q.2 := dl_all (by decide +kernel)
noncomputable def m_X19_all_j34 (x1_12 x2_12 s1_34 : Int) : Option ((Int × Int) ⊕ ((Int))) :=
  lt_ (w32 (x1_12 + s1_34)) fun x1_35 =>
  lt_ (w32 (x2_12 + 1)) fun x2_36 =>
  some (.inl (x1_35, x2_36))
noncomputable def m_X19_all_l12 (a0 x1_12 x2_12 : Int) (h : Hp) : Option ((Int × Int) ⊕ ((Int))) :=
  if 256 ≤ x2_12 then (some (.inr x1_12))
  else (gd (h (h a0 1) (-2) % 16 = 3 ∧ (0 : Int) ≤ x2_12 ∧ x2_12 < h (h a0 1) (-1)) (if (h (h a0 1) x2_12) = 0 then (m_X19_all_j34 x1_12 x2_12 0)
  else (m_X19_all_j34 x1_12 x2_12 1)))
noncomputable def m_X19_all (a0 : Int) (h : Hp) : Option (Int) :=
  lt_ (w32 ((h a0 2) + (h a0 3))) fun x1_9 =>
  lt_ 0 fun x2_11 =>
  (lp (fun (q : Int × Int) => m_X19_all_l12 a0 q.1 q.2 h) (x1_9, x2_11)).bind (fun (x : Int) => some x)
theorem s_X19_all {l : Launch} [NoTr l] {D : SD} {a0 : Int} {h : Hp} (hk : h a0 (-2) = 320) {r : Int} (hm : m_X19_all a0 h = some r) : Sim l D yX19_all (Cond.code yX19_all cX19_all 3 (Option.some Jvm.ClassFile.FieldType.int)) 0 0 [rv D a0] h 1 ((0, r), h) := by
  refine Sim.of (fin := fun (v : Int) => ((0, v), h)) (lsE := [(0, rv D a0)]) hm rfl cwS_code (la_r la_n) (ll_r ll_n) ?_
  intro p e s m below meth c X hcw hmm hcc hnm hname
  unfold m_X19_all
  refine g_aload_n (pc := 0) X (j := 0) (i := 0) (q := 0) (x := a0) rfl rfl (dl_at t_X19_all 0 rfl) ?_
  refine r_geti (pc := 1) X fX19_2 hk q3313 (dl_at t_X19_all 1 rfl) fun g1 => ?_
  refine g_aload_n (pc := 4) X (j := 0) (i := 0) (q := 0) (x := a0) rfl rfl (dl_at t_X19_all 2 rfl) ?_
  refine r_geti (pc := 5) X fX19_3 hk q3314 (dl_at t_X19_all 3 rfl) fun g5 => ?_
  refine g_iadd (pc := 8) X g1 g5 (dl_at t_X19_all 4 rfl) ?_
  refine g_lti (r32_w _) fun x1_9 r1_9 => ?_
  refine g_istore_nN (pc := 9) X (j := 1) (i := 1) (x := x1_9) (b := 0) (w := rv D a0) (rest := []) rfl (Nat.le_of_ble_eq_true rfl) [0] rfl (by decide) rv_cat rfl (dl_at t_X19_all 5 rfl) ?_
  refine g_iconst (pc := 10) X (n := 0) (dl_at t_X19_all 6 rfl) ?_
  refine g_ltz (Or.inl rfl) fun x2_11 r2_11 => ?_
  refine g_istore_nN (pc := 11) X (j := 2) (i := 2) (x := x2_11) (b := 1) (w := iv x1_9) (rest := [(0, rv D a0)]) rfl (Nat.le_of_ble_eq_true rfl) [0, 1] rfl (by decide) rfl rfl (dl_at t_X19_all 7 rfl) ?_
  refine g_ls (ls2 := [(0, rv D a0), (1, iv x1_9), (2, iv x2_11)]) [2, 1, 0] rfl ?_
  refine g_loop0F (fun (q : Int × Int) => [(0, rv D a0), (1, iv q.1), (2, iv q.2)]) (fun (q : Int × Int) => h) (fun (q : Int × Int) => r32 q.1 ∧ r32 q.2) (x1_9, x2_11) ⟨r1_9, (r32_z r2_11)⟩ ?_ (fun _ => rfl)
  · rintro ⟨x1_12, x2_12⟩ ⟨r1_12, r2_12⟩
    try dsimp only
    unfold m_X19_all_l12
    refine g_iload_n (pc := 12) X (j := 2) (i := 2) (q := 2) (x := x2_12) rfl rfl (dl_at t_X19_all 8 rfl) ?_
    refine g_sipush (pc := 13) X (n := 256) rfl (dl_at t_X19_all 9 rfl) ?_
    refine g_icmpge (pc := 16) X r2_12 (r32_c rfl) (off := 26) (tgt := 42) rfl (dl_at t_X19_all 10 rfl) (fun _ => ?_) (fun _ => ?_)
    · refine g_iload_n (pc := 42) X (j := 1) (i := 1) (q := 1) (x := x1_12) rfl rfl (dl_at t_X19_all 24 rfl) ?_
      exact g_at fun Q hQ => (g_iret (pc := 43) X r1_12 rfl rfl (dl_at t_X19_all 25 rfl)) _ Q rfl hQ
    refine g_iload_n (pc := 19) X (j := 1) (i := 1) (q := 1) (x := x1_12) rfl rfl (dl_at t_X19_all 11 rfl) ?_
    refine g_aload_n (pc := 20) X (j := 0) (i := 0) (q := 0) (x := a0) rfl rfl (dl_at t_X19_all 12 rfl) ?_
    refine r_getr (pc := 21) X fX19_1 hk q3312 (dl_at t_X19_all 13 rfl) ?_
    refine g_iload_n (pc := 24) X (j := 2) (i := 2) (q := 2) (x := x2_12) rfl rfl (dl_at t_X19_all 14 rfl) ?_
    refine g_gd fun k25 => ?_
    refine g_zald (pc := 25) X r2_12 k25 (dl_at t_X19_all 15 rfl) fun g25 => ?_
    refine g_join (γ := Int) (fun q => (q = 0 ∨ q = 1)) 34 (fun q => [(0, rv D a0), (2, iv x2_12)]) (fun q => [iv q, iv x1_12]) (fun q => h) (fun q => m_X19_all_j34 x1_12 x2_12 q) ?_ ?_
    · rintro s1_34 rs1_34
      try dsimp only
      unfold m_X19_all_j34
      refine g_iadd (pc := 34) X r1_12 (r32_z rs1_34) (dl_at t_X19_all 20 rfl) ?_
      refine g_lti (r32_w _) fun x1_35 r1_35 => ?_
      refine g_istore_nN (pc := 35) X (j := 1) (i := 1) (x := x1_35) (b := 0) (w := rv D a0) (rest := [(2, iv x2_12)]) rfl (Nat.le_of_ble_eq_true rfl) [0, 1] rfl (by decide) rv_cat rfl (dl_at t_X19_all 21 rfl) ?_
      refine r_iincN (pc := 36) X (i := 2) (q := 2) (n := 1) (x := x2_12) (b := 1) (w := iv x1_35) (rest := [(0, rv D a0)]) rfl r2_12 (r32_c rfl) (Nat.le_of_ble_eq_true rfl) [0, 1] rfl (by decide) rfl rfl (dl_at t_X19_all 22 rfl) fun x2_36 r2_36 => ?_
      refine g_goto (pc := 39) X (off := (-27)) (tgt := 12) rfl (dl_at t_X19_all 23 rfl) ?_
      refine g_ls (ls2 := [(0, rv D a0), (1, iv x1_35), (2, iv x2_36)]) [2, 1, 0] rfl ?_
      exact g_at fun Q hQ => hQ ⟨r1_35, r2_36⟩
    intro J34
    refine g_ifeq (pc := 26) X (r32_z g25) (off := 7) (tgt := 33) rfl (dl_at t_X19_all 16 rfl) (fun _ => ?_) (fun _ => ?_)
    · refine g_iconst (pc := 33) X (n := 0) (dl_at t_X19_all 19 rfl) ?_
      refine g_ls (ls2 := [(0, rv D a0), (2, iv x2_12)]) [0, 2] rfl ?_
      exact J34 0 (Or.inl rfl)
    refine g_iconst (pc := 29) X (n := 1) (dl_at t_X19_all 17 rfl) ?_
    refine g_goto (pc := 30) X (off := 4) (tgt := 34) rfl (dl_at t_X19_all 18 rfl) ?_
    refine g_ls (ls2 := [(0, rv D a0), (2, iv x2_12)]) [0, 2] rfl ?_
    exact J34 1 (Or.inr rfl)
def k_X18_font : List (Nat × Instr × Nat) := [(0, .aload_n 0, 1), (1, .getfield 24, 3), (4, .aload_n 0, 1), (5, .getfield 13, 3), (8, .aload_n 0, 1), (9, .getfield 104, 3), (12, .invokevirtual 118, 3), (15, .goto 14, 3), (18, .astore_n 1, 1), (19, .aload_n 0, 1), (20, .aload_n 1, 1), (21, .getfield 124, 3), (24, .iconst 1, 1), (25, .invokevirtual 125, 3), (28, .ireturn, 1), (29, .aload_n 0, 1), (30, .iconst 0, 1), (31, .putfield 87, 3), (34, .aload_n 0, 1), (35, .iconst (-1), 1), (36, .invokevirtual 115, 3), (39, .aload_n 0, 1), (40, .getfield 20, 3), (43, .astore_n 1, 1), (44, .aload_n 0, 1), (45, .aload_n 0, 1), (46, .getfield 24, 3), (49, .putfield 20, 3), (52, .aload_n 0, 1), (53, .aload_n 1, 1), (54, .putfield 24, 3), (57, .aload_n 0, 1), (58, .getfield 20, 3), (61, .invokevirtual 129, 3), (64, .ireturn, 1)]
theorem t_X18_font : ∀ q ∈ k_X18_font, decode cX18_font q.1 = .ok q.2 := dl_all (by decide +kernel)
noncomputable def m_X18_font (a0 : Int) (h : Hp) : Option (Int × Hp) :=
  gd (h (h a0 5) (-2) = 320) (bT (m_X19_read (h a0 5) (h a0 2) (h a0 3) h) (fun _ h12_1 =>
  pt h12_1 a0 0 0 fun h31 =>
  (m_X18_wasRead a0 (-1) h31).bind fun h36 =>
  lt_ (h36 a0 4) fun x1_43 =>
  pt h36 a0 4 (h36 a0 5) fun h49 =>
  pt h49 a0 5 x1_43 fun h54 =>
  gd (h54 (h54 a0 4) (-2) = 320) ((m_X19_all (h54 a0 4) h54).bind fun v61 =>
  some (v61, h54))) (fun a12 h12 => if h12 a12 (-2) = 448 then (bW (m_X18_broken a0 (h12 a12 0) 1 h12) fun v25 h25 =>
  some (v25, h25))
  else (none)))
theorem s_X18_font {l : Launch} [NoTr l] {D : SD} {a0 : Int} {h : Hp} (hk : h a0 (-2) = 304) {r : Int × Hp} (hm : m_X18_font a0 h = some r) : Sim l D yX18_font (Cond.codeWith yX18_font cX18_font 2 (Option.some Jvm.ClassFile.FieldType.int) [((0 : Nat), (15 : Nat), (18 : Nat), (122 : Nat))]) 13 492 [rv D a0] h 1 ((0, r.1), r.2) := by
  refine Sim.of (fin := fun (v : Int × Hp) => ((0, v.1), v.2)) (lsE := [(0, rv D a0)]) hm rfl cwS_with (la_r la_n) (ll_r ll_n) ?_
  intro p e s m below meth c X hcw hmm hcc hnm hname
  have htb := tabW hcw hnm hmm hcc
  unfold m_X18_font
  refine g_aload_n (pc := 0) X (j := 0) (i := 0) (q := 0) (x := a0) rfl rfl (dl_at t_X18_font 0 rfl) ?_
  refine r_getr (pc := 1) X fX18_5 hk q4241 (dl_at t_X18_font 1 rfl) ?_
  refine g_aload_n (pc := 4) X (j := 0) (i := 0) (q := 0) (x := a0) rfl rfl (dl_at t_X18_font 2 rfl) ?_
  refine r_getr (pc := 5) X fX18_2 hk q4238 (dl_at t_X18_font 3 rfl) ?_
  refine g_aload_n (pc := 8) X (j := 0) (i := 0) (q := 0) (x := a0) rfl rfl (dl_at t_X18_font 4 rfl) ?_
  refine r_geti (pc := 9) X fX18_3 hk q4239 (dl_at t_X18_font 5 rfl) fun g9 => ?_
  refine g_gd fun k12 => ?_
  refine r_callTv (pc := 12) X (fun _ hv => s_X19_read k12 g9 hv) cw_code q4334 q373 (in_Vk X (As := [rv D (h a0 2), iv (h a0 3)]) kX19 k12 (Or.inl q4331) q4332 q4333 cw_code q4334 ⟨by decide, by decide⟩ rfl (dl_at t_X18_font 6 rfl)) (dl_at t_X18_font 6 rfl) (cat24 (st := []) (Nat.le_of_ble_eq_true rfl)) (Nat.le_of_ble_eq_true rfl) (Nat.le_of_ble_eq_true rfl) (fun v12 h12_1 E12_1 => ?_) (fun a12 h12 p12 E12 => ?_)
  · refine g_goto (pc := 15) X (off := 14) (tgt := 29) rfl (dl_at t_X18_font 7 rfl) ?_
    refine g_aload_n (pc := 29) X (j := 0) (i := 0) (q := 0) (x := a0) rfl rfl (dl_at t_X18_font 15 rfl) ?_
    refine g_iconst (pc := 30) X (n := 0) (dl_at t_X18_font 16 rfl) ?_
    have k31 := kx E12_1 (by decide) hk
    refine r_puti (pc := 31) X fX18_0 k31 q4236 rfl (dl_at t_X18_font 17 rfl) (r32_c rfl) (fun h31 E31 => ?_)
    refine g_aload_n (pc := 34) X (j := 0) (i := 0) (q := 0) (x := a0) rfl rfl (dl_at t_X18_font 18 rfl) ?_
    refine g_iconst (pc := 35) X (n := (-1)) (dl_at t_X18_font 19 rfl) ?_
    have k36 := kx E31 (by decide) k31
    refine r_callV (pc := 36) X (fun _ hv => s_X18_wasRead k36 (r32_c rfl) hv) cw_code q4435 q372 (in_Vk X (As := [iv (-1)]) kX18 k36 (Or.inl q4432) q4434 qs242 cw_code q4435 ⟨by decide, by decide⟩ rfl (dl_at t_X18_font 20 rfl)) (dl_at t_X18_font 20 rfl) (cat24 (st := []) (Nat.le_of_ble_eq_true rfl)) (Nat.le_of_ble_eq_true rfl) (Nat.le_of_ble_eq_true rfl) fun h36 E36 => ?_
    refine g_aload_n (pc := 39) X (j := 0) (i := 0) (q := 0) (x := a0) rfl rfl (dl_at t_X18_font 21 rfl) ?_
    have k40 := kx E36 (by decide) k36
    refine r_getr (pc := 40) X fX18_4 k40 q4240 (dl_at t_X18_font 22 rfl) ?_
    refine g_ltr fun x1_43 => ?_
    refine g_astore_nN (pc := 43) X (j := 1) (i := 1) (x := x1_43) (b := 0) (w := rv D a0) (rest := []) rfl (Nat.le_of_ble_eq_true rfl) [0] rfl (by decide) rv_cat rfl (dl_at t_X18_font 23 rfl) ?_
    refine g_aload_n (pc := 44) X (j := 0) (i := 0) (q := 1) (x := a0) rfl rfl (dl_at t_X18_font 24 rfl) ?_
    refine g_aload_n (pc := 45) X (j := 0) (i := 0) (q := 1) (x := a0) rfl rfl (dl_at t_X18_font 25 rfl) ?_
    refine r_getr (pc := 46) X fX18_5 k40 q4241 (dl_at t_X18_font 26 rfl) ?_
    refine r_putr (pc := 49) X fX18_4 k40 q4240 rfl (dl_at t_X18_font 27 rfl)  (fun h49 E49 => ?_)
    refine g_aload_n (pc := 52) X (j := 0) (i := 0) (q := 1) (x := a0) rfl rfl (dl_at t_X18_font 28 rfl) ?_
    refine g_aload_n (pc := 53) X (j := 1) (i := 1) (q := 0) (x := x1_43) rfl rfl (dl_at t_X18_font 29 rfl) ?_
    have k54 := kx E49 (by decide) k40
    refine r_putr (pc := 54) X fX18_5 k54 q4241 rfl (dl_at t_X18_font 30 rfl)  (fun h54 E54 => ?_)
    refine g_aload_n (pc := 57) X (j := 0) (i := 0) (q := 1) (x := a0) rfl rfl (dl_at t_X18_font 31 rfl) ?_
    have k58 := kx E54 (by decide) k54
    refine r_getr (pc := 58) X fX18_4 k58 q4240 (dl_at t_X18_font 32 rfl) ?_
    refine g_gd fun k61 => ?_
    refine r_callRi (pc := 61) X (fun _ hv => s_X19_all k61 hv) cw_code q4439 q373 (in_Vk X (As := []) kX19 k61 (Or.inl q4436) q4437 q4438 cw_code q4439 ⟨by decide, by decide⟩ rfl (dl_at t_X18_font 33 rfl)) (dl_at t_X18_font 33 rfl) (cat24 (st := []) (Nat.le_of_ble_eq_true rfl)) (Nat.le_of_ble_eq_true rfl) (Nat.le_of_ble_eq_true rfl) fun v61 g61 => ?_
    exact g_iret (pc := 64) X g61 rfl rfl (dl_at t_X18_font 34 rfl)
  refine gt_case (fun k12_1 => ?_) (fun _ => ?_)
  · refine gt_catch (pc := 12) X kX27 k12_1 [((0, 15, 18, 122), "ScholarsPressModel$Broken", true)] (hp := 18) rfl (by decide +kernel) (List.forall_mem_cons.mpr ⟨⟨q4330, by decide⟩, fun _ h => absurd h List.not_mem_nil⟩) htb ?_
    refine g_astore_nN (pc := 18) X (j := 1) (i := 1) (x := a12) (b := 0) (w := rv D a0) (rest := []) rfl (Nat.le_of_ble_eq_true rfl) [0] rfl (by decide) rv_cat rfl (dl_at t_X18_font 8 rfl) ?_
    refine g_aload_n (pc := 19) X (j := 0) (i := 0) (q := 1) (x := a0) rfl rfl (dl_at t_X18_font 9 rfl) ?_
    refine g_aload_n (pc := 20) X (j := 1) (i := 1) (q := 0) (x := a12) rfl rfl (dl_at t_X18_font 10 rfl) ?_
    refine r_geti (pc := 21) X fX27_0 k12_1 q4401 (dl_at t_X18_font 11 rfl) fun g21 => ?_
    refine g_iconst (pc := 24) X (n := 1) (dl_at t_X18_font 12 rfl) ?_
    have k25 := kx E12 (by decide) hk
    refine r_callWi (pc := 25) X (fun _ hv => s_X18_broken k25 g21 (r32_c rfl) hv) cw_code q4431 q372 (in_Vk X (As := [iv (h12 a12 0), iv 1]) kX18 k25 (Or.inl q4428) q4430 qs241 cw_code q4431 ⟨by decide, by decide⟩ rfl (dl_at t_X18_font 13 rfl)) (dl_at t_X18_font 13 rfl) (cat24 (st := []) (Nat.le_of_ble_eq_true rfl)) (Nat.le_of_ble_eq_true rfl) (Nat.le_of_ble_eq_true rfl) fun v25 h25 g25 E25 => ?_
    exact g_iret (pc := 28) X g25 rfl rfl (dl_at t_X18_font 14 rfl)
  exact gt_none
def k_X21_clear : List (Nat × Instr × Nat) := [(0, .aload_n 0, 1), (1, .iconst 2, 1), (2, .putfield 7, 3), (5, .aload_n 0, 1), (6, .iconst 3, 1), (7, .putfield 13, 3), (10, .aload_n 0, 1), (11, .iconst 0, 1), (12, .putfield 46, 3), (15, .aload_n 0, 1), (16, .iconst 0, 1), (17, .putfield 49, 3), (20, .return_, 1)]
theorem t_X21_clear : ∀ q ∈ k_X21_clear, decode cX21_clear q.1 = .ok q.2 := dl_all (by decide +kernel)
noncomputable def m_X21_clear (a0 : Int) (h : Hp) : Option (Hp) :=
  pt h a0 0 2 fun h2 =>
  pt h2 a0 1 3 fun h7 =>
  pt h7 a0 2 0 fun h12 =>
  pt h12 a0 3 0 fun h17 =>
  some h17
theorem s_X21_clear {l : Launch} [NoTr l] {D : SD} {a0 : Int} {h : Hp} (hk : h a0 (-2) = 352) {r : Hp} (hm : m_X21_clear a0 h = some r) : Sim l D yX21_clear (Cond.code yX21_clear cX21_clear 1 (Option.none : Option Jvm.ClassFile.FieldType)) 0 0 [rv D a0] h 0 ((0, 0), r) := by
  refine Sim.of (fin := fun (v : Hp) => ((0, 0), v)) (lsE := [(0, rv D a0)]) hm rfl cwS_code (la_r la_n) (ll_r ll_n) ?_
  intro p e s m below meth c X hcw hmm hcc hnm hname
  unfold m_X21_clear
  refine g_aload_n (pc := 0) X (j := 0) (i := 0) (q := 0) (x := a0) rfl rfl (dl_at t_X21_clear 0 rfl) ?_
  refine g_iconst (pc := 1) X (n := 2) (dl_at t_X21_clear 1 rfl) ?_
  refine r_puti (pc := 2) X fX21_0 hk q3345 rfl (dl_at t_X21_clear 2 rfl) (r32_c rfl) (fun h2 E2 => ?_)
  refine g_aload_n (pc := 5) X (j := 0) (i := 0) (q := 0) (x := a0) rfl rfl (dl_at t_X21_clear 3 rfl) ?_
  refine g_iconst (pc := 6) X (n := 3) (dl_at t_X21_clear 4 rfl) ?_
  have k7 := kx E2 (by decide) hk
  refine r_puti (pc := 7) X fX21_1 k7 q3346 rfl (dl_at t_X21_clear 5 rfl) (r32_c rfl) (fun h7 E7 => ?_)
  refine g_aload_n (pc := 10) X (j := 0) (i := 0) (q := 0) (x := a0) rfl rfl (dl_at t_X21_clear 6 rfl) ?_
  refine g_iconst (pc := 11) X (n := 0) (dl_at t_X21_clear 7 rfl) ?_
  have k12 := kx E7 (by decide) k7
  refine r_puti (pc := 12) X fX21_2 k12 q3347 rfl (dl_at t_X21_clear 8 rfl) (r32_c rfl) (fun h12 E12 => ?_)
  refine g_aload_n (pc := 15) X (j := 0) (i := 0) (q := 0) (x := a0) rfl rfl (dl_at t_X21_clear 9 rfl) ?_
  refine g_iconst (pc := 16) X (n := 0) (dl_at t_X21_clear 10 rfl) ?_
  have k17 := kx E12 (by decide) k12
  refine r_puti (pc := 17) X fX21_3 k17 q3349 rfl (dl_at t_X21_clear 11 rfl) (r32_c rfl) (fun h17 E17 => ?_)
  exact g_vret (pc := 20) X (v := 0) rfl rfl (dl_at t_X21_clear 12 rfl)
def k_X18_same : List (Nat × Instr × Nat) := [(0, .iload_n 2, 1), (1, .iload_n 1, 1), (2, .isub, 1), (3, .iload 5, 2), (5, .iload 4, 2), (7, .isub, 1), (8, .if_icmp .eq 5, 3), (11, .iconst 0, 1), (12, .ireturn, 1), (13, .iconst 0, 1), (14, .istore 6, 2), (16, .iload 6, 2), (18, .iload_n 2, 1), (19, .iload_n 1, 1), (20, .isub, 1), (21, .if_icmp .ge 27, 3), (24, .aload_n 0, 1), (25, .iload_n 1, 1), (26, .iload 6, 2), (28, .iadd, 1), (29, .baload, 1), (30, .aload_n 3, 1), (31, .iload 4, 2), (33, .iload 6, 2), (35, .iadd, 1), (36, .baload, 1), (37, .if_icmp .eq 5, 3), (40, .iconst 0, 1), (41, .ireturn, 1), (42, .iinc 6 1, 3), (45, .goto (-29), 3), (48, .iconst 1, 1), (49, .ireturn, 1)]
theorem t_X18_same : ∀ q ∈ k_X18_same, decode cX18_same q.1 = .ok q.2 := dl_all (by decide +kernel)
noncomputable def m_X18_same_l16 (a0 a1 a2 a3 a4 x6_16 : Int) (h : Hp) : Option ((Int) ⊕ ((Int))) :=
  if (w32 (a2 - a1)) ≤ x6_16 then (some (.inr 1))
  else (gd (h a0 (-2) % 16 = 2 ∧ (0 : Int) ≤ (w32 (a1 + x6_16)) ∧ (w32 (a1 + x6_16)) < h a0 (-1)) (gd (h a3 (-2) % 16 = 2 ∧ (0 : Int) ≤ (w32 (a4 + x6_16)) ∧ (w32 (a4 + x6_16)) < h a3 (-1)) (if (h a0 (w32 (a1 + x6_16))) = (h a3 (w32 (a4 + x6_16))) then (lt_ (w32 (x6_16 + 1)) fun x6_42 =>
  some (.inl x6_42))
  else (some (.inr 0)))))
noncomputable def m_X18_same (a0 a1 a2 a3 a4 a5 : Int) (h : Hp) : Option (Int) :=
  if (w32 (a2 - a1)) = (w32 (a5 - a4)) then (lt_ 0 fun x6_14 =>
  (lp (fun (q : Int) => m_X18_same_l16 a0 a1 a2 a3 a4 q h) x6_14).bind (fun (x : Int) => some x))
  else (some 0)
theorem s_X18_same {l : Launch} [NoTr l] {D : SD} {a0 a1 a2 a3 a4 a5 : Int} {h : Hp} (r1 : r32 a1) (r2 : r32 a2) (r4 : r32 a4) (r5 : r32 a5) {r : Int} (hm : m_X18_same a0 a1 a2 a3 a4 a5 h = some r) : Sim l D yX18_same (Cond.code yX18_same cX18_same 7 (Option.some Jvm.ClassFile.FieldType.boolean)) 0 0 [rv D a0, iv a1, iv a2, rv D a3, iv a4, iv a5] h 3 ((0, r), h) := by
  refine Sim.of (fin := fun (v : Int) => ((0, v), h)) (lsE := [(0, rv D a0), (1, iv a1), (2, iv a2), (3, rv D a3), (4, iv a4), (5, iv a5)]) hm rfl cwS_code (la_r (la_i (la_i (la_r (la_i (la_i la_n)))))) (ll_r (ll_i (ll_i (ll_r (ll_i (ll_i ll_n)))))) ?_
  intro p e s m below meth c X hcw hmm hcc hnm hname
  unfold m_X18_same
  refine g_iload_n (pc := 0) X (j := 2) (i := 2) (q := 2) (x := a2) rfl rfl (dl_at t_X18_same 0 rfl) ?_
  refine g_iload_n (pc := 1) X (j := 1) (i := 1) (q := 1) (x := a1) rfl rfl (dl_at t_X18_same 1 rfl) ?_
  refine g_isub (pc := 2) X r2 r1 (dl_at t_X18_same 2 rfl) ?_
  refine g_iload (pc := 3) X (i := 5) (q := 5) (x := a5) rfl (dl_at t_X18_same 3 rfl) ?_
  refine g_iload (pc := 5) X (i := 4) (q := 4) (x := a4) rfl (dl_at t_X18_same 4 rfl) ?_
  refine g_isub (pc := 7) X r5 r4 (dl_at t_X18_same 5 rfl) ?_
  refine g_icmpeq (pc := 8) X (r32_w _) (r32_w _) (off := 5) (tgt := 13) rfl (dl_at t_X18_same 6 rfl) (fun _ => ?_) (fun _ => ?_)
  · refine g_iconst (pc := 13) X (n := 0) (dl_at t_X18_same 9 rfl) ?_
    refine g_ltz (Or.inl rfl) fun x6_14 r6_14 => ?_
    refine g_istore (pc := 14) X (i := 6) (x := x6_14) (rest := [(0, rv D a0), (1, iv a1), (2, iv a2), (3, rv D a3), (4, iv a4)]) (Nat.le_of_ble_eq_true rfl) [0, 1, 2, 3, 4] rfl rfl (dl_at t_X18_same 10 rfl) ?_
    refine g_ls (ls2 := [(0, rv D a0), (1, iv a1), (2, iv a2), (3, rv D a3), (4, iv a4), (6, iv x6_14)]) [1, 2, 3, 4, 5, 0] rfl ?_
    refine g_loop0F (fun (q : Int) => [(0, rv D a0), (1, iv a1), (2, iv a2), (3, rv D a3), (4, iv a4), (6, iv q)]) (fun (q : Int) => h) (fun (q : Int) => r32 q) x6_14 (r32_z r6_14) ?_ (fun _ => rfl)
    · rintro x6_16 r6_16
      try dsimp only
      unfold m_X18_same_l16
      refine g_iload (pc := 16) X (i := 6) (q := 5) (x := x6_16) rfl (dl_at t_X18_same 11 rfl) ?_
      refine g_iload_n (pc := 18) X (j := 2) (i := 2) (q := 2) (x := a2) rfl rfl (dl_at t_X18_same 12 rfl) ?_
      refine g_iload_n (pc := 19) X (j := 1) (i := 1) (q := 1) (x := a1) rfl rfl (dl_at t_X18_same 13 rfl) ?_
      refine g_isub (pc := 20) X r2 r1 (dl_at t_X18_same 14 rfl) ?_
      refine g_icmpge (pc := 21) X r6_16 (r32_w _) (off := 27) (tgt := 48) rfl (dl_at t_X18_same 15 rfl) (fun _ => ?_) (fun _ => ?_)
      · refine g_iconst (pc := 48) X (n := 1) (dl_at t_X18_same 31 rfl) ?_
        exact g_at fun Q hQ => (g_zret (pc := 49) X (Or.inr rfl) rfl rfl (dl_at t_X18_same 32 rfl)) _ Q rfl hQ
      refine g_aload_n (pc := 24) X (j := 0) (i := 0) (q := 0) (x := a0) rfl rfl (dl_at t_X18_same 16 rfl) ?_
      refine g_iload_n (pc := 25) X (j := 1) (i := 1) (q := 1) (x := a1) rfl rfl (dl_at t_X18_same 17 rfl) ?_
      refine g_iload (pc := 26) X (i := 6) (q := 5) (x := x6_16) rfl (dl_at t_X18_same 18 rfl) ?_
      refine g_iadd (pc := 28) X r1 r6_16 (dl_at t_X18_same 19 rfl) ?_
      refine g_gd fun k29 => ?_
      refine g_bald (pc := 29) X (r32_w _) k29 (dl_at t_X18_same 20 rfl) fun g29 => ?_
      refine g_aload_n (pc := 30) X (j := 3) (i := 3) (q := 3) (x := a3) rfl rfl (dl_at t_X18_same 21 rfl) ?_
      refine g_iload (pc := 31) X (i := 4) (q := 4) (x := a4) rfl (dl_at t_X18_same 22 rfl) ?_
      refine g_iload (pc := 33) X (i := 6) (q := 5) (x := x6_16) rfl (dl_at t_X18_same 23 rfl) ?_
      refine g_iadd (pc := 35) X r4 r6_16 (dl_at t_X18_same 24 rfl) ?_
      refine g_gd fun k36 => ?_
      refine g_bald (pc := 36) X (r32_w _) k36 (dl_at t_X18_same 25 rfl) fun g36 => ?_
      refine g_icmpeq (pc := 37) X (r32_b g29) (r32_b g36) (off := 5) (tgt := 42) rfl (dl_at t_X18_same 26 rfl) (fun _ => ?_) (fun _ => ?_)
      · refine r_iinc (pc := 42) X (i := 6) (q := 5) (n := 1) (x := x6_16) (rest := [(0, rv D a0), (1, iv a1), (2, iv a2), (3, rv D a3), (4, iv a4)]) rfl r6_16 (r32_c rfl) (Nat.le_of_ble_eq_true rfl) [0, 1, 2, 3, 4] rfl rfl (dl_at t_X18_same 29 rfl) fun x6_42 r6_42 => ?_
        refine g_goto (pc := 45) X (off := (-29)) (tgt := 16) rfl (dl_at t_X18_same 30 rfl) ?_
        refine g_ls (ls2 := [(0, rv D a0), (1, iv a1), (2, iv a2), (3, rv D a3), (4, iv a4), (6, iv x6_42)]) [1, 2, 3, 4, 5, 0] rfl ?_
        exact g_at fun Q hQ => hQ r6_42
      refine g_iconst (pc := 40) X (n := 0) (dl_at t_X18_same 27 rfl) ?_
      exact g_at fun Q hQ => (g_zret (pc := 41) X (Or.inl rfl) rfl rfl (dl_at t_X18_same 28 rfl)) _ Q rfl hQ
  refine g_iconst (pc := 11) X (n := 0) (dl_at t_X18_same 7 rfl) ?_
  exact g_zret (pc := 12) X (Or.inl rfl) rfl rfl (dl_at t_X18_same 8 rfl)
def k_X21_exception : List (Nat × Instr × Nat) := [(0, .aload_n 0, 1), (1, .iconst 0, 1), (2, .putfield 79, 3), (5, .iconst 0, 1), (6, .istore 4, 2), (8, .iload 4, 2), (10, .bipush 64, 2), (12, .if_icmp .ge 17, 3), (15, .aload_n 0, 1), (16, .getfield 43, 3), (19, .iload 4, 2), (21, .iconst 0, 1), (22, .bastore, 1), (23, .iinc 4 1, 3), (26, .goto (-18), 3), (29, .iload_n 2, 1), (30, .iconst 1, 1), (31, .iadd, 1), (32, .istore 4, 2), (34, .iload 4, 2), (36, .iload_n 3, 1), (37, .if_icmp .ge 118, 3), (40, .aload_n 1, 1), (41, .iload 4, 2), (43, .baload, 1), (44, .bipush 45, 2), (46, .if_icmp .ne 52, 3), (49, .aload_n 0, 1), (50, .getfield 79, 3), (53, .ifCond .eq 23, 3), (56, .aload_n 0, 1), (57, .getfield 43, 3), (60, .aload_n 0, 1), (61, .getfield 79, 3), (64, .baload, 1), (65, .ifCond .ne 11, 3), (68, .iload 4, 2), (70, .iconst 1, 1), (71, .iadd, 1), (72, .iload_n 3, 1), (73, .if_icmp .ne 12, 3), (76, .new 61, 3), (79, .dup, 1), (80, .iload_n 2, 1), (81, .invokespecial 63, 3), (84, .athrow, 1), (85, .aload_n 0, 1), (86, .getfield 43, 3), (89, .aload_n 0, 1), (90, .getfield 79, 3), (93, .iconst 1, 1), (94, .bastore, 1), (95, .goto 54, 3), (98, .aload_n 1, 1), (99, .iload 4, 2), (101, .baload, 1), (102, .invokestatic 82, 3), (105, .ifCond .eq 12, 3), (108, .aload_n 0, 1), (109, .getfield 79, 3), (112, .bipush 30, 2), (114, .if_icmp .ne 12, 3), (117, .new 61, 3), (120, .dup, 1), (121, .iload_n 2, 1), (122, .invokespecial 63, 3), (125, .athrow, 1), (126, .aload_n 0, 1), (127, .getfield 37, 3), (130, .aload_n 0, 1), (131, .getfield 79, 3), (134, .aload_n 1, 1), (135, .iload 4, 2), (137, .baload, 1), (138, .bastore, 1), (139, .aload_n 0, 1), (140, .dup, 1), (141, .getfield 79, 3), (144, .iconst 1, 1), (145, .iadd, 1), (146, .putfield 79, 3), (149, .iinc 4 1, 3), (152, .goto (-118), 3), (155, .aload_n 0, 1), (156, .getfield 79, 3), (159, .ifCond .ne 12, 3), (162, .new 61, 3), (165, .dup, 1), (166, .iload_n 2, 1), (167, .invokespecial 63, 3), (170, .athrow, 1), (171, .iconst 0, 1), (172, .istore 4, 2), (174, .iload 4, 2), (176, .aload_n 0, 1), (177, .getfield 49, 3), (180, .if_icmp .ge 46, 3), (183, .aload_n 0, 1), (184, .getfield 27, 3), (187, .bipush 30, 2), (189, .iload 4, 2), (191, .imul, 1), (192, .bipush 30, 2), (194, .iload 4, 2), (196, .imul, 1), (197, .aload_n 0, 1), (198, .getfield 30, 3), (201, .iload 4, 2), (203, .iaload, 1), (204, .iadd, 1), (205, .aload_n 0, 1), (206, .getfield 37, 3), (209, .iconst 0, 1), (210, .aload_n 0, 1), (211, .getfield 79, 3), (214, .invokestatic 85, 3), (217, .ifCond .ne 9, 3), (220, .iinc 4 1, 3), (223, .goto (-49), 3), (226, .iload 4, 2), (228, .bipush 60, 2), (230, .if_icmp .ne 12, 3), (233, .new 61, 3), (236, .dup, 1), (237, .iload_n 2, 1), (238, .invokespecial 63, 3), (241, .athrow, 1), (242, .aload_n 0, 1), (243, .iload 4, 2), (245, .aload_n 0, 1), (246, .getfield 49, 3), (249, .if_icmp .ne 10, 3), (252, .iload 4, 2), (254, .iconst 1, 1), (255, .iadd, 1), (256, .goto 7, 3), (259, .aload_n 0, 1), (260, .getfield 49, 3), (263, .putfield 49, 3), (266, .aload_n 0, 1), (267, .getfield 30, 3), (270, .iload 4, 2), (272, .aload_n 0, 1), (273, .getfield 79, 3), (276, .iastore, 1), (277, .iconst 0, 1), (278, .istore 5, 2), (280, .iload 5, 2), (282, .aload_n 0, 1), (283, .getfield 79, 3), (286, .if_icmp .ge 29, 3), (289, .aload_n 0, 1), (290, .getfield 27, 3), (293, .bipush 30, 2), (295, .iload 4, 2), (297, .imul, 1), (298, .iload 5, 2), (300, .iadd, 1), (301, .aload_n 0, 1), (302, .getfield 37, 3), (305, .iload 5, 2), (307, .baload, 1), (308, .bastore, 1), (309, .iinc 5 1, 3), (312, .goto (-32), 3), (315, .iconst 0, 1), (316, .istore 5, 2), (318, .iload 5, 2), (320, .bipush 30, 2), (322, .if_icmp .gt 29, 3), (325, .aload_n 0, 1), (326, .getfield 33, 3), (329, .bipush 31, 2), (331, .iload 4, 2), (333, .imul, 1), (334, .iload 5, 2), (336, .iadd, 1), (337, .aload_n 0, 1), (338, .getfield 43, 3), (341, .iload 5, 2), (343, .baload, 1), (344, .bastore, 1), (345, .iinc 5 1, 3), (348, .goto (-30), 3), (351, .return_, 1)]
theorem t_X21_exception : ∀ q ∈ k_X21_exception, decode cX21_exception q.1 = .ok q.2 := dl_all (by decide +kernel)
noncomputable def m_X21_exception_l8 (a0 x4_8 : Int) (h_8 : Hp) : Option ((Int × Hp) ⊕ ((Hp))) :=
  if 64 ≤ x4_8 then (some (.inr h_8))
  else (gd (h_8 (h_8 a0 13) (-2) % 16 = 3 ∧ (0 : Int) ≤ x4_8 ∧ x4_8 < h_8 (h_8 a0 13) (-1)) (pt h_8 (h_8 a0 13) x4_8 0 fun h22 =>
  lt_ (w32 (x4_8 + 1)) fun x4_23 =>
  some (.inl (x4_23, h22))))
noncomputable def m_X21_exception_j149 (x4_34 : Int) (h_149 : Hp) : Option ((Int × Hp) ⊕ ((Hp) ⊕ (((Int × Int) × Hp)))) :=
  lt_ (w32 (x4_34 + 1)) fun x4_149 =>
  some (.inl (x4_149, h_149))
noncomputable def m_X21_exception_l34 (a0 a1 a2 a3 x4_34 : Int) (h_34 : Hp) : Option ((Int × Hp) ⊕ ((Hp) ⊕ (((Int × Int) × Hp)))) :=
  if a3 ≤ x4_34 then (some (.inr (.inl h_34)))
  else (gd (h_34 a1 (-2) % 16 = 2 ∧ (0 : Int) ≤ x4_34 ∧ x4_34 < h_34 a1 (-1)) (if (h_34 a1 x4_34) ≠ 45 then ((m_X18_isSmall (h_34 a1 x4_34)).bind fun v102 =>
  if v102 = 0 then (al h_34 448 7 fun a117 h117 =>
  (x_broken a117 a2 h117).bind fun h122 =>
  some (.inr (.inr ((1, a117), h122))))
  else (if (h_34 a0 12) ≠ 30 then (gd (h_34 (h_34 a0 10) (-2) % 16 = 2 ∧ (0 : Int) ≤ (h_34 a0 12) ∧ (h_34 a0 12) < h_34 (h_34 a0 10) (-1)) (pt h_34 (h_34 a0 10) (h_34 a0 12) (h_34 a1 x4_34) fun h138 =>
  pt h138 a0 12 (w32 ((h138 a0 12) + 1)) fun h146 =>
  m_X21_exception_j149 x4_34 h146))
  else (al h_34 448 7 fun a117_1 h117_1 =>
  (x_broken a117_1 a2 h117_1).bind fun h122_1 =>
  some (.inr (.inr ((1, a117_1), h122_1))))))
  else (if (h_34 a0 12) = 0 then (al h_34 448 7 fun a76 h76 =>
  (x_broken a76 a2 h76).bind fun h81 =>
  some (.inr (.inr ((1, a76), h81))))
  else (gd (h_34 (h_34 a0 13) (-2) % 16 = 3 ∧ (0 : Int) ≤ (h_34 a0 12) ∧ (h_34 a0 12) < h_34 (h_34 a0 13) (-1)) (if (h_34 (h_34 a0 13) (h_34 a0 12)) ≠ 0 then (al h_34 448 7 fun a76_1 h76_1 =>
  (x_broken a76_1 a2 h76_1).bind fun h81_1 =>
  some (.inr (.inr ((1, a76_1), h81_1))))
  else (if (w32 (x4_34 + 1)) ≠ a3 then (pt h_34 (h_34 a0 13) (h_34 a0 12) 1 fun h94 =>
  m_X21_exception_j149 x4_34 h94)
  else (al h_34 448 7 fun a76_2 h76_2 =>
  (x_broken a76_2 a2 h76_2).bind fun h81_2 =>
  some (.inr (.inr ((1, a76_2), h81_2))))))))))
noncomputable def m_X21_exception_l174 (a0 x4_174 : Int) (h_155 : Hp) : Option ((Int) ⊕ ((Int))) :=
  if (h_155 a0 3) ≤ x4_174 then (some (.inr x4_174))
  else (gd (h_155 (h_155 a0 8) (-2) % 16 = 1 ∧ (0 : Int) ≤ x4_174 ∧ x4_174 < h_155 (h_155 a0 8) (-1)) ((m_X18_same (h_155 a0 7) (w32 (30 * x4_174)) (w32 ((w32 (30 * x4_174)) + (h_155 (h_155 a0 8) x4_174))) (h_155 a0 10) 0 (h_155 a0 12) h_155).bind fun v214 =>
  if v214 ≠ 0 then (some (.inr x4_174))
  else (lt_ (w32 (x4_174 + 1)) fun x4_220 =>
  some (.inl x4_220))))
noncomputable def m_X21_exception_l280 (a0 x4_226 x5_280 : Int) (h_280 : Hp) : Option ((Int × Hp) ⊕ ((Hp))) :=
  if (h_280 a0 12) ≤ x5_280 then (some (.inr h_280))
  else (gd (h_280 (h_280 a0 10) (-2) % 16 = 2 ∧ (0 : Int) ≤ x5_280 ∧ x5_280 < h_280 (h_280 a0 10) (-1)) (gd (h_280 (h_280 a0 7) (-2) % 16 = 2 ∧ (0 : Int) ≤ (w32 ((w32 (30 * x4_226)) + x5_280)) ∧ (w32 ((w32 (30 * x4_226)) + x5_280)) < h_280 (h_280 a0 7) (-1)) (pt h_280 (h_280 a0 7) (w32 ((w32 (30 * x4_226)) + x5_280)) (h_280 (h_280 a0 10) x5_280) fun h308 =>
  lt_ (w32 (x5_280 + 1)) fun x5_309 =>
  some (.inl (x5_309, h308)))))
noncomputable def m_X21_exception_l318 (a0 x4_226 x5_318 : Int) (h_318 : Hp) : Option ((Int × Hp) ⊕ (((Int × Int) × Hp))) :=
  if 30 < x5_318 then (some (.inr ((0, 0), h_318)))
  else (gd (h_318 (h_318 a0 13) (-2) % 16 = 3 ∧ (0 : Int) ≤ x5_318 ∧ x5_318 < h_318 (h_318 a0 13) (-1)) (gd (h_318 (h_318 a0 9) (-2) % 16 = 3 ∧ (0 : Int) ≤ (w32 ((w32 (31 * x4_226)) + x5_318)) ∧ (w32 ((w32 (31 * x4_226)) + x5_318)) < h_318 (h_318 a0 9) (-1)) (pt h_318 (h_318 a0 9) (w32 ((w32 (31 * x4_226)) + x5_318)) (h_318 (h_318 a0 13) x5_318) fun h344 =>
  lt_ (w32 (x5_318 + 1)) fun x5_345 =>
  some (.inl (x5_345, h344)))))
noncomputable def m_X21_exception_j263 (a0 x4_226 s1_263 : Int) (h_155 : Hp) : Option ((Int × Int) × Hp) :=
  pt h_155 a0 3 s1_263 fun h263 =>
  gd (h263 (h263 a0 8) (-2) % 16 = 1 ∧ (0 : Int) ≤ x4_226 ∧ x4_226 < h263 (h263 a0 8) (-1)) (pt h263 (h263 a0 8) x4_226 (h263 a0 12) fun h276 =>
  lt_ 0 fun x5_278 =>
  (lp (fun (q : Int × Hp) => m_X21_exception_l280 a0 x4_226 q.1 q.2) (x5_278, h276)).bind (fun (y315 : Hp) => lt_ 0 fun x5_316 =>
  (lp (fun (q : Int × Hp) => m_X21_exception_l318 a0 x4_226 q.1 q.2) (x5_316, y315)).bind (fun (x : (Int × Int) × Hp) => some x)))
noncomputable def m_X21_exception (a0 a1 a2 a3 : Int) (h : Hp) : Option ((Int × Int) × Hp) :=
  pt h a0 12 0 fun h2 =>
  lt_ 0 fun x4_6 =>
  (lp (fun (q : Int × Hp) => m_X21_exception_l8 a0 q.1 q.2) (x4_6, h2)).bind (fun (y29 : Hp) => lt_ (w32 (a2 + 1)) fun x4_32 =>
  (lp (fun (q : Int × Hp) => m_X21_exception_l34 a0 a1 a2 a3 q.1 q.2) (x4_32, y29)).bind (sE (fun (y155 : Hp) => if (y155 a0 12) ≠ 0 then (lt_ 0 fun x4_172 =>
  (lp (fun (q : Int) => m_X21_exception_l174 a0 q y155) x4_172).bind (fun (y226 : Int) => if y226 ≠ 60 then (if y226 ≠ (y155 a0 3) then (m_X21_exception_j263 a0 y226 (y155 a0 3) y155)
  else (m_X21_exception_j263 a0 y226 (w32 (y226 + 1)) y155))
  else (al y155 448 7 fun a233 h233 =>
  (x_broken a233 a2 h233).bind fun h238 =>
  some ((1, a233), h238))))
  else (al y155 448 7 fun a162 h162 =>
  (x_broken a162 a2 h162).bind fun h167 =>
  some ((1, a162), h167))) (fun (x : (Int × Int) × Hp) => some x)))
theorem s_X21_exception {l : Launch} [NoTr l] {D : SD} {a0 a1 a2 a3 : Int} {h : Hp} (hk : h a0 (-2) = 352) (r2 : r32 a2) (r3 : r32 a3) {r : (Int × Int) × Hp} (hm : m_X21_exception a0 a1 a2 a3 h = some r) : Sim l D yX21_exception (Cond.code yX21_exception cX21_exception 6 (Option.none : Option Jvm.ClassFile.FieldType)) 9 337 [rv D a0, rv D a1, iv a2, iv a3] h 0 r := by
  refine Sim.of (fin := fun (v : (Int × Int) × Hp) => v) (lsE := [(0, rv D a0), (1, rv D a1), (2, iv a2), (3, iv a3)]) hm rfl cwS_code (la_r (la_r (la_i (la_i la_n)))) (ll_r (ll_r (ll_i (ll_i ll_n)))) ?_
  intro p e s m below meth c X hcw hmm hcc hnm hname
  have hno := noh hcw hnm hmm hcc
  unfold m_X21_exception
  refine g_aload_n (pc := 0) X (j := 0) (i := 0) (q := 0) (x := a0) rfl rfl (dl_at t_X21_exception 0 rfl) ?_
  refine g_iconst (pc := 1) X (n := 0) (dl_at t_X21_exception 1 rfl) ?_
  refine r_puti (pc := 2) X fX21_12 hk q3359 rfl (dl_at t_X21_exception 2 rfl) (r32_c rfl) (fun h2 E2 => ?_)
  refine g_iconst (pc := 5) X (n := 0) (dl_at t_X21_exception 3 rfl) ?_
  refine g_ltz (Or.inl rfl) fun x4_6 r4_6 => ?_
  refine g_istoreN (pc := 6) X (i := 4) (x := x4_6) (b := 3) (w := iv a3) (rest := [(0, rv D a0), (1, rv D a1), (2, iv a2)]) (Nat.le_of_ble_eq_true rfl) [3, 0, 1, 2] rfl (by decide) rfl rfl (dl_at t_X21_exception 4 rfl) ?_
  refine g_ls (ls2 := [(0, rv D a0), (1, rv D a1), (2, iv a2), (3, iv a3), (4, iv x4_6)]) [2, 3, 4, 1, 0] rfl ?_
  refine g_loop1 (fun (q : Int × Hp) => [(0, rv D a0), (1, rv D a1), (2, iv a2), (3, iv a3), (4, iv q.1)]) (fun (q : Int × Hp) => q.2) (fun (q : Int × Hp) => r32 q.1 ∧ Ext h2 q.2) 29 (fun (y29 : Hp) => [(0, rv D a0), (1, rv D a1), (2, iv a2), (3, iv a3)]) (fun (y29 : Hp) => y29) (fun (y29 : Hp) => Ext h2 y29) (x4_6, h2) ⟨(r32_z r4_6), (Ext.refl _)⟩ ?_ ?_
  · rintro ⟨x4_8, h_8⟩ ⟨r4_8, E_8⟩
    try dsimp only
    unfold m_X21_exception_l8
    refine g_iload (pc := 8) X (i := 4) (q := 4) (x := x4_8) rfl (dl_at t_X21_exception 5 rfl) ?_
    refine g_bipush (pc := 10) X (n := 64) rfl (dl_at t_X21_exception 6 rfl) ?_
    refine g_icmpge (pc := 12) X r4_8 (r32_c rfl) (off := 17) (tgt := 29) rfl (dl_at t_X21_exception 7 rfl) (fun _ => ?_) (fun _ => ?_)
    · refine g_ls (ls2 := [(0, rv D a0), (1, rv D a1), (2, iv a2), (3, iv a3)]) [0, 1, 2, 3] rfl ?_
      exact g_at fun Q hQ => hQ E_8
    refine g_aload_n (pc := 15) X (j := 0) (i := 0) (q := 0) (x := a0) rfl rfl (dl_at t_X21_exception 8 rfl) ?_
    have k16 := kx (E2.trans E_8) (by decide) hk
    refine r_getr (pc := 16) X fX21_13 k16 q3360 (dl_at t_X21_exception 9 rfl) ?_
    refine g_iload (pc := 19) X (i := 4) (q := 4) (x := x4_8) rfl (dl_at t_X21_exception 10 rfl) ?_
    refine g_iconst (pc := 21) X (n := 0) (dl_at t_X21_exception 11 rfl) ?_
    refine g_gd fun k22 => ?_
    refine r_zast (pc := 22) X r4_8 (Or.inl rfl) k22 (dl_at t_X21_exception 12 rfl) (fun h22 E22 => ?_)
    refine r_iincN (pc := 23) X (i := 4) (q := 4) (n := 1) (x := x4_8) (b := 3) (w := iv a3) (rest := [(0, rv D a0), (1, rv D a1), (2, iv a2)]) rfl r4_8 (r32_c rfl) (Nat.le_of_ble_eq_true rfl) [3, 0, 1, 2] rfl (by decide) rfl rfl (dl_at t_X21_exception 13 rfl) fun x4_23 r4_23 => ?_
    refine g_goto (pc := 26) X (off := (-18)) (tgt := 8) rfl (dl_at t_X21_exception 14 rfl) ?_
    refine g_ls (ls2 := [(0, rv D a0), (1, rv D a1), (2, iv a2), (3, iv a3), (4, iv x4_23)]) [2, 3, 4, 1, 0] rfl ?_
    exact g_at fun Q hQ => hQ ⟨r4_23, (E_8.trans E22)⟩
  · rintro h_29 E_29
    try dsimp only [sE]
    refine g_iload_n (pc := 29) X (j := 2) (i := 2) (q := 2) (x := a2) rfl rfl (dl_at t_X21_exception 15 rfl) ?_
    refine g_iconst (pc := 30) X (n := 1) (dl_at t_X21_exception 16 rfl) ?_
    refine g_iadd (pc := 31) X r2 (r32_c rfl) (dl_at t_X21_exception 17 rfl) ?_
    refine g_lti (r32_w _) fun x4_32 r4_32 => ?_
    refine g_istoreN (pc := 32) X (i := 4) (x := x4_32) (b := 3) (w := iv a3) (rest := [(0, rv D a0), (1, rv D a1), (2, iv a2)]) (Nat.le_of_ble_eq_true rfl) [3, 0, 1, 2] rfl (by decide) rfl rfl (dl_at t_X21_exception 18 rfl) ?_
    refine g_ls (ls2 := [(0, rv D a0), (1, rv D a1), (2, iv a2), (3, iv a3), (4, iv x4_32)]) [2, 3, 4, 1, 0] rfl ?_
    refine g_loop1F (fun (q : Int × Hp) => [(0, rv D a0), (1, rv D a1), (2, iv a2), (3, iv a3), (4, iv q.1)]) (fun (q : Int × Hp) => q.2) (fun (q : Int × Hp) => r32 q.1 ∧ Ext h_29 q.2) 155 (fun (y155 : Hp) => [(0, rv D a0), (2, iv a2)]) (fun (y155 : Hp) => y155) (fun (y155 : Hp) => Ext h_29 y155) (x4_32, h_29) ⟨r4_32, (Ext.refl _)⟩ ?_ ?_ (fun _ => rfl)
    · rintro ⟨x4_34, h_34⟩ ⟨r4_34, E_34⟩
      try dsimp only
      unfold m_X21_exception_l34
      refine g_iload (pc := 34) X (i := 4) (q := 4) (x := x4_34) rfl (dl_at t_X21_exception 19 rfl) ?_
      refine g_iload_n (pc := 36) X (j := 3) (i := 3) (q := 3) (x := a3) rfl rfl (dl_at t_X21_exception 20 rfl) ?_
      refine g_icmpge (pc := 37) X r4_34 r3 (off := 118) (tgt := 155) rfl (dl_at t_X21_exception 21 rfl) (fun _ => ?_) (fun _ => ?_)
      · refine g_ls (ls2 := [(0, rv D a0), (2, iv a2)]) [0, 2] rfl ?_
        exact g_at fun Q hQ => hQ E_34
      refine g_aload_n (pc := 40) X (j := 1) (i := 1) (q := 1) (x := a1) rfl rfl (dl_at t_X21_exception 22 rfl) ?_
      refine g_iload (pc := 41) X (i := 4) (q := 4) (x := x4_34) rfl (dl_at t_X21_exception 23 rfl) ?_
      refine g_gd fun k43 => ?_
      refine g_bald (pc := 43) X r4_34 k43 (dl_at t_X21_exception 24 rfl) fun g43 => ?_
      refine g_bipush (pc := 44) X (n := 45) rfl (dl_at t_X21_exception 25 rfl) ?_
      refine g_join (γ := Hp) (fun q => Ext h_34 q) 149 (fun q => [(0, rv D a0), (1, rv D a1), (2, iv a2), (3, iv a3), (4, iv x4_34)]) (fun q => []) (fun q => q) (fun q => m_X21_exception_j149 x4_34 q) ?_ ?_
      · rintro h_149 E_149
        try dsimp only
        unfold m_X21_exception_j149
        refine r_iincN (pc := 149) X (i := 4) (q := 4) (n := 1) (x := x4_34) (b := 3) (w := iv a3) (rest := [(0, rv D a0), (1, rv D a1), (2, iv a2)]) rfl r4_34 (r32_c rfl) (Nat.le_of_ble_eq_true rfl) [3, 0, 1, 2] rfl (by decide) rfl rfl (dl_at t_X21_exception 81 rfl) fun x4_149 r4_149 => ?_
        refine g_goto (pc := 152) X (off := (-118)) (tgt := 34) rfl (dl_at t_X21_exception 82 rfl) ?_
        refine g_ls (ls2 := [(0, rv D a0), (1, rv D a1), (2, iv a2), (3, iv a3), (4, iv x4_149)]) [2, 3, 4, 1, 0] rfl ?_
        exact g_at fun Q hQ => hQ ⟨r4_149, (E_34.trans E_149)⟩
      intro J149
      refine g_icmpne (pc := 46) X (r32_b g43) (r32_c rfl) (off := 52) (tgt := 98) rfl (dl_at t_X21_exception 26 rfl) (fun _ => ?_) (fun _ => ?_)
      · refine g_aload_n (pc := 98) X (j := 1) (i := 1) (q := 1) (x := a1) rfl rfl (dl_at t_X21_exception 53 rfl) ?_
        refine g_iload (pc := 99) X (i := 4) (q := 4) (x := x4_34) rfl (dl_at t_X21_exception 54 rfl) ?_
        refine g_bald (pc := 101) X r4_34 k43 (dl_at t_X21_exception 55 rfl) fun g101 => ?_
        refine r_callRz (pc := 102) X (fun _ hv => s_X18_isSmall (r32_b g101) hv) cw_code q4352 q372 (in_Sc X (As := [iv (h_34 a1 x4_34)]) (Or.inr ⟨_, nw_in q4461 rfl⟩) q4351 q372 q4352 ⟨by decide, by decide⟩ rfl (dl_at t_X21_exception 56 rfl)) (dl_at t_X21_exception 56 rfl) (cat24 (st := []) (Nat.le_of_ble_eq_true rfl)) (Nat.le_of_ble_eq_true rfl) (Nat.le_of_ble_eq_true rfl) fun v102 g102 => ?_
        refine g_ifeq (pc := 105) X (r32_z g102) (off := 12) (tgt := 117) rfl (dl_at t_X21_exception 57 rfl) (fun _ => ?_) (fun _ => ?_)
        · refine r_new (pc := 117) X kX27 q4453 (dl_at t_X21_exception 62 rfl) fun a117 h117 p117 k117 E117 => ?_
          refine g_dup (pc := 120) X rv_cat (dl_at t_X21_exception 63 rfl) ?_
          refine g_iload_n (pc := 121) X (j := 2) (i := 2) (q := 2) (x := a2) rfl rfl (dl_at t_X21_exception 64 rfl) ?_
          refine r_callV (pc := 122) X (fun _ hv => sx_ScholarsPressModel_Broken_init_I_V k117 r2 hv) cw_code q4398 q392 (in_I X (As := [iv a2]) (Int.ne_of_gt p117) rfl (Or.inl q4454) q4397 q4398 ⟨by decide, by decide⟩ rfl (dl_at t_X21_exception 65 rfl)) (dl_at t_X21_exception 65 rfl) (cat24 (st := [rv D a117]) (Nat.le_of_ble_eq_true rfl)) (Nat.le_of_ble_eq_true rfl) (Nat.le_of_ble_eq_true rfl) fun h122 E122 => ?_
          refine g_athrow (pc := 125) X (Int.ne_of_gt p117) (dl_at t_X21_exception 66 rfl) ?_
          exact gt_at fun Q hQ => gt_out (Q := Q) X rfl p117 (hno _) _ Q rfl hQ
        refine g_aload_n (pc := 108) X (j := 0) (i := 0) (q := 0) (x := a0) rfl rfl (dl_at t_X21_exception 58 rfl) ?_
        have k109 := kx (E2.trans (E_29.trans E_34)) (by decide) hk
        refine r_geti (pc := 109) X fX21_12 k109 q3359 (dl_at t_X21_exception 59 rfl) fun g109 => ?_
        refine g_bipush (pc := 112) X (n := 30) rfl (dl_at t_X21_exception 60 rfl) ?_
        refine g_icmpne (pc := 114) X g109 (r32_c rfl) (off := 12) (tgt := 126) rfl (dl_at t_X21_exception 61 rfl) (fun _ => ?_) (fun _ => ?_)
        · refine g_aload_n (pc := 126) X (j := 0) (i := 0) (q := 0) (x := a0) rfl rfl (dl_at t_X21_exception 67 rfl) ?_
          refine r_getr (pc := 127) X fX21_10 k109 q3357 (dl_at t_X21_exception 68 rfl) ?_
          refine g_aload_n (pc := 130) X (j := 0) (i := 0) (q := 0) (x := a0) rfl rfl (dl_at t_X21_exception 69 rfl) ?_
          refine r_geti (pc := 131) X fX21_12 k109 q3359 (dl_at t_X21_exception 70 rfl) fun g131 => ?_
          refine g_aload_n (pc := 134) X (j := 1) (i := 1) (q := 1) (x := a1) rfl rfl (dl_at t_X21_exception 71 rfl) ?_
          refine g_iload (pc := 135) X (i := 4) (q := 4) (x := x4_34) rfl (dl_at t_X21_exception 72 rfl) ?_
          refine g_bald (pc := 137) X r4_34 k43 (dl_at t_X21_exception 73 rfl) fun g137 => ?_
          refine g_gd fun k138 => ?_
          refine r_bastB (pc := 138) X g131 g137 k138 (dl_at t_X21_exception 74 rfl) (fun h138 E138 => ?_)
          refine g_aload_n (pc := 139) X (j := 0) (i := 0) (q := 0) (x := a0) rfl rfl (dl_at t_X21_exception 75 rfl) ?_
          refine g_dup (pc := 140) X rv_cat (dl_at t_X21_exception 76 rfl) ?_
          have k141 := kx E138 (by decide) k109
          refine r_geti (pc := 141) X fX21_12 k141 q3359 (dl_at t_X21_exception 77 rfl) fun g141 => ?_
          refine g_iconst (pc := 144) X (n := 1) (dl_at t_X21_exception 78 rfl) ?_
          refine g_iadd (pc := 145) X g141 (r32_c rfl) (dl_at t_X21_exception 79 rfl) ?_
          refine r_puti (pc := 146) X fX21_12 k141 q3359 rfl (dl_at t_X21_exception 80 rfl) (r32_w _) (fun h146 E146 => ?_)
          exact J149 h146 (E138.trans E146)
        refine r_new (pc := 117) X kX27 q4453 (dl_at t_X21_exception 62 rfl) fun a117_1 h117_1 p117_1 k117_1 E117_1 => ?_
        refine g_dup (pc := 120) X rv_cat (dl_at t_X21_exception 63 rfl) ?_
        refine g_iload_n (pc := 121) X (j := 2) (i := 2) (q := 2) (x := a2) rfl rfl (dl_at t_X21_exception 64 rfl) ?_
        refine r_callV (pc := 122) X (fun _ hv => sx_ScholarsPressModel_Broken_init_I_V k117_1 r2 hv) cw_code q4398 q392 (in_I X (As := [iv a2]) (Int.ne_of_gt p117_1) rfl (Or.inl q4454) q4397 q4398 ⟨by decide, by decide⟩ rfl (dl_at t_X21_exception 65 rfl)) (dl_at t_X21_exception 65 rfl) (cat24 (st := [rv D a117_1]) (Nat.le_of_ble_eq_true rfl)) (Nat.le_of_ble_eq_true rfl) (Nat.le_of_ble_eq_true rfl) fun h122_1 E122_1 => ?_
        refine g_athrow (pc := 125) X (Int.ne_of_gt p117_1) (dl_at t_X21_exception 66 rfl) ?_
        exact gt_at fun Q hQ => gt_out (Q := Q) X rfl p117_1 (hno _) _ Q rfl hQ
      refine g_aload_n (pc := 49) X (j := 0) (i := 0) (q := 0) (x := a0) rfl rfl (dl_at t_X21_exception 27 rfl) ?_
      have k50 := kx (E2.trans (E_29.trans E_34)) (by decide) hk
      refine r_geti (pc := 50) X fX21_12 k50 q3359 (dl_at t_X21_exception 28 rfl) fun g50 => ?_
      refine g_ifeq (pc := 53) X g50 (off := 23) (tgt := 76) rfl (dl_at t_X21_exception 29 rfl) (fun _ => ?_) (fun _ => ?_)
      · refine r_new (pc := 76) X kX27 q4453 (dl_at t_X21_exception 41 rfl) fun a76 h76 p76 k76 E76 => ?_
        refine g_dup (pc := 79) X rv_cat (dl_at t_X21_exception 42 rfl) ?_
        refine g_iload_n (pc := 80) X (j := 2) (i := 2) (q := 2) (x := a2) rfl rfl (dl_at t_X21_exception 43 rfl) ?_
        refine r_callV (pc := 81) X (fun _ hv => sx_ScholarsPressModel_Broken_init_I_V k76 r2 hv) cw_code q4398 q392 (in_I X (As := [iv a2]) (Int.ne_of_gt p76) rfl (Or.inl q4454) q4397 q4398 ⟨by decide, by decide⟩ rfl (dl_at t_X21_exception 44 rfl)) (dl_at t_X21_exception 44 rfl) (cat24 (st := [rv D a76]) (Nat.le_of_ble_eq_true rfl)) (Nat.le_of_ble_eq_true rfl) (Nat.le_of_ble_eq_true rfl) fun h81 E81 => ?_
        refine g_athrow (pc := 84) X (Int.ne_of_gt p76) (dl_at t_X21_exception 45 rfl) ?_
        exact gt_at fun Q hQ => gt_out (Q := Q) X rfl p76 (hno _) _ Q rfl hQ
      refine g_aload_n (pc := 56) X (j := 0) (i := 0) (q := 0) (x := a0) rfl rfl (dl_at t_X21_exception 30 rfl) ?_
      refine r_getr (pc := 57) X fX21_13 k50 q3360 (dl_at t_X21_exception 31 rfl) ?_
      refine g_aload_n (pc := 60) X (j := 0) (i := 0) (q := 0) (x := a0) rfl rfl (dl_at t_X21_exception 32 rfl) ?_
      refine r_geti (pc := 61) X fX21_12 k50 q3359 (dl_at t_X21_exception 33 rfl) fun g61 => ?_
      refine g_gd fun k64 => ?_
      refine g_zald (pc := 64) X g61 k64 (dl_at t_X21_exception 34 rfl) fun g64 => ?_
      refine g_ifne (pc := 65) X (r32_z g64) (off := 11) (tgt := 76) rfl (dl_at t_X21_exception 35 rfl) (fun _ => ?_) (fun _ => ?_)
      · refine r_new (pc := 76) X kX27 q4453 (dl_at t_X21_exception 41 rfl) fun a76_1 h76_1 p76_1 k76_1 E76_1 => ?_
        refine g_dup (pc := 79) X rv_cat (dl_at t_X21_exception 42 rfl) ?_
        refine g_iload_n (pc := 80) X (j := 2) (i := 2) (q := 2) (x := a2) rfl rfl (dl_at t_X21_exception 43 rfl) ?_
        refine r_callV (pc := 81) X (fun _ hv => sx_ScholarsPressModel_Broken_init_I_V k76_1 r2 hv) cw_code q4398 q392 (in_I X (As := [iv a2]) (Int.ne_of_gt p76_1) rfl (Or.inl q4454) q4397 q4398 ⟨by decide, by decide⟩ rfl (dl_at t_X21_exception 44 rfl)) (dl_at t_X21_exception 44 rfl) (cat24 (st := [rv D a76_1]) (Nat.le_of_ble_eq_true rfl)) (Nat.le_of_ble_eq_true rfl) (Nat.le_of_ble_eq_true rfl) fun h81_1 E81_1 => ?_
        refine g_athrow (pc := 84) X (Int.ne_of_gt p76_1) (dl_at t_X21_exception 45 rfl) ?_
        exact gt_at fun Q hQ => gt_out (Q := Q) X rfl p76_1 (hno _) _ Q rfl hQ
      refine g_iload (pc := 68) X (i := 4) (q := 4) (x := x4_34) rfl (dl_at t_X21_exception 36 rfl) ?_
      refine g_iconst (pc := 70) X (n := 1) (dl_at t_X21_exception 37 rfl) ?_
      refine g_iadd (pc := 71) X r4_34 (r32_c rfl) (dl_at t_X21_exception 38 rfl) ?_
      refine g_iload_n (pc := 72) X (j := 3) (i := 3) (q := 3) (x := a3) rfl rfl (dl_at t_X21_exception 39 rfl) ?_
      refine g_icmpne (pc := 73) X (r32_w _) r3 (off := 12) (tgt := 85) rfl (dl_at t_X21_exception 40 rfl) (fun _ => ?_) (fun _ => ?_)
      · refine g_aload_n (pc := 85) X (j := 0) (i := 0) (q := 0) (x := a0) rfl rfl (dl_at t_X21_exception 46 rfl) ?_
        refine r_getr (pc := 86) X fX21_13 k50 q3360 (dl_at t_X21_exception 47 rfl) ?_
        refine g_aload_n (pc := 89) X (j := 0) (i := 0) (q := 0) (x := a0) rfl rfl (dl_at t_X21_exception 48 rfl) ?_
        refine r_geti (pc := 90) X fX21_12 k50 q3359 (dl_at t_X21_exception 49 rfl) fun g90 => ?_
        refine g_iconst (pc := 93) X (n := 1) (dl_at t_X21_exception 50 rfl) ?_
        refine r_zast (pc := 94) X g90 (Or.inr rfl) k64 (dl_at t_X21_exception 51 rfl) (fun h94 E94 => ?_)
        refine g_goto (pc := 95) X (off := 54) (tgt := 149) rfl (dl_at t_X21_exception 52 rfl) ?_
        exact J149 h94 E94
      refine r_new (pc := 76) X kX27 q4453 (dl_at t_X21_exception 41 rfl) fun a76_2 h76_2 p76_2 k76_2 E76_2 => ?_
      refine g_dup (pc := 79) X rv_cat (dl_at t_X21_exception 42 rfl) ?_
      refine g_iload_n (pc := 80) X (j := 2) (i := 2) (q := 2) (x := a2) rfl rfl (dl_at t_X21_exception 43 rfl) ?_
      refine r_callV (pc := 81) X (fun _ hv => sx_ScholarsPressModel_Broken_init_I_V k76_2 r2 hv) cw_code q4398 q392 (in_I X (As := [iv a2]) (Int.ne_of_gt p76_2) rfl (Or.inl q4454) q4397 q4398 ⟨by decide, by decide⟩ rfl (dl_at t_X21_exception 44 rfl)) (dl_at t_X21_exception 44 rfl) (cat24 (st := [rv D a76_2]) (Nat.le_of_ble_eq_true rfl)) (Nat.le_of_ble_eq_true rfl) (Nat.le_of_ble_eq_true rfl) fun h81_2 E81_2 => ?_
      refine g_athrow (pc := 84) X (Int.ne_of_gt p76_2) (dl_at t_X21_exception 45 rfl) ?_
      exact gt_at fun Q hQ => gt_out (Q := Q) X rfl p76_2 (hno _) _ Q rfl hQ
    · rintro h_155 E_155
      try dsimp only [sE]
      refine g_aload_n (pc := 155) X (j := 0) (i := 0) (q := 0) (x := a0) rfl rfl (dl_at t_X21_exception 83 rfl) ?_
      have k156 := kx (E2.trans (E_29.trans E_155)) (by decide) hk
      refine r_geti (pc := 156) X fX21_12 k156 q3359 (dl_at t_X21_exception 84 rfl) fun g156 => ?_
      refine g_ifne (pc := 159) X g156 (off := 12) (tgt := 171) rfl (dl_at t_X21_exception 85 rfl) (fun _ => ?_) (fun _ => ?_)
      · refine g_iconst (pc := 171) X (n := 0) (dl_at t_X21_exception 91 rfl) ?_
        refine g_ltz (Or.inl rfl) fun x4_172 r4_172 => ?_
        refine g_istore (pc := 172) X (i := 4) (x := x4_172) (rest := [(0, rv D a0), (2, iv a2)]) (Nat.le_of_ble_eq_true rfl) [0, 1] rfl rfl (dl_at t_X21_exception 92 rfl) ?_
        refine g_ls (ls2 := [(0, rv D a0), (2, iv a2), (4, iv x4_172)]) [1, 2, 0] rfl ?_
        refine g_loop1 (fun (q : Int) => [(0, rv D a0), (2, iv a2), (4, iv q)]) (fun (q : Int) => h_155) (fun (q : Int) => r32 q) 226 (fun (y226 : Int) => [(0, rv D a0), (2, iv a2), (4, iv y226)]) (fun (y226 : Int) => h_155) (fun (y226 : Int) => r32 y226) x4_172 (r32_z r4_172) ?_ ?_
        · rintro x4_174 r4_174
          try dsimp only
          unfold m_X21_exception_l174
          refine g_iload (pc := 174) X (i := 4) (q := 2) (x := x4_174) rfl (dl_at t_X21_exception 93 rfl) ?_
          refine g_aload_n (pc := 176) X (j := 0) (i := 0) (q := 0) (x := a0) rfl rfl (dl_at t_X21_exception 94 rfl) ?_
          refine r_geti (pc := 177) X fX21_3 k156 q3349 (dl_at t_X21_exception 95 rfl) fun g177 => ?_
          refine g_icmpge (pc := 180) X r4_174 g177 (off := 46) (tgt := 226) rfl (dl_at t_X21_exception 96 rfl) (fun _ => ?_) (fun _ => ?_)
          · exact g_at fun Q hQ => hQ r4_174
          refine g_aload_n (pc := 183) X (j := 0) (i := 0) (q := 0) (x := a0) rfl rfl (dl_at t_X21_exception 97 rfl) ?_
          refine r_getr (pc := 184) X fX21_7 k156 q3354 (dl_at t_X21_exception 98 rfl) ?_
          refine g_bipush (pc := 187) X (n := 30) rfl (dl_at t_X21_exception 99 rfl) ?_
          refine g_iload (pc := 189) X (i := 4) (q := 2) (x := x4_174) rfl (dl_at t_X21_exception 100 rfl) ?_
          refine g_imul (pc := 191) X (r32_c rfl) r4_174 (dl_at t_X21_exception 101 rfl) ?_
          refine g_bipush (pc := 192) X (n := 30) rfl (dl_at t_X21_exception 102 rfl) ?_
          refine g_iload (pc := 194) X (i := 4) (q := 2) (x := x4_174) rfl (dl_at t_X21_exception 103 rfl) ?_
          refine g_imul (pc := 196) X (r32_c rfl) r4_174 (dl_at t_X21_exception 104 rfl) ?_
          refine g_aload_n (pc := 197) X (j := 0) (i := 0) (q := 0) (x := a0) rfl rfl (dl_at t_X21_exception 105 rfl) ?_
          refine r_getr (pc := 198) X fX21_8 k156 q3355 (dl_at t_X21_exception 106 rfl) ?_
          refine g_iload (pc := 201) X (i := 4) (q := 2) (x := x4_174) rfl (dl_at t_X21_exception 107 rfl) ?_
          refine g_gd fun k203 => ?_
          refine g_iald (pc := 203) X r4_174 k203 (dl_at t_X21_exception 108 rfl) fun g203 => ?_
          refine g_iadd (pc := 204) X (r32_w _) g203 (dl_at t_X21_exception 109 rfl) ?_
          refine g_aload_n (pc := 205) X (j := 0) (i := 0) (q := 0) (x := a0) rfl rfl (dl_at t_X21_exception 110 rfl) ?_
          refine r_getr (pc := 206) X fX21_10 k156 q3357 (dl_at t_X21_exception 111 rfl) ?_
          refine g_iconst (pc := 209) X (n := 0) (dl_at t_X21_exception 112 rfl) ?_
          refine g_aload_n (pc := 210) X (j := 0) (i := 0) (q := 0) (x := a0) rfl rfl (dl_at t_X21_exception 113 rfl) ?_
          refine r_geti (pc := 211) X fX21_12 k156 q3359 (dl_at t_X21_exception 114 rfl) fun g211 => ?_
          refine r_callRz (pc := 214) X (fun _ hv => s_X18_same (r32_w _) (r32_w _) (r32_c rfl) g211 hv) cw_code q4464 q372 (in_Sc X (As := [rv D (h_155 a0 7), iv (w32 (30 * x4_174)), iv (w32 ((w32 (30 * x4_174)) + (h_155 (h_155 a0 8) x4_174))), rv D (h_155 a0 10), iv 0, iv (h_155 a0 12)]) (Or.inr ⟨_, nw_in q4462 rfl⟩) q4463 q372 q4464 ⟨by decide, by decide⟩ rfl (dl_at t_X21_exception 115 rfl)) (dl_at t_X21_exception 115 rfl) (cat24 (st := []) (Nat.le_of_ble_eq_true rfl)) (Nat.le_of_ble_eq_true rfl) (Nat.le_of_ble_eq_true rfl) fun v214 g214 => ?_
          refine g_ifne (pc := 217) X (r32_z g214) (off := 9) (tgt := 226) rfl (dl_at t_X21_exception 116 rfl) (fun _ => ?_) (fun _ => ?_)
          · exact g_at fun Q hQ => hQ r4_174
          refine r_iinc (pc := 220) X (i := 4) (q := 2) (n := 1) (x := x4_174) (rest := [(0, rv D a0), (2, iv a2)]) rfl r4_174 (r32_c rfl) (Nat.le_of_ble_eq_true rfl) [0, 1] rfl rfl (dl_at t_X21_exception 117 rfl) fun x4_220 r4_220 => ?_
          refine g_goto (pc := 223) X (off := (-49)) (tgt := 174) rfl (dl_at t_X21_exception 118 rfl) ?_
          refine g_ls (ls2 := [(0, rv D a0), (2, iv a2), (4, iv x4_220)]) [1, 2, 0] rfl ?_
          exact g_at fun Q hQ => hQ r4_220
        · rintro x4_226 r4_226
          try dsimp only [sE]
          refine g_iload (pc := 226) X (i := 4) (q := 2) (x := x4_226) rfl (dl_at t_X21_exception 119 rfl) ?_
          refine g_bipush (pc := 228) X (n := 60) rfl (dl_at t_X21_exception 120 rfl) ?_
          refine g_icmpne (pc := 230) X r4_226 (r32_c rfl) (off := 12) (tgt := 242) rfl (dl_at t_X21_exception 121 rfl) (fun _ => ?_) (fun _ => ?_)
          · refine g_aload_n (pc := 242) X (j := 0) (i := 0) (q := 0) (x := a0) rfl rfl (dl_at t_X21_exception 127 rfl) ?_
            refine g_iload (pc := 243) X (i := 4) (q := 2) (x := x4_226) rfl (dl_at t_X21_exception 128 rfl) ?_
            refine g_aload_n (pc := 245) X (j := 0) (i := 0) (q := 0) (x := a0) rfl rfl (dl_at t_X21_exception 129 rfl) ?_
            refine r_geti (pc := 246) X fX21_3 k156 q3349 (dl_at t_X21_exception 130 rfl) fun g246 => ?_
            refine g_join (γ := Int) (fun q => r32 q) 263 (fun q => [(0, rv D a0), (4, iv x4_226)]) (fun q => [iv q, rv D a0]) (fun q => h_155) (fun q => m_X21_exception_j263 a0 x4_226 q h_155) ?_ ?_
            · rintro s1_263 rs1_263
              try dsimp only
              unfold m_X21_exception_j263
              refine r_puti (pc := 263) X fX21_3 k156 q3349 rfl (dl_at t_X21_exception 138 rfl) rs1_263 (fun h263 E263 => ?_)
              refine g_aload_n (pc := 266) X (j := 0) (i := 0) (q := 0) (x := a0) rfl rfl (dl_at t_X21_exception 139 rfl) ?_
              have k267 := kx E263 (by decide) k156
              refine r_getr (pc := 267) X fX21_8 k267 q3355 (dl_at t_X21_exception 140 rfl) ?_
              refine g_iload (pc := 270) X (i := 4) (q := 1) (x := x4_226) rfl (dl_at t_X21_exception 141 rfl) ?_
              refine g_aload_n (pc := 272) X (j := 0) (i := 0) (q := 0) (x := a0) rfl rfl (dl_at t_X21_exception 142 rfl) ?_
              refine r_geti (pc := 273) X fX21_12 k267 q3359 (dl_at t_X21_exception 143 rfl) fun g273 => ?_
              refine g_gd fun k276 => ?_
              refine r_iast (pc := 276) X r4_226 g273 k276 (dl_at t_X21_exception 144 rfl) (fun h276 E276 => ?_)
              refine g_iconst (pc := 277) X (n := 0) (dl_at t_X21_exception 145 rfl) ?_
              refine g_ltz (Or.inl rfl) fun x5_278 r5_278 => ?_
              refine g_istoreN (pc := 278) X (i := 5) (x := x5_278) (b := 4) (w := iv x4_226) (rest := [(0, rv D a0)]) (Nat.le_of_ble_eq_true rfl) [1, 0] rfl (by decide) rfl rfl (dl_at t_X21_exception 146 rfl) ?_
              refine g_ls (ls2 := [(0, rv D a0), (4, iv x4_226), (5, iv x5_278)]) [2, 1, 0] rfl ?_
              refine g_loop1 (fun (q : Int × Hp) => [(0, rv D a0), (4, iv x4_226), (5, iv q.1)]) (fun (q : Int × Hp) => q.2) (fun (q : Int × Hp) => r32 q.1 ∧ Ext h276 q.2) 315 (fun (y315 : Hp) => [(0, rv D a0), (4, iv x4_226)]) (fun (y315 : Hp) => y315) (fun (y315 : Hp) => Ext h276 y315) (x5_278, h276) ⟨(r32_z r5_278), (Ext.refl _)⟩ ?_ ?_
              · rintro ⟨x5_280, h_280⟩ ⟨r5_280, E_280⟩
                try dsimp only
                unfold m_X21_exception_l280
                refine g_iload (pc := 280) X (i := 5) (q := 2) (x := x5_280) rfl (dl_at t_X21_exception 147 rfl) ?_
                refine g_aload_n (pc := 282) X (j := 0) (i := 0) (q := 0) (x := a0) rfl rfl (dl_at t_X21_exception 148 rfl) ?_
                have k283 := kx (E276.trans E_280) (by decide) k267
                refine r_geti (pc := 283) X fX21_12 k283 q3359 (dl_at t_X21_exception 149 rfl) fun g283 => ?_
                refine g_icmpge (pc := 286) X r5_280 g283 (off := 29) (tgt := 315) rfl (dl_at t_X21_exception 150 rfl) (fun _ => ?_) (fun _ => ?_)
                · refine g_ls (ls2 := [(0, rv D a0), (4, iv x4_226)]) [0, 1] rfl ?_
                  exact g_at fun Q hQ => hQ E_280
                refine g_aload_n (pc := 289) X (j := 0) (i := 0) (q := 0) (x := a0) rfl rfl (dl_at t_X21_exception 151 rfl) ?_
                refine r_getr (pc := 290) X fX21_7 k283 q3354 (dl_at t_X21_exception 152 rfl) ?_
                refine g_bipush (pc := 293) X (n := 30) rfl (dl_at t_X21_exception 153 rfl) ?_
                refine g_iload (pc := 295) X (i := 4) (q := 1) (x := x4_226) rfl (dl_at t_X21_exception 154 rfl) ?_
                refine g_imul (pc := 297) X (r32_c rfl) r4_226 (dl_at t_X21_exception 155 rfl) ?_
                refine g_iload (pc := 298) X (i := 5) (q := 2) (x := x5_280) rfl (dl_at t_X21_exception 156 rfl) ?_
                refine g_iadd (pc := 300) X (r32_w _) r5_280 (dl_at t_X21_exception 157 rfl) ?_
                refine g_aload_n (pc := 301) X (j := 0) (i := 0) (q := 0) (x := a0) rfl rfl (dl_at t_X21_exception 158 rfl) ?_
                refine r_getr (pc := 302) X fX21_10 k283 q3357 (dl_at t_X21_exception 159 rfl) ?_
                refine g_iload (pc := 305) X (i := 5) (q := 2) (x := x5_280) rfl (dl_at t_X21_exception 160 rfl) ?_
                refine g_gd fun k307 => ?_
                refine g_bald (pc := 307) X r5_280 k307 (dl_at t_X21_exception 161 rfl) fun g307 => ?_
                refine g_gd fun k308 => ?_
                refine r_bastB (pc := 308) X (r32_w _) g307 k308 (dl_at t_X21_exception 162 rfl) (fun h308 E308 => ?_)
                refine r_iincN (pc := 309) X (i := 5) (q := 2) (n := 1) (x := x5_280) (b := 4) (w := iv x4_226) (rest := [(0, rv D a0)]) rfl r5_280 (r32_c rfl) (Nat.le_of_ble_eq_true rfl) [1, 0] rfl (by decide) rfl rfl (dl_at t_X21_exception 163 rfl) fun x5_309 r5_309 => ?_
                refine g_goto (pc := 312) X (off := (-32)) (tgt := 280) rfl (dl_at t_X21_exception 164 rfl) ?_
                refine g_ls (ls2 := [(0, rv D a0), (4, iv x4_226), (5, iv x5_309)]) [2, 1, 0] rfl ?_
                exact g_at fun Q hQ => hQ ⟨r5_309, (E_280.trans E308)⟩
              · rintro h_315 E_315
                try dsimp only [sE]
                refine g_iconst (pc := 315) X (n := 0) (dl_at t_X21_exception 165 rfl) ?_
                refine g_ltz (Or.inl rfl) fun x5_316 r5_316 => ?_
                refine g_istoreN (pc := 316) X (i := 5) (x := x5_316) (b := 4) (w := iv x4_226) (rest := [(0, rv D a0)]) (Nat.le_of_ble_eq_true rfl) [1, 0] rfl (by decide) rfl rfl (dl_at t_X21_exception 166 rfl) ?_
                refine g_ls (ls2 := [(0, rv D a0), (4, iv x4_226), (5, iv x5_316)]) [2, 1, 0] rfl ?_
                refine g_loop0F (fun (q : Int × Hp) => [(0, rv D a0), (4, iv x4_226), (5, iv q.1)]) (fun (q : Int × Hp) => q.2) (fun (q : Int × Hp) => r32 q.1 ∧ Ext h_315 q.2) (x5_316, h_315) ⟨(r32_z r5_316), (Ext.refl _)⟩ ?_ (fun _ => rfl)
                · rintro ⟨x5_318, h_318⟩ ⟨r5_318, E_318⟩
                  try dsimp only
                  unfold m_X21_exception_l318
                  refine g_iload (pc := 318) X (i := 5) (q := 2) (x := x5_318) rfl (dl_at t_X21_exception 167 rfl) ?_
                  refine g_bipush (pc := 320) X (n := 30) rfl (dl_at t_X21_exception 168 rfl) ?_
                  refine g_icmpgt (pc := 322) X r5_318 (r32_c rfl) (off := 29) (tgt := 351) rfl (dl_at t_X21_exception 169 rfl) (fun _ => ?_) (fun _ => ?_)
                  · exact g_at fun Q hQ => (g_vret (pc := 351) X (v := 0) rfl rfl (dl_at t_X21_exception 184 rfl)) _ Q rfl hQ
                  refine g_aload_n (pc := 325) X (j := 0) (i := 0) (q := 0) (x := a0) rfl rfl (dl_at t_X21_exception 170 rfl) ?_
                  have k326 := kx (E276.trans (E_315.trans E_318)) (by decide) k267
                  refine r_getr (pc := 326) X fX21_9 k326 q3356 (dl_at t_X21_exception 171 rfl) ?_
                  refine g_bipush (pc := 329) X (n := 31) rfl (dl_at t_X21_exception 172 rfl) ?_
                  refine g_iload (pc := 331) X (i := 4) (q := 1) (x := x4_226) rfl (dl_at t_X21_exception 173 rfl) ?_
                  refine g_imul (pc := 333) X (r32_c rfl) r4_226 (dl_at t_X21_exception 174 rfl) ?_
                  refine g_iload (pc := 334) X (i := 5) (q := 2) (x := x5_318) rfl (dl_at t_X21_exception 175 rfl) ?_
                  refine g_iadd (pc := 336) X (r32_w _) r5_318 (dl_at t_X21_exception 176 rfl) ?_
                  refine g_aload_n (pc := 337) X (j := 0) (i := 0) (q := 0) (x := a0) rfl rfl (dl_at t_X21_exception 177 rfl) ?_
                  refine r_getr (pc := 338) X fX21_13 k326 q3360 (dl_at t_X21_exception 178 rfl) ?_
                  refine g_iload (pc := 341) X (i := 5) (q := 2) (x := x5_318) rfl (dl_at t_X21_exception 179 rfl) ?_
                  refine g_gd fun k343 => ?_
                  refine g_zald (pc := 343) X r5_318 k343 (dl_at t_X21_exception 180 rfl) fun g343 => ?_
                  refine g_gd fun k344 => ?_
                  refine r_zast (pc := 344) X (r32_w _) g343 k344 (dl_at t_X21_exception 181 rfl) (fun h344 E344 => ?_)
                  refine r_iincN (pc := 345) X (i := 5) (q := 2) (n := 1) (x := x5_318) (b := 4) (w := iv x4_226) (rest := [(0, rv D a0)]) rfl r5_318 (r32_c rfl) (Nat.le_of_ble_eq_true rfl) [1, 0] rfl (by decide) rfl rfl (dl_at t_X21_exception 182 rfl) fun x5_345 r5_345 => ?_
                  refine g_goto (pc := 348) X (off := (-30)) (tgt := 318) rfl (dl_at t_X21_exception 183 rfl) ?_
                  refine g_ls (ls2 := [(0, rv D a0), (4, iv x4_226), (5, iv x5_345)]) [2, 1, 0] rfl ?_
                  exact g_at fun Q hQ => hQ ⟨r5_345, (E_318.trans E344)⟩
            intro J263
            refine g_icmpne (pc := 249) X r4_226 g246 (off := 10) (tgt := 259) rfl (dl_at t_X21_exception 131 rfl) (fun _ => ?_) (fun _ => ?_)
            · refine g_aload_n (pc := 259) X (j := 0) (i := 0) (q := 0) (x := a0) rfl rfl (dl_at t_X21_exception 136 rfl) ?_
              refine r_geti (pc := 260) X fX21_3 k156 q3349 (dl_at t_X21_exception 137 rfl) fun g260 => ?_
              refine g_ls (ls2 := [(0, rv D a0), (4, iv x4_226)]) [0, 2] rfl ?_
              exact J263 (h_155 a0 3) g260
            refine g_iload (pc := 252) X (i := 4) (q := 2) (x := x4_226) rfl (dl_at t_X21_exception 132 rfl) ?_
            refine g_iconst (pc := 254) X (n := 1) (dl_at t_X21_exception 133 rfl) ?_
            refine g_iadd (pc := 255) X r4_226 (r32_c rfl) (dl_at t_X21_exception 134 rfl) ?_
            refine g_goto (pc := 256) X (off := 7) (tgt := 263) rfl (dl_at t_X21_exception 135 rfl) ?_
            refine g_ls (ls2 := [(0, rv D a0), (4, iv x4_226)]) [0, 2] rfl ?_
            exact J263 (w32 (x4_226 + 1)) (r32_w _)
          refine r_new (pc := 233) X kX27 q4453 (dl_at t_X21_exception 122 rfl) fun a233 h233 p233 k233 E233 => ?_
          refine g_dup (pc := 236) X rv_cat (dl_at t_X21_exception 123 rfl) ?_
          refine g_iload_n (pc := 237) X (j := 2) (i := 2) (q := 1) (x := a2) rfl rfl (dl_at t_X21_exception 124 rfl) ?_
          refine r_callV (pc := 238) X (fun _ hv => sx_ScholarsPressModel_Broken_init_I_V k233 r2 hv) cw_code q4398 q392 (in_I X (As := [iv a2]) (Int.ne_of_gt p233) rfl (Or.inl q4454) q4397 q4398 ⟨by decide, by decide⟩ rfl (dl_at t_X21_exception 125 rfl)) (dl_at t_X21_exception 125 rfl) (cat24 (st := [rv D a233]) (Nat.le_of_ble_eq_true rfl)) (Nat.le_of_ble_eq_true rfl) (Nat.le_of_ble_eq_true rfl) fun h238 E238 => ?_
          refine g_athrow (pc := 241) X (Int.ne_of_gt p233) (dl_at t_X21_exception 126 rfl) ?_
          exact gt_at fun Q hQ => gt_out (Q := Q) X rfl p233 (hno _) _ Q rfl hQ
      refine r_new (pc := 162) X kX27 q4453 (dl_at t_X21_exception 86 rfl) fun a162 h162 p162 k162 E162 => ?_
      refine g_dup (pc := 165) X rv_cat (dl_at t_X21_exception 87 rfl) ?_
      refine g_iload_n (pc := 166) X (j := 2) (i := 2) (q := 1) (x := a2) rfl rfl (dl_at t_X21_exception 88 rfl) ?_
      refine r_callV (pc := 167) X (fun _ hv => sx_ScholarsPressModel_Broken_init_I_V k162 r2 hv) cw_code q4398 q392 (in_I X (As := [iv a2]) (Int.ne_of_gt p162) rfl (Or.inl q4454) q4397 q4398 ⟨by decide, by decide⟩ rfl (dl_at t_X21_exception 89 rfl)) (dl_at t_X21_exception 89 rfl) (cat24 (st := [rv D a162]) (Nat.le_of_ble_eq_true rfl)) (Nat.le_of_ble_eq_true rfl) (Nat.le_of_ble_eq_true rfl) fun h167 E167 => ?_
      refine g_athrow (pc := 170) X (Int.ne_of_gt p162) (dl_at t_X21_exception 90 rfl) ?_
      exact gt_at fun Q hQ => gt_out (Q := Q) X rfl p162 (hno _) _ Q rfl hQ
def k_X21_pattern : List (Nat × Instr × Nat) := [(0, .iload_n 2, 1), (1, .istore 4, 2), (3, .iconst 0, 1), (4, .istore 5, 2), (6, .iconst 0, 1), (7, .istore 6, 2), (9, .iconst 0, 1), (10, .istore 7, 2), (12, .iload 7, 2), (14, .bipush 64, 2), (16, .if_icmp .ge 17, 3), (19, .aload_n 0, 1), (20, .getfield 40, 3), (23, .iload 7, 2), (25, .iconst 0, 1), (26, .bastore, 1), (27, .iinc 7 1, 3), (30, .goto (-18), 3), (33, .aload_n 1, 1), (34, .iload 4, 2), (36, .baload, 1), (37, .bipush 46, 2), (39, .if_icmp .ne 18, 3), (42, .aload_n 0, 1), (43, .getfield 37, 3), (46, .iload 5, 2), (48, .bipush 46, 2), (50, .bastore, 1), (51, .iinc 5 1, 3), (54, .iinc 4 1, 3), (57, .iconst 0, 1), (58, .istore 7, 2), (60, .iload 4, 2), (62, .iload_n 3, 1), (63, .if_icmp .ge 109, 3), (66, .aload_n 1, 1), (67, .iload 4, 2), (69, .baload, 1), (70, .bipush 46, 2), (72, .if_icmp .eq 100, 3), (75, .aload_n 1, 1), (76, .iload 4, 2), (78, .baload, 1), (79, .invokestatic 89, 3), (82, .ifCond .eq 38, 3), (85, .iload 7, 2), (87, .ifCond .eq 12, 3), (90, .new 61, 3), (93, .dup, 1), (94, .iload_n 2, 1), (95, .invokespecial 63, 3), (98, .athrow, 1), (99, .aload_n 0, 1), (100, .getfield 40, 3), (103, .iload 5, 2), (105, .aload_n 1, 1), (106, .iload 4, 2), (108, .baload, 1), (109, .bipush 48, 2), (111, .isub, 1), (112, .i2b, 1), (113, .bastore, 1), (114, .iconst 1, 1), (115, .istore 7, 2), (117, .goto 49, 3), (120, .aload_n 1, 1), (121, .iload 4, 2), (123, .baload, 1), (124, .invokestatic 82, 3), (127, .ifCond .eq 10, 3), (130, .iload 6, 2), (132, .bipush 12, 2), (134, .if_icmp .ne 12, 3), (137, .new 61, 3), (140, .dup, 1), (141, .iload_n 2, 1), (142, .invokespecial 63, 3), (145, .athrow, 1), (146, .aload_n 0, 1), (147, .getfield 37, 3), (150, .iload 5, 2), (152, .aload_n 1, 1), (153, .iload 4, 2), (155, .baload, 1), (156, .bastore, 1), (157, .iinc 5 1, 3), (160, .iinc 6 1, 3), (163, .iconst 0, 1), (164, .istore 7, 2), (166, .iinc 4 1, 3), (169, .goto (-109), 3), (172, .iload 4, 2), (174, .iload_n 3, 1), (175, .if_icmp .ge 18, 3), (178, .aload_n 0, 1), (179, .getfield 37, 3), (182, .iload 5, 2), (184, .bipush 46, 2), (186, .bastore, 1), (187, .iinc 5 1, 3), (190, .iinc 4 1, 3), (193, .iload 6, 2), (195, .ifCond .eq 9, 3), (198, .iload 4, 2), (200, .iload_n 3, 1), (201, .if_icmp .eq 12, 3), (204, .new 61, 3), (207, .dup, 1), (208, .iload_n 2, 1), (209, .invokespecial 63, 3), (212, .athrow, 1), (213, .iconst 0, 1), (214, .istore 8, 2), (216, .iload 8, 2), (218, .aload_n 0, 1), (219, .getfield 46, 3), (222, .if_icmp .ge 44, 3), (225, .aload_n 0, 1), (226, .getfield 16, 3), (229, .bipush 14, 2), (231, .iload 8, 2), (233, .imul, 1), (234, .bipush 14, 2), (236, .iload 8, 2), (238, .imul, 1), (239, .aload_n 0, 1), (240, .getfield 20, 3), (243, .iload 8, 2), (245, .iaload, 1), (246, .iadd, 1), (247, .aload_n 0, 1), (248, .getfield 37, 3), (251, .iconst 0, 1), (252, .iload 5, 2), (254, .invokestatic 85, 3), (257, .ifCond .ne 9, 3), (260, .iinc 8 1, 3), (263, .goto (-47), 3), (266, .iload 8, 2), (268, .sipush 300, 3), (271, .if_icmp .ne 12, 3), (274, .new 61, 3), (277, .dup, 1), (278, .iload_n 2, 1), (279, .invokespecial 63, 3), (282, .athrow, 1), (283, .aload_n 0, 1), (284, .iload 8, 2), (286, .aload_n 0, 1), (287, .getfield 46, 3), (290, .if_icmp .ne 10, 3), (293, .iload 8, 2), (295, .iconst 1, 1), (296, .iadd, 1), (297, .goto 7, 3), (300, .aload_n 0, 1), (301, .getfield 46, 3), (304, .putfield 46, 3), (307, .aload_n 0, 1), (308, .getfield 20, 3), (311, .iload 8, 2), (313, .iload 5, 2), (315, .iastore, 1), (316, .iconst 0, 1), (317, .istore 9, 2), (319, .iload 9, 2), (321, .iload 5, 2), (323, .if_icmp .ge 29, 3), (326, .aload_n 0, 1), (327, .getfield 16, 3), (330, .bipush 14, 2), (332, .iload 8, 2), (334, .imul, 1), (335, .iload 9, 2), (337, .iadd, 1), (338, .aload_n 0, 1), (339, .getfield 37, 3), (342, .iload 9, 2), (344, .baload, 1), (345, .bastore, 1), (346, .iinc 9 1, 3), (349, .goto (-30), 3), (352, .iconst 0, 1), (353, .istore 9, 2), (355, .iload 9, 2), (357, .bipush 16, 2), (359, .if_icmp .ge 29, 3), (362, .aload_n 0, 1), (363, .getfield 24, 3), (366, .bipush 16, 2), (368, .iload 8, 2), (370, .imul, 1), (371, .iload 9, 2), (373, .iadd, 1), (374, .aload_n 0, 1), (375, .getfield 40, 3), (378, .iload 9, 2), (380, .baload, 1), (381, .bastore, 1), (382, .iinc 9 1, 3), (385, .goto (-30), 3), (388, .return_, 1)]
theorem t_X21_pattern : ∀ q ∈ k_X21_pattern, decode cX21_pattern q.1 = .ok q.2 := dl_all (by decide +kernel)
noncomputable def m_X21_pattern_l12 (a0 x7_12 : Int) (h_12 : Hp) : Option ((Int × Hp) ⊕ ((Hp))) :=
  if 64 ≤ x7_12 then (some (.inr h_12))
  else (gd (h_12 (h_12 a0 11) (-2) % 16 = 2 ∧ (0 : Int) ≤ x7_12 ∧ x7_12 < h_12 (h_12 a0 11) (-1)) (pt h_12 (h_12 a0 11) x7_12 (w8 0) fun h26 =>
  lt_ (w32 (x7_12 + 1)) fun x7_27 =>
  some (.inl (x7_27, h26))))
noncomputable def m_X21_pattern_j166 (x4_60 x5_166 x6_166 x7_166 : Int) (h_166 : Hp) : Option ((Int × Int × Int × Int × Hp) ⊕ ((Int × Int × Int × Hp) ⊕ (((Int × Int) × Hp)))) :=
  lt_ (w32 (x4_60 + 1)) fun x4_166 =>
  some (.inl (x4_166, x5_166, x6_166, x7_166, h_166))
noncomputable def m_X21_pattern_l60 (a0 a1 a2 a3 x4_60 x5_60 x6_60 x7_60 : Int) (h_60 : Hp) : Option ((Int × Int × Int × Int × Hp) ⊕ ((Int × Int × Int × Hp) ⊕ (((Int × Int) × Hp)))) :=
  if a3 ≤ x4_60 then (some (.inr (.inl (x4_60, x5_60, x6_60, h_60))))
  else (gd (h_60 a1 (-2) % 16 = 2 ∧ (0 : Int) ≤ x4_60 ∧ x4_60 < h_60 a1 (-1)) (if (h_60 a1 x4_60) = 46 then (some (.inr (.inl (x4_60, x5_60, x6_60, h_60))))
  else ((m_X18_isDigit (h_60 a1 x4_60)).bind fun v79 =>
  if v79 = 0 then ((m_X18_isSmall (h_60 a1 x4_60)).bind fun v124 =>
  if v124 = 0 then (al h_60 448 7 fun a137 h137 =>
  (x_broken a137 a2 h137).bind fun h142 =>
  some (.inr (.inr ((1, a137), h142))))
  else (if x6_60 ≠ 12 then (gd (h_60 (h_60 a0 10) (-2) % 16 = 2 ∧ (0 : Int) ≤ x5_60 ∧ x5_60 < h_60 (h_60 a0 10) (-1)) (pt h_60 (h_60 a0 10) x5_60 (h_60 a1 x4_60) fun h156 =>
  lt_ (w32 (x5_60 + 1)) fun x5_157 =>
  lt_ (w32 (x6_60 + 1)) fun x6_160 =>
  lt_ 0 fun x7_164 =>
  m_X21_pattern_j166 x4_60 x5_157 x6_160 x7_164 h156))
  else (al h_60 448 7 fun a137_1 h137_1 =>
  (x_broken a137_1 a2 h137_1).bind fun h142_1 =>
  some (.inr (.inr ((1, a137_1), h142_1))))))
  else (if x7_60 = 0 then (gd (h_60 (h_60 a0 11) (-2) % 16 = 2 ∧ (0 : Int) ≤ x5_60 ∧ x5_60 < h_60 (h_60 a0 11) (-1)) (pt h_60 (h_60 a0 11) x5_60 (w8 (w32 ((h_60 a1 x4_60) - 48))) fun h113 =>
  lt_ 1 fun x7_115 =>
  m_X21_pattern_j166 x4_60 x5_60 x6_60 x7_115 h113))
  else (al h_60 448 7 fun a90 h90 =>
  (x_broken a90 a2 h90).bind fun h95 =>
  some (.inr (.inr ((1, a90), h95))))))))
noncomputable def m_X21_pattern_l216 (a0 x5_193 x8_216 : Int) (h_193 : Hp) : Option ((Int) ⊕ ((Int))) :=
  if (h_193 a0 2) ≤ x8_216 then (some (.inr x8_216))
  else (gd (h_193 (h_193 a0 5) (-2) % 16 = 1 ∧ (0 : Int) ≤ x8_216 ∧ x8_216 < h_193 (h_193 a0 5) (-1)) ((m_X18_same (h_193 a0 4) (w32 (14 * x8_216)) (w32 ((w32 (14 * x8_216)) + (h_193 (h_193 a0 5) x8_216))) (h_193 a0 10) 0 x5_193 h_193).bind fun v254 =>
  if v254 ≠ 0 then (some (.inr x8_216))
  else (lt_ (w32 (x8_216 + 1)) fun x8_260 =>
  some (.inl x8_260))))
noncomputable def m_X21_pattern_l319 (a0 x5_193 x8_266 x9_319 : Int) (h_319 : Hp) : Option ((Int × Hp) ⊕ ((Hp))) :=
  if x5_193 ≤ x9_319 then (some (.inr h_319))
  else (gd (h_319 (h_319 a0 10) (-2) % 16 = 2 ∧ (0 : Int) ≤ x9_319 ∧ x9_319 < h_319 (h_319 a0 10) (-1)) (gd (h_319 (h_319 a0 4) (-2) % 16 = 2 ∧ (0 : Int) ≤ (w32 ((w32 (14 * x8_266)) + x9_319)) ∧ (w32 ((w32 (14 * x8_266)) + x9_319)) < h_319 (h_319 a0 4) (-1)) (pt h_319 (h_319 a0 4) (w32 ((w32 (14 * x8_266)) + x9_319)) (h_319 (h_319 a0 10) x9_319) fun h345 =>
  lt_ (w32 (x9_319 + 1)) fun x9_346 =>
  some (.inl (x9_346, h345)))))
noncomputable def m_X21_pattern_l355 (a0 x8_266 x9_355 : Int) (h_355 : Hp) : Option ((Int × Hp) ⊕ (((Int × Int) × Hp))) :=
  if 16 ≤ x9_355 then (some (.inr ((0, 0), h_355)))
  else (gd (h_355 (h_355 a0 11) (-2) % 16 = 2 ∧ (0 : Int) ≤ x9_355 ∧ x9_355 < h_355 (h_355 a0 11) (-1)) (gd (h_355 (h_355 a0 6) (-2) % 16 = 2 ∧ (0 : Int) ≤ (w32 ((w32 (16 * x8_266)) + x9_355)) ∧ (w32 ((w32 (16 * x8_266)) + x9_355)) < h_355 (h_355 a0 6) (-1)) (pt h_355 (h_355 a0 6) (w32 ((w32 (16 * x8_266)) + x9_355)) (h_355 (h_355 a0 11) x9_355) fun h381 =>
  lt_ (w32 (x9_355 + 1)) fun x9_382 =>
  some (.inl (x9_382, h381)))))
noncomputable def m_X21_pattern_j304 (a0 x5_193 x8_266 s1_304 : Int) (h_193 : Hp) : Option ((Int × Int) × Hp) :=
  pt h_193 a0 2 s1_304 fun h304 =>
  gd (h304 (h304 a0 5) (-2) % 16 = 1 ∧ (0 : Int) ≤ x8_266 ∧ x8_266 < h304 (h304 a0 5) (-1)) (pt h304 (h304 a0 5) x8_266 x5_193 fun h315 =>
  lt_ 0 fun x9_317 =>
  (lp (fun (q : Int × Hp) => m_X21_pattern_l319 a0 x5_193 x8_266 q.1 q.2) (x9_317, h315)).bind (fun (y352 : Hp) => lt_ 0 fun x9_353 =>
  (lp (fun (q : Int × Hp) => m_X21_pattern_l355 a0 x8_266 q.1 q.2) (x9_353, y352)).bind (fun (x : (Int × Int) × Hp) => some x)))
noncomputable def m_X21_pattern_j193 (a0 a2 a3 x6_172 x4_193 x5_193 : Int) (h_193 : Hp) : Option ((Int × Int) × Hp) :=
  if x6_172 = 0 then (al h_193 448 7 fun a204 h204 =>
  (x_broken a204 a2 h204).bind fun h209 =>
  some ((1, a204), h209))
  else (if x4_193 = a3 then (lt_ 0 fun x8_214 =>
  (lp (fun (q : Int) => m_X21_pattern_l216 a0 x5_193 q h_193) x8_214).bind (fun (y266 : Int) => if y266 ≠ 300 then (if y266 ≠ (h_193 a0 2) then (m_X21_pattern_j304 a0 x5_193 y266 (h_193 a0 2) h_193)
  else (m_X21_pattern_j304 a0 x5_193 y266 (w32 (y266 + 1)) h_193))
  else (al h_193 448 7 fun a274 h274 =>
  (x_broken a274 a2 h274).bind fun h279 =>
  some ((1, a274), h279))))
  else (al h_193 448 7 fun a204_1 h204_1 =>
  (x_broken a204_1 a2 h204_1).bind fun h209_1 =>
  some ((1, a204_1), h209_1)))
noncomputable def m_X21_pattern_j57 (a0 a1 a2 a3 x6_7 x4_57 x5_57 : Int) (h_57 : Hp) : Option ((Int × Int) × Hp) :=
  lt_ 0 fun x7_58 =>
  (lp (fun (q : Int × Int × Int × Int × Hp) => m_X21_pattern_l60 a0 a1 a2 a3 q.1 q.2.1 q.2.2.1 q.2.2.2.1 q.2.2.2.2) (x4_57, x5_57, x6_7, x7_58, h_57)).bind (sE (fun (y172 : Int × Int × Int × Hp) => if a3 ≤ y172.1 then (m_X21_pattern_j193 a0 a2 a3 y172.2.2.1 y172.1 y172.2.1 y172.2.2.2)
  else (gd (y172.2.2.2 (y172.2.2.2 a0 10) (-2) % 16 = 2 ∧ (0 : Int) ≤ y172.2.1 ∧ y172.2.1 < y172.2.2.2 (y172.2.2.2 a0 10) (-1)) (pt y172.2.2.2 (y172.2.2.2 a0 10) y172.2.1 (w8 46) fun h186 =>
  lt_ (w32 (y172.2.1 + 1)) fun x5_187 =>
  lt_ (w32 (y172.1 + 1)) fun x4_190 =>
  m_X21_pattern_j193 a0 a2 a3 y172.2.2.1 x4_190 x5_187 h186))) (fun (x : (Int × Int) × Hp) => some x))
noncomputable def m_X21_pattern (a0 a1 a2 a3 : Int) (h : Hp) : Option ((Int × Int) × Hp) :=
  lt_ 0 fun x5_4 =>
  lt_ 0 fun x6_7 =>
  lt_ 0 fun x7_10 =>
  (lp (fun (q : Int × Hp) => m_X21_pattern_l12 a0 q.1 q.2) (x7_10, h)).bind (fun (y33 : Hp) => gd (y33 a1 (-2) % 16 = 2 ∧ (0 : Int) ≤ a2 ∧ a2 < y33 a1 (-1)) (if (y33 a1 a2) ≠ 46 then (m_X21_pattern_j57 a0 a1 a2 a3 x6_7 a2 x5_4 y33)
  else (gd (y33 (y33 a0 10) (-2) % 16 = 2 ∧ (0 : Int) ≤ x5_4 ∧ x5_4 < y33 (y33 a0 10) (-1)) (pt y33 (y33 a0 10) x5_4 (w8 46) fun h50 =>
  lt_ (w32 (x5_4 + 1)) fun x5_51 =>
  lt_ (w32 (a2 + 1)) fun x4_54 =>
  m_X21_pattern_j57 a0 a1 a2 a3 x6_7 x4_54 x5_51 h50))))
theorem s_X21_pattern {l : Launch} [NoTr l] {D : SD} {a0 a1 a2 a3 : Int} {h : Hp} (hk : h a0 (-2) = 352) (r2 : r32 a2) (r3 : r32 a3) {r : (Int × Int) × Hp} (hm : m_X21_pattern a0 a1 a2 a3 h = some r) : Sim l D yX21_pattern (Cond.code yX21_pattern cX21_pattern 10 (Option.none : Option Jvm.ClassFile.FieldType)) 9 337 [rv D a0, rv D a1, iv a2, iv a3] h 0 r := by
  refine Sim.of (fin := fun (v : (Int × Int) × Hp) => v) (lsE := [(0, rv D a0), (1, rv D a1), (2, iv a2), (3, iv a3)]) hm rfl cwS_code (la_r (la_r (la_i (la_i la_n)))) (ll_r (ll_r (ll_i (ll_i ll_n)))) ?_
  intro p e s m below meth c X hcw hmm hcc hnm hname
  have hno := noh hcw hnm hmm hcc
  unfold m_X21_pattern
  refine g_iload_n (pc := 0) X (j := 2) (i := 2) (q := 2) (x := a2) rfl rfl (dl_at t_X21_pattern 0 rfl) ?_
  refine g_istoreN (pc := 1) X (i := 4) (x := a2) (b := 3) (w := iv a3) (rest := [(0, rv D a0), (1, rv D a1), (2, iv a2)]) (Nat.le_of_ble_eq_true rfl) [3, 0, 1, 2] rfl (by decide) rfl rfl (dl_at t_X21_pattern 1 rfl) ?_
  refine g_iconst (pc := 3) X (n := 0) (dl_at t_X21_pattern 2 rfl) ?_
  refine g_ltz (Or.inl rfl) fun x5_4 r5_4 => ?_
  refine g_istoreN (pc := 4) X (i := 5) (x := x5_4) (b := 4) (w := iv a2) (rest := [(3, iv a3), (0, rv D a0), (1, rv D a1), (2, iv a2)]) (Nat.le_of_ble_eq_true rfl) [0, 1, 2, 3, 4] rfl (by decide) rfl rfl (dl_at t_X21_pattern 3 rfl) ?_
  refine g_iconst (pc := 6) X (n := 0) (dl_at t_X21_pattern 4 rfl) ?_
  refine g_ltz (Or.inl rfl) fun x6_7 r6_7 => ?_
  refine g_istoreN (pc := 7) X (i := 6) (x := x6_7) (b := 5) (w := iv x5_4) (rest := [(4, iv a2), (3, iv a3), (0, rv D a0), (1, rv D a1), (2, iv a2)]) (Nat.le_of_ble_eq_true rfl) [0, 1, 2, 3, 4, 5] rfl (by decide) rfl rfl (dl_at t_X21_pattern 5 rfl) ?_
  refine g_iconst (pc := 9) X (n := 0) (dl_at t_X21_pattern 6 rfl) ?_
  refine g_ltz (Or.inl rfl) fun x7_10 r7_10 => ?_
  refine g_istoreN (pc := 10) X (i := 7) (x := x7_10) (b := 6) (w := iv x6_7) (rest := [(5, iv x5_4), (4, iv a2), (3, iv a3), (0, rv D a0), (1, rv D a1), (2, iv a2)]) (Nat.le_of_ble_eq_true rfl) [0, 1, 2, 3, 4, 5, 6] rfl (by decide) rfl rfl (dl_at t_X21_pattern 7 rfl) ?_
  refine g_ls (ls2 := [(0, rv D a0), (1, rv D a1), (2, iv a2), (3, iv a3), (4, iv a2), (5, iv x5_4), (6, iv x6_7), (7, iv x7_10)]) [5, 6, 7, 4, 3, 2, 1, 0] rfl ?_
  refine g_loop1 (fun (q : Int × Hp) => [(0, rv D a0), (1, rv D a1), (2, iv a2), (3, iv a3), (4, iv a2), (5, iv x5_4), (6, iv x6_7), (7, iv q.1)]) (fun (q : Int × Hp) => q.2) (fun (q : Int × Hp) => r32 q.1 ∧ Ext h q.2) 33 (fun (y33 : Hp) => [(0, rv D a0), (1, rv D a1), (2, iv a2), (3, iv a3), (4, iv a2), (5, iv x5_4), (6, iv x6_7)]) (fun (y33 : Hp) => y33) (fun (y33 : Hp) => Ext h y33) (x7_10, h) ⟨(r32_z r7_10), (Ext.refl _)⟩ ?_ ?_
  · rintro ⟨x7_12, h_12⟩ ⟨r7_12, E_12⟩
    try dsimp only
    unfold m_X21_pattern_l12
    refine g_iload (pc := 12) X (i := 7) (q := 7) (x := x7_12) rfl (dl_at t_X21_pattern 8 rfl) ?_
    refine g_bipush (pc := 14) X (n := 64) rfl (dl_at t_X21_pattern 9 rfl) ?_
    refine g_icmpge (pc := 16) X r7_12 (r32_c rfl) (off := 17) (tgt := 33) rfl (dl_at t_X21_pattern 10 rfl) (fun _ => ?_) (fun _ => ?_)
    · refine g_ls (ls2 := [(0, rv D a0), (1, rv D a1), (2, iv a2), (3, iv a3), (4, iv a2), (5, iv x5_4), (6, iv x6_7)]) [0, 1, 2, 3, 4, 5, 6] rfl ?_
      exact g_at fun Q hQ => hQ E_12
    refine g_aload_n (pc := 19) X (j := 0) (i := 0) (q := 0) (x := a0) rfl rfl (dl_at t_X21_pattern 11 rfl) ?_
    have k20 := kx E_12 (by decide) hk
    refine r_getr (pc := 20) X fX21_11 k20 q3358 (dl_at t_X21_pattern 12 rfl) ?_
    refine g_iload (pc := 23) X (i := 7) (q := 7) (x := x7_12) rfl (dl_at t_X21_pattern 13 rfl) ?_
    refine g_iconst (pc := 25) X (n := 0) (dl_at t_X21_pattern 14 rfl) ?_
    refine g_gd fun k26 => ?_
    refine r_bast (pc := 26) X r7_12 (r32_c rfl) k26 (dl_at t_X21_pattern 15 rfl) (fun h26 E26 => ?_)
    refine r_iincN (pc := 27) X (i := 7) (q := 7) (n := 1) (x := x7_12) (b := 6) (w := iv x6_7) (rest := [(0, rv D a0), (1, rv D a1), (2, iv a2), (3, iv a3), (4, iv a2), (5, iv x5_4)]) rfl r7_12 (r32_c rfl) (Nat.le_of_ble_eq_true rfl) [6, 0, 1, 2, 3, 4, 5] rfl (by decide) rfl rfl (dl_at t_X21_pattern 16 rfl) fun x7_27 r7_27 => ?_
    refine g_goto (pc := 30) X (off := (-18)) (tgt := 12) rfl (dl_at t_X21_pattern 17 rfl) ?_
    refine g_ls (ls2 := [(0, rv D a0), (1, rv D a1), (2, iv a2), (3, iv a3), (4, iv a2), (5, iv x5_4), (6, iv x6_7), (7, iv x7_27)]) [2, 3, 4, 5, 6, 7, 1, 0] rfl ?_
    exact g_at fun Q hQ => hQ ⟨r7_27, (E_12.trans E26)⟩
  · rintro h_33 E_33
    try dsimp only [sE]
    refine g_aload_n (pc := 33) X (j := 1) (i := 1) (q := 1) (x := a1) rfl rfl (dl_at t_X21_pattern 18 rfl) ?_
    refine g_iload (pc := 34) X (i := 4) (q := 4) (x := a2) rfl (dl_at t_X21_pattern 19 rfl) ?_
    refine g_gd fun k36 => ?_
    refine g_bald (pc := 36) X r2 k36 (dl_at t_X21_pattern 20 rfl) fun g36 => ?_
    refine g_bipush (pc := 37) X (n := 46) rfl (dl_at t_X21_pattern 21 rfl) ?_
    refine g_join (γ := Int × Int × Hp) (fun q => r32 q.1 ∧ r32 q.2.1 ∧ Ext h_33 q.2.2) 57 (fun q => [(0, rv D a0), (1, rv D a1), (2, iv a2), (3, iv a3), (4, iv q.1), (5, iv q.2.1), (6, iv x6_7)]) (fun q => []) (fun q => q.2.2) (fun q => m_X21_pattern_j57 a0 a1 a2 a3 x6_7 q.1 q.2.1 q.2.2) ?_ ?_
    · rintro ⟨x4_57, x5_57, h_57⟩ ⟨r4_57, r5_57, E_57⟩
      try dsimp only
      unfold m_X21_pattern_j57
      refine g_iconst (pc := 57) X (n := 0) (dl_at t_X21_pattern 30 rfl) ?_
      refine g_ltz (Or.inl rfl) fun x7_58 r7_58 => ?_
      refine g_istoreN (pc := 58) X (i := 7) (x := x7_58) (b := 6) (w := iv x6_7) (rest := [(0, rv D a0), (1, rv D a1), (2, iv a2), (3, iv a3), (4, iv x4_57), (5, iv x5_57)]) (Nat.le_of_ble_eq_true rfl) [6, 0, 1, 2, 3, 4, 5] rfl (by decide) rfl rfl (dl_at t_X21_pattern 31 rfl) ?_
      refine g_ls (ls2 := [(0, rv D a0), (1, rv D a1), (2, iv a2), (3, iv a3), (4, iv x4_57), (5, iv x5_57), (6, iv x6_7), (7, iv x7_58)]) [2, 3, 4, 5, 6, 7, 1, 0] rfl ?_
      refine g_loop1F (fun (q : Int × Int × Int × Int × Hp) => [(0, rv D a0), (1, rv D a1), (2, iv a2), (3, iv a3), (4, iv q.1), (5, iv q.2.1), (6, iv q.2.2.1), (7, iv q.2.2.2.1)]) (fun (q : Int × Int × Int × Int × Hp) => q.2.2.2.2) (fun (q : Int × Int × Int × Int × Hp) => r32 q.1 ∧ r32 q.2.1 ∧ r32 q.2.2.1 ∧ (q.2.2.2.1 = 0 ∨ q.2.2.2.1 = 1) ∧ Ext h_57 q.2.2.2.2) 172 (fun (y172 : Int × Int × Int × Hp) => [(0, rv D a0), (2, iv a2), (3, iv a3), (4, iv y172.1), (5, iv y172.2.1), (6, iv y172.2.2.1)]) (fun (y172 : Int × Int × Int × Hp) => y172.2.2.2) (fun (y172 : Int × Int × Int × Hp) => r32 y172.1 ∧ r32 y172.2.1 ∧ r32 y172.2.2.1 ∧ Ext h_57 y172.2.2.2) (x4_57, x5_57, x6_7, x7_58, h_57) ⟨r4_57, r5_57, (r32_z r6_7), r7_58, (Ext.refl _)⟩ ?_ ?_ (fun _ => rfl)
      · rintro ⟨x4_60, x5_60, x6_60, x7_60, h_60⟩ ⟨r4_60, r5_60, r6_60, r7_60, E_60⟩
        try dsimp only
        unfold m_X21_pattern_l60
        refine g_iload (pc := 60) X (i := 4) (q := 4) (x := x4_60) rfl (dl_at t_X21_pattern 32 rfl) ?_
        refine g_iload_n (pc := 62) X (j := 3) (i := 3) (q := 3) (x := a3) rfl rfl (dl_at t_X21_pattern 33 rfl) ?_
        refine g_icmpge (pc := 63) X r4_60 r3 (off := 109) (tgt := 172) rfl (dl_at t_X21_pattern 34 rfl) (fun _ => ?_) (fun _ => ?_)
        · refine g_ls (ls2 := [(0, rv D a0), (2, iv a2), (3, iv a3), (4, iv x4_60), (5, iv x5_60), (6, iv x6_60)]) [0, 2, 3, 4, 5, 6] rfl ?_
          exact g_at fun Q hQ => hQ ⟨r4_60, r5_60, r6_60, E_60⟩
        refine g_aload_n (pc := 66) X (j := 1) (i := 1) (q := 1) (x := a1) rfl rfl (dl_at t_X21_pattern 35 rfl) ?_
        refine g_iload (pc := 67) X (i := 4) (q := 4) (x := x4_60) rfl (dl_at t_X21_pattern 36 rfl) ?_
        refine g_gd fun k69 => ?_
        refine g_bald (pc := 69) X r4_60 k69 (dl_at t_X21_pattern 37 rfl) fun g69 => ?_
        refine g_bipush (pc := 70) X (n := 46) rfl (dl_at t_X21_pattern 38 rfl) ?_
        refine g_icmpeq (pc := 72) X (r32_b g69) (r32_c rfl) (off := 100) (tgt := 172) rfl (dl_at t_X21_pattern 39 rfl) (fun _ => ?_) (fun _ => ?_)
        · refine g_ls (ls2 := [(0, rv D a0), (2, iv a2), (3, iv a3), (4, iv x4_60), (5, iv x5_60), (6, iv x6_60)]) [0, 2, 3, 4, 5, 6] rfl ?_
          exact g_at fun Q hQ => hQ ⟨r4_60, r5_60, r6_60, E_60⟩
        refine g_aload_n (pc := 75) X (j := 1) (i := 1) (q := 1) (x := a1) rfl rfl (dl_at t_X21_pattern 40 rfl) ?_
        refine g_iload (pc := 76) X (i := 4) (q := 4) (x := x4_60) rfl (dl_at t_X21_pattern 41 rfl) ?_
        refine g_bald (pc := 78) X r4_60 k69 (dl_at t_X21_pattern 42 rfl) fun g78 => ?_
        refine r_callRz (pc := 79) X (fun _ hv => s_X18_isDigit (r32_b g78) hv) cw_code q4355 q372 (in_Sc X (As := [iv (h_60 a1 x4_60)]) (Or.inr ⟨_, nw_in q4469 rfl⟩) q4354 q372 q4355 ⟨by decide, by decide⟩ rfl (dl_at t_X21_pattern 43 rfl)) (dl_at t_X21_pattern 43 rfl) (cat24 (st := []) (Nat.le_of_ble_eq_true rfl)) (Nat.le_of_ble_eq_true rfl) (Nat.le_of_ble_eq_true rfl) fun v79 g79 => ?_
        refine g_join (γ := Int × Int × Int × Hp) (fun q => r32 q.1 ∧ r32 q.2.1 ∧ (q.2.2.1 = 0 ∨ q.2.2.1 = 1) ∧ Ext h_60 q.2.2.2) 166 (fun q => [(0, rv D a0), (1, rv D a1), (2, iv a2), (3, iv a3), (4, iv x4_60), (5, iv q.1), (6, iv q.2.1), (7, iv q.2.2.1)]) (fun q => []) (fun q => q.2.2.2) (fun q => m_X21_pattern_j166 x4_60 q.1 q.2.1 q.2.2.1 q.2.2.2) ?_ ?_
        · rintro ⟨x5_166, x6_166, x7_166, h_166⟩ ⟨r5_166, r6_166, r7_166, E_166⟩
          try dsimp only
          unfold m_X21_pattern_j166
          refine r_iincN (pc := 166) X (i := 4) (q := 4) (n := 1) (x := x4_60) (b := 3) (w := iv a3) (rest := [(0, rv D a0), (1, rv D a1), (2, iv a2), (5, iv x5_166), (6, iv x6_166), (7, iv x7_166)]) rfl r4_60 (r32_c rfl) (Nat.le_of_ble_eq_true rfl) [3, 0, 1, 2, 5, 6, 7] rfl (by decide) rfl rfl (dl_at t_X21_pattern 89 rfl) fun x4_166 r4_166 => ?_
          refine g_goto (pc := 169) X (off := (-109)) (tgt := 60) rfl (dl_at t_X21_pattern 90 rfl) ?_
          refine g_ls (ls2 := [(0, rv D a0), (1, rv D a1), (2, iv a2), (3, iv a3), (4, iv x4_166), (5, iv x5_166), (6, iv x6_166), (7, iv x7_166)]) [2, 3, 4, 1, 0, 5, 6, 7] rfl ?_
          exact g_at fun Q hQ => hQ ⟨r4_166, r5_166, r6_166, r7_166, (E_60.trans E_166)⟩
        intro J166
        refine g_ifeq (pc := 82) X (r32_z g79) (off := 38) (tgt := 120) rfl (dl_at t_X21_pattern 44 rfl) (fun _ => ?_) (fun _ => ?_)
        · refine g_aload_n (pc := 120) X (j := 1) (i := 1) (q := 1) (x := a1) rfl rfl (dl_at t_X21_pattern 65 rfl) ?_
          refine g_iload (pc := 121) X (i := 4) (q := 4) (x := x4_60) rfl (dl_at t_X21_pattern 66 rfl) ?_
          refine g_bald (pc := 123) X r4_60 k69 (dl_at t_X21_pattern 67 rfl) fun g123 => ?_
          refine r_callRz (pc := 124) X (fun _ hv => s_X18_isSmall (r32_b g123) hv) cw_code q4352 q372 (in_Sc X (As := [iv (h_60 a1 x4_60)]) (Or.inr ⟨_, nw_in q4461 rfl⟩) q4351 q372 q4352 ⟨by decide, by decide⟩ rfl (dl_at t_X21_pattern 68 rfl)) (dl_at t_X21_pattern 68 rfl) (cat24 (st := []) (Nat.le_of_ble_eq_true rfl)) (Nat.le_of_ble_eq_true rfl) (Nat.le_of_ble_eq_true rfl) fun v124 g124 => ?_
          refine g_ifeq (pc := 127) X (r32_z g124) (off := 10) (tgt := 137) rfl (dl_at t_X21_pattern 69 rfl) (fun _ => ?_) (fun _ => ?_)
          · refine r_new (pc := 137) X kX27 q4453 (dl_at t_X21_pattern 73 rfl) fun a137 h137 p137 k137 E137 => ?_
            refine g_dup (pc := 140) X rv_cat (dl_at t_X21_pattern 74 rfl) ?_
            refine g_iload_n (pc := 141) X (j := 2) (i := 2) (q := 2) (x := a2) rfl rfl (dl_at t_X21_pattern 75 rfl) ?_
            refine r_callV (pc := 142) X (fun _ hv => sx_ScholarsPressModel_Broken_init_I_V k137 r2 hv) cw_code q4398 q392 (in_I X (As := [iv a2]) (Int.ne_of_gt p137) rfl (Or.inl q4454) q4397 q4398 ⟨by decide, by decide⟩ rfl (dl_at t_X21_pattern 76 rfl)) (dl_at t_X21_pattern 76 rfl) (cat24 (st := [rv D a137]) (Nat.le_of_ble_eq_true rfl)) (Nat.le_of_ble_eq_true rfl) (Nat.le_of_ble_eq_true rfl) fun h142 E142 => ?_
            refine g_athrow (pc := 145) X (Int.ne_of_gt p137) (dl_at t_X21_pattern 77 rfl) ?_
            exact gt_at fun Q hQ => gt_out (Q := Q) X rfl p137 (hno _) _ Q rfl hQ
          refine g_iload (pc := 130) X (i := 6) (q := 6) (x := x6_60) rfl (dl_at t_X21_pattern 70 rfl) ?_
          refine g_bipush (pc := 132) X (n := 12) rfl (dl_at t_X21_pattern 71 rfl) ?_
          refine g_icmpne (pc := 134) X r6_60 (r32_c rfl) (off := 12) (tgt := 146) rfl (dl_at t_X21_pattern 72 rfl) (fun _ => ?_) (fun _ => ?_)
          · refine g_aload_n (pc := 146) X (j := 0) (i := 0) (q := 0) (x := a0) rfl rfl (dl_at t_X21_pattern 78 rfl) ?_
            have k147 := kx (E_33.trans (E_57.trans E_60)) (by decide) hk
            refine r_getr (pc := 147) X fX21_10 k147 q3357 (dl_at t_X21_pattern 79 rfl) ?_
            refine g_iload (pc := 150) X (i := 5) (q := 5) (x := x5_60) rfl (dl_at t_X21_pattern 80 rfl) ?_
            refine g_aload_n (pc := 152) X (j := 1) (i := 1) (q := 1) (x := a1) rfl rfl (dl_at t_X21_pattern 81 rfl) ?_
            refine g_iload (pc := 153) X (i := 4) (q := 4) (x := x4_60) rfl (dl_at t_X21_pattern 82 rfl) ?_
            refine g_bald (pc := 155) X r4_60 k69 (dl_at t_X21_pattern 83 rfl) fun g155 => ?_
            refine g_gd fun k156 => ?_
            refine r_bastB (pc := 156) X r5_60 g155 k156 (dl_at t_X21_pattern 84 rfl) (fun h156 E156 => ?_)
            refine r_iincN (pc := 157) X (i := 5) (q := 5) (n := 1) (x := x5_60) (b := 4) (w := iv x4_60) (rest := [(0, rv D a0), (1, rv D a1), (2, iv a2), (3, iv a3), (6, iv x6_60)]) rfl r5_60 (r32_c rfl) (Nat.le_of_ble_eq_true rfl) [4, 0, 1, 2, 3, 6] rfl (by decide) rfl rfl (dl_at t_X21_pattern 85 rfl) fun x5_157 r5_157 => ?_
            refine r_iincN (pc := 160) X (i := 6) (q := 6) (n := 1) (x := x6_60) (b := 5) (w := iv x5_157) (rest := [(4, iv x4_60), (0, rv D a0), (1, rv D a1), (2, iv a2), (3, iv a3)]) rfl r6_60 (r32_c rfl) (Nat.le_of_ble_eq_true rfl) [0, 1, 2, 3, 4, 5] rfl (by decide) rfl rfl (dl_at t_X21_pattern 86 rfl) fun x6_160 r6_160 => ?_
            refine g_iconst (pc := 163) X (n := 0) (dl_at t_X21_pattern 87 rfl) ?_
            refine g_ltz (Or.inl rfl) fun x7_164 r7_164 => ?_
            refine g_istoreN (pc := 164) X (i := 7) (x := x7_164) (b := 6) (w := iv x6_160) (rest := [(5, iv x5_157), (4, iv x4_60), (0, rv D a0), (1, rv D a1), (2, iv a2), (3, iv a3)]) (Nat.le_of_ble_eq_true rfl) [0, 1, 2, 3, 4, 5, 6] rfl (by decide) rfl rfl (dl_at t_X21_pattern 88 rfl) ?_
            refine g_ls (ls2 := [(0, rv D a0), (1, rv D a1), (2, iv a2), (3, iv a3), (4, iv x4_60), (5, iv x5_157), (6, iv x6_160), (7, iv x7_164)]) [4, 5, 6, 7, 3, 2, 1, 0] rfl ?_
            exact J166 (x5_157, x6_160, x7_164, h156) ⟨r5_157, r6_160, r7_164, E156⟩
          refine r_new (pc := 137) X kX27 q4453 (dl_at t_X21_pattern 73 rfl) fun a137_1 h137_1 p137_1 k137_1 E137_1 => ?_
          refine g_dup (pc := 140) X rv_cat (dl_at t_X21_pattern 74 rfl) ?_
          refine g_iload_n (pc := 141) X (j := 2) (i := 2) (q := 2) (x := a2) rfl rfl (dl_at t_X21_pattern 75 rfl) ?_
          refine r_callV (pc := 142) X (fun _ hv => sx_ScholarsPressModel_Broken_init_I_V k137_1 r2 hv) cw_code q4398 q392 (in_I X (As := [iv a2]) (Int.ne_of_gt p137_1) rfl (Or.inl q4454) q4397 q4398 ⟨by decide, by decide⟩ rfl (dl_at t_X21_pattern 76 rfl)) (dl_at t_X21_pattern 76 rfl) (cat24 (st := [rv D a137_1]) (Nat.le_of_ble_eq_true rfl)) (Nat.le_of_ble_eq_true rfl) (Nat.le_of_ble_eq_true rfl) fun h142_1 E142_1 => ?_
          refine g_athrow (pc := 145) X (Int.ne_of_gt p137_1) (dl_at t_X21_pattern 77 rfl) ?_
          exact gt_at fun Q hQ => gt_out (Q := Q) X rfl p137_1 (hno _) _ Q rfl hQ
        refine g_iload (pc := 85) X (i := 7) (q := 7) (x := x7_60) rfl (dl_at t_X21_pattern 45 rfl) ?_
        refine g_ifeq (pc := 87) X (r32_z r7_60) (off := 12) (tgt := 99) rfl (dl_at t_X21_pattern 46 rfl) (fun _ => ?_) (fun _ => ?_)
        · refine g_aload_n (pc := 99) X (j := 0) (i := 0) (q := 0) (x := a0) rfl rfl (dl_at t_X21_pattern 52 rfl) ?_
          have k100 := kx (E_33.trans (E_57.trans E_60)) (by decide) hk
          refine r_getr (pc := 100) X fX21_11 k100 q3358 (dl_at t_X21_pattern 53 rfl) ?_
          refine g_iload (pc := 103) X (i := 5) (q := 5) (x := x5_60) rfl (dl_at t_X21_pattern 54 rfl) ?_
          refine g_aload_n (pc := 105) X (j := 1) (i := 1) (q := 1) (x := a1) rfl rfl (dl_at t_X21_pattern 55 rfl) ?_
          refine g_iload (pc := 106) X (i := 4) (q := 4) (x := x4_60) rfl (dl_at t_X21_pattern 56 rfl) ?_
          refine g_bald (pc := 108) X r4_60 k69 (dl_at t_X21_pattern 57 rfl) fun g108 => ?_
          refine g_bipush (pc := 109) X (n := 48) rfl (dl_at t_X21_pattern 58 rfl) ?_
          refine g_isub (pc := 111) X (r32_b g108) (r32_c rfl) (dl_at t_X21_pattern 59 rfl) ?_
          refine g_i2b (pc := 112) X (r32_w _) (dl_at t_X21_pattern 60 rfl) ?_
          refine g_gd fun k113 => ?_
          refine r_bastB (pc := 113) X r5_60 (b_w8 _) k113 (dl_at t_X21_pattern 61 rfl) (fun h113 E113 => ?_)
          refine g_iconst (pc := 114) X (n := 1) (dl_at t_X21_pattern 62 rfl) ?_
          refine g_ltz (Or.inr rfl) fun x7_115 r7_115 => ?_
          refine g_istoreN (pc := 115) X (i := 7) (x := x7_115) (b := 6) (w := iv x6_60) (rest := [(0, rv D a0), (1, rv D a1), (2, iv a2), (3, iv a3), (4, iv x4_60), (5, iv x5_60)]) (Nat.le_of_ble_eq_true rfl) [6, 0, 1, 2, 3, 4, 5] rfl (by decide) rfl rfl (dl_at t_X21_pattern 63 rfl) ?_
          refine g_goto (pc := 117) X (off := 49) (tgt := 166) rfl (dl_at t_X21_pattern 64 rfl) ?_
          refine g_ls (ls2 := [(0, rv D a0), (1, rv D a1), (2, iv a2), (3, iv a3), (4, iv x4_60), (5, iv x5_60), (6, iv x6_60), (7, iv x7_115)]) [2, 3, 4, 5, 6, 7, 1, 0] rfl ?_
          exact J166 (x5_60, x6_60, x7_115, h113) ⟨r5_60, r6_60, r7_115, E113⟩
        refine r_new (pc := 90) X kX27 q4453 (dl_at t_X21_pattern 47 rfl) fun a90 h90 p90 k90 E90 => ?_
        refine g_dup (pc := 93) X rv_cat (dl_at t_X21_pattern 48 rfl) ?_
        refine g_iload_n (pc := 94) X (j := 2) (i := 2) (q := 2) (x := a2) rfl rfl (dl_at t_X21_pattern 49 rfl) ?_
        refine r_callV (pc := 95) X (fun _ hv => sx_ScholarsPressModel_Broken_init_I_V k90 r2 hv) cw_code q4398 q392 (in_I X (As := [iv a2]) (Int.ne_of_gt p90) rfl (Or.inl q4454) q4397 q4398 ⟨by decide, by decide⟩ rfl (dl_at t_X21_pattern 50 rfl)) (dl_at t_X21_pattern 50 rfl) (cat24 (st := [rv D a90]) (Nat.le_of_ble_eq_true rfl)) (Nat.le_of_ble_eq_true rfl) (Nat.le_of_ble_eq_true rfl) fun h95 E95 => ?_
        refine g_athrow (pc := 98) X (Int.ne_of_gt p90) (dl_at t_X21_pattern 51 rfl) ?_
        exact gt_at fun Q hQ => gt_out (Q := Q) X rfl p90 (hno _) _ Q rfl hQ
      · rintro ⟨x4_172, x5_172, x6_172, h_172⟩ ⟨r4_172, r5_172, r6_172, E_172⟩
        try dsimp only [sE]
        refine g_iload (pc := 172) X (i := 4) (q := 3) (x := x4_172) rfl (dl_at t_X21_pattern 91 rfl) ?_
        refine g_iload_n (pc := 174) X (j := 3) (i := 3) (q := 2) (x := a3) rfl rfl (dl_at t_X21_pattern 92 rfl) ?_
        refine g_join (γ := Int × Int × Hp) (fun q => r32 q.1 ∧ r32 q.2.1 ∧ Ext h_172 q.2.2) 193 (fun q => [(0, rv D a0), (2, iv a2), (3, iv a3), (4, iv q.1), (5, iv q.2.1), (6, iv x6_172)]) (fun q => []) (fun q => q.2.2) (fun q => m_X21_pattern_j193 a0 a2 a3 x6_172 q.1 q.2.1 q.2.2) ?_ ?_
        · rintro ⟨x4_193, x5_193, h_193⟩ ⟨r4_193, r5_193, E_193⟩
          try dsimp only
          unfold m_X21_pattern_j193
          refine g_iload (pc := 193) X (i := 6) (q := 5) (x := x6_172) rfl (dl_at t_X21_pattern 101 rfl) ?_
          refine g_ifeq (pc := 195) X r6_172 (off := 9) (tgt := 204) rfl (dl_at t_X21_pattern 102 rfl) (fun _ => ?_) (fun _ => ?_)
          · refine r_new (pc := 204) X kX27 q4453 (dl_at t_X21_pattern 106 rfl) fun a204 h204 p204 k204 E204 => ?_
            refine g_dup (pc := 207) X rv_cat (dl_at t_X21_pattern 107 rfl) ?_
            refine g_iload_n (pc := 208) X (j := 2) (i := 2) (q := 1) (x := a2) rfl rfl (dl_at t_X21_pattern 108 rfl) ?_
            refine r_callV (pc := 209) X (fun _ hv => sx_ScholarsPressModel_Broken_init_I_V k204 r2 hv) cw_code q4398 q392 (in_I X (As := [iv a2]) (Int.ne_of_gt p204) rfl (Or.inl q4454) q4397 q4398 ⟨by decide, by decide⟩ rfl (dl_at t_X21_pattern 109 rfl)) (dl_at t_X21_pattern 109 rfl) (cat24 (st := [rv D a204]) (Nat.le_of_ble_eq_true rfl)) (Nat.le_of_ble_eq_true rfl) (Nat.le_of_ble_eq_true rfl) fun h209 E209 => ?_
            refine g_athrow (pc := 212) X (Int.ne_of_gt p204) (dl_at t_X21_pattern 110 rfl) ?_
            exact gt_at fun Q hQ => gt_out (Q := Q) X rfl p204 (hno _) _ Q rfl hQ
          refine g_iload (pc := 198) X (i := 4) (q := 3) (x := x4_193) rfl (dl_at t_X21_pattern 103 rfl) ?_
          refine g_iload_n (pc := 200) X (j := 3) (i := 3) (q := 2) (x := a3) rfl rfl (dl_at t_X21_pattern 104 rfl) ?_
          refine g_icmpeq (pc := 201) X r4_193 r3 (off := 12) (tgt := 213) rfl (dl_at t_X21_pattern 105 rfl) (fun _ => ?_) (fun _ => ?_)
          · refine g_iconst (pc := 213) X (n := 0) (dl_at t_X21_pattern 111 rfl) ?_
            refine g_ltz (Or.inl rfl) fun x8_214 r8_214 => ?_
            refine g_istore (pc := 214) X (i := 8) (x := x8_214) (rest := [(0, rv D a0), (2, iv a2), (5, iv x5_193)]) (Nat.le_of_ble_eq_true rfl) [0, 1, 4] rfl rfl (dl_at t_X21_pattern 112 rfl) ?_
            refine g_ls (ls2 := [(0, rv D a0), (2, iv a2), (5, iv x5_193), (8, iv x8_214)]) [1, 2, 3, 0] rfl ?_
            refine g_loop1 (fun (q : Int) => [(0, rv D a0), (2, iv a2), (5, iv x5_193), (8, iv q)]) (fun (q : Int) => h_193) (fun (q : Int) => r32 q) 266 (fun (y266 : Int) => [(0, rv D a0), (2, iv a2), (5, iv x5_193), (8, iv y266)]) (fun (y266 : Int) => h_193) (fun (y266 : Int) => r32 y266) x8_214 (r32_z r8_214) ?_ ?_
            · rintro x8_216 r8_216
              try dsimp only
              unfold m_X21_pattern_l216
              refine g_iload (pc := 216) X (i := 8) (q := 3) (x := x8_216) rfl (dl_at t_X21_pattern 113 rfl) ?_
              refine g_aload_n (pc := 218) X (j := 0) (i := 0) (q := 0) (x := a0) rfl rfl (dl_at t_X21_pattern 114 rfl) ?_
              have k219 := kx (E_33.trans (E_57.trans (E_172.trans E_193))) (by decide) hk
              refine r_geti (pc := 219) X fX21_2 k219 q3347 (dl_at t_X21_pattern 115 rfl) fun g219 => ?_
              refine g_icmpge (pc := 222) X r8_216 g219 (off := 44) (tgt := 266) rfl (dl_at t_X21_pattern 116 rfl) (fun _ => ?_) (fun _ => ?_)
              · exact g_at fun Q hQ => hQ r8_216
              refine g_aload_n (pc := 225) X (j := 0) (i := 0) (q := 0) (x := a0) rfl rfl (dl_at t_X21_pattern 117 rfl) ?_
              refine r_getr (pc := 226) X fX21_4 k219 q3351 (dl_at t_X21_pattern 118 rfl) ?_
              refine g_bipush (pc := 229) X (n := 14) rfl (dl_at t_X21_pattern 119 rfl) ?_
              refine g_iload (pc := 231) X (i := 8) (q := 3) (x := x8_216) rfl (dl_at t_X21_pattern 120 rfl) ?_
              refine g_imul (pc := 233) X (r32_c rfl) r8_216 (dl_at t_X21_pattern 121 rfl) ?_
              refine g_bipush (pc := 234) X (n := 14) rfl (dl_at t_X21_pattern 122 rfl) ?_
              refine g_iload (pc := 236) X (i := 8) (q := 3) (x := x8_216) rfl (dl_at t_X21_pattern 123 rfl) ?_
              refine g_imul (pc := 238) X (r32_c rfl) r8_216 (dl_at t_X21_pattern 124 rfl) ?_
              refine g_aload_n (pc := 239) X (j := 0) (i := 0) (q := 0) (x := a0) rfl rfl (dl_at t_X21_pattern 125 rfl) ?_
              refine r_getr (pc := 240) X fX21_5 k219 q3352 (dl_at t_X21_pattern 126 rfl) ?_
              refine g_iload (pc := 243) X (i := 8) (q := 3) (x := x8_216) rfl (dl_at t_X21_pattern 127 rfl) ?_
              refine g_gd fun k245 => ?_
              refine g_iald (pc := 245) X r8_216 k245 (dl_at t_X21_pattern 128 rfl) fun g245 => ?_
              refine g_iadd (pc := 246) X (r32_w _) g245 (dl_at t_X21_pattern 129 rfl) ?_
              refine g_aload_n (pc := 247) X (j := 0) (i := 0) (q := 0) (x := a0) rfl rfl (dl_at t_X21_pattern 130 rfl) ?_
              refine r_getr (pc := 248) X fX21_10 k219 q3357 (dl_at t_X21_pattern 131 rfl) ?_
              refine g_iconst (pc := 251) X (n := 0) (dl_at t_X21_pattern 132 rfl) ?_
              refine g_iload (pc := 252) X (i := 5) (q := 2) (x := x5_193) rfl (dl_at t_X21_pattern 133 rfl) ?_
              refine r_callRz (pc := 254) X (fun _ hv => s_X18_same (r32_w _) (r32_w _) (r32_c rfl) r5_193 hv) cw_code q4464 q372 (in_Sc X (As := [rv D (h_193 a0 4), iv (w32 (14 * x8_216)), iv (w32 ((w32 (14 * x8_216)) + (h_193 (h_193 a0 5) x8_216))), rv D (h_193 a0 10), iv 0, iv x5_193]) (Or.inr ⟨_, nw_in q4462 rfl⟩) q4463 q372 q4464 ⟨by decide, by decide⟩ rfl (dl_at t_X21_pattern 134 rfl)) (dl_at t_X21_pattern 134 rfl) (cat24 (st := []) (Nat.le_of_ble_eq_true rfl)) (Nat.le_of_ble_eq_true rfl) (Nat.le_of_ble_eq_true rfl) fun v254 g254 => ?_
              refine g_ifne (pc := 257) X (r32_z g254) (off := 9) (tgt := 266) rfl (dl_at t_X21_pattern 135 rfl) (fun _ => ?_) (fun _ => ?_)
              · exact g_at fun Q hQ => hQ r8_216
              refine r_iinc (pc := 260) X (i := 8) (q := 3) (n := 1) (x := x8_216) (rest := [(0, rv D a0), (2, iv a2), (5, iv x5_193)]) rfl r8_216 (r32_c rfl) (Nat.le_of_ble_eq_true rfl) [0, 1, 2] rfl rfl (dl_at t_X21_pattern 136 rfl) fun x8_260 r8_260 => ?_
              refine g_goto (pc := 263) X (off := (-47)) (tgt := 216) rfl (dl_at t_X21_pattern 137 rfl) ?_
              refine g_ls (ls2 := [(0, rv D a0), (2, iv a2), (5, iv x5_193), (8, iv x8_260)]) [1, 2, 3, 0] rfl ?_
              exact g_at fun Q hQ => hQ r8_260
            · rintro x8_266 r8_266
              try dsimp only [sE]
              refine g_iload (pc := 266) X (i := 8) (q := 3) (x := x8_266) rfl (dl_at t_X21_pattern 138 rfl) ?_
              refine g_sipush (pc := 268) X (n := 300) rfl (dl_at t_X21_pattern 139 rfl) ?_
              refine g_icmpne (pc := 271) X r8_266 (r32_c rfl) (off := 12) (tgt := 283) rfl (dl_at t_X21_pattern 140 rfl) (fun _ => ?_) (fun _ => ?_)
              · refine g_aload_n (pc := 283) X (j := 0) (i := 0) (q := 0) (x := a0) rfl rfl (dl_at t_X21_pattern 146 rfl) ?_
                refine g_iload (pc := 284) X (i := 8) (q := 3) (x := x8_266) rfl (dl_at t_X21_pattern 147 rfl) ?_
                refine g_aload_n (pc := 286) X (j := 0) (i := 0) (q := 0) (x := a0) rfl rfl (dl_at t_X21_pattern 148 rfl) ?_
                have k287 := kx (E_33.trans (E_57.trans (E_172.trans E_193))) (by decide) hk
                refine r_geti (pc := 287) X fX21_2 k287 q3347 (dl_at t_X21_pattern 149 rfl) fun g287 => ?_
                refine g_join (γ := Int) (fun q => r32 q) 304 (fun q => [(0, rv D a0), (5, iv x5_193), (8, iv x8_266)]) (fun q => [iv q, rv D a0]) (fun q => h_193) (fun q => m_X21_pattern_j304 a0 x5_193 x8_266 q h_193) ?_ ?_
                · rintro s1_304 rs1_304
                  try dsimp only
                  unfold m_X21_pattern_j304
                  refine r_puti (pc := 304) X fX21_2 k287 q3347 rfl (dl_at t_X21_pattern 157 rfl) rs1_304 (fun h304 E304 => ?_)
                  refine g_aload_n (pc := 307) X (j := 0) (i := 0) (q := 0) (x := a0) rfl rfl (dl_at t_X21_pattern 158 rfl) ?_
                  have k308 := kx E304 (by decide) k287
                  refine r_getr (pc := 308) X fX21_5 k308 q3352 (dl_at t_X21_pattern 159 rfl) ?_
                  refine g_iload (pc := 311) X (i := 8) (q := 2) (x := x8_266) rfl (dl_at t_X21_pattern 160 rfl) ?_
                  refine g_iload (pc := 313) X (i := 5) (q := 1) (x := x5_193) rfl (dl_at t_X21_pattern 161 rfl) ?_
                  refine g_gd fun k315 => ?_
                  refine r_iast (pc := 315) X r8_266 r5_193 k315 (dl_at t_X21_pattern 162 rfl) (fun h315 E315 => ?_)
                  refine g_iconst (pc := 316) X (n := 0) (dl_at t_X21_pattern 163 rfl) ?_
                  refine g_ltz (Or.inl rfl) fun x9_317 r9_317 => ?_
                  refine g_istoreN (pc := 317) X (i := 9) (x := x9_317) (b := 8) (w := iv x8_266) (rest := [(0, rv D a0), (5, iv x5_193)]) (Nat.le_of_ble_eq_true rfl) [2, 0, 1] rfl (by decide) rfl rfl (dl_at t_X21_pattern 164 rfl) ?_
                  refine g_ls (ls2 := [(0, rv D a0), (5, iv x5_193), (8, iv x8_266), (9, iv x9_317)]) [2, 3, 1, 0] rfl ?_
                  refine g_loop1 (fun (q : Int × Hp) => [(0, rv D a0), (5, iv x5_193), (8, iv x8_266), (9, iv q.1)]) (fun (q : Int × Hp) => q.2) (fun (q : Int × Hp) => r32 q.1 ∧ Ext h315 q.2) 352 (fun (y352 : Hp) => [(0, rv D a0), (8, iv x8_266)]) (fun (y352 : Hp) => y352) (fun (y352 : Hp) => Ext h315 y352) (x9_317, h315) ⟨(r32_z r9_317), (Ext.refl _)⟩ ?_ ?_
                  · rintro ⟨x9_319, h_319⟩ ⟨r9_319, E_319⟩
                    try dsimp only
                    unfold m_X21_pattern_l319
                    refine g_iload (pc := 319) X (i := 9) (q := 3) (x := x9_319) rfl (dl_at t_X21_pattern 165 rfl) ?_
                    refine g_iload (pc := 321) X (i := 5) (q := 1) (x := x5_193) rfl (dl_at t_X21_pattern 166 rfl) ?_
                    refine g_icmpge (pc := 323) X r9_319 r5_193 (off := 29) (tgt := 352) rfl (dl_at t_X21_pattern 167 rfl) (fun _ => ?_) (fun _ => ?_)
                    · refine g_ls (ls2 := [(0, rv D a0), (8, iv x8_266)]) [0, 2] rfl ?_
                      exact g_at fun Q hQ => hQ E_319
                    refine g_aload_n (pc := 326) X (j := 0) (i := 0) (q := 0) (x := a0) rfl rfl (dl_at t_X21_pattern 168 rfl) ?_
                    have k327 := kx (E315.trans E_319) (by decide) k308
                    refine r_getr (pc := 327) X fX21_4 k327 q3351 (dl_at t_X21_pattern 169 rfl) ?_
                    refine g_bipush (pc := 330) X (n := 14) rfl (dl_at t_X21_pattern 170 rfl) ?_
                    refine g_iload (pc := 332) X (i := 8) (q := 2) (x := x8_266) rfl (dl_at t_X21_pattern 171 rfl) ?_
                    refine g_imul (pc := 334) X (r32_c rfl) r8_266 (dl_at t_X21_pattern 172 rfl) ?_
                    refine g_iload (pc := 335) X (i := 9) (q := 3) (x := x9_319) rfl (dl_at t_X21_pattern 173 rfl) ?_
                    refine g_iadd (pc := 337) X (r32_w _) r9_319 (dl_at t_X21_pattern 174 rfl) ?_
                    refine g_aload_n (pc := 338) X (j := 0) (i := 0) (q := 0) (x := a0) rfl rfl (dl_at t_X21_pattern 175 rfl) ?_
                    refine r_getr (pc := 339) X fX21_10 k327 q3357 (dl_at t_X21_pattern 176 rfl) ?_
                    refine g_iload (pc := 342) X (i := 9) (q := 3) (x := x9_319) rfl (dl_at t_X21_pattern 177 rfl) ?_
                    refine g_gd fun k344 => ?_
                    refine g_bald (pc := 344) X r9_319 k344 (dl_at t_X21_pattern 178 rfl) fun g344 => ?_
                    refine g_gd fun k345 => ?_
                    refine r_bastB (pc := 345) X (r32_w _) g344 k345 (dl_at t_X21_pattern 179 rfl) (fun h345 E345 => ?_)
                    refine r_iincN (pc := 346) X (i := 9) (q := 3) (n := 1) (x := x9_319) (b := 8) (w := iv x8_266) (rest := [(0, rv D a0), (5, iv x5_193)]) rfl r9_319 (r32_c rfl) (Nat.le_of_ble_eq_true rfl) [2, 0, 1] rfl (by decide) rfl rfl (dl_at t_X21_pattern 180 rfl) fun x9_346 r9_346 => ?_
                    refine g_goto (pc := 349) X (off := (-30)) (tgt := 319) rfl (dl_at t_X21_pattern 181 rfl) ?_
                    refine g_ls (ls2 := [(0, rv D a0), (5, iv x5_193), (8, iv x8_266), (9, iv x9_346)]) [2, 3, 1, 0] rfl ?_
                    exact g_at fun Q hQ => hQ ⟨r9_346, (E_319.trans E345)⟩
                  · rintro h_352 E_352
                    try dsimp only [sE]
                    refine g_iconst (pc := 352) X (n := 0) (dl_at t_X21_pattern 182 rfl) ?_
                    refine g_ltz (Or.inl rfl) fun x9_353 r9_353 => ?_
                    refine g_istoreN (pc := 353) X (i := 9) (x := x9_353) (b := 8) (w := iv x8_266) (rest := [(0, rv D a0)]) (Nat.le_of_ble_eq_true rfl) [1, 0] rfl (by decide) rfl rfl (dl_at t_X21_pattern 183 rfl) ?_
                    refine g_ls (ls2 := [(0, rv D a0), (8, iv x8_266), (9, iv x9_353)]) [2, 1, 0] rfl ?_
                    refine g_loop0F (fun (q : Int × Hp) => [(0, rv D a0), (8, iv x8_266), (9, iv q.1)]) (fun (q : Int × Hp) => q.2) (fun (q : Int × Hp) => r32 q.1 ∧ Ext h_352 q.2) (x9_353, h_352) ⟨(r32_z r9_353), (Ext.refl _)⟩ ?_ (fun _ => rfl)
                    · rintro ⟨x9_355, h_355⟩ ⟨r9_355, E_355⟩
                      try dsimp only
                      unfold m_X21_pattern_l355
                      refine g_iload (pc := 355) X (i := 9) (q := 2) (x := x9_355) rfl (dl_at t_X21_pattern 184 rfl) ?_
                      refine g_bipush (pc := 357) X (n := 16) rfl (dl_at t_X21_pattern 185 rfl) ?_
                      refine g_icmpge (pc := 359) X r9_355 (r32_c rfl) (off := 29) (tgt := 388) rfl (dl_at t_X21_pattern 186 rfl) (fun _ => ?_) (fun _ => ?_)
                      · exact g_at fun Q hQ => (g_vret (pc := 388) X (v := 0) rfl rfl (dl_at t_X21_pattern 201 rfl)) _ Q rfl hQ
                      refine g_aload_n (pc := 362) X (j := 0) (i := 0) (q := 0) (x := a0) rfl rfl (dl_at t_X21_pattern 187 rfl) ?_
                      have k363 := kx (E315.trans (E_352.trans E_355)) (by decide) k308
                      refine r_getr (pc := 363) X fX21_6 k363 q3353 (dl_at t_X21_pattern 188 rfl) ?_
                      refine g_bipush (pc := 366) X (n := 16) rfl (dl_at t_X21_pattern 189 rfl) ?_
                      refine g_iload (pc := 368) X (i := 8) (q := 1) (x := x8_266) rfl (dl_at t_X21_pattern 190 rfl) ?_
                      refine g_imul (pc := 370) X (r32_c rfl) r8_266 (dl_at t_X21_pattern 191 rfl) ?_
                      refine g_iload (pc := 371) X (i := 9) (q := 2) (x := x9_355) rfl (dl_at t_X21_pattern 192 rfl) ?_
                      refine g_iadd (pc := 373) X (r32_w _) r9_355 (dl_at t_X21_pattern 193 rfl) ?_
                      refine g_aload_n (pc := 374) X (j := 0) (i := 0) (q := 0) (x := a0) rfl rfl (dl_at t_X21_pattern 194 rfl) ?_
                      refine r_getr (pc := 375) X fX21_11 k363 q3358 (dl_at t_X21_pattern 195 rfl) ?_
                      refine g_iload (pc := 378) X (i := 9) (q := 2) (x := x9_355) rfl (dl_at t_X21_pattern 196 rfl) ?_
                      refine g_gd fun k380 => ?_
                      refine g_bald (pc := 380) X r9_355 k380 (dl_at t_X21_pattern 197 rfl) fun g380 => ?_
                      refine g_gd fun k381 => ?_
                      refine r_bastB (pc := 381) X (r32_w _) g380 k381 (dl_at t_X21_pattern 198 rfl) (fun h381 E381 => ?_)
                      refine r_iincN (pc := 382) X (i := 9) (q := 2) (n := 1) (x := x9_355) (b := 8) (w := iv x8_266) (rest := [(0, rv D a0)]) rfl r9_355 (r32_c rfl) (Nat.le_of_ble_eq_true rfl) [1, 0] rfl (by decide) rfl rfl (dl_at t_X21_pattern 199 rfl) fun x9_382 r9_382 => ?_
                      refine g_goto (pc := 385) X (off := (-30)) (tgt := 355) rfl (dl_at t_X21_pattern 200 rfl) ?_
                      refine g_ls (ls2 := [(0, rv D a0), (8, iv x8_266), (9, iv x9_382)]) [2, 1, 0] rfl ?_
                      exact g_at fun Q hQ => hQ ⟨r9_382, (E_355.trans E381)⟩
                intro J304
                refine g_icmpne (pc := 290) X r8_266 g287 (off := 10) (tgt := 300) rfl (dl_at t_X21_pattern 150 rfl) (fun _ => ?_) (fun _ => ?_)
                · refine g_aload_n (pc := 300) X (j := 0) (i := 0) (q := 0) (x := a0) rfl rfl (dl_at t_X21_pattern 155 rfl) ?_
                  refine r_geti (pc := 301) X fX21_2 k287 q3347 (dl_at t_X21_pattern 156 rfl) fun g301 => ?_
                  refine g_ls (ls2 := [(0, rv D a0), (5, iv x5_193), (8, iv x8_266)]) [0, 2, 3] rfl ?_
                  exact J304 (h_193 a0 2) g301
                refine g_iload (pc := 293) X (i := 8) (q := 3) (x := x8_266) rfl (dl_at t_X21_pattern 151 rfl) ?_
                refine g_iconst (pc := 295) X (n := 1) (dl_at t_X21_pattern 152 rfl) ?_
                refine g_iadd (pc := 296) X r8_266 (r32_c rfl) (dl_at t_X21_pattern 153 rfl) ?_
                refine g_goto (pc := 297) X (off := 7) (tgt := 304) rfl (dl_at t_X21_pattern 154 rfl) ?_
                refine g_ls (ls2 := [(0, rv D a0), (5, iv x5_193), (8, iv x8_266)]) [0, 2, 3] rfl ?_
                exact J304 (w32 (x8_266 + 1)) (r32_w _)
              refine r_new (pc := 274) X kX27 q4453 (dl_at t_X21_pattern 141 rfl) fun a274 h274 p274 k274 E274 => ?_
              refine g_dup (pc := 277) X rv_cat (dl_at t_X21_pattern 142 rfl) ?_
              refine g_iload_n (pc := 278) X (j := 2) (i := 2) (q := 1) (x := a2) rfl rfl (dl_at t_X21_pattern 143 rfl) ?_
              refine r_callV (pc := 279) X (fun _ hv => sx_ScholarsPressModel_Broken_init_I_V k274 r2 hv) cw_code q4398 q392 (in_I X (As := [iv a2]) (Int.ne_of_gt p274) rfl (Or.inl q4454) q4397 q4398 ⟨by decide, by decide⟩ rfl (dl_at t_X21_pattern 144 rfl)) (dl_at t_X21_pattern 144 rfl) (cat24 (st := [rv D a274]) (Nat.le_of_ble_eq_true rfl)) (Nat.le_of_ble_eq_true rfl) (Nat.le_of_ble_eq_true rfl) fun h279 E279 => ?_
              refine g_athrow (pc := 282) X (Int.ne_of_gt p274) (dl_at t_X21_pattern 145 rfl) ?_
              exact gt_at fun Q hQ => gt_out (Q := Q) X rfl p274 (hno _) _ Q rfl hQ
          refine r_new (pc := 204) X kX27 q4453 (dl_at t_X21_pattern 106 rfl) fun a204_1 h204_1 p204_1 k204_1 E204_1 => ?_
          refine g_dup (pc := 207) X rv_cat (dl_at t_X21_pattern 107 rfl) ?_
          refine g_iload_n (pc := 208) X (j := 2) (i := 2) (q := 1) (x := a2) rfl rfl (dl_at t_X21_pattern 108 rfl) ?_
          refine r_callV (pc := 209) X (fun _ hv => sx_ScholarsPressModel_Broken_init_I_V k204_1 r2 hv) cw_code q4398 q392 (in_I X (As := [iv a2]) (Int.ne_of_gt p204_1) rfl (Or.inl q4454) q4397 q4398 ⟨by decide, by decide⟩ rfl (dl_at t_X21_pattern 109 rfl)) (dl_at t_X21_pattern 109 rfl) (cat24 (st := [rv D a204_1]) (Nat.le_of_ble_eq_true rfl)) (Nat.le_of_ble_eq_true rfl) (Nat.le_of_ble_eq_true rfl) fun h209_1 E209_1 => ?_
          refine g_athrow (pc := 212) X (Int.ne_of_gt p204_1) (dl_at t_X21_pattern 110 rfl) ?_
          exact gt_at fun Q hQ => gt_out (Q := Q) X rfl p204_1 (hno _) _ Q rfl hQ
        intro J193
        refine g_icmpge (pc := 175) X r4_172 r3 (off := 18) (tgt := 193) rfl (dl_at t_X21_pattern 93 rfl) (fun _ => ?_) (fun _ => ?_)
        · exact J193 (x4_172, x5_172, h_172) ⟨r4_172, r5_172, (Ext.refl _)⟩
        refine g_aload_n (pc := 178) X (j := 0) (i := 0) (q := 0) (x := a0) rfl rfl (dl_at t_X21_pattern 94 rfl) ?_
        have k179 := kx (E_33.trans (E_57.trans E_172)) (by decide) hk
        refine r_getr (pc := 179) X fX21_10 k179 q3357 (dl_at t_X21_pattern 95 rfl) ?_
        refine g_iload (pc := 182) X (i := 5) (q := 4) (x := x5_172) rfl (dl_at t_X21_pattern 96 rfl) ?_
        refine g_bipush (pc := 184) X (n := 46) rfl (dl_at t_X21_pattern 97 rfl) ?_
        refine g_gd fun k186 => ?_
        refine r_bast (pc := 186) X r5_172 (r32_c rfl) k186 (dl_at t_X21_pattern 98 rfl) (fun h186 E186 => ?_)
        refine r_iincN (pc := 187) X (i := 5) (q := 4) (n := 1) (x := x5_172) (b := 4) (w := iv x4_172) (rest := [(0, rv D a0), (2, iv a2), (3, iv a3), (6, iv x6_172)]) rfl r5_172 (r32_c rfl) (Nat.le_of_ble_eq_true rfl) [3, 0, 1, 2, 5] rfl (by decide) rfl rfl (dl_at t_X21_pattern 99 rfl) fun x5_187 r5_187 => ?_
        refine r_iincN (pc := 190) X (i := 4) (q := 1) (n := 1) (x := x4_172) (b := 3) (w := iv a3) (rest := [(5, iv x5_187), (0, rv D a0), (2, iv a2), (6, iv x6_172)]) rfl r4_172 (r32_c rfl) (Nat.le_of_ble_eq_true rfl) [4, 0, 2, 3, 5] rfl (by decide) rfl rfl (dl_at t_X21_pattern 100 rfl) fun x4_190 r4_190 => ?_
        refine g_ls (ls2 := [(0, rv D a0), (2, iv a2), (3, iv a3), (4, iv x4_190), (5, iv x5_187), (6, iv x6_172)]) [3, 4, 1, 0, 2, 5] rfl ?_
        exact J193 (x4_190, x5_187, h186) ⟨r4_190, r5_187, E186⟩
    intro J57
    refine g_icmpne (pc := 39) X (r32_b g36) (r32_c rfl) (off := 18) (tgt := 57) rfl (dl_at t_X21_pattern 22 rfl) (fun _ => ?_) (fun _ => ?_)
    · exact J57 (a2, x5_4, h_33) ⟨r2, (r32_z r5_4), (Ext.refl _)⟩
    refine g_aload_n (pc := 42) X (j := 0) (i := 0) (q := 0) (x := a0) rfl rfl (dl_at t_X21_pattern 23 rfl) ?_
    have k43 := kx E_33 (by decide) hk
    refine r_getr (pc := 43) X fX21_10 k43 q3357 (dl_at t_X21_pattern 24 rfl) ?_
    refine g_iload (pc := 46) X (i := 5) (q := 5) (x := x5_4) rfl (dl_at t_X21_pattern 25 rfl) ?_
    refine g_bipush (pc := 48) X (n := 46) rfl (dl_at t_X21_pattern 26 rfl) ?_
    refine g_gd fun k50 => ?_
    refine r_bast (pc := 50) X (r32_z r5_4) (r32_c rfl) k50 (dl_at t_X21_pattern 27 rfl) (fun h50 E50 => ?_)
    refine r_iincN (pc := 51) X (i := 5) (q := 5) (n := 1) (x := x5_4) (b := 4) (w := iv a2) (rest := [(0, rv D a0), (1, rv D a1), (2, iv a2), (3, iv a3), (6, iv x6_7)]) rfl (r32_z r5_4) (r32_c rfl) (Nat.le_of_ble_eq_true rfl) [4, 0, 1, 2, 3, 6] rfl (by decide) rfl rfl (dl_at t_X21_pattern 28 rfl) fun x5_51 r5_51 => ?_
    refine r_iincN (pc := 54) X (i := 4) (q := 1) (n := 1) (x := a2) (b := 3) (w := iv a3) (rest := [(5, iv x5_51), (0, rv D a0), (1, rv D a1), (2, iv a2), (6, iv x6_7)]) rfl r2 (r32_c rfl) (Nat.le_of_ble_eq_true rfl) [5, 0, 2, 3, 4, 6] rfl (by decide) rfl rfl (dl_at t_X21_pattern 29 rfl) fun x4_54 r4_54 => ?_
    refine g_ls (ls2 := [(0, rv D a0), (1, rv D a1), (2, iv a2), (3, iv a3), (4, iv x4_54), (5, iv x5_51), (6, iv x6_7)]) [3, 4, 5, 1, 0, 2, 6] rfl ?_
    exact J57 (x4_54, x5_51, h50) ⟨r4_54, r5_51, E50⟩
def k_X21_read : List (Nat × Instr × Nat) := [(0, .aload_n 0, 1), (1, .invokevirtual 52, 3), (4, .iconst 0, 1), (5, .istore_n 3, 1), (6, .iconst 0, 1), (7, .istore 4, 2), (9, .iload_n 3, 1), (10, .iload_n 2, 1), (11, .if_icmp .ge 18, 3), (14, .aload_n 1, 1), (15, .iload_n 3, 1), (16, .baload, 1), (17, .invokestatic 55, 3), (20, .ifCond .eq 9, 3), (23, .iinc 3 1, 3), (26, .goto (-17), 3), (29, .iload_n 3, 1), (30, .iload_n 2, 1), (31, .if_icmp .ne 6, 3), (34, .goto 208, 3), (37, .iload_n 3, 1), (38, .istore 5, 2), (40, .iload 5, 2), (42, .iload_n 2, 1), (43, .if_icmp .ge 19, 3), (46, .aload_n 1, 1), (47, .iload 5, 2), (49, .baload, 1), (50, .invokestatic 55, 3), (53, .ifCond .ne 9, 3), (56, .iinc 5 1, 3), (59, .goto (-19), 3), (62, .iload_n 3, 1), (63, .istore 6, 2), (65, .iload 6, 2), (67, .iload 5, 2), (69, .if_icmp .ge 36, 3), (72, .aload_n 1, 1), (73, .iload 6, 2), (75, .baload, 1), (76, .bipush 33, 2), (78, .if_icmp .lt 12, 3), (81, .aload_n 1, 1), (82, .iload 6, 2), (84, .baload, 1), (85, .bipush 126, 2), (87, .if_icmp .le 12, 3), (90, .new 61, 3), (93, .dup, 1), (94, .iload_n 3, 1), (95, .invokespecial 63, 3), (98, .athrow, 1), (99, .iinc 6 1, 3), (102, .goto (-37), 3), (105, .iload 4, 2), (107, .ifCond .eq 84, 3), (110, .iload 5, 2), (112, .iload_n 3, 1), (113, .isub, 1), (114, .iconst 2, 1), (115, .if_icmp .ne 39, 3), (118, .aload_n 1, 1), (119, .iload_n 3, 1), (120, .baload, 1), (121, .bipush 49, 2), (123, .if_icmp .lt 31, 3), (126, .aload_n 1, 1), (127, .iload_n 3, 1), (128, .baload, 1), (129, .bipush 57, 2), (131, .if_icmp .gt 23, 3), (134, .aload_n 1, 1), (135, .iload_n 3, 1), (136, .iconst 1, 1), (137, .iadd, 1), (138, .baload, 1), (139, .bipush 49, 2), (141, .if_icmp .lt 13, 3), (144, .aload_n 1, 1), (145, .iload_n 3, 1), (146, .iconst 1, 1), (147, .iadd, 1), (148, .baload, 1), (149, .bipush 57, 2), (151, .if_icmp .le 12, 3), (154, .new 61, 3), (157, .dup, 1), (158, .iload_n 3, 1), (159, .invokespecial 63, 3), (162, .athrow, 1), (163, .aload_n 0, 1), (164, .aload_n 1, 1), (165, .iload_n 3, 1), (166, .baload, 1), (167, .bipush 48, 2), (169, .isub, 1), (170, .putfield 7, 3), (173, .aload_n 0, 1), (174, .aload_n 1, 1), (175, .iload_n 3, 1), (176, .iconst 1, 1), (177, .iadd, 1), (178, .baload, 1), (179, .bipush 48, 2), (181, .isub, 1), (182, .putfield 13, 3), (185, .iconst 0, 1), (186, .istore 4, 2), (188, .goto 48, 3), (191, .aload_n 1, 1), (192, .iload_n 3, 1), (193, .iload 5, 2), (195, .ldc 66, 2), (197, .invokestatic 68, 3), (200, .ifCond .eq 9, 3), (203, .iconst 1, 1), (204, .istore 4, 2), (206, .goto 30, 3), (209, .aload_n 1, 1), (210, .iload_n 3, 1), (211, .baload, 1), (212, .bipush 61, 2), (214, .if_icmp .ne 14, 3), (217, .aload_n 0, 1), (218, .aload_n 1, 1), (219, .iload_n 3, 1), (220, .iload 5, 2), (222, .invokevirtual 72, 3), (225, .goto 11, 3), (228, .aload_n 0, 1), (229, .aload_n 1, 1), (230, .iload_n 3, 1), (231, .iload 5, 2), (233, .invokevirtual 76, 3), (236, .iload 5, 2), (238, .istore_n 3, 1), (239, .goto (-230), 3), (242, .iload 4, 2), (244, .ifCond .eq 12, 3), (247, .new 61, 3), (250, .dup, 1), (251, .iload_n 2, 1), (252, .invokespecial 63, 3), (255, .athrow, 1), (256, .return_, 1)]
theorem t_X21_read : ∀ q ∈ k_X21_read, decode cX21_read q.1 = .ok q.2 := dl_all (by decide +kernel)
noncomputable def m_X21_read_l40 (a1 a2 x5_40 : Int) (h_9 : Hp) : Option ((Int) ⊕ ((Int))) :=
  if a2 ≤ x5_40 then (some (.inr x5_40))
  else (gd (h_9 a1 (-2) % 16 = 2 ∧ (0 : Int) ≤ x5_40 ∧ x5_40 < h_9 a1 (-1)) ((m_X18_isBlank (h_9 a1 x5_40)).bind fun v50 =>
  if v50 ≠ 0 then (some (.inr x5_40))
  else (lt_ (w32 (x5_40 + 1)) fun x5_56 =>
  some (.inl x5_56))))
noncomputable def m_X21_read_l65 (a1 x3_9 x5_62 x6_65 : Int) (h_9 : Hp) : Option ((Int) ⊕ ((Unit) ⊕ (((Int × Int × Hp) ⊕ ((Int × Hp) ⊕ (((Int × Int) × Hp))))))) :=
  if x5_62 ≤ x6_65 then (some (.inr (.inl ())))
  else (gd (h_9 a1 (-2) % 16 = 2 ∧ (0 : Int) ≤ x6_65 ∧ x6_65 < h_9 a1 (-1)) (if (h_9 a1 x6_65) < 33 then (al h_9 448 7 fun a90 h90 =>
  (x_broken a90 x3_9 h90).bind fun h95 =>
  some (.inr (.inr (.inr (.inr ((1, a90), h95))))))
  else (if (h_9 a1 x6_65) ≤ 126 then (lt_ (w32 (x6_65 + 1)) fun x6_99 =>
  some (.inl x6_99))
  else (al h_9 448 7 fun a90_1 h90_1 =>
  (x_broken a90_1 x3_9 h90_1).bind fun h95_1 =>
  some (.inr (.inr (.inr (.inr ((1, a90_1), h95_1)))))))))
noncomputable def m_X21_read_j236 (x5_62 x4_236 : Int) (h_236 : Hp) : Option ((Int × Int × Hp) ⊕ ((Int × Hp) ⊕ (((Int × Int) × Hp)))) :=
  some (.inl (x5_62, x4_236, h_236))
noncomputable def m_X21_read_j29 (a0 a1 a2 x3_9 x4_9 : Int) (h_9 : Hp) : Option ((Int × Int × Hp) ⊕ ((Int × Hp) ⊕ (((Int × Int) × Hp)))) :=
  if x3_9 ≠ a2 then ((lp (fun (q : Int) => m_X21_read_l40 a1 a2 q h_9) x3_9).bind (fun (y62 : Int) => (lp (fun (q : Int) => m_X21_read_l65 a1 x3_9 y62 q h_9) x3_9).bind (sE (fun (_ : Unit) => if x4_9 = 0 then ((m_X18_is a1 x3_9 y62 (-74) h_9).bind fun v197 =>
  if v197 = 0 then (gd (h_9 a1 (-2) % 16 = 2 ∧ (0 : Int) ≤ x3_9 ∧ x3_9 < h_9 a1 (-1)) (if (h_9 a1 x3_9) ≠ 61 then (bT (m_X21_pattern a0 a1 x3_9 y62 h_9) (fun _ h233 =>
  m_X21_read_j236 y62 x4_9 h233) (fun a_ h_ => some (.inr (.inr ((1, a_), h_)))))
  else (bT (m_X21_exception a0 a1 x3_9 y62 h_9) (fun _ h222 =>
  m_X21_read_j236 y62 x4_9 h222) (fun a_ h_ => some (.inr (.inr ((1, a_), h_)))))))
  else (lt_ 1 fun x4_204 =>
  m_X21_read_j236 y62 x4_204 h_9))
  else (if (w32 (y62 - x3_9)) ≠ 2 then (al h_9 448 7 fun a154 h154 =>
  (x_broken a154 x3_9 h154).bind fun h159 =>
  some (.inr (.inr ((1, a154), h159))))
  else (gd (h_9 a1 (-2) % 16 = 2 ∧ (0 : Int) ≤ x3_9 ∧ x3_9 < h_9 a1 (-1)) (if (h_9 a1 x3_9) < 49 then (al h_9 448 7 fun a154_1 h154_1 =>
  (x_broken a154_1 x3_9 h154_1).bind fun h159_1 =>
  some (.inr (.inr ((1, a154_1), h159_1))))
  else (if 57 < (h_9 a1 x3_9) then (al h_9 448 7 fun a154_2 h154_2 =>
  (x_broken a154_2 x3_9 h154_2).bind fun h159_2 =>
  some (.inr (.inr ((1, a154_2), h159_2))))
  else (gd (h_9 a1 (-2) % 16 = 2 ∧ (0 : Int) ≤ (w32 (x3_9 + 1)) ∧ (w32 (x3_9 + 1)) < h_9 a1 (-1)) (if (h_9 a1 (w32 (x3_9 + 1))) < 49 then (al h_9 448 7 fun a154_3 h154_3 =>
  (x_broken a154_3 x3_9 h154_3).bind fun h159_3 =>
  some (.inr (.inr ((1, a154_3), h159_3))))
  else (if (h_9 a1 (w32 (x3_9 + 1))) ≤ 57 then (pt h_9 a0 0 (w32 ((h_9 a1 x3_9) - 48)) fun h170 =>
  pt h170 a0 1 (w32 ((h170 a1 (w32 (x3_9 + 1))) - 48)) fun h182 =>
  lt_ 0 fun x4_186 =>
  m_X21_read_j236 y62 x4_186 h182)
  else (al h_9 448 7 fun a154_4 h154_4 =>
  (x_broken a154_4 x3_9 h154_4).bind fun h159_4 =>
  some (.inr (.inr ((1, a154_4), h159_4)))))))))))) (fun (x : (Int × Int × Hp) ⊕ ((Int × Hp) ⊕ (((Int × Int) × Hp)))) => some x))))
  else (some (.inr (.inl (x4_9, h_9))))
noncomputable def m_X21_read_l9 (a0 a1 a2 x3_9 x4_9 : Int) (h_9 : Hp) : Option ((Int × Int × Hp) ⊕ ((Int × Hp) ⊕ (((Int × Int) × Hp)))) :=
  if a2 ≤ x3_9 then (m_X21_read_j29 a0 a1 a2 x3_9 x4_9 h_9)
  else (gd (h_9 a1 (-2) % 16 = 2 ∧ (0 : Int) ≤ x3_9 ∧ x3_9 < h_9 a1 (-1)) ((m_X18_isBlank (h_9 a1 x3_9)).bind fun v17 =>
  if v17 = 0 then (m_X21_read_j29 a0 a1 a2 x3_9 x4_9 h_9)
  else (lt_ (w32 (x3_9 + 1)) fun x3_23 =>
  some (.inl (x3_23, x4_9, h_9)))))
noncomputable def m_X21_read (a0 a1 a2 : Int) (h : Hp) : Option ((Int × Int) × Hp) :=
  (m_X21_clear a0 h).bind fun h1 =>
  lt_ 0 fun x3_5 =>
  lt_ 0 fun x4_7 =>
  (lp (fun (q : Int × Int × Hp) => m_X21_read_l9 a0 a1 a2 q.1 q.2.1 q.2.2) (x3_5, x4_7, h1)).bind (sE (fun (y242 : Int × Hp) => if y242.1 = 0 then (some ((0, 0), y242.2))
  else (al y242.2 448 7 fun a247 h247 =>
  (x_broken a247 a2 h247).bind fun h252 =>
  some ((1, a247), h252))) (fun (x : (Int × Int) × Hp) => some x))
theorem s_X21_read {l : Launch} [NoTr l] {D : SD} {a0 a1 a2 : Int} {h : Hp} (hk : h a0 (-2) = 352) (r2 : r32 a2) {r : (Int × Int) × Hp} (hm : m_X21_read a0 a1 a2 h = some r) : Sim l D yX21_read (Cond.code yX21_read cX21_read 7 (Option.none : Option Jvm.ClassFile.FieldType)) 10 382 [rv D a0, rv D a1, iv a2] h 0 r := by
  refine Sim.of (fin := fun (v : (Int × Int) × Hp) => v) (lsE := [(0, rv D a0), (1, rv D a1), (2, iv a2)]) hm rfl cwS_code (la_r (la_r (la_i la_n))) (ll_r (ll_r (ll_i ll_n))) ?_
  intro p e s m below meth c X hcw hmm hcc hnm hname
  have hno := noh hcw hnm hmm hcc
  unfold m_X21_read
  refine g_aload_n (pc := 0) X (j := 0) (i := 0) (q := 0) (x := a0) rfl rfl (dl_at t_X21_read 0 rfl) ?_
  refine r_callV (pc := 1) X (fun _ hv => s_X21_clear hk hv) cw_code q4451 q375 (in_Vk X (As := []) kX21 hk (Or.inl q4448) q4449 q4450 cw_code q4451 ⟨by decide, by decide⟩ rfl (dl_at t_X21_read 1 rfl)) (dl_at t_X21_read 1 rfl) (cat24 (st := []) (Nat.le_of_ble_eq_true rfl)) (Nat.le_of_ble_eq_true rfl) (Nat.le_of_ble_eq_true rfl) fun h1 E1 => ?_
  refine g_iconst (pc := 4) X (n := 0) (dl_at t_X21_read 2 rfl) ?_
  refine g_ltz (Or.inl rfl) fun x3_5 r3_5 => ?_
  refine g_istore_nN (pc := 5) X (j := 3) (i := 3) (x := x3_5) (b := 2) (w := iv a2) (rest := [(0, rv D a0), (1, rv D a1)]) rfl (Nat.le_of_ble_eq_true rfl) [2, 0, 1] rfl (by decide) rfl rfl (dl_at t_X21_read 3 rfl) ?_
  refine g_iconst (pc := 6) X (n := 0) (dl_at t_X21_read 4 rfl) ?_
  refine g_ltz (Or.inl rfl) fun x4_7 r4_7 => ?_
  refine g_istoreN (pc := 7) X (i := 4) (x := x4_7) (b := 3) (w := iv x3_5) (rest := [(2, iv a2), (0, rv D a0), (1, rv D a1)]) (Nat.le_of_ble_eq_true rfl) [0, 1, 2, 3] rfl (by decide) rfl rfl (dl_at t_X21_read 5 rfl) ?_
  refine g_ls (ls2 := [(0, rv D a0), (1, rv D a1), (2, iv a2), (3, iv x3_5), (4, iv x4_7)]) [3, 4, 2, 1, 0] rfl ?_
  refine g_loop1F (fun (q : Int × Int × Hp) => [(0, rv D a0), (1, rv D a1), (2, iv a2), (3, iv q.1), (4, iv q.2.1)]) (fun (q : Int × Int × Hp) => q.2.2) (fun (q : Int × Int × Hp) => r32 q.1 ∧ (q.2.1 = 0 ∨ q.2.1 = 1) ∧ Ext h1 q.2.2) 242 (fun (y242 : Int × Hp) => [(2, iv a2), (4, iv y242.1)]) (fun (y242 : Int × Hp) => y242.2) (fun (y242 : Int × Hp) => (y242.1 = 0 ∨ y242.1 = 1) ∧ Ext h1 y242.2) (x3_5, x4_7, h1) ⟨(r32_z r3_5), r4_7, (Ext.refl _)⟩ ?_ ?_ (fun _ => rfl)
  · rintro ⟨x3_9, x4_9, h_9⟩ ⟨r3_9, r4_9, E_9⟩
    try dsimp only
    unfold m_X21_read_l9
    refine g_iload_n (pc := 9) X (j := 3) (i := 3) (q := 3) (x := x3_9) rfl rfl (dl_at t_X21_read 6 rfl) ?_
    refine g_iload_n (pc := 10) X (j := 2) (i := 2) (q := 2) (x := a2) rfl rfl (dl_at t_X21_read 7 rfl) ?_
    refine g_join (γ := Unit) (fun q => True) 29 (fun q => [(0, rv D a0), (1, rv D a1), (2, iv a2), (3, iv x3_9), (4, iv x4_9)]) (fun q => []) (fun q => h_9) (fun q => m_X21_read_j29 a0 a1 a2 x3_9 x4_9 h_9) ?_ ?_
    · rintro _ _
      try dsimp only
      unfold m_X21_read_j29
      refine g_iload_n (pc := 29) X (j := 3) (i := 3) (q := 3) (x := x3_9) rfl rfl (dl_at t_X21_read 16 rfl) ?_
      refine g_iload_n (pc := 30) X (j := 2) (i := 2) (q := 2) (x := a2) rfl rfl (dl_at t_X21_read 17 rfl) ?_
      refine g_icmpne (pc := 31) X r3_9 r2 (off := 6) (tgt := 37) rfl (dl_at t_X21_read 18 rfl) (fun _ => ?_) (fun _ => ?_)
      · refine g_iload_n (pc := 37) X (j := 3) (i := 3) (q := 3) (x := x3_9) rfl rfl (dl_at t_X21_read 20 rfl) ?_
        refine g_istoreN (pc := 38) X (i := 5) (x := x3_9) (b := 4) (w := iv x4_9) (rest := [(0, rv D a0), (1, rv D a1), (2, iv a2), (3, iv x3_9)]) (Nat.le_of_ble_eq_true rfl) [4, 0, 1, 2, 3] rfl (by decide) rfl rfl (dl_at t_X21_read 21 rfl) ?_
        refine g_ls (ls2 := [(0, rv D a0), (1, rv D a1), (2, iv a2), (3, iv x3_9), (4, iv x4_9), (5, iv x3_9)]) [2, 3, 4, 5, 1, 0] rfl ?_
        refine g_loop1 (fun (q : Int) => [(0, rv D a0), (1, rv D a1), (2, iv a2), (3, iv x3_9), (4, iv x4_9), (5, iv q)]) (fun (q : Int) => h_9) (fun (q : Int) => r32 q) 62 (fun (y62 : Int) => [(0, rv D a0), (1, rv D a1), (2, iv a2), (3, iv x3_9), (4, iv x4_9), (5, iv y62)]) (fun (y62 : Int) => h_9) (fun (y62 : Int) => r32 y62) x3_9 r3_9 ?_ ?_
        · rintro x5_40 r5_40
          try dsimp only
          unfold m_X21_read_l40
          refine g_iload (pc := 40) X (i := 5) (q := 5) (x := x5_40) rfl (dl_at t_X21_read 22 rfl) ?_
          refine g_iload_n (pc := 42) X (j := 2) (i := 2) (q := 2) (x := a2) rfl rfl (dl_at t_X21_read 23 rfl) ?_
          refine g_icmpge (pc := 43) X r5_40 r2 (off := 19) (tgt := 62) rfl (dl_at t_X21_read 24 rfl) (fun _ => ?_) (fun _ => ?_)
          · exact g_at fun Q hQ => hQ r5_40
          refine g_aload_n (pc := 46) X (j := 1) (i := 1) (q := 1) (x := a1) rfl rfl (dl_at t_X21_read 25 rfl) ?_
          refine g_iload (pc := 47) X (i := 5) (q := 5) (x := x5_40) rfl (dl_at t_X21_read 26 rfl) ?_
          refine g_gd fun k49 => ?_
          refine g_bald (pc := 49) X r5_40 k49 (dl_at t_X21_read 27 rfl) fun g49 => ?_
          refine r_callRz (pc := 50) X (fun _ hv => s_X18_isBlank (r32_b g49) hv) cw_code q4349 q372 (in_Sc X (As := [iv (h_9 a1 x5_40)]) (Or.inr ⟨_, nw_in q4452 rfl⟩) q4348 q372 q4349 ⟨by decide, by decide⟩ rfl (dl_at t_X21_read 28 rfl)) (dl_at t_X21_read 28 rfl) (cat24 (st := []) (Nat.le_of_ble_eq_true rfl)) (Nat.le_of_ble_eq_true rfl) (Nat.le_of_ble_eq_true rfl) fun v50 g50 => ?_
          refine g_ifne (pc := 53) X (r32_z g50) (off := 9) (tgt := 62) rfl (dl_at t_X21_read 29 rfl) (fun _ => ?_) (fun _ => ?_)
          · exact g_at fun Q hQ => hQ r5_40
          refine r_iincN (pc := 56) X (i := 5) (q := 5) (n := 1) (x := x5_40) (b := 4) (w := iv x4_9) (rest := [(0, rv D a0), (1, rv D a1), (2, iv a2), (3, iv x3_9)]) rfl r5_40 (r32_c rfl) (Nat.le_of_ble_eq_true rfl) [4, 0, 1, 2, 3] rfl (by decide) rfl rfl (dl_at t_X21_read 30 rfl) fun x5_56 r5_56 => ?_
          refine g_goto (pc := 59) X (off := (-19)) (tgt := 40) rfl (dl_at t_X21_read 31 rfl) ?_
          refine g_ls (ls2 := [(0, rv D a0), (1, rv D a1), (2, iv a2), (3, iv x3_9), (4, iv x4_9), (5, iv x5_56)]) [2, 3, 4, 5, 1, 0] rfl ?_
          exact g_at fun Q hQ => hQ r5_56
        · rintro x5_62 r5_62
          try dsimp only [sE]
          refine g_iload_n (pc := 62) X (j := 3) (i := 3) (q := 3) (x := x3_9) rfl rfl (dl_at t_X21_read 32 rfl) ?_
          refine g_istoreN (pc := 63) X (i := 6) (x := x3_9) (b := 5) (w := iv x5_62) (rest := [(0, rv D a0), (1, rv D a1), (2, iv a2), (3, iv x3_9), (4, iv x4_9)]) (Nat.le_of_ble_eq_true rfl) [5, 0, 1, 2, 3, 4] rfl (by decide) rfl rfl (dl_at t_X21_read 33 rfl) ?_
          refine g_ls (ls2 := [(0, rv D a0), (1, rv D a1), (2, iv a2), (3, iv x3_9), (4, iv x4_9), (5, iv x5_62), (6, iv x3_9)]) [2, 3, 4, 5, 6, 1, 0] rfl ?_
          refine g_loop1F (fun (q : Int) => [(0, rv D a0), (1, rv D a1), (2, iv a2), (3, iv x3_9), (4, iv x4_9), (5, iv x5_62), (6, iv q)]) (fun (q : Int) => h_9) (fun (q : Int) => r32 q) 105 (fun (y105 : Unit) => [(0, rv D a0), (1, rv D a1), (2, iv a2), (3, iv x3_9), (4, iv x4_9), (5, iv x5_62)]) (fun (y105 : Unit) => h_9) (fun (y105 : Unit) => True) x3_9 r3_9 ?_ ?_ (fun _ => rfl)
          · rintro x6_65 r6_65
            try dsimp only
            unfold m_X21_read_l65
            refine g_iload (pc := 65) X (i := 6) (q := 6) (x := x6_65) rfl (dl_at t_X21_read 34 rfl) ?_
            refine g_iload (pc := 67) X (i := 5) (q := 5) (x := x5_62) rfl (dl_at t_X21_read 35 rfl) ?_
            refine g_icmpge (pc := 69) X r6_65 r5_62 (off := 36) (tgt := 105) rfl (dl_at t_X21_read 36 rfl) (fun _ => ?_) (fun _ => ?_)
            · refine g_ls (ls2 := [(0, rv D a0), (1, rv D a1), (2, iv a2), (3, iv x3_9), (4, iv x4_9), (5, iv x5_62)]) [0, 1, 2, 3, 4, 5] rfl ?_
              exact g_at fun Q hQ => hQ trivial
            refine g_aload_n (pc := 72) X (j := 1) (i := 1) (q := 1) (x := a1) rfl rfl (dl_at t_X21_read 37 rfl) ?_
            refine g_iload (pc := 73) X (i := 6) (q := 6) (x := x6_65) rfl (dl_at t_X21_read 38 rfl) ?_
            refine g_gd fun k75 => ?_
            refine g_bald (pc := 75) X r6_65 k75 (dl_at t_X21_read 39 rfl) fun g75 => ?_
            refine g_bipush (pc := 76) X (n := 33) rfl (dl_at t_X21_read 40 rfl) ?_
            refine g_icmplt (pc := 78) X (r32_b g75) (r32_c rfl) (off := 12) (tgt := 90) rfl (dl_at t_X21_read 41 rfl) (fun _ => ?_) (fun _ => ?_)
            · refine r_new (pc := 90) X kX27 q4453 (dl_at t_X21_read 47 rfl) fun a90 h90 p90 k90 E90 => ?_
              refine g_dup (pc := 93) X rv_cat (dl_at t_X21_read 48 rfl) ?_
              refine g_iload_n (pc := 94) X (j := 3) (i := 3) (q := 3) (x := x3_9) rfl rfl (dl_at t_X21_read 49 rfl) ?_
              refine r_callV (pc := 95) X (fun _ hv => sx_ScholarsPressModel_Broken_init_I_V k90 r3_9 hv) cw_code q4398 q392 (in_I X (As := [iv x3_9]) (Int.ne_of_gt p90) rfl (Or.inl q4454) q4397 q4398 ⟨by decide, by decide⟩ rfl (dl_at t_X21_read 50 rfl)) (dl_at t_X21_read 50 rfl) (cat24 (st := [rv D a90]) (Nat.le_of_ble_eq_true rfl)) (Nat.le_of_ble_eq_true rfl) (Nat.le_of_ble_eq_true rfl) fun h95 E95 => ?_
              refine g_athrow (pc := 98) X (Int.ne_of_gt p90) (dl_at t_X21_read 51 rfl) ?_
              exact gt_at fun Q hQ => gt_out (Q := Q) X rfl p90 (hno _) _ Q rfl hQ
            refine g_aload_n (pc := 81) X (j := 1) (i := 1) (q := 1) (x := a1) rfl rfl (dl_at t_X21_read 42 rfl) ?_
            refine g_iload (pc := 82) X (i := 6) (q := 6) (x := x6_65) rfl (dl_at t_X21_read 43 rfl) ?_
            refine g_bald (pc := 84) X r6_65 k75 (dl_at t_X21_read 44 rfl) fun g84 => ?_
            refine g_bipush (pc := 85) X (n := 126) rfl (dl_at t_X21_read 45 rfl) ?_
            refine g_icmple (pc := 87) X (r32_b g84) (r32_c rfl) (off := 12) (tgt := 99) rfl (dl_at t_X21_read 46 rfl) (fun _ => ?_) (fun _ => ?_)
            · refine r_iincN (pc := 99) X (i := 6) (q := 6) (n := 1) (x := x6_65) (b := 5) (w := iv x5_62) (rest := [(0, rv D a0), (1, rv D a1), (2, iv a2), (3, iv x3_9), (4, iv x4_9)]) rfl r6_65 (r32_c rfl) (Nat.le_of_ble_eq_true rfl) [5, 0, 1, 2, 3, 4] rfl (by decide) rfl rfl (dl_at t_X21_read 52 rfl) fun x6_99 r6_99 => ?_
              refine g_goto (pc := 102) X (off := (-37)) (tgt := 65) rfl (dl_at t_X21_read 53 rfl) ?_
              refine g_ls (ls2 := [(0, rv D a0), (1, rv D a1), (2, iv a2), (3, iv x3_9), (4, iv x4_9), (5, iv x5_62), (6, iv x6_99)]) [2, 3, 4, 5, 6, 1, 0] rfl ?_
              exact g_at fun Q hQ => hQ r6_99
            refine r_new (pc := 90) X kX27 q4453 (dl_at t_X21_read 47 rfl) fun a90_1 h90_1 p90_1 k90_1 E90_1 => ?_
            refine g_dup (pc := 93) X rv_cat (dl_at t_X21_read 48 rfl) ?_
            refine g_iload_n (pc := 94) X (j := 3) (i := 3) (q := 3) (x := x3_9) rfl rfl (dl_at t_X21_read 49 rfl) ?_
            refine r_callV (pc := 95) X (fun _ hv => sx_ScholarsPressModel_Broken_init_I_V k90_1 r3_9 hv) cw_code q4398 q392 (in_I X (As := [iv x3_9]) (Int.ne_of_gt p90_1) rfl (Or.inl q4454) q4397 q4398 ⟨by decide, by decide⟩ rfl (dl_at t_X21_read 50 rfl)) (dl_at t_X21_read 50 rfl) (cat24 (st := [rv D a90_1]) (Nat.le_of_ble_eq_true rfl)) (Nat.le_of_ble_eq_true rfl) (Nat.le_of_ble_eq_true rfl) fun h95_1 E95_1 => ?_
            refine g_athrow (pc := 98) X (Int.ne_of_gt p90_1) (dl_at t_X21_read 51 rfl) ?_
            exact gt_at fun Q hQ => gt_out (Q := Q) X rfl p90_1 (hno _) _ Q rfl hQ
          · rintro _ _
            try dsimp only [sE]
            refine g_iload (pc := 105) X (i := 4) (q := 4) (x := x4_9) rfl (dl_at t_X21_read 54 rfl) ?_
            refine g_join (γ := Int × Hp) (fun q => (q.1 = 0 ∨ q.1 = 1) ∧ Ext h_9 q.2) 236 (fun q => [(0, rv D a0), (1, rv D a1), (2, iv a2), (4, iv q.1), (5, iv x5_62)]) (fun q => []) (fun q => q.2) (fun q => m_X21_read_j236 x5_62 q.1 q.2) ?_ ?_
            · rintro ⟨x4_236, h_236⟩ ⟨r4_236, E_236⟩
              try dsimp only
              unfold m_X21_read_j236
              refine g_iload (pc := 236) X (i := 5) (q := 4) (x := x5_62) rfl (dl_at t_X21_read 134 rfl) ?_
              refine g_istore_nN (pc := 238) X (j := 3) (i := 3) (x := x5_62) (b := 2) (w := iv a2) (rest := [(0, rv D a0), (1, rv D a1), (4, iv x4_236)]) rfl (Nat.le_of_ble_eq_true rfl) [2, 0, 1, 3] rfl (by decide) rfl rfl (dl_at t_X21_read 135 rfl) ?_
              refine g_goto (pc := 239) X (off := (-230)) (tgt := 9) rfl (dl_at t_X21_read 136 rfl) ?_
              refine g_ls (ls2 := [(0, rv D a0), (1, rv D a1), (2, iv a2), (3, iv x5_62), (4, iv x4_236)]) [2, 3, 1, 0, 4] rfl ?_
              exact g_at fun Q hQ => hQ ⟨r5_62, r4_236, (E_9.trans E_236)⟩
            intro J236
            refine g_ifeq (pc := 107) X (r32_z r4_9) (off := 84) (tgt := 191) rfl (dl_at t_X21_read 55 rfl) (fun _ => ?_) (fun _ => ?_)
            · refine g_aload_n (pc := 191) X (j := 1) (i := 1) (q := 1) (x := a1) rfl rfl (dl_at t_X21_read 109 rfl) ?_
              refine g_iload_n (pc := 192) X (j := 3) (i := 3) (q := 3) (x := x3_9) rfl rfl (dl_at t_X21_read 110 rfl) ?_
              refine g_iload (pc := 193) X (i := 5) (q := 5) (x := x5_62) rfl (dl_at t_X21_read 111 rfl) ?_
              refine g_ldcS (pc := 195) X (index := 66) (id := (-74)) 72 rfl rfl (dl_at t_X21_read 112 rfl) ?_
              refine r_callRz (pc := 197) X (fun _ hv => s_X18_is r3_9 r5_62 hv) cw_code q4367 q372 (in_Sc X (As := [rv D a1, iv x3_9, iv x5_62, rv D (-74)]) (Or.inr ⟨_, nw_in q4456 rfl⟩) q4366 q372 q4367 ⟨by decide, by decide⟩ rfl (dl_at t_X21_read 113 rfl)) (dl_at t_X21_read 113 rfl) (cat24 (st := []) (Nat.le_of_ble_eq_true rfl)) (Nat.le_of_ble_eq_true rfl) (Nat.le_of_ble_eq_true rfl) fun v197 g197 => ?_
              refine g_ifeq (pc := 200) X (r32_z g197) (off := 9) (tgt := 209) rfl (dl_at t_X21_read 114 rfl) (fun _ => ?_) (fun _ => ?_)
              · refine g_aload_n (pc := 209) X (j := 1) (i := 1) (q := 1) (x := a1) rfl rfl (dl_at t_X21_read 118 rfl) ?_
                refine g_iload_n (pc := 210) X (j := 3) (i := 3) (q := 3) (x := x3_9) rfl rfl (dl_at t_X21_read 119 rfl) ?_
                refine g_gd fun k211 => ?_
                refine g_bald (pc := 211) X r3_9 k211 (dl_at t_X21_read 120 rfl) fun g211 => ?_
                refine g_bipush (pc := 212) X (n := 61) rfl (dl_at t_X21_read 121 rfl) ?_
                refine g_icmpne (pc := 214) X (r32_b g211) (r32_c rfl) (off := 14) (tgt := 228) rfl (dl_at t_X21_read 122 rfl) (fun _ => ?_) (fun _ => ?_)
                · refine g_aload_n (pc := 228) X (j := 0) (i := 0) (q := 0) (x := a0) rfl rfl (dl_at t_X21_read 129 rfl) ?_
                  refine g_aload_n (pc := 229) X (j := 1) (i := 1) (q := 1) (x := a1) rfl rfl (dl_at t_X21_read 130 rfl) ?_
                  refine g_iload_n (pc := 230) X (j := 3) (i := 3) (q := 3) (x := x3_9) rfl rfl (dl_at t_X21_read 131 rfl) ?_
                  refine g_iload (pc := 231) X (i := 5) (q := 5) (x := x5_62) rfl (dl_at t_X21_read 132 rfl) ?_
                  have k233 := kx (E1.trans E_9) (by decide) hk
                  refine r_callTv (pc := 233) X (fun _ hv => s_X21_pattern k233 r3_9 r5_62 hv) cw_code q4468 q375 (in_Vk X (As := [rv D a1, iv x3_9, iv x5_62]) kX21 k233 (Or.inl q4465) q4467 qs244 cw_code q4468 ⟨by decide, by decide⟩ rfl (dl_at t_X21_read 133 rfl)) (dl_at t_X21_read 133 rfl) (cat24 (st := []) (Nat.le_of_ble_eq_true rfl)) (Nat.le_of_ble_eq_true rfl) (Nat.le_of_ble_eq_true rfl) (fun v233 h233 E233 => ?_) (fun _ _ ha _ => gt_at fun Q hQ => gt_out (Q := Q) X rfl ha (hno _) _ Q rfl hQ)
                  refine g_ls (ls2 := [(0, rv D a0), (1, rv D a1), (2, iv a2), (4, iv x4_9), (5, iv x5_62)]) [0, 1, 2, 4, 5] rfl ?_
                  exact J236 (x4_9, h233) ⟨r4_9, E233⟩
                refine g_aload_n (pc := 217) X (j := 0) (i := 0) (q := 0) (x := a0) rfl rfl (dl_at t_X21_read 123 rfl) ?_
                refine g_aload_n (pc := 218) X (j := 1) (i := 1) (q := 1) (x := a1) rfl rfl (dl_at t_X21_read 124 rfl) ?_
                refine g_iload_n (pc := 219) X (j := 3) (i := 3) (q := 3) (x := x3_9) rfl rfl (dl_at t_X21_read 125 rfl) ?_
                refine g_iload (pc := 220) X (i := 5) (q := 5) (x := x5_62) rfl (dl_at t_X21_read 126 rfl) ?_
                have k222 := kx (E1.trans E_9) (by decide) hk
                refine r_callTv (pc := 222) X (fun _ hv => s_X21_exception k222 r3_9 r5_62 hv) cw_code q4460 q375 (in_Vk X (As := [rv D a1, iv x3_9, iv x5_62]) kX21 k222 (Or.inl q4457) q4459 qs243 cw_code q4460 ⟨by decide, by decide⟩ rfl (dl_at t_X21_read 127 rfl)) (dl_at t_X21_read 127 rfl) (cat24 (st := []) (Nat.le_of_ble_eq_true rfl)) (Nat.le_of_ble_eq_true rfl) (Nat.le_of_ble_eq_true rfl) (fun v222 h222 E222 => ?_) (fun _ _ ha _ => gt_at fun Q hQ => gt_out (Q := Q) X rfl ha (hno _) _ Q rfl hQ)
                refine g_goto (pc := 225) X (off := 11) (tgt := 236) rfl (dl_at t_X21_read 128 rfl) ?_
                refine g_ls (ls2 := [(0, rv D a0), (1, rv D a1), (2, iv a2), (4, iv x4_9), (5, iv x5_62)]) [0, 1, 2, 4, 5] rfl ?_
                exact J236 (x4_9, h222) ⟨r4_9, E222⟩
              refine g_iconst (pc := 203) X (n := 1) (dl_at t_X21_read 115 rfl) ?_
              refine g_ltz (Or.inr rfl) fun x4_204 r4_204 => ?_
              refine g_istore (pc := 204) X (i := 4) (x := x4_204) (rest := [(0, rv D a0), (1, rv D a1), (2, iv a2), (5, iv x5_62)]) (Nat.le_of_ble_eq_true rfl) [0, 1, 2, 5] rfl rfl (dl_at t_X21_read 116 rfl) ?_
              refine g_goto (pc := 206) X (off := 30) (tgt := 236) rfl (dl_at t_X21_read 117 rfl) ?_
              refine g_ls (ls2 := [(0, rv D a0), (1, rv D a1), (2, iv a2), (4, iv x4_204), (5, iv x5_62)]) [1, 2, 3, 0, 4] rfl ?_
              exact J236 (x4_204, h_9) ⟨r4_204, (Ext.refl _)⟩
            refine g_iload (pc := 110) X (i := 5) (q := 5) (x := x5_62) rfl (dl_at t_X21_read 56 rfl) ?_
            refine g_iload_n (pc := 112) X (j := 3) (i := 3) (q := 3) (x := x3_9) rfl rfl (dl_at t_X21_read 57 rfl) ?_
            refine g_isub (pc := 113) X r5_62 r3_9 (dl_at t_X21_read 58 rfl) ?_
            refine g_iconst (pc := 114) X (n := 2) (dl_at t_X21_read 59 rfl) ?_
            refine g_icmpne (pc := 115) X (r32_w _) (r32_c rfl) (off := 39) (tgt := 154) rfl (dl_at t_X21_read 60 rfl) (fun _ => ?_) (fun _ => ?_)
            · refine r_new (pc := 154) X kX27 q4453 (dl_at t_X21_read 85 rfl) fun a154 h154 p154 k154 E154 => ?_
              refine g_dup (pc := 157) X rv_cat (dl_at t_X21_read 86 rfl) ?_
              refine g_iload_n (pc := 158) X (j := 3) (i := 3) (q := 3) (x := x3_9) rfl rfl (dl_at t_X21_read 87 rfl) ?_
              refine r_callV (pc := 159) X (fun _ hv => sx_ScholarsPressModel_Broken_init_I_V k154 r3_9 hv) cw_code q4398 q392 (in_I X (As := [iv x3_9]) (Int.ne_of_gt p154) rfl (Or.inl q4454) q4397 q4398 ⟨by decide, by decide⟩ rfl (dl_at t_X21_read 88 rfl)) (dl_at t_X21_read 88 rfl) (cat24 (st := [rv D a154]) (Nat.le_of_ble_eq_true rfl)) (Nat.le_of_ble_eq_true rfl) (Nat.le_of_ble_eq_true rfl) fun h159 E159 => ?_
              refine g_athrow (pc := 162) X (Int.ne_of_gt p154) (dl_at t_X21_read 89 rfl) ?_
              exact gt_at fun Q hQ => gt_out (Q := Q) X rfl p154 (hno _) _ Q rfl hQ
            refine g_aload_n (pc := 118) X (j := 1) (i := 1) (q := 1) (x := a1) rfl rfl (dl_at t_X21_read 61 rfl) ?_
            refine g_iload_n (pc := 119) X (j := 3) (i := 3) (q := 3) (x := x3_9) rfl rfl (dl_at t_X21_read 62 rfl) ?_
            refine g_gd fun k120 => ?_
            refine g_bald (pc := 120) X r3_9 k120 (dl_at t_X21_read 63 rfl) fun g120 => ?_
            refine g_bipush (pc := 121) X (n := 49) rfl (dl_at t_X21_read 64 rfl) ?_
            refine g_icmplt (pc := 123) X (r32_b g120) (r32_c rfl) (off := 31) (tgt := 154) rfl (dl_at t_X21_read 65 rfl) (fun _ => ?_) (fun _ => ?_)
            · refine r_new (pc := 154) X kX27 q4453 (dl_at t_X21_read 85 rfl) fun a154_1 h154_1 p154_1 k154_1 E154_1 => ?_
              refine g_dup (pc := 157) X rv_cat (dl_at t_X21_read 86 rfl) ?_
              refine g_iload_n (pc := 158) X (j := 3) (i := 3) (q := 3) (x := x3_9) rfl rfl (dl_at t_X21_read 87 rfl) ?_
              refine r_callV (pc := 159) X (fun _ hv => sx_ScholarsPressModel_Broken_init_I_V k154_1 r3_9 hv) cw_code q4398 q392 (in_I X (As := [iv x3_9]) (Int.ne_of_gt p154_1) rfl (Or.inl q4454) q4397 q4398 ⟨by decide, by decide⟩ rfl (dl_at t_X21_read 88 rfl)) (dl_at t_X21_read 88 rfl) (cat24 (st := [rv D a154_1]) (Nat.le_of_ble_eq_true rfl)) (Nat.le_of_ble_eq_true rfl) (Nat.le_of_ble_eq_true rfl) fun h159_1 E159_1 => ?_
              refine g_athrow (pc := 162) X (Int.ne_of_gt p154_1) (dl_at t_X21_read 89 rfl) ?_
              exact gt_at fun Q hQ => gt_out (Q := Q) X rfl p154_1 (hno _) _ Q rfl hQ
            refine g_aload_n (pc := 126) X (j := 1) (i := 1) (q := 1) (x := a1) rfl rfl (dl_at t_X21_read 66 rfl) ?_
            refine g_iload_n (pc := 127) X (j := 3) (i := 3) (q := 3) (x := x3_9) rfl rfl (dl_at t_X21_read 67 rfl) ?_
            refine g_bald (pc := 128) X r3_9 k120 (dl_at t_X21_read 68 rfl) fun g128 => ?_
            refine g_bipush (pc := 129) X (n := 57) rfl (dl_at t_X21_read 69 rfl) ?_
            refine g_icmpgt (pc := 131) X (r32_b g128) (r32_c rfl) (off := 23) (tgt := 154) rfl (dl_at t_X21_read 70 rfl) (fun _ => ?_) (fun _ => ?_)
            · refine r_new (pc := 154) X kX27 q4453 (dl_at t_X21_read 85 rfl) fun a154_2 h154_2 p154_2 k154_2 E154_2 => ?_
              refine g_dup (pc := 157) X rv_cat (dl_at t_X21_read 86 rfl) ?_
              refine g_iload_n (pc := 158) X (j := 3) (i := 3) (q := 3) (x := x3_9) rfl rfl (dl_at t_X21_read 87 rfl) ?_
              refine r_callV (pc := 159) X (fun _ hv => sx_ScholarsPressModel_Broken_init_I_V k154_2 r3_9 hv) cw_code q4398 q392 (in_I X (As := [iv x3_9]) (Int.ne_of_gt p154_2) rfl (Or.inl q4454) q4397 q4398 ⟨by decide, by decide⟩ rfl (dl_at t_X21_read 88 rfl)) (dl_at t_X21_read 88 rfl) (cat24 (st := [rv D a154_2]) (Nat.le_of_ble_eq_true rfl)) (Nat.le_of_ble_eq_true rfl) (Nat.le_of_ble_eq_true rfl) fun h159_2 E159_2 => ?_
              refine g_athrow (pc := 162) X (Int.ne_of_gt p154_2) (dl_at t_X21_read 89 rfl) ?_
              exact gt_at fun Q hQ => gt_out (Q := Q) X rfl p154_2 (hno _) _ Q rfl hQ
            refine g_aload_n (pc := 134) X (j := 1) (i := 1) (q := 1) (x := a1) rfl rfl (dl_at t_X21_read 71 rfl) ?_
            refine g_iload_n (pc := 135) X (j := 3) (i := 3) (q := 3) (x := x3_9) rfl rfl (dl_at t_X21_read 72 rfl) ?_
            refine g_iconst (pc := 136) X (n := 1) (dl_at t_X21_read 73 rfl) ?_
            refine g_iadd (pc := 137) X r3_9 (r32_c rfl) (dl_at t_X21_read 74 rfl) ?_
            refine g_gd fun k138 => ?_
            refine g_bald (pc := 138) X (r32_w _) k138 (dl_at t_X21_read 75 rfl) fun g138 => ?_
            refine g_bipush (pc := 139) X (n := 49) rfl (dl_at t_X21_read 76 rfl) ?_
            refine g_icmplt (pc := 141) X (r32_b g138) (r32_c rfl) (off := 13) (tgt := 154) rfl (dl_at t_X21_read 77 rfl) (fun _ => ?_) (fun _ => ?_)
            · refine r_new (pc := 154) X kX27 q4453 (dl_at t_X21_read 85 rfl) fun a154_3 h154_3 p154_3 k154_3 E154_3 => ?_
              refine g_dup (pc := 157) X rv_cat (dl_at t_X21_read 86 rfl) ?_
              refine g_iload_n (pc := 158) X (j := 3) (i := 3) (q := 3) (x := x3_9) rfl rfl (dl_at t_X21_read 87 rfl) ?_
              refine r_callV (pc := 159) X (fun _ hv => sx_ScholarsPressModel_Broken_init_I_V k154_3 r3_9 hv) cw_code q4398 q392 (in_I X (As := [iv x3_9]) (Int.ne_of_gt p154_3) rfl (Or.inl q4454) q4397 q4398 ⟨by decide, by decide⟩ rfl (dl_at t_X21_read 88 rfl)) (dl_at t_X21_read 88 rfl) (cat24 (st := [rv D a154_3]) (Nat.le_of_ble_eq_true rfl)) (Nat.le_of_ble_eq_true rfl) (Nat.le_of_ble_eq_true rfl) fun h159_3 E159_3 => ?_
              refine g_athrow (pc := 162) X (Int.ne_of_gt p154_3) (dl_at t_X21_read 89 rfl) ?_
              exact gt_at fun Q hQ => gt_out (Q := Q) X rfl p154_3 (hno _) _ Q rfl hQ
            refine g_aload_n (pc := 144) X (j := 1) (i := 1) (q := 1) (x := a1) rfl rfl (dl_at t_X21_read 78 rfl) ?_
            refine g_iload_n (pc := 145) X (j := 3) (i := 3) (q := 3) (x := x3_9) rfl rfl (dl_at t_X21_read 79 rfl) ?_
            refine g_iconst (pc := 146) X (n := 1) (dl_at t_X21_read 80 rfl) ?_
            refine g_iadd (pc := 147) X r3_9 (r32_c rfl) (dl_at t_X21_read 81 rfl) ?_
            refine g_bald (pc := 148) X (r32_w _) k138 (dl_at t_X21_read 82 rfl) fun g148 => ?_
            refine g_bipush (pc := 149) X (n := 57) rfl (dl_at t_X21_read 83 rfl) ?_
            refine g_icmple (pc := 151) X (r32_b g148) (r32_c rfl) (off := 12) (tgt := 163) rfl (dl_at t_X21_read 84 rfl) (fun _ => ?_) (fun _ => ?_)
            · refine g_aload_n (pc := 163) X (j := 0) (i := 0) (q := 0) (x := a0) rfl rfl (dl_at t_X21_read 90 rfl) ?_
              refine g_aload_n (pc := 164) X (j := 1) (i := 1) (q := 1) (x := a1) rfl rfl (dl_at t_X21_read 91 rfl) ?_
              refine g_iload_n (pc := 165) X (j := 3) (i := 3) (q := 3) (x := x3_9) rfl rfl (dl_at t_X21_read 92 rfl) ?_
              refine g_bald (pc := 166) X r3_9 k120 (dl_at t_X21_read 93 rfl) fun g166 => ?_
              refine g_bipush (pc := 167) X (n := 48) rfl (dl_at t_X21_read 94 rfl) ?_
              refine g_isub (pc := 169) X (r32_b g166) (r32_c rfl) (dl_at t_X21_read 95 rfl) ?_
              have k170 := kx (E1.trans E_9) (by decide) hk
              refine r_puti (pc := 170) X fX21_0 k170 q3345 rfl (dl_at t_X21_read 96 rfl) (r32_w _) (fun h170 E170 => ?_)
              refine g_aload_n (pc := 173) X (j := 0) (i := 0) (q := 0) (x := a0) rfl rfl (dl_at t_X21_read 97 rfl) ?_
              refine g_aload_n (pc := 174) X (j := 1) (i := 1) (q := 1) (x := a1) rfl rfl (dl_at t_X21_read 98 rfl) ?_
              refine g_iload_n (pc := 175) X (j := 3) (i := 3) (q := 3) (x := x3_9) rfl rfl (dl_at t_X21_read 99 rfl) ?_
              refine g_iconst (pc := 176) X (n := 1) (dl_at t_X21_read 100 rfl) ?_
              refine g_iadd (pc := 177) X r3_9 (r32_c rfl) (dl_at t_X21_read 101 rfl) ?_
              have k178 := ka E170 (by decide) k138
              refine g_bald (pc := 178) X (r32_w _) k178 (dl_at t_X21_read 102 rfl) fun g178 => ?_
              refine g_bipush (pc := 179) X (n := 48) rfl (dl_at t_X21_read 103 rfl) ?_
              refine g_isub (pc := 181) X (r32_b g178) (r32_c rfl) (dl_at t_X21_read 104 rfl) ?_
              have k182 := kx E170 (by decide) k170
              refine r_puti (pc := 182) X fX21_1 k182 q3346 rfl (dl_at t_X21_read 105 rfl) (r32_w _) (fun h182 E182 => ?_)
              refine g_iconst (pc := 185) X (n := 0) (dl_at t_X21_read 106 rfl) ?_
              refine g_ltz (Or.inl rfl) fun x4_186 r4_186 => ?_
              refine g_istore (pc := 186) X (i := 4) (x := x4_186) (rest := [(0, rv D a0), (1, rv D a1), (2, iv a2), (5, iv x5_62)]) (Nat.le_of_ble_eq_true rfl) [0, 1, 2, 5] rfl rfl (dl_at t_X21_read 107 rfl) ?_
              refine g_goto (pc := 188) X (off := 48) (tgt := 236) rfl (dl_at t_X21_read 108 rfl) ?_
              refine g_ls (ls2 := [(0, rv D a0), (1, rv D a1), (2, iv a2), (4, iv x4_186), (5, iv x5_62)]) [1, 2, 3, 0, 4] rfl ?_
              exact J236 (x4_186, h182) ⟨r4_186, (E170.trans E182)⟩
            refine r_new (pc := 154) X kX27 q4453 (dl_at t_X21_read 85 rfl) fun a154_4 h154_4 p154_4 k154_4 E154_4 => ?_
            refine g_dup (pc := 157) X rv_cat (dl_at t_X21_read 86 rfl) ?_
            refine g_iload_n (pc := 158) X (j := 3) (i := 3) (q := 3) (x := x3_9) rfl rfl (dl_at t_X21_read 87 rfl) ?_
            refine r_callV (pc := 159) X (fun _ hv => sx_ScholarsPressModel_Broken_init_I_V k154_4 r3_9 hv) cw_code q4398 q392 (in_I X (As := [iv x3_9]) (Int.ne_of_gt p154_4) rfl (Or.inl q4454) q4397 q4398 ⟨by decide, by decide⟩ rfl (dl_at t_X21_read 88 rfl)) (dl_at t_X21_read 88 rfl) (cat24 (st := [rv D a154_4]) (Nat.le_of_ble_eq_true rfl)) (Nat.le_of_ble_eq_true rfl) (Nat.le_of_ble_eq_true rfl) fun h159_4 E159_4 => ?_
            refine g_athrow (pc := 162) X (Int.ne_of_gt p154_4) (dl_at t_X21_read 89 rfl) ?_
            exact gt_at fun Q hQ => gt_out (Q := Q) X rfl p154_4 (hno _) _ Q rfl hQ
      refine g_goto (pc := 34) X (off := 208) (tgt := 242) rfl (dl_at t_X21_read 19 rfl) ?_
      refine g_ls (ls2 := [(2, iv a2), (4, iv x4_9)]) [2, 4] rfl ?_
      exact g_at fun Q hQ => hQ ⟨r4_9, E_9⟩
    intro J29
    refine g_icmpge (pc := 11) X r3_9 r2 (off := 18) (tgt := 29) rfl (dl_at t_X21_read 8 rfl) (fun _ => ?_) (fun _ => ?_)
    · exact J29 () trivial
    refine g_aload_n (pc := 14) X (j := 1) (i := 1) (q := 1) (x := a1) rfl rfl (dl_at t_X21_read 9 rfl) ?_
    refine g_iload_n (pc := 15) X (j := 3) (i := 3) (q := 3) (x := x3_9) rfl rfl (dl_at t_X21_read 10 rfl) ?_
    refine g_gd fun k16 => ?_
    refine g_bald (pc := 16) X r3_9 k16 (dl_at t_X21_read 11 rfl) fun g16 => ?_
    refine r_callRz (pc := 17) X (fun _ hv => s_X18_isBlank (r32_b g16) hv) cw_code q4349 q372 (in_Sc X (As := [iv (h_9 a1 x3_9)]) (Or.inr ⟨_, nw_in q4452 rfl⟩) q4348 q372 q4349 ⟨by decide, by decide⟩ rfl (dl_at t_X21_read 12 rfl)) (dl_at t_X21_read 12 rfl) (cat24 (st := []) (Nat.le_of_ble_eq_true rfl)) (Nat.le_of_ble_eq_true rfl) (Nat.le_of_ble_eq_true rfl) fun v17 g17 => ?_
    refine g_ifeq (pc := 20) X (r32_z g17) (off := 9) (tgt := 29) rfl (dl_at t_X21_read 13 rfl) (fun _ => ?_) (fun _ => ?_)
    · exact J29 () trivial
    refine r_iincN (pc := 23) X (i := 3) (q := 3) (n := 1) (x := x3_9) (b := 2) (w := iv a2) (rest := [(0, rv D a0), (1, rv D a1), (4, iv x4_9)]) rfl r3_9 (r32_c rfl) (Nat.le_of_ble_eq_true rfl) [2, 0, 1, 4] rfl (by decide) rfl rfl (dl_at t_X21_read 14 rfl) fun x3_23 r3_23 => ?_
    refine g_goto (pc := 26) X (off := (-17)) (tgt := 9) rfl (dl_at t_X21_read 15 rfl) ?_
    refine g_ls (ls2 := [(0, rv D a0), (1, rv D a1), (2, iv a2), (3, iv x3_23), (4, iv x4_9)]) [2, 3, 1, 0, 4] rfl ?_
    exact g_at fun Q hQ => hQ ⟨r3_23, r4_9, E_9⟩
  · rintro ⟨x4_242, h_242⟩ ⟨r4_242, E_242⟩
    try dsimp only [sE]
    refine g_iload (pc := 242) X (i := 4) (q := 1) (x := x4_242) rfl (dl_at t_X21_read 137 rfl) ?_
    refine g_ifeq (pc := 244) X (r32_z r4_242) (off := 12) (tgt := 256) rfl (dl_at t_X21_read 138 rfl) (fun _ => ?_) (fun _ => ?_)
    · exact g_vret (pc := 256) X (v := 0) rfl rfl (dl_at t_X21_read 144 rfl)
    refine r_new (pc := 247) X kX27 q4453 (dl_at t_X21_read 139 rfl) fun a247 h247 p247 k247 E247 => ?_
    refine g_dup (pc := 250) X rv_cat (dl_at t_X21_read 140 rfl) ?_
    refine g_iload_n (pc := 251) X (j := 2) (i := 2) (q := 0) (x := a2) rfl rfl (dl_at t_X21_read 141 rfl) ?_
    refine r_callV (pc := 252) X (fun _ hv => sx_ScholarsPressModel_Broken_init_I_V k247 r2 hv) cw_code q4398 q392 (in_I X (As := [iv a2]) (Int.ne_of_gt p247) rfl (Or.inl q4454) q4397 q4398 ⟨by decide, by decide⟩ rfl (dl_at t_X21_read 142 rfl)) (dl_at t_X21_read 142 rfl) (cat24 (st := [rv D a247]) (Nat.le_of_ble_eq_true rfl)) (Nat.le_of_ble_eq_true rfl) (Nat.le_of_ble_eq_true rfl) fun h252 E252 => ?_
    refine g_athrow (pc := 255) X (Int.ne_of_gt p247) (dl_at t_X21_read 143 rfl) ?_
    exact gt_at fun Q hQ => gt_out (Q := Q) X rfl p247 (hno _) _ Q rfl hQ
def k_X18_hyphens : List (Nat × Instr × Nat) := [(0, .aload_n 0, 1), (1, .getfield 34, 3), (4, .aload_n 0, 1), (5, .getfield 13, 3), (8, .aload_n 0, 1), (9, .getfield 104, 3), (12, .invokevirtual 132, 3), (15, .goto 14, 3), (18, .astore_n 1, 1), (19, .aload_n 0, 1), (20, .aload_n 1, 1), (21, .getfield 124, 3), (24, .iconst 1, 1), (25, .invokevirtual 125, 3), (28, .ireturn, 1), (29, .aload_n 0, 1), (30, .iconst 0, 1), (31, .putfield 87, 3), (34, .aload_n 0, 1), (35, .iconst (-1), 1), (36, .invokevirtual 115, 3), (39, .aload_n 0, 1), (40, .getfield 30, 3), (43, .astore_n 1, 1), (44, .aload_n 0, 1), (45, .aload_n 0, 1), (46, .getfield 34, 3), (49, .putfield 30, 3), (52, .aload_n 0, 1), (53, .aload_n 1, 1), (54, .putfield 34, 3), (57, .aload_n 0, 1), (58, .getfield 30, 3), (61, .getfield 133, 3), (64, .aload_n 0, 1), (65, .getfield 30, 3), (68, .getfield 136, 3), (71, .iadd, 1), (72, .ireturn, 1)]
theorem t_X18_hyphens : ∀ q ∈ k_X18_hyphens, decode cX18_hyphens q.1 = .ok q.2 := dl_all (by decide +kernel)
noncomputable def m_X18_hyphens (a0 : Int) (h : Hp) : Option (Int × Hp) :=
  gd (h (h a0 7) (-2) = 352) (bT (m_X21_read (h a0 7) (h a0 2) (h a0 3) h) (fun _ h12_1 =>
  pt h12_1 a0 0 0 fun h31 =>
  (m_X18_wasRead a0 (-1) h31).bind fun h36 =>
  lt_ (h36 a0 6) fun x1_43 =>
  pt h36 a0 6 (h36 a0 7) fun h49 =>
  pt h49 a0 7 x1_43 fun h54 =>
  gd (h54 (h54 a0 6) (-2) = 352) (some ((w32 ((h54 (h54 a0 6) 2) + (h54 (h54 a0 6) 3))), h54))) (fun a12 h12 => if h12 a12 (-2) = 448 then (bW (m_X18_broken a0 (h12 a12 0) 1 h12) fun v25 h25 =>
  some (v25, h25))
  else (none)))
theorem s_X18_hyphens {l : Launch} [NoTr l] {D : SD} {a0 : Int} {h : Hp} (hk : h a0 (-2) = 304) {r : Int × Hp} (hm : m_X18_hyphens a0 h = some r) : Sim l D yX18_hyphens (Cond.codeWith yX18_hyphens cX18_hyphens 2 (Option.some Jvm.ClassFile.FieldType.int) [((0 : Nat), (15 : Nat), (18 : Nat), (122 : Nat))]) 11 424 [rv D a0] h 1 ((0, r.1), r.2) := by
  refine Sim.of (fin := fun (v : Int × Hp) => ((0, v.1), v.2)) (lsE := [(0, rv D a0)]) hm rfl cwS_with (la_r la_n) (ll_r ll_n) ?_
  intro p e s m below meth c X hcw hmm hcc hnm hname
  have htb := tabW hcw hnm hmm hcc
  unfold m_X18_hyphens
  refine g_aload_n (pc := 0) X (j := 0) (i := 0) (q := 0) (x := a0) rfl rfl (dl_at t_X18_hyphens 0 rfl) ?_
  refine r_getr (pc := 1) X fX18_7 hk q4243 (dl_at t_X18_hyphens 1 rfl) ?_
  refine g_aload_n (pc := 4) X (j := 0) (i := 0) (q := 0) (x := a0) rfl rfl (dl_at t_X18_hyphens 2 rfl) ?_
  refine r_getr (pc := 5) X fX18_2 hk q4238 (dl_at t_X18_hyphens 3 rfl) ?_
  refine g_aload_n (pc := 8) X (j := 0) (i := 0) (q := 0) (x := a0) rfl rfl (dl_at t_X18_hyphens 4 rfl) ?_
  refine r_geti (pc := 9) X fX18_3 hk q4239 (dl_at t_X18_hyphens 5 rfl) fun g9 => ?_
  refine g_gd fun k12 => ?_
  refine r_callTv (pc := 12) X (fun _ hv => s_X21_read k12 g9 hv) cw_code q4447 q375 (in_Vk X (As := [rv D (h a0 2), iv (h a0 3)]) kX21 k12 (Or.inl q4444) q4445 q4446 cw_code q4447 ⟨by decide, by decide⟩ rfl (dl_at t_X18_hyphens 6 rfl)) (dl_at t_X18_hyphens 6 rfl) (cat24 (st := []) (Nat.le_of_ble_eq_true rfl)) (Nat.le_of_ble_eq_true rfl) (Nat.le_of_ble_eq_true rfl) (fun v12 h12_1 E12_1 => ?_) (fun a12 h12 p12 E12 => ?_)
  · refine g_goto (pc := 15) X (off := 14) (tgt := 29) rfl (dl_at t_X18_hyphens 7 rfl) ?_
    refine g_aload_n (pc := 29) X (j := 0) (i := 0) (q := 0) (x := a0) rfl rfl (dl_at t_X18_hyphens 15 rfl) ?_
    refine g_iconst (pc := 30) X (n := 0) (dl_at t_X18_hyphens 16 rfl) ?_
    have k31 := kx E12_1 (by decide) hk
    refine r_puti (pc := 31) X fX18_0 k31 q4236 rfl (dl_at t_X18_hyphens 17 rfl) (r32_c rfl) (fun h31 E31 => ?_)
    refine g_aload_n (pc := 34) X (j := 0) (i := 0) (q := 0) (x := a0) rfl rfl (dl_at t_X18_hyphens 18 rfl) ?_
    refine g_iconst (pc := 35) X (n := (-1)) (dl_at t_X18_hyphens 19 rfl) ?_
    have k36 := kx E31 (by decide) k31
    refine r_callV (pc := 36) X (fun _ hv => s_X18_wasRead k36 (r32_c rfl) hv) cw_code q4435 q372 (in_Vk X (As := [iv (-1)]) kX18 k36 (Or.inl q4432) q4434 qs242 cw_code q4435 ⟨by decide, by decide⟩ rfl (dl_at t_X18_hyphens 20 rfl)) (dl_at t_X18_hyphens 20 rfl) (cat24 (st := []) (Nat.le_of_ble_eq_true rfl)) (Nat.le_of_ble_eq_true rfl) (Nat.le_of_ble_eq_true rfl) fun h36 E36 => ?_
    refine g_aload_n (pc := 39) X (j := 0) (i := 0) (q := 0) (x := a0) rfl rfl (dl_at t_X18_hyphens 21 rfl) ?_
    have k40 := kx E36 (by decide) k36
    refine r_getr (pc := 40) X fX18_6 k40 q4242 (dl_at t_X18_hyphens 22 rfl) ?_
    refine g_ltr fun x1_43 => ?_
    refine g_astore_nN (pc := 43) X (j := 1) (i := 1) (x := x1_43) (b := 0) (w := rv D a0) (rest := []) rfl (Nat.le_of_ble_eq_true rfl) [0] rfl (by decide) rv_cat rfl (dl_at t_X18_hyphens 23 rfl) ?_
    refine g_aload_n (pc := 44) X (j := 0) (i := 0) (q := 1) (x := a0) rfl rfl (dl_at t_X18_hyphens 24 rfl) ?_
    refine g_aload_n (pc := 45) X (j := 0) (i := 0) (q := 1) (x := a0) rfl rfl (dl_at t_X18_hyphens 25 rfl) ?_
    refine r_getr (pc := 46) X fX18_7 k40 q4243 (dl_at t_X18_hyphens 26 rfl) ?_
    refine r_putr (pc := 49) X fX18_6 k40 q4242 rfl (dl_at t_X18_hyphens 27 rfl)  (fun h49 E49 => ?_)
    refine g_aload_n (pc := 52) X (j := 0) (i := 0) (q := 1) (x := a0) rfl rfl (dl_at t_X18_hyphens 28 rfl) ?_
    refine g_aload_n (pc := 53) X (j := 1) (i := 1) (q := 0) (x := x1_43) rfl rfl (dl_at t_X18_hyphens 29 rfl) ?_
    have k54 := kx E49 (by decide) k40
    refine r_putr (pc := 54) X fX18_7 k54 q4243 rfl (dl_at t_X18_hyphens 30 rfl)  (fun h54 E54 => ?_)
    refine g_aload_n (pc := 57) X (j := 0) (i := 0) (q := 1) (x := a0) rfl rfl (dl_at t_X18_hyphens 31 rfl) ?_
    have k58 := kx E54 (by decide) k54
    refine r_getr (pc := 58) X fX18_6 k58 q4242 (dl_at t_X18_hyphens 32 rfl) ?_
    refine g_gd fun k61 => ?_
    refine r_geti (pc := 61) X fX21_2 k61 q3348 (dl_at t_X18_hyphens 33 rfl) fun g61 => ?_
    refine g_aload_n (pc := 64) X (j := 0) (i := 0) (q := 1) (x := a0) rfl rfl (dl_at t_X18_hyphens 34 rfl) ?_
    refine r_getr (pc := 65) X fX18_6 k58 q4242 (dl_at t_X18_hyphens 35 rfl) ?_
    refine r_geti (pc := 68) X fX21_3 k61 q3350 (dl_at t_X18_hyphens 36 rfl) fun g68 => ?_
    refine g_iadd (pc := 71) X g61 g68 (dl_at t_X18_hyphens 37 rfl) ?_
    exact g_iret (pc := 72) X (r32_w _) rfl rfl (dl_at t_X18_hyphens 38 rfl)
  refine gt_case (fun k12_1 => ?_) (fun _ => ?_)
  · refine gt_catch (pc := 12) X kX27 k12_1 [((0, 15, 18, 122), "ScholarsPressModel$Broken", true)] (hp := 18) rfl (by decide +kernel) (List.forall_mem_cons.mpr ⟨⟨q4330, by decide⟩, fun _ h => absurd h List.not_mem_nil⟩) htb ?_
    refine g_astore_nN (pc := 18) X (j := 1) (i := 1) (x := a12) (b := 0) (w := rv D a0) (rest := []) rfl (Nat.le_of_ble_eq_true rfl) [0] rfl (by decide) rv_cat rfl (dl_at t_X18_hyphens 8 rfl) ?_
    refine g_aload_n (pc := 19) X (j := 0) (i := 0) (q := 1) (x := a0) rfl rfl (dl_at t_X18_hyphens 9 rfl) ?_
    refine g_aload_n (pc := 20) X (j := 1) (i := 1) (q := 0) (x := a12) rfl rfl (dl_at t_X18_hyphens 10 rfl) ?_
    refine r_geti (pc := 21) X fX27_0 k12_1 q4401 (dl_at t_X18_hyphens 11 rfl) fun g21 => ?_
    refine g_iconst (pc := 24) X (n := 1) (dl_at t_X18_hyphens 12 rfl) ?_
    have k25 := kx E12 (by decide) hk
    refine r_callWi (pc := 25) X (fun _ hv => s_X18_broken k25 g21 (r32_c rfl) hv) cw_code q4431 q372 (in_Vk X (As := [iv (h12 a12 0), iv 1]) kX18 k25 (Or.inl q4428) q4430 qs241 cw_code q4431 ⟨by decide, by decide⟩ rfl (dl_at t_X18_hyphens 13 rfl)) (dl_at t_X18_hyphens 13 rfl) (cat24 (st := []) (Nat.le_of_ble_eq_true rfl)) (Nat.le_of_ble_eq_true rfl) (Nat.le_of_ble_eq_true rfl) fun v25 h25 g25 E25 => ?_
    exact g_iret (pc := 28) X g25 rfl rfl (dl_at t_X18_hyphens 14 rfl)
  exact gt_none
def k_X22_word : List (Nat × Instr × Nat) := [(0, .aload_n 0, 1), (1, .getfield 18, 3), (4, .getfield 111, 3), (7, .iconst 1, 1), (8, .if_icmp .eq 11, 3), (11, .aload_n 0, 1), (12, .getfield 18, 3), (15, .invokevirtual 147, 3), (18, .athrow, 1), (19, .iconst 0, 1), (20, .istore_n 2, 1), (21, .iconst 0, 1), (22, .istore_n 3, 1), (23, .iconst 0, 1), (24, .istore 4, 2), (26, .iload 4, 2), (28, .aload_n 1, 1), (29, .invokevirtual 163, 3), (32, .if_icmp .gt 135, 3), (35, .iload 4, 2), (37, .aload_n 1, 1), (38, .invokevirtual 163, 3), (41, .if_icmp .ge 17, 3), (44, .aload_n 1, 1), (45, .iload 4, 2), (47, .invokevirtual 169, 3), (50, .bipush 32, 2), (52, .if_icmp .eq 6, 3), (55, .goto 106, 3), (58, .aload_n 0, 1), (59, .getfield 18, 3), (62, .getfield 173, 3), (65, .aload_n 0, 1), (66, .getfield 18, 3), (69, .getfield 176, 3), (72, .isub, 1), (73, .iload 4, 2), (75, .iload_n 3, 1), (76, .isub, 1), (77, .if_icmp .ne 76, 3), (80, .iconst 1, 1), (81, .istore 5, 2), (83, .iconst 0, 1), (84, .istore 6, 2), (86, .iload 6, 2), (88, .iload 4, 2), (90, .iload_n 3, 1), (91, .isub, 1), (92, .if_icmp .ge 47, 3), (95, .iload 5, 2), (97, .ifCond .eq 33, 3), (100, .aload_n 0, 1), (101, .getfield 9, 3), (104, .aload_n 0, 1), (105, .getfield 18, 3), (108, .getfield 176, 3), (111, .iload 6, 2), (113, .iadd, 1), (114, .baload, 1), (115, .aload_n 1, 1), (116, .iload_n 3, 1), (117, .iload 6, 2), (119, .iadd, 1), (120, .invokevirtual 169, 3), (123, .if_icmp .ne 7, 3), (126, .iconst 1, 1), (127, .goto 4, 3), (130, .iconst 0, 1), (131, .istore 5, 2), (133, .iinc 6 1, 3), (136, .goto (-50), 3), (139, .iload 5, 2), (141, .ifCond .eq 12, 3), (144, .aload_n 0, 1), (145, .getfield 18, 3), (148, .invokevirtual 119, 3), (151, .iload_n 2, 1), (152, .ireturn, 1), (153, .iinc 2 1, 3), (156, .iload 4, 2), (158, .iconst 1, 1), (159, .iadd, 1), (160, .istore_n 3, 1), (161, .iinc 4 1, 3), (164, .goto (-138), 3), (167, .aload_n 0, 1), (168, .getfield 18, 3), (171, .invokevirtual 147, 3), (174, .athrow, 1)]
theorem t_X22_word : ∀ q ∈ k_X22_word, decode cX22_word q.1 = .ok q.2 := dl_all (by decide +kernel)
noncomputable def m_X22_word_j161 (x4_26 x2_161 x3_161 : Int) : Option ((Int × Int × Int) ⊕ (((Int × Int) × Hp))) :=
  lt_ (w32 (x4_26 + 1)) fun x4_161 =>
  some (.inl (x2_161, x3_161, x4_161))
noncomputable def m_X22_word_j153 (x2_26 x4_26 : Int) : Option ((Int × Int × Int) ⊕ (((Int × Int) × Hp))) :=
  lt_ (w32 (x2_26 + 1)) fun x2_153 =>
  lt_ (w32 (x4_26 + 1)) fun x3_160 =>
  m_X22_word_j161 x4_26 x2_153 x3_160
noncomputable def m_X22_word_j131 (x6_86 s0_131 : Int) : Option ((Int × Int) ⊕ ((Int))) :=
  lt_ (w32 (x6_86 + 1)) fun x6_133 =>
  some (.inl (s0_131, x6_133))
noncomputable def m_X22_word_j130 (x6_86 : Int) : Option ((Int × Int) ⊕ ((Int))) :=
  m_X22_word_j131 x6_86 0
noncomputable def m_X22_word_l86 (a0 a1 x3_26 x4_26 x5_86 x6_86 : Int) (h : Hp) : Option ((Int × Int) ⊕ ((Int))) :=
  if (w32 (x4_26 - x3_26)) ≤ x6_86 then (some (.inr x5_86))
  else (if x5_86 = 0 then (m_X22_word_j130 x6_86)
  else (gd (h (h a0 0) (-2) % 16 = 2 ∧ (0 : Int) ≤ (w32 ((h (h a0 1) 4) + x6_86)) ∧ (w32 ((h (h a0 1) 4) + x6_86)) < h (h a0 0) (-1)) ((x_sat a1 (w32 (x3_26 + x6_86))).bind fun v120 =>
  if (h (h a0 0) (w32 ((h (h a0 1) 4) + x6_86))) ≠ v120 then (m_X22_word_j130 x6_86)
  else (m_X22_word_j131 x6_86 1))))
noncomputable def m_X22_word_j58 (a0 a1 x2_26 x3_26 x4_26 : Int) (h : Hp) : Option ((Int × Int × Int) ⊕ (((Int × Int) × Hp))) :=
  if (w32 ((h (h a0 1) 5) - (h (h a0 1) 4))) ≠ (w32 (x4_26 - x3_26)) then (m_X22_word_j153 x2_26 x4_26)
  else (lt_ 1 fun x5_81 =>
  lt_ 0 fun x6_84 =>
  (lp (fun (q : Int × Int) => m_X22_word_l86 a0 a1 x3_26 x4_26 q.1 q.2 h) (x5_81, x6_84)).bind (fun (y139 : Int) => if y139 = 0 then (m_X22_word_j153 x2_26 x4_26)
  else ((m_X20_next (h a0 1) h).bind fun h148 =>
  some (.inr ((0, x2_26), h148)))))
noncomputable def m_X22_word_l26 (a0 a1 x2_26 x3_26 x4_26 : Int) (h : Hp) : Option ((Int × Int × Int) ⊕ (((Int × Int) × Hp))) :=
  (x_slen a1).bind fun v29 =>
  if v29 < x4_26 then (bW (m_X20_broken (h a0 1) h) fun v171 h171 =>
  gd (0 < v171) (some (.inr ((1, v171), h171))))
  else ((x_slen a1).bind fun v38 =>
  if v38 ≤ x4_26 then (m_X22_word_j58 a0 a1 x2_26 x3_26 x4_26 h)
  else ((x_sat a1 x4_26).bind fun v47 =>
  if v47 = 32 then (m_X22_word_j58 a0 a1 x2_26 x3_26 x4_26 h)
  else (m_X22_word_j161 x4_26 x2_26 x3_26)))
noncomputable def m_X22_word (a0 a1 : Int) (h : Hp) : Option ((Int × Int) × Hp) :=
  gd (h (h a0 1) (-2) = 336) (if (h (h a0 1) 3) = 1 then (lt_ 0 fun x2_20 =>
  lt_ 0 fun x3_22 =>
  lt_ 0 fun x4_24 =>
  (lp (fun (q : Int × Int × Int) => m_X22_word_l26 a0 a1 q.1 q.2.1 q.2.2 h) (x2_20, x3_22, x4_24)).bind (fun (x : (Int × Int) × Hp) => some x))
  else (bW (m_X20_broken (h a0 1) h) fun v15 h15 =>
  gd (0 < v15) (some ((1, v15), h15))))
theorem s_X22_word {l : Launch} [NoTr l] {D : SD} {a0 a1 : Int} {h : Hp} (hk : h a0 (-2) = 368) {r : (Int × Int) × Hp} (hm : m_X22_word a0 a1 h = some r) : Sim l D yX22_word (Cond.code yX22_word cX22_word 7 (Option.some Jvm.ClassFile.FieldType.int)) 10 373 [rv D a0, rv D a1] h 1 r := by
  refine Sim.of (fin := fun (v : (Int × Int) × Hp) => v) (lsE := [(0, rv D a0), (1, rv D a1)]) hm rfl cwS_code (la_r (la_r la_n)) (ll_r (ll_r ll_n)) ?_
  intro p e s m below meth c X hcw hmm hcc hnm hname
  have hno := noh hcw hnm hmm hcc
  unfold m_X22_word
  refine g_aload_n (pc := 0) X (j := 0) (i := 0) (q := 0) (x := a0) rfl rfl (dl_at t_X22_word 0 rfl) ?_
  refine r_getr (pc := 1) X fX22_1 hk q3406 (dl_at t_X22_word 1 rfl) ?_
  refine g_gd fun k4 => ?_
  refine r_geti (pc := 4) X fX20_3 k4 q3277 (dl_at t_X22_word 2 rfl) fun g4 => ?_
  refine g_iconst (pc := 7) X (n := 1) (dl_at t_X22_word 3 rfl) ?_
  refine g_icmpeq (pc := 8) X g4 (r32_c rfl) (off := 11) (tgt := 19) rfl (dl_at t_X22_word 4 rfl) (fun _ => ?_) (fun _ => ?_)
  · refine g_iconst (pc := 19) X (n := 0) (dl_at t_X22_word 9 rfl) ?_
    refine g_ltz (Or.inl rfl) fun x2_20 r2_20 => ?_
    refine g_istore_nN (pc := 20) X (j := 2) (i := 2) (x := x2_20) (b := 1) (w := rv D a1) (rest := [(0, rv D a0)]) rfl (Nat.le_of_ble_eq_true rfl) [1, 0] rfl (by decide) rv_cat rfl (dl_at t_X22_word 10 rfl) ?_
    refine g_iconst (pc := 21) X (n := 0) (dl_at t_X22_word 11 rfl) ?_
    refine g_ltz (Or.inl rfl) fun x3_22 r3_22 => ?_
    refine g_istore_nN (pc := 22) X (j := 3) (i := 3) (x := x3_22) (b := 2) (w := iv x2_20) (rest := [(1, rv D a1), (0, rv D a0)]) rfl (Nat.le_of_ble_eq_true rfl) [0, 1, 2] rfl (by decide) rfl rfl (dl_at t_X22_word 12 rfl) ?_
    refine g_iconst (pc := 23) X (n := 0) (dl_at t_X22_word 13 rfl) ?_
    refine g_ltz (Or.inl rfl) fun x4_24 r4_24 => ?_
    refine g_istoreN (pc := 24) X (i := 4) (x := x4_24) (b := 3) (w := iv x3_22) (rest := [(2, iv x2_20), (1, rv D a1), (0, rv D a0)]) (Nat.le_of_ble_eq_true rfl) [0, 1, 2, 3] rfl (by decide) rfl rfl (dl_at t_X22_word 14 rfl) ?_
    refine g_ls (ls2 := [(0, rv D a0), (1, rv D a1), (2, iv x2_20), (3, iv x3_22), (4, iv x4_24)]) [4, 3, 2, 1, 0] rfl ?_
    refine g_loop0F (fun (q : Int × Int × Int) => [(0, rv D a0), (1, rv D a1), (2, iv q.1), (3, iv q.2.1), (4, iv q.2.2)]) (fun (q : Int × Int × Int) => h) (fun (q : Int × Int × Int) => r32 q.1 ∧ r32 q.2.1 ∧ r32 q.2.2) (x2_20, x3_22, x4_24) ⟨(r32_z r2_20), (r32_z r3_22), (r32_z r4_24)⟩ ?_ (fun _ => rfl)
    · rintro ⟨x2_26, x3_26, x4_26⟩ ⟨r2_26, r3_26, r4_26⟩
      try dsimp only
      unfold m_X22_word_l26
      refine g_iload (pc := 26) X (i := 4) (q := 4) (x := x4_26) rfl (dl_at t_X22_word 15 rfl) ?_
      refine g_aload_n (pc := 28) X (j := 1) (i := 1) (q := 1) (x := a1) rfl rfl (dl_at t_X22_word 16 rfl) ?_
      refine r_slen (pc := 29) X q4503 (cat24 (st := [iv x4_26]) (Nat.le_of_ble_eq_true rfl)) (Nat.le_of_ble_eq_true rfl) (Nat.le_of_ble_eq_true rfl) (dl_at t_X22_word 17 rfl) fun v29 g29 => ?_
      refine g_icmpgt (pc := 32) X r4_26 g29 (off := 135) (tgt := 167) rfl (dl_at t_X22_word 18 rfl) (fun _ => ?_) (fun _ => ?_)
      · refine g_aload_n (pc := 167) X (j := 0) (i := 0) (q := 0) (x := a0) rfl rfl (dl_at t_X22_word 85 rfl) ?_
        refine r_getr (pc := 168) X fX22_1 hk q3406 (dl_at t_X22_word 86 rfl) ?_
        refine r_callWr (pc := 171) X (fun _ hv => s_X20_broken k4 hv) cw_code q4386 q374 (in_Vk X (As := []) kX20 k4 (Or.inl q4494) q4384 q4385 cw_code q4386 ⟨by decide, by decide⟩ rfl (dl_at t_X22_word 87 rfl)) (dl_at t_X22_word 87 rfl) (cat24 (st := []) (Nat.le_of_ble_eq_true rfl)) (Nat.le_of_ble_eq_true rfl) (Nat.le_of_ble_eq_true rfl) fun v171 h171 E171 => ?_
        refine g_gd fun p174 => ?_
        refine g_athrow (pc := 174) X (Int.ne_of_gt p174) (dl_at t_X22_word 88 rfl) ?_
        exact gt_at fun Q hQ => gt_out (Q := Q) X rfl p174 (hno _) _ Q rfl hQ
      refine g_iload (pc := 35) X (i := 4) (q := 4) (x := x4_26) rfl (dl_at t_X22_word 19 rfl) ?_
      refine g_aload_n (pc := 37) X (j := 1) (i := 1) (q := 1) (x := a1) rfl rfl (dl_at t_X22_word 20 rfl) ?_
      refine r_slen (pc := 38) X q4503 (cat24 (st := [iv x4_26]) (Nat.le_of_ble_eq_true rfl)) (Nat.le_of_ble_eq_true rfl) (Nat.le_of_ble_eq_true rfl) (dl_at t_X22_word 21 rfl) fun v38 g38 => ?_
      refine g_join (γ := Int × Int) (fun q => r32 q.1 ∧ r32 q.2) 161 (fun q => [(0, rv D a0), (1, rv D a1), (2, iv q.1), (3, iv q.2), (4, iv x4_26)]) (fun q => []) (fun q => h) (fun q => m_X22_word_j161 x4_26 q.1 q.2) ?_ ?_
      · rintro ⟨x2_161, x3_161⟩ ⟨r2_161, r3_161⟩
        try dsimp only
        unfold m_X22_word_j161
        refine r_iincN (pc := 161) X (i := 4) (q := 4) (n := 1) (x := x4_26) (b := 3) (w := iv x3_161) (rest := [(0, rv D a0), (1, rv D a1), (2, iv x2_161)]) rfl r4_26 (r32_c rfl) (Nat.le_of_ble_eq_true rfl) [3, 0, 1, 2] rfl (by decide) rfl rfl (dl_at t_X22_word 83 rfl) fun x4_161 r4_161 => ?_
        refine g_goto (pc := 164) X (off := (-138)) (tgt := 26) rfl (dl_at t_X22_word 84 rfl) ?_
        refine g_ls (ls2 := [(0, rv D a0), (1, rv D a1), (2, iv x2_161), (3, iv x3_161), (4, iv x4_161)]) [2, 3, 4, 1, 0] rfl ?_
        exact g_at fun Q hQ => hQ ⟨r2_161, r3_161, r4_161⟩
      intro J161
      refine g_join (γ := Unit) (fun q => True) 58 (fun q => [(0, rv D a0), (1, rv D a1), (2, iv x2_26), (3, iv x3_26), (4, iv x4_26)]) (fun q => []) (fun q => h) (fun q => m_X22_word_j58 a0 a1 x2_26 x3_26 x4_26 h) ?_ ?_
      · rintro _ _
        try dsimp only
        unfold m_X22_word_j58
        refine g_aload_n (pc := 58) X (j := 0) (i := 0) (q := 0) (x := a0) rfl rfl (dl_at t_X22_word 29 rfl) ?_
        refine r_getr (pc := 59) X fX22_1 hk q3406 (dl_at t_X22_word 30 rfl) ?_
        refine r_geti (pc := 62) X fX20_5 k4 q3284 (dl_at t_X22_word 31 rfl) fun g62 => ?_
        refine g_aload_n (pc := 65) X (j := 0) (i := 0) (q := 0) (x := a0) rfl rfl (dl_at t_X22_word 32 rfl) ?_
        refine r_getr (pc := 66) X fX22_1 hk q3406 (dl_at t_X22_word 33 rfl) ?_
        refine r_geti (pc := 69) X fX20_4 k4 q3281 (dl_at t_X22_word 34 rfl) fun g69 => ?_
        refine g_isub (pc := 72) X g62 g69 (dl_at t_X22_word 35 rfl) ?_
        refine g_iload (pc := 73) X (i := 4) (q := 4) (x := x4_26) rfl (dl_at t_X22_word 36 rfl) ?_
        refine g_iload_n (pc := 75) X (j := 3) (i := 3) (q := 3) (x := x3_26) rfl rfl (dl_at t_X22_word 37 rfl) ?_
        refine g_isub (pc := 76) X r4_26 r3_26 (dl_at t_X22_word 38 rfl) ?_
        refine g_join (γ := Unit) (fun q => True) 153 (fun q => [(0, rv D a0), (1, rv D a1), (2, iv x2_26), (4, iv x4_26)]) (fun q => []) (fun q => h) (fun q => m_X22_word_j153 x2_26 x4_26) ?_ ?_
        · rintro _ _
          try dsimp only
          unfold m_X22_word_j153
          refine r_iincN (pc := 153) X (i := 2) (q := 2) (n := 1) (x := x2_26) (b := 1) (w := rv D a1) (rest := [(0, rv D a0), (4, iv x4_26)]) rfl r2_26 (r32_c rfl) (Nat.le_of_ble_eq_true rfl) [1, 0, 3] rfl (by decide) rv_cat rfl (dl_at t_X22_word 78 rfl) fun x2_153 r2_153 => ?_
          refine g_iload (pc := 156) X (i := 4) (q := 3) (x := x4_26) rfl (dl_at t_X22_word 79 rfl) ?_
          refine g_iconst (pc := 158) X (n := 1) (dl_at t_X22_word 80 rfl) ?_
          refine g_iadd (pc := 159) X r4_26 (r32_c rfl) (dl_at t_X22_word 81 rfl) ?_
          refine g_lti (r32_w _) fun x3_160 r3_160 => ?_
          refine g_istore_nN (pc := 160) X (j := 3) (i := 3) (x := x3_160) (b := 2) (w := iv x2_153) (rest := [(1, rv D a1), (0, rv D a0), (4, iv x4_26)]) rfl (Nat.le_of_ble_eq_true rfl) [0, 1, 2, 3] rfl (by decide) rfl rfl (dl_at t_X22_word 82 rfl) ?_
          refine g_ls (ls2 := [(0, rv D a0), (1, rv D a1), (2, iv x2_153), (3, iv x3_160), (4, iv x4_26)]) [3, 2, 1, 0, 4] rfl ?_
          exact J161 (x2_153, x3_160) ⟨r2_153, r3_160⟩
        intro J153
        refine g_icmpne (pc := 77) X (r32_w _) (r32_w _) (off := 76) (tgt := 153) rfl (dl_at t_X22_word 39 rfl) (fun _ => ?_) (fun _ => ?_)
        · refine g_ls (ls2 := [(0, rv D a0), (1, rv D a1), (2, iv x2_26), (4, iv x4_26)]) [0, 1, 2, 4] rfl ?_
          exact J153 () trivial
        refine g_iconst (pc := 80) X (n := 1) (dl_at t_X22_word 40 rfl) ?_
        refine g_ltz (Or.inr rfl) fun x5_81 r5_81 => ?_
        refine g_istoreN (pc := 81) X (i := 5) (x := x5_81) (b := 4) (w := iv x4_26) (rest := [(0, rv D a0), (1, rv D a1), (2, iv x2_26), (3, iv x3_26)]) (Nat.le_of_ble_eq_true rfl) [4, 0, 1, 2, 3] rfl (by decide) rfl rfl (dl_at t_X22_word 41 rfl) ?_
        refine g_iconst (pc := 83) X (n := 0) (dl_at t_X22_word 42 rfl) ?_
        refine g_ltz (Or.inl rfl) fun x6_84 r6_84 => ?_
        refine g_istoreN (pc := 84) X (i := 6) (x := x6_84) (b := 5) (w := iv x5_81) (rest := [(4, iv x4_26), (0, rv D a0), (1, rv D a1), (2, iv x2_26), (3, iv x3_26)]) (Nat.le_of_ble_eq_true rfl) [0, 1, 2, 3, 4, 5] rfl (by decide) rfl rfl (dl_at t_X22_word 43 rfl) ?_
        refine g_ls (ls2 := [(0, rv D a0), (1, rv D a1), (2, iv x2_26), (3, iv x3_26), (4, iv x4_26), (5, iv x5_81), (6, iv x6_84)]) [3, 4, 5, 6, 2, 1, 0] rfl ?_
        refine g_loop1 (fun (q : Int × Int) => [(0, rv D a0), (1, rv D a1), (2, iv x2_26), (3, iv x3_26), (4, iv x4_26), (5, iv q.1), (6, iv q.2)]) (fun (q : Int × Int) => h) (fun (q : Int × Int) => (q.1 = 0 ∨ q.1 = 1) ∧ r32 q.2) 139 (fun (y139 : Int) => [(0, rv D a0), (1, rv D a1), (2, iv x2_26), (4, iv x4_26), (5, iv y139)]) (fun (y139 : Int) => h) (fun (y139 : Int) => (y139 = 0 ∨ y139 = 1)) (x5_81, x6_84) ⟨r5_81, (r32_z r6_84)⟩ ?_ ?_
        · rintro ⟨x5_86, x6_86⟩ ⟨r5_86, r6_86⟩
          try dsimp only
          unfold m_X22_word_l86
          refine g_iload (pc := 86) X (i := 6) (q := 6) (x := x6_86) rfl (dl_at t_X22_word 44 rfl) ?_
          refine g_iload (pc := 88) X (i := 4) (q := 4) (x := x4_26) rfl (dl_at t_X22_word 45 rfl) ?_
          refine g_iload_n (pc := 90) X (j := 3) (i := 3) (q := 3) (x := x3_26) rfl rfl (dl_at t_X22_word 46 rfl) ?_
          refine g_isub (pc := 91) X r4_26 r3_26 (dl_at t_X22_word 47 rfl) ?_
          refine g_icmpge (pc := 92) X r6_86 (r32_w _) (off := 47) (tgt := 139) rfl (dl_at t_X22_word 48 rfl) (fun _ => ?_) (fun _ => ?_)
          · refine g_ls (ls2 := [(0, rv D a0), (1, rv D a1), (2, iv x2_26), (4, iv x4_26), (5, iv x5_86)]) [0, 1, 2, 4, 5] rfl ?_
            exact g_at fun Q hQ => hQ r5_86
          refine g_iload (pc := 95) X (i := 5) (q := 5) (x := x5_86) rfl (dl_at t_X22_word 49 rfl) ?_
          refine g_join (γ := Int) (fun q => (q = 0 ∨ q = 1)) 131 (fun q => [(0, rv D a0), (1, rv D a1), (2, iv x2_26), (3, iv x3_26), (4, iv x4_26), (6, iv x6_86)]) (fun q => [iv q]) (fun q => h) (fun q => m_X22_word_j131 x6_86 q) ?_ ?_
          · rintro s0_131 rs0_131
            try dsimp only
            unfold m_X22_word_j131
            refine g_istoreN (pc := 131) X (i := 5) (x := s0_131) (b := 4) (w := iv x4_26) (rest := [(0, rv D a0), (1, rv D a1), (2, iv x2_26), (3, iv x3_26), (6, iv x6_86)]) (Nat.le_of_ble_eq_true rfl) [4, 0, 1, 2, 3, 5] rfl (by decide) rfl rfl (dl_at t_X22_word 68 rfl) ?_
            refine r_iincN (pc := 133) X (i := 6) (q := 6) (n := 1) (x := x6_86) (b := 5) (w := iv s0_131) (rest := [(4, iv x4_26), (0, rv D a0), (1, rv D a1), (2, iv x2_26), (3, iv x3_26)]) rfl r6_86 (r32_c rfl) (Nat.le_of_ble_eq_true rfl) [0, 1, 2, 3, 4, 5] rfl (by decide) rfl rfl (dl_at t_X22_word 69 rfl) fun x6_133 r6_133 => ?_
            refine g_goto (pc := 136) X (off := (-50)) (tgt := 86) rfl (dl_at t_X22_word 70 rfl) ?_
            refine g_ls (ls2 := [(0, rv D a0), (1, rv D a1), (2, iv x2_26), (3, iv x3_26), (4, iv x4_26), (5, iv s0_131), (6, iv x6_133)]) [3, 4, 5, 6, 2, 1, 0] rfl ?_
            exact g_at fun Q hQ => hQ ⟨rs0_131, r6_133⟩
          intro J131
          refine g_join (γ := Unit) (fun q => True) 130 (fun q => [(0, rv D a0), (1, rv D a1), (2, iv x2_26), (3, iv x3_26), (4, iv x4_26), (6, iv x6_86)]) (fun q => []) (fun q => h) (fun q => m_X22_word_j130 x6_86) ?_ ?_
          · rintro _ _
            try dsimp only
            unfold m_X22_word_j130
            refine g_iconst (pc := 130) X (n := 0) (dl_at t_X22_word 67 rfl) ?_
            exact J131 0 (Or.inl rfl)
          intro J130
          refine g_ifeq (pc := 97) X (r32_z r5_86) (off := 33) (tgt := 130) rfl (dl_at t_X22_word 50 rfl) (fun _ => ?_) (fun _ => ?_)
          · refine g_ls (ls2 := [(0, rv D a0), (1, rv D a1), (2, iv x2_26), (3, iv x3_26), (4, iv x4_26), (6, iv x6_86)]) [0, 1, 2, 3, 4, 6] rfl ?_
            exact J130 () trivial
          refine g_aload_n (pc := 100) X (j := 0) (i := 0) (q := 0) (x := a0) rfl rfl (dl_at t_X22_word 51 rfl) ?_
          refine r_getr (pc := 101) X fX22_0 hk q3404 (dl_at t_X22_word 52 rfl) ?_
          refine g_aload_n (pc := 104) X (j := 0) (i := 0) (q := 0) (x := a0) rfl rfl (dl_at t_X22_word 53 rfl) ?_
          refine r_getr (pc := 105) X fX22_1 hk q3406 (dl_at t_X22_word 54 rfl) ?_
          refine r_geti (pc := 108) X fX20_4 k4 q3281 (dl_at t_X22_word 55 rfl) fun g108 => ?_
          refine g_iload (pc := 111) X (i := 6) (q := 6) (x := x6_86) rfl (dl_at t_X22_word 56 rfl) ?_
          refine g_iadd (pc := 113) X g108 r6_86 (dl_at t_X22_word 57 rfl) ?_
          refine g_gd fun k114 => ?_
          refine g_bald (pc := 114) X (r32_w _) k114 (dl_at t_X22_word 58 rfl) fun g114 => ?_
          refine g_aload_n (pc := 115) X (j := 1) (i := 1) (q := 1) (x := a1) rfl rfl (dl_at t_X22_word 59 rfl) ?_
          refine g_iload_n (pc := 116) X (j := 3) (i := 3) (q := 3) (x := x3_26) rfl rfl (dl_at t_X22_word 60 rfl) ?_
          refine g_iload (pc := 117) X (i := 6) (q := 6) (x := x6_86) rfl (dl_at t_X22_word 61 rfl) ?_
          refine g_iadd (pc := 119) X r3_26 r6_86 (dl_at t_X22_word 62 rfl) ?_
          refine r_sat (pc := 120) X (r32_w _) q4504 (cat24 (st := [iv (h (h a0 0) (w32 ((h (h a0 1) 4) + x6_86)))]) (Nat.le_of_ble_eq_true rfl)) (Nat.le_of_ble_eq_true rfl) (Nat.le_of_ble_eq_true rfl) (dl_at t_X22_word 63 rfl) fun v120 g120 => ?_
          refine g_icmpne (pc := 123) X (r32_b g114) g120 (off := 7) (tgt := 130) rfl (dl_at t_X22_word 64 rfl) (fun _ => ?_) (fun _ => ?_)
          · refine g_ls (ls2 := [(0, rv D a0), (1, rv D a1), (2, iv x2_26), (3, iv x3_26), (4, iv x4_26), (6, iv x6_86)]) [0, 1, 2, 3, 4, 6] rfl ?_
            exact J130 () trivial
          refine g_iconst (pc := 126) X (n := 1) (dl_at t_X22_word 65 rfl) ?_
          refine g_goto (pc := 127) X (off := 4) (tgt := 131) rfl (dl_at t_X22_word 66 rfl) ?_
          refine g_ls (ls2 := [(0, rv D a0), (1, rv D a1), (2, iv x2_26), (3, iv x3_26), (4, iv x4_26), (6, iv x6_86)]) [0, 1, 2, 3, 4, 6] rfl ?_
          exact J131 1 (Or.inr rfl)
        · rintro x5_139 r5_139
          try dsimp only [sE]
          refine g_iload (pc := 139) X (i := 5) (q := 4) (x := x5_139) rfl (dl_at t_X22_word 71 rfl) ?_
          refine g_ifeq (pc := 141) X (r32_z r5_139) (off := 12) (tgt := 153) rfl (dl_at t_X22_word 72 rfl) (fun _ => ?_) (fun _ => ?_)
          · refine g_ls (ls2 := [(0, rv D a0), (1, rv D a1), (2, iv x2_26), (4, iv x4_26)]) [0, 1, 2, 3] rfl ?_
            exact J153 () trivial
          refine g_aload_n (pc := 144) X (j := 0) (i := 0) (q := 0) (x := a0) rfl rfl (dl_at t_X22_word 73 rfl) ?_
          refine r_getr (pc := 145) X fX22_1 hk q3406 (dl_at t_X22_word 74 rfl) ?_
          refine r_callV (pc := 148) X (fun _ hv => s_X20_next k4 hv) cw_code q4342 q374 (in_Vk X (As := []) kX20 k4 (Or.inl q4481) q4340 q4341 cw_code q4342 ⟨by decide, by decide⟩ rfl (dl_at t_X22_word 75 rfl)) (dl_at t_X22_word 75 rfl) (cat24 (st := []) (Nat.le_of_ble_eq_true rfl)) (Nat.le_of_ble_eq_true rfl) (Nat.le_of_ble_eq_true rfl) fun h148 E148 => ?_
          refine g_iload_n (pc := 151) X (j := 2) (i := 2) (q := 2) (x := x2_26) rfl rfl (dl_at t_X22_word 76 rfl) ?_
          exact g_at fun Q hQ => (g_iret (pc := 152) X r2_26 rfl rfl (dl_at t_X22_word 77 rfl)) _ Q rfl hQ
      intro J58
      refine g_icmpge (pc := 41) X r4_26 g38 (off := 17) (tgt := 58) rfl (dl_at t_X22_word 22 rfl) (fun _ => ?_) (fun _ => ?_)
      · exact J58 () trivial
      refine g_aload_n (pc := 44) X (j := 1) (i := 1) (q := 1) (x := a1) rfl rfl (dl_at t_X22_word 23 rfl) ?_
      refine g_iload (pc := 45) X (i := 4) (q := 4) (x := x4_26) rfl (dl_at t_X22_word 24 rfl) ?_
      refine r_sat (pc := 47) X r4_26 q4504 (cat24 (st := []) (Nat.le_of_ble_eq_true rfl)) (Nat.le_of_ble_eq_true rfl) (Nat.le_of_ble_eq_true rfl) (dl_at t_X22_word 25 rfl) fun v47 g47 => ?_
      refine g_bipush (pc := 50) X (n := 32) rfl (dl_at t_X22_word 26 rfl) ?_
      refine g_icmpeq (pc := 52) X g47 (r32_c rfl) (off := 6) (tgt := 58) rfl (dl_at t_X22_word 27 rfl) (fun _ => ?_) (fun _ => ?_)
      · exact J58 () trivial
      refine g_goto (pc := 55) X (off := 106) (tgt := 161) rfl (dl_at t_X22_word 28 rfl) ?_
      exact J161 (x2_26, x3_26) ⟨r2_26, r3_26⟩
  refine g_aload_n (pc := 11) X (j := 0) (i := 0) (q := 0) (x := a0) rfl rfl (dl_at t_X22_word 5 rfl) ?_
  refine r_getr (pc := 12) X fX22_1 hk q3406 (dl_at t_X22_word 6 rfl) ?_
  refine r_callWr (pc := 15) X (fun _ hv => s_X20_broken k4 hv) cw_code q4386 q374 (in_Vk X (As := []) kX20 k4 (Or.inl q4494) q4384 q4385 cw_code q4386 ⟨by decide, by decide⟩ rfl (dl_at t_X22_word 7 rfl)) (dl_at t_X22_word 7 rfl) (cat24 (st := []) (Nat.le_of_ble_eq_true rfl)) (Nat.le_of_ble_eq_true rfl) (Nat.le_of_ble_eq_true rfl) fun v15 h15 E15 => ?_
  refine g_gd fun p18 => ?_
  refine g_athrow (pc := 18) X (Int.ne_of_gt p18) (dl_at t_X22_word 8 rfl) ?_
  exact gt_at fun Q hQ => gt_out (Q := Q) X rfl p18 (hno _) _ Q rfl hQ
def k_X22_pageBody : List (Nat × Instr × Nat) := [(0, .aload_n 0, 1), (1, .getfield 18, 3), (4, .bipush 123, 2), (6, .invokevirtual 128, 3), (9, .aload_n 0, 1), (10, .getfield 18, 3), (13, .bipush 125, 2), (15, .invokevirtual 132, 3), (18, .ifCond .ne 226, 3), (21, .aload_n 0, 1), (22, .getfield 18, 3), (25, .ldc 136, 2), (27, .invokevirtual 115, 3), (30, .ifCond .eq 7, 3), (33, .iconst 0, 1), (34, .goto 84, 3), (37, .aload_n 0, 1), (38, .getfield 18, 3), (41, .ldc 138, 2), (43, .invokevirtual 115, 3), (46, .ifCond .eq 7, 3), (49, .iconst 1, 1), (50, .goto 68, 3), (53, .aload_n 0, 1), (54, .getfield 18, 3), (57, .ldc 140, 2), (59, .invokevirtual 115, 3), (62, .ifCond .eq 7, 3), (65, .iconst 2, 1), (66, .goto 52, 3), (69, .aload_n 0, 1), (70, .getfield 18, 3), (73, .ldc 142, 2), (75, .invokevirtual 115, 3), (78, .ifCond .eq 7, 3), (81, .iconst 3, 1), (82, .goto 36, 3), (85, .aload_n 0, 1), (86, .getfield 18, 3), (89, .ldc 144, 2), (91, .invokevirtual 115, 3), (94, .ifCond .eq 7, 3), (97, .iconst 4, 1), (98, .goto 20, 3), (101, .aload_n 0, 1), (102, .getfield 18, 3), (105, .ldc 145, 2), (107, .invokevirtual 115, 3), (110, .ifCond .eq 7, 3), (113, .iconst 5, 1), (114, .goto 4, 3), (117, .iconst (-1), 1), (118, .istore_n 1, 1), (119, .iload_n 1, 1), (120, .ifCond .ge 11, 3), (123, .aload_n 0, 1), (124, .getfield 18, 3), (127, .invokevirtual 147, 3), (130, .athrow, 1), (131, .aload_n 0, 1), (132, .getfield 18, 3), (135, .invokevirtual 119, 3), (138, .aload_n 0, 1), (139, .getfield 18, 3), (142, .bipush 58, 2), (144, .invokevirtual 128, 3), (147, .iload_n 1, 1), (148, .iconst 2, 1), (149, .if_icmp .ge 24, 3), (152, .aload_n 0, 1), (153, .getfield 22, 3), (156, .iload_n 1, 1), (157, .aload_n 0, 1), (158, .getfield 18, 3), (161, .sipush 10000, 3), (164, .ldc 151, 2), (166, .invokevirtual 152, 3), (169, .iastore, 1), (170, .goto 62, 3), (173, .iload_n 1, 1), (174, .iconst 2, 1), (175, .if_icmp .ne 21, 3), (178, .aload_n 0, 1), (179, .getfield 22, 3), (182, .iload_n 1, 1), (183, .aload_n 0, 1), (184, .getfield 18, 3), (187, .iconst 1, 1), (188, .iconst 4, 1), (189, .invokevirtual 152, 3), (192, .iastore, 1), (193, .goto 39, 3), (196, .iload_n 1, 1), (197, .iconst 5, 1), (198, .if_icmp .ge 22, 3), (201, .aload_n 0, 1), (202, .getfield 22, 3), (205, .iload_n 1, 1), (206, .aload_n 0, 1), (207, .getfield 18, 3), (210, .iconst 0, 1), (211, .ldc 156, 2), (213, .invokevirtual 152, 3), (216, .iastore, 1), (217, .goto 15, 3), (220, .aload_n 0, 1), (221, .getfield 22, 3), (224, .iload_n 1, 1), (225, .aload_n 0, 1), (226, .ldc 157, 2), (228, .invokevirtual 159, 3), (231, .iastore, 1), (232, .aload_n 0, 1), (233, .getfield 18, 3), (236, .bipush 59, 2), (238, .invokevirtual 128, 3), (241, .goto (-232), 3), (244, .aload_n 0, 1), (245, .getfield 18, 3), (248, .invokevirtual 119, 3), (251, .return_, 1)]
theorem t_X22_pageBody : ∀ q ∈ k_X22_pageBody, decode cX22_pageBody q.1 = .ok q.2 := dl_all (by decide +kernel)
noncomputable def m_X22_pageBody_j232 (a0 : Int) (h_232 : Hp) : Option ((Hp) ⊕ (((Int × Int) × Hp))) :=
  gd (h_232 (h_232 a0 1) (-2) = 336) (bT (m_X20_need (h_232 a0 1) 59 h_232) (fun _ h238 =>
  some (.inl h238)) (fun a_ h_ => some (.inr ((1, a_), h_))))
noncomputable def m_X22_pageBody_j118 (a0 s0_118 : Int) (h_9 : Hp) : Option ((Hp) ⊕ (((Int × Int) × Hp))) :=
  if 0 ≤ s0_118 then ((m_X20_next (h_9 a0 1) h_9).bind fun h135 =>
  gd (h135 (h135 a0 1) (-2) = 336) (bT (m_X20_need (h135 a0 1) 58 h135) (fun _ h144 =>
  if 2 ≤ s0_118 then (if s0_118 ≠ 2 then (if 5 ≤ s0_118 then (bT (m_X22_word a0 (-96) h144) (fun v228 h228 =>
  gd (h228 (h144 a0 2) (-2) % 16 = 1 ∧ (0 : Int) ≤ s0_118 ∧ s0_118 < h228 (h144 a0 2) (-1)) (pt h228 (h144 a0 2) s0_118 v228 fun h231 =>
  m_X22_pageBody_j232 a0 h231)) (fun a_ h_ => some (.inr ((1, a_), h_))))
  else (gd (h144 (h144 a0 1) (-2) = 336) (bT (m_X20_needNumber (h144 a0 1) 0 100000 h144) (fun v213 h213 =>
  gd (h213 (h144 a0 2) (-2) % 16 = 1 ∧ (0 : Int) ≤ s0_118 ∧ s0_118 < h213 (h144 a0 2) (-1)) (pt h213 (h144 a0 2) s0_118 v213 fun h216 =>
  m_X22_pageBody_j232 a0 h216)) (fun a_ h_ => some (.inr ((1, a_), h_))))))
  else (gd (h144 (h144 a0 1) (-2) = 336) (bT (m_X20_needNumber (h144 a0 1) 1 4 h144) (fun v189 h189 =>
  gd (h189 (h144 a0 2) (-2) % 16 = 1 ∧ (0 : Int) ≤ s0_118 ∧ s0_118 < h189 (h144 a0 2) (-1)) (pt h189 (h144 a0 2) s0_118 v189 fun h192 =>
  m_X22_pageBody_j232 a0 h192)) (fun a_ h_ => some (.inr ((1, a_), h_))))))
  else (gd (h144 (h144 a0 1) (-2) = 336) (bT (m_X20_needNumber (h144 a0 1) 10000 1000000 h144) (fun v166 h166 =>
  gd (h166 (h144 a0 2) (-2) % 16 = 1 ∧ (0 : Int) ≤ s0_118 ∧ s0_118 < h166 (h144 a0 2) (-1)) (pt h166 (h144 a0 2) s0_118 v166 fun h169 =>
  m_X22_pageBody_j232 a0 h169)) (fun a_ h_ => some (.inr ((1, a_), h_)))))) (fun a_ h_ => some (.inr ((1, a_), h_)))))
  else (bW (m_X20_broken (h_9 a0 1) h_9) fun v127 h127 =>
  gd (0 < v127) (some (.inr ((1, v127), h127))))
noncomputable def m_X22_pageBody_l9 (a0 : Int) (h_9 : Hp) : Option ((Hp) ⊕ (((Int × Int) × Hp))) :=
  gd (h_9 (h_9 a0 1) (-2) = 336) ((m_X20_isByte (h_9 a0 1) 125 h_9).bind fun v15 =>
  if v15 ≠ 0 then ((m_X20_next (h_9 a0 1) h_9).bind fun h248 =>
  some (.inr ((0, 0), h248)))
  else ((m_X20_isName (h_9 a0 1) (-90) h_9).bind fun v27 =>
  if v27 = 0 then ((m_X20_isName (h_9 a0 1) (-91) h_9).bind fun v43 =>
  if v43 = 0 then ((m_X20_isName (h_9 a0 1) (-92) h_9).bind fun v59 =>
  if v59 = 0 then ((m_X20_isName (h_9 a0 1) (-93) h_9).bind fun v75 =>
  if v75 = 0 then ((m_X20_isName (h_9 a0 1) (-94) h_9).bind fun v91 =>
  if v91 = 0 then ((m_X20_isName (h_9 a0 1) (-95) h_9).bind fun v107 =>
  if v107 = 0 then (m_X22_pageBody_j118 a0 (-1) h_9)
  else (m_X22_pageBody_j118 a0 5 h_9))
  else (m_X22_pageBody_j118 a0 4 h_9))
  else (m_X22_pageBody_j118 a0 3 h_9))
  else (m_X22_pageBody_j118 a0 2 h_9))
  else (m_X22_pageBody_j118 a0 1 h_9))
  else (m_X22_pageBody_j118 a0 0 h_9)))
noncomputable def m_X22_pageBody (a0 : Int) (h : Hp) : Option ((Int × Int) × Hp) :=
  gd (h (h a0 1) (-2) = 336) (bT (m_X20_need (h a0 1) 123 h) (fun _ h6 =>
  (lp (fun (q : Hp) => m_X22_pageBody_l9 a0 q) h6).bind (fun (x : (Int × Int) × Hp) => some x)) (fun a_ h_ => some ((1, a_), h_)))
theorem s_X22_pageBody {l : Launch} [NoTr l] {D : SD} {a0 : Int} {h : Hp} (hk : h a0 (-2) = 368) {r : (Int × Int) × Hp} (hm : m_X22_pageBody a0 h = some r) : Sim l D yX22_pageBody (Cond.code yX22_pageBody cX22_pageBody 2 (Option.none : Option Jvm.ClassFile.FieldType)) 11 415 [rv D a0] h 0 r := by
  refine Sim.of (fin := fun (v : (Int × Int) × Hp) => v) (lsE := [(0, rv D a0)]) hm rfl cwS_code (la_r la_n) (ll_r ll_n) ?_
  intro p e s m below meth c X hcw hmm hcc hnm hname
  have hno := noh hcw hnm hmm hcc
  unfold m_X22_pageBody
  refine g_aload_n (pc := 0) X (j := 0) (i := 0) (q := 0) (x := a0) rfl rfl (dl_at t_X22_pageBody 0 rfl) ?_
  refine r_getr (pc := 1) X fX22_1 hk q3406 (dl_at t_X22_pageBody 1 rfl) ?_
  refine g_bipush (pc := 4) X (n := 123) rfl (dl_at t_X22_pageBody 2 rfl) ?_
  refine g_gd fun k6 => ?_
  refine r_callTv (pc := 6) X (fun _ hv => s_X20_need k6 (r32_c rfl) hv) cw_code q4426 q374 (in_Vk X (As := [iv 123]) kX20 k6 (Or.inl q4486) q4424 q4425 cw_code q4426 ⟨by decide, by decide⟩ rfl (dl_at t_X22_pageBody 3 rfl)) (dl_at t_X22_pageBody 3 rfl) (cat24 (st := []) (Nat.le_of_ble_eq_true rfl)) (Nat.le_of_ble_eq_true rfl) (Nat.le_of_ble_eq_true rfl) (fun v6 h6 E6 => ?_) (fun _ _ ha _ => gt_at fun Q hQ => gt_out (Q := Q) X rfl ha (hno _) _ Q rfl hQ)
  refine g_loop0F (fun (q : Hp) => [(0, rv D a0)]) (fun (q : Hp) => q) (fun (q : Hp) => Ext h6 q) h6 (Ext.refl _) ?_ (fun _ => rfl)
  · rintro h_9 E_9
    try dsimp only
    unfold m_X22_pageBody_l9
    refine g_aload_n (pc := 9) X (j := 0) (i := 0) (q := 0) (x := a0) rfl rfl (dl_at t_X22_pageBody 4 rfl) ?_
    have k10 := kx (E6.trans E_9) (by decide) hk
    refine r_getr (pc := 10) X fX22_1 k10 q3406 (dl_at t_X22_pageBody 5 rfl) ?_
    refine g_bipush (pc := 13) X (n := 125) rfl (dl_at t_X22_pageBody 6 rfl) ?_
    refine g_gd fun k15 => ?_
    refine r_callRz (pc := 15) X (fun _ hv => s_X20_isByte k15 (r32_c rfl) hv) cw_code q4421 q374 (in_Vk X (As := [iv 125]) kX20 k15 (Or.inl q4487) q4419 q4420 cw_code q4421 ⟨by decide, by decide⟩ rfl (dl_at t_X22_pageBody 7 rfl)) (dl_at t_X22_pageBody 7 rfl) (cat24 (st := []) (Nat.le_of_ble_eq_true rfl)) (Nat.le_of_ble_eq_true rfl) (Nat.le_of_ble_eq_true rfl) fun v15 g15 => ?_
    refine g_ifne (pc := 18) X (r32_z g15) (off := 226) (tgt := 244) rfl (dl_at t_X22_pageBody 8 rfl) (fun _ => ?_) (fun _ => ?_)
    · refine g_aload_n (pc := 244) X (j := 0) (i := 0) (q := 0) (x := a0) rfl rfl (dl_at t_X22_pageBody 117 rfl) ?_
      refine r_getr (pc := 245) X fX22_1 k10 q3406 (dl_at t_X22_pageBody 118 rfl) ?_
      refine r_callV (pc := 248) X (fun _ hv => s_X20_next k15 hv) cw_code q4342 q374 (in_Vk X (As := []) kX20 k15 (Or.inl q4481) q4340 q4341 cw_code q4342 ⟨by decide, by decide⟩ rfl (dl_at t_X22_pageBody 119 rfl)) (dl_at t_X22_pageBody 119 rfl) (cat24 (st := []) (Nat.le_of_ble_eq_true rfl)) (Nat.le_of_ble_eq_true rfl) (Nat.le_of_ble_eq_true rfl) fun h248 E248 => ?_
      exact g_at fun Q hQ => (g_vret (pc := 251) X (v := 0) rfl rfl (dl_at t_X22_pageBody 120 rfl)) _ Q rfl hQ
    refine g_aload_n (pc := 21) X (j := 0) (i := 0) (q := 0) (x := a0) rfl rfl (dl_at t_X22_pageBody 9 rfl) ?_
    refine r_getr (pc := 22) X fX22_1 k10 q3406 (dl_at t_X22_pageBody 10 rfl) ?_
    refine g_ldcS (pc := 25) X (index := 136) (id := (-90)) 88 rfl rfl (dl_at t_X22_pageBody 11 rfl) ?_
    refine r_callRz (pc := 27) X (fun _ hv => s_X20_isName k15 hv) cw_code q4364 q374 (in_Vk X (As := [rv D (-90)]) kX20 k15 (Or.inl q4480) q4362 q4363 cw_code q4364 ⟨by decide, by decide⟩ rfl (dl_at t_X22_pageBody 12 rfl)) (dl_at t_X22_pageBody 12 rfl) (cat24 (st := []) (Nat.le_of_ble_eq_true rfl)) (Nat.le_of_ble_eq_true rfl) (Nat.le_of_ble_eq_true rfl) fun v27 g27 => ?_
    refine g_join (γ := Int) (fun q => r32 q) 118 (fun q => [(0, rv D a0)]) (fun q => [iv q]) (fun q => h_9) (fun q => m_X22_pageBody_j118 a0 q h_9) ?_ ?_
    · rintro s0_118 rs0_118
      try dsimp only
      unfold m_X22_pageBody_j118
      refine g_istore_nN (pc := 118) X (j := 1) (i := 1) (x := s0_118) (b := 0) (w := rv D a0) (rest := []) rfl (Nat.le_of_ble_eq_true rfl) [0] rfl (by decide) rv_cat rfl (dl_at t_X22_pageBody 52 rfl) ?_
      refine g_iload_n (pc := 119) X (j := 1) (i := 1) (q := 0) (x := s0_118) rfl rfl (dl_at t_X22_pageBody 53 rfl) ?_
      refine g_ifge (pc := 120) X rs0_118 (off := 11) (tgt := 131) rfl (dl_at t_X22_pageBody 54 rfl) (fun _ => ?_) (fun _ => ?_)
      · refine g_aload_n (pc := 131) X (j := 0) (i := 0) (q := 1) (x := a0) rfl rfl (dl_at t_X22_pageBody 59 rfl) ?_
        refine r_getr (pc := 132) X fX22_1 k10 q3406 (dl_at t_X22_pageBody 60 rfl) ?_
        refine r_callV (pc := 135) X (fun _ hv => s_X20_next k15 hv) cw_code q4342 q374 (in_Vk X (As := []) kX20 k15 (Or.inl q4481) q4340 q4341 cw_code q4342 ⟨by decide, by decide⟩ rfl (dl_at t_X22_pageBody 61 rfl)) (dl_at t_X22_pageBody 61 rfl) (cat24 (st := []) (Nat.le_of_ble_eq_true rfl)) (Nat.le_of_ble_eq_true rfl) (Nat.le_of_ble_eq_true rfl) fun h135 E135 => ?_
        refine g_aload_n (pc := 138) X (j := 0) (i := 0) (q := 1) (x := a0) rfl rfl (dl_at t_X22_pageBody 62 rfl) ?_
        have k139 := kx E135 (by decide) k10
        refine r_getr (pc := 139) X fX22_1 k139 q3406 (dl_at t_X22_pageBody 63 rfl) ?_
        refine g_bipush (pc := 142) X (n := 58) rfl (dl_at t_X22_pageBody 64 rfl) ?_
        refine g_gd fun k144 => ?_
        refine r_callTv (pc := 144) X (fun _ hv => s_X20_need k144 (r32_c rfl) hv) cw_code q4426 q374 (in_Vk X (As := [iv 58]) kX20 k144 (Or.inl q4486) q4424 q4425 cw_code q4426 ⟨by decide, by decide⟩ rfl (dl_at t_X22_pageBody 65 rfl)) (dl_at t_X22_pageBody 65 rfl) (cat24 (st := []) (Nat.le_of_ble_eq_true rfl)) (Nat.le_of_ble_eq_true rfl) (Nat.le_of_ble_eq_true rfl) (fun v144 h144 E144 => ?_) (fun _ _ ha _ => gt_at fun Q hQ => gt_out (Q := Q) X rfl ha (hno _) _ Q rfl hQ)
        refine g_iload_n (pc := 147) X (j := 1) (i := 1) (q := 0) (x := s0_118) rfl rfl (dl_at t_X22_pageBody 66 rfl) ?_
        refine g_iconst (pc := 148) X (n := 2) (dl_at t_X22_pageBody 67 rfl) ?_
        refine g_join (γ := Hp) (fun q => Ext h144 q) 232 (fun q => [(0, rv D a0)]) (fun q => []) (fun q => q) (fun q => m_X22_pageBody_j232 a0 q) ?_ ?_
        · rintro h_232 E_232
          try dsimp only
          unfold m_X22_pageBody_j232
          refine g_aload_n (pc := 232) X (j := 0) (i := 0) (q := 0) (x := a0) rfl rfl (dl_at t_X22_pageBody 112 rfl) ?_
          have k233 := kx (E144.trans E_232) (by decide) k139
          refine r_getr (pc := 233) X fX22_1 k233 q3406 (dl_at t_X22_pageBody 113 rfl) ?_
          refine g_bipush (pc := 236) X (n := 59) rfl (dl_at t_X22_pageBody 114 rfl) ?_
          refine g_gd fun k238 => ?_
          refine r_callTv (pc := 238) X (fun _ hv => s_X20_need k238 (r32_c rfl) hv) cw_code q4426 q374 (in_Vk X (As := [iv 59]) kX20 k238 (Or.inl q4486) q4424 q4425 cw_code q4426 ⟨by decide, by decide⟩ rfl (dl_at t_X22_pageBody 115 rfl)) (dl_at t_X22_pageBody 115 rfl) (cat24 (st := []) (Nat.le_of_ble_eq_true rfl)) (Nat.le_of_ble_eq_true rfl) (Nat.le_of_ble_eq_true rfl) (fun v238 h238 E238 => ?_) (fun _ _ ha _ => gt_at fun Q hQ => gt_out (Q := Q) X rfl ha (hno _) _ Q rfl hQ)
          refine g_goto (pc := 241) X (off := (-232)) (tgt := 9) rfl (dl_at t_X22_pageBody 116 rfl) ?_
          exact g_at fun Q hQ => hQ (E_9.trans (E135.trans (E144.trans (E_232.trans E238))))
        intro J232
        refine g_icmpge (pc := 149) X rs0_118 (r32_c rfl) (off := 24) (tgt := 173) rfl (dl_at t_X22_pageBody 68 rfl) (fun _ => ?_) (fun _ => ?_)
        · refine g_iload_n (pc := 173) X (j := 1) (i := 1) (q := 0) (x := s0_118) rfl rfl (dl_at t_X22_pageBody 79 rfl) ?_
          refine g_iconst (pc := 174) X (n := 2) (dl_at t_X22_pageBody 80 rfl) ?_
          refine g_icmpne (pc := 175) X rs0_118 (r32_c rfl) (off := 21) (tgt := 196) rfl (dl_at t_X22_pageBody 81 rfl) (fun _ => ?_) (fun _ => ?_)
          · refine g_iload_n (pc := 196) X (j := 1) (i := 1) (q := 0) (x := s0_118) rfl rfl (dl_at t_X22_pageBody 92 rfl) ?_
            refine g_iconst (pc := 197) X (n := 5) (dl_at t_X22_pageBody 93 rfl) ?_
            refine g_icmpge (pc := 198) X rs0_118 (r32_c rfl) (off := 22) (tgt := 220) rfl (dl_at t_X22_pageBody 94 rfl) (fun _ => ?_) (fun _ => ?_)
            · refine g_aload_n (pc := 220) X (j := 0) (i := 0) (q := 1) (x := a0) rfl rfl (dl_at t_X22_pageBody 105 rfl) ?_
              have k221 := kx E144 (by decide) k139
              refine r_getr (pc := 221) X fX22_2 k221 q3407 (dl_at t_X22_pageBody 106 rfl) ?_
              refine g_iload_n (pc := 224) X (j := 1) (i := 1) (q := 0) (x := s0_118) rfl rfl (dl_at t_X22_pageBody 107 rfl) ?_
              refine g_aload_n (pc := 225) X (j := 0) (i := 0) (q := 1) (x := a0) rfl rfl (dl_at t_X22_pageBody 108 rfl) ?_
              refine g_ldcS (pc := 226) X (index := 157) (id := (-96)) 94 rfl rfl (dl_at t_X22_pageBody 109 rfl) ?_
              refine r_callTi (pc := 228) X (fun _ hv => s_X22_word k221 hv) cw_code q4502 q376 (in_Vk X (As := [rv D (-96)]) kX22 k221 (Or.inl q4499) q4501 qs246 cw_code q4502 ⟨by decide, by decide⟩ rfl (dl_at t_X22_pageBody 110 rfl)) (dl_at t_X22_pageBody 110 rfl) (cat24 (st := [iv s0_118, rv D (h144 a0 2)]) (Nat.le_of_ble_eq_true rfl)) (Nat.le_of_ble_eq_true rfl) (Nat.le_of_ble_eq_true rfl) (fun v228 h228 g228 E228 => ?_) (fun _ _ ha _ => gt_at fun Q hQ => gt_out (Q := Q) X rfl ha (hno _) _ Q rfl hQ)
              refine g_gd fun k231 => ?_
              refine r_iast (pc := 231) X rs0_118 g228 k231 (dl_at t_X22_pageBody 111 rfl) (fun h231 E231 => ?_)
              refine g_ls (ls2 := [(0, rv D a0)]) [1] rfl ?_
              exact J232 h231 (E228.trans E231)
            refine g_aload_n (pc := 201) X (j := 0) (i := 0) (q := 1) (x := a0) rfl rfl (dl_at t_X22_pageBody 95 rfl) ?_
            have k202 := kx E144 (by decide) k139
            refine r_getr (pc := 202) X fX22_2 k202 q3407 (dl_at t_X22_pageBody 96 rfl) ?_
            refine g_iload_n (pc := 205) X (j := 1) (i := 1) (q := 0) (x := s0_118) rfl rfl (dl_at t_X22_pageBody 97 rfl) ?_
            refine g_aload_n (pc := 206) X (j := 0) (i := 0) (q := 1) (x := a0) rfl rfl (dl_at t_X22_pageBody 98 rfl) ?_
            refine r_getr (pc := 207) X fX22_1 k202 q3406 (dl_at t_X22_pageBody 99 rfl) ?_
            refine g_iconst (pc := 210) X (n := 0) (dl_at t_X22_pageBody 100 rfl) ?_
            refine g_ldc (pc := 211) X (index := 156) (n := 100000) q4497 (dl_at t_X22_pageBody 101 rfl) ?_
            refine g_gd fun k213 => ?_
            refine r_callTi (pc := 213) X (fun _ hv => s_X20_needNumber k213 (r32_c rfl) (r32_c rfl) hv) cw_code q4410 q374 (in_Vk X (As := [iv 0, iv 100000]) kX20 k213 (Or.inl q4496) q4408 q4409 cw_code q4410 ⟨by decide, by decide⟩ rfl (dl_at t_X22_pageBody 102 rfl)) (dl_at t_X22_pageBody 102 rfl) (cat24 (st := [iv s0_118, rv D (h144 a0 2)]) (Nat.le_of_ble_eq_true rfl)) (Nat.le_of_ble_eq_true rfl) (Nat.le_of_ble_eq_true rfl) (fun v213 h213 g213 E213 => ?_) (fun _ _ ha _ => gt_at fun Q hQ => gt_out (Q := Q) X rfl ha (hno _) _ Q rfl hQ)
            refine g_gd fun k216 => ?_
            refine r_iast (pc := 216) X rs0_118 g213 k216 (dl_at t_X22_pageBody 103 rfl) (fun h216 E216 => ?_)
            refine g_goto (pc := 217) X (off := 15) (tgt := 232) rfl (dl_at t_X22_pageBody 104 rfl) ?_
            refine g_ls (ls2 := [(0, rv D a0)]) [1] rfl ?_
            exact J232 h216 (E213.trans E216)
          refine g_aload_n (pc := 178) X (j := 0) (i := 0) (q := 1) (x := a0) rfl rfl (dl_at t_X22_pageBody 82 rfl) ?_
          have k179 := kx E144 (by decide) k139
          refine r_getr (pc := 179) X fX22_2 k179 q3407 (dl_at t_X22_pageBody 83 rfl) ?_
          refine g_iload_n (pc := 182) X (j := 1) (i := 1) (q := 0) (x := s0_118) rfl rfl (dl_at t_X22_pageBody 84 rfl) ?_
          refine g_aload_n (pc := 183) X (j := 0) (i := 0) (q := 1) (x := a0) rfl rfl (dl_at t_X22_pageBody 85 rfl) ?_
          refine r_getr (pc := 184) X fX22_1 k179 q3406 (dl_at t_X22_pageBody 86 rfl) ?_
          refine g_iconst (pc := 187) X (n := 1) (dl_at t_X22_pageBody 87 rfl) ?_
          refine g_iconst (pc := 188) X (n := 4) (dl_at t_X22_pageBody 88 rfl) ?_
          refine g_gd fun k189 => ?_
          refine r_callTi (pc := 189) X (fun _ hv => s_X20_needNumber k189 (r32_c rfl) (r32_c rfl) hv) cw_code q4410 q374 (in_Vk X (As := [iv 1, iv 4]) kX20 k189 (Or.inl q4496) q4408 q4409 cw_code q4410 ⟨by decide, by decide⟩ rfl (dl_at t_X22_pageBody 89 rfl)) (dl_at t_X22_pageBody 89 rfl) (cat24 (st := [iv s0_118, rv D (h144 a0 2)]) (Nat.le_of_ble_eq_true rfl)) (Nat.le_of_ble_eq_true rfl) (Nat.le_of_ble_eq_true rfl) (fun v189 h189 g189 E189 => ?_) (fun _ _ ha _ => gt_at fun Q hQ => gt_out (Q := Q) X rfl ha (hno _) _ Q rfl hQ)
          refine g_gd fun k192 => ?_
          refine r_iast (pc := 192) X rs0_118 g189 k192 (dl_at t_X22_pageBody 90 rfl) (fun h192 E192 => ?_)
          refine g_goto (pc := 193) X (off := 39) (tgt := 232) rfl (dl_at t_X22_pageBody 91 rfl) ?_
          refine g_ls (ls2 := [(0, rv D a0)]) [1] rfl ?_
          exact J232 h192 (E189.trans E192)
        refine g_aload_n (pc := 152) X (j := 0) (i := 0) (q := 1) (x := a0) rfl rfl (dl_at t_X22_pageBody 69 rfl) ?_
        have k153 := kx E144 (by decide) k139
        refine r_getr (pc := 153) X fX22_2 k153 q3407 (dl_at t_X22_pageBody 70 rfl) ?_
        refine g_iload_n (pc := 156) X (j := 1) (i := 1) (q := 0) (x := s0_118) rfl rfl (dl_at t_X22_pageBody 71 rfl) ?_
        refine g_aload_n (pc := 157) X (j := 0) (i := 0) (q := 1) (x := a0) rfl rfl (dl_at t_X22_pageBody 72 rfl) ?_
        refine r_getr (pc := 158) X fX22_1 k153 q3406 (dl_at t_X22_pageBody 73 rfl) ?_
        refine g_sipush (pc := 161) X (n := 10000) rfl (dl_at t_X22_pageBody 74 rfl) ?_
        refine g_ldc (pc := 164) X (index := 151) (n := 1000000) q4495 (dl_at t_X22_pageBody 75 rfl) ?_
        refine g_gd fun k166 => ?_
        refine r_callTi (pc := 166) X (fun _ hv => s_X20_needNumber k166 (r32_c rfl) (r32_c rfl) hv) cw_code q4410 q374 (in_Vk X (As := [iv 10000, iv 1000000]) kX20 k166 (Or.inl q4496) q4408 q4409 cw_code q4410 ⟨by decide, by decide⟩ rfl (dl_at t_X22_pageBody 76 rfl)) (dl_at t_X22_pageBody 76 rfl) (cat24 (st := [iv s0_118, rv D (h144 a0 2)]) (Nat.le_of_ble_eq_true rfl)) (Nat.le_of_ble_eq_true rfl) (Nat.le_of_ble_eq_true rfl) (fun v166 h166 g166 E166 => ?_) (fun _ _ ha _ => gt_at fun Q hQ => gt_out (Q := Q) X rfl ha (hno _) _ Q rfl hQ)
        refine g_gd fun k169 => ?_
        refine r_iast (pc := 169) X rs0_118 g166 k169 (dl_at t_X22_pageBody 77 rfl) (fun h169 E169 => ?_)
        refine g_goto (pc := 170) X (off := 62) (tgt := 232) rfl (dl_at t_X22_pageBody 78 rfl) ?_
        refine g_ls (ls2 := [(0, rv D a0)]) [1] rfl ?_
        exact J232 h169 (E166.trans E169)
      refine g_aload_n (pc := 123) X (j := 0) (i := 0) (q := 1) (x := a0) rfl rfl (dl_at t_X22_pageBody 55 rfl) ?_
      refine r_getr (pc := 124) X fX22_1 k10 q3406 (dl_at t_X22_pageBody 56 rfl) ?_
      refine r_callWr (pc := 127) X (fun _ hv => s_X20_broken k15 hv) cw_code q4386 q374 (in_Vk X (As := []) kX20 k15 (Or.inl q4494) q4384 q4385 cw_code q4386 ⟨by decide, by decide⟩ rfl (dl_at t_X22_pageBody 57 rfl)) (dl_at t_X22_pageBody 57 rfl) (cat24 (st := []) (Nat.le_of_ble_eq_true rfl)) (Nat.le_of_ble_eq_true rfl) (Nat.le_of_ble_eq_true rfl) fun v127 h127 E127 => ?_
      refine g_gd fun p130 => ?_
      refine g_athrow (pc := 130) X (Int.ne_of_gt p130) (dl_at t_X22_pageBody 58 rfl) ?_
      exact gt_at fun Q hQ => gt_out (Q := Q) X rfl p130 (hno _) _ Q rfl hQ
    intro J118
    refine g_ifeq (pc := 30) X (r32_z g27) (off := 7) (tgt := 37) rfl (dl_at t_X22_pageBody 13 rfl) (fun _ => ?_) (fun _ => ?_)
    · refine g_aload_n (pc := 37) X (j := 0) (i := 0) (q := 0) (x := a0) rfl rfl (dl_at t_X22_pageBody 16 rfl) ?_
      refine r_getr (pc := 38) X fX22_1 k10 q3406 (dl_at t_X22_pageBody 17 rfl) ?_
      refine g_ldcS (pc := 41) X (index := 138) (id := (-91)) 89 rfl rfl (dl_at t_X22_pageBody 18 rfl) ?_
      refine r_callRz (pc := 43) X (fun _ hv => s_X20_isName k15 hv) cw_code q4364 q374 (in_Vk X (As := [rv D (-91)]) kX20 k15 (Or.inl q4480) q4362 q4363 cw_code q4364 ⟨by decide, by decide⟩ rfl (dl_at t_X22_pageBody 19 rfl)) (dl_at t_X22_pageBody 19 rfl) (cat24 (st := []) (Nat.le_of_ble_eq_true rfl)) (Nat.le_of_ble_eq_true rfl) (Nat.le_of_ble_eq_true rfl) fun v43 g43 => ?_
      refine g_ifeq (pc := 46) X (r32_z g43) (off := 7) (tgt := 53) rfl (dl_at t_X22_pageBody 20 rfl) (fun _ => ?_) (fun _ => ?_)
      · refine g_aload_n (pc := 53) X (j := 0) (i := 0) (q := 0) (x := a0) rfl rfl (dl_at t_X22_pageBody 23 rfl) ?_
        refine r_getr (pc := 54) X fX22_1 k10 q3406 (dl_at t_X22_pageBody 24 rfl) ?_
        refine g_ldcS (pc := 57) X (index := 140) (id := (-92)) 90 rfl rfl (dl_at t_X22_pageBody 25 rfl) ?_
        refine r_callRz (pc := 59) X (fun _ hv => s_X20_isName k15 hv) cw_code q4364 q374 (in_Vk X (As := [rv D (-92)]) kX20 k15 (Or.inl q4480) q4362 q4363 cw_code q4364 ⟨by decide, by decide⟩ rfl (dl_at t_X22_pageBody 26 rfl)) (dl_at t_X22_pageBody 26 rfl) (cat24 (st := []) (Nat.le_of_ble_eq_true rfl)) (Nat.le_of_ble_eq_true rfl) (Nat.le_of_ble_eq_true rfl) fun v59 g59 => ?_
        refine g_ifeq (pc := 62) X (r32_z g59) (off := 7) (tgt := 69) rfl (dl_at t_X22_pageBody 27 rfl) (fun _ => ?_) (fun _ => ?_)
        · refine g_aload_n (pc := 69) X (j := 0) (i := 0) (q := 0) (x := a0) rfl rfl (dl_at t_X22_pageBody 30 rfl) ?_
          refine r_getr (pc := 70) X fX22_1 k10 q3406 (dl_at t_X22_pageBody 31 rfl) ?_
          refine g_ldcS (pc := 73) X (index := 142) (id := (-93)) 91 rfl rfl (dl_at t_X22_pageBody 32 rfl) ?_
          refine r_callRz (pc := 75) X (fun _ hv => s_X20_isName k15 hv) cw_code q4364 q374 (in_Vk X (As := [rv D (-93)]) kX20 k15 (Or.inl q4480) q4362 q4363 cw_code q4364 ⟨by decide, by decide⟩ rfl (dl_at t_X22_pageBody 33 rfl)) (dl_at t_X22_pageBody 33 rfl) (cat24 (st := []) (Nat.le_of_ble_eq_true rfl)) (Nat.le_of_ble_eq_true rfl) (Nat.le_of_ble_eq_true rfl) fun v75 g75 => ?_
          refine g_ifeq (pc := 78) X (r32_z g75) (off := 7) (tgt := 85) rfl (dl_at t_X22_pageBody 34 rfl) (fun _ => ?_) (fun _ => ?_)
          · refine g_aload_n (pc := 85) X (j := 0) (i := 0) (q := 0) (x := a0) rfl rfl (dl_at t_X22_pageBody 37 rfl) ?_
            refine r_getr (pc := 86) X fX22_1 k10 q3406 (dl_at t_X22_pageBody 38 rfl) ?_
            refine g_ldcS (pc := 89) X (index := 144) (id := (-94)) 92 rfl rfl (dl_at t_X22_pageBody 39 rfl) ?_
            refine r_callRz (pc := 91) X (fun _ hv => s_X20_isName k15 hv) cw_code q4364 q374 (in_Vk X (As := [rv D (-94)]) kX20 k15 (Or.inl q4480) q4362 q4363 cw_code q4364 ⟨by decide, by decide⟩ rfl (dl_at t_X22_pageBody 40 rfl)) (dl_at t_X22_pageBody 40 rfl) (cat24 (st := []) (Nat.le_of_ble_eq_true rfl)) (Nat.le_of_ble_eq_true rfl) (Nat.le_of_ble_eq_true rfl) fun v91 g91 => ?_
            refine g_ifeq (pc := 94) X (r32_z g91) (off := 7) (tgt := 101) rfl (dl_at t_X22_pageBody 41 rfl) (fun _ => ?_) (fun _ => ?_)
            · refine g_aload_n (pc := 101) X (j := 0) (i := 0) (q := 0) (x := a0) rfl rfl (dl_at t_X22_pageBody 44 rfl) ?_
              refine r_getr (pc := 102) X fX22_1 k10 q3406 (dl_at t_X22_pageBody 45 rfl) ?_
              refine g_ldcS (pc := 105) X (index := 145) (id := (-95)) 93 rfl rfl (dl_at t_X22_pageBody 46 rfl) ?_
              refine r_callRz (pc := 107) X (fun _ hv => s_X20_isName k15 hv) cw_code q4364 q374 (in_Vk X (As := [rv D (-95)]) kX20 k15 (Or.inl q4480) q4362 q4363 cw_code q4364 ⟨by decide, by decide⟩ rfl (dl_at t_X22_pageBody 47 rfl)) (dl_at t_X22_pageBody 47 rfl) (cat24 (st := []) (Nat.le_of_ble_eq_true rfl)) (Nat.le_of_ble_eq_true rfl) (Nat.le_of_ble_eq_true rfl) fun v107 g107 => ?_
              refine g_ifeq (pc := 110) X (r32_z g107) (off := 7) (tgt := 117) rfl (dl_at t_X22_pageBody 48 rfl) (fun _ => ?_) (fun _ => ?_)
              · refine g_iconst (pc := 117) X (n := (-1)) (dl_at t_X22_pageBody 51 rfl) ?_
                exact J118 (-1) (r32_c rfl)
              refine g_iconst (pc := 113) X (n := 5) (dl_at t_X22_pageBody 49 rfl) ?_
              refine g_goto (pc := 114) X (off := 4) (tgt := 118) rfl (dl_at t_X22_pageBody 50 rfl) ?_
              exact J118 5 (r32_c rfl)
            refine g_iconst (pc := 97) X (n := 4) (dl_at t_X22_pageBody 42 rfl) ?_
            refine g_goto (pc := 98) X (off := 20) (tgt := 118) rfl (dl_at t_X22_pageBody 43 rfl) ?_
            exact J118 4 (r32_c rfl)
          refine g_iconst (pc := 81) X (n := 3) (dl_at t_X22_pageBody 35 rfl) ?_
          refine g_goto (pc := 82) X (off := 36) (tgt := 118) rfl (dl_at t_X22_pageBody 36 rfl) ?_
          exact J118 3 (r32_c rfl)
        refine g_iconst (pc := 65) X (n := 2) (dl_at t_X22_pageBody 28 rfl) ?_
        refine g_goto (pc := 66) X (off := 52) (tgt := 118) rfl (dl_at t_X22_pageBody 29 rfl) ?_
        exact J118 2 (r32_c rfl)
      refine g_iconst (pc := 49) X (n := 1) (dl_at t_X22_pageBody 21 rfl) ?_
      refine g_goto (pc := 50) X (off := 68) (tgt := 118) rfl (dl_at t_X22_pageBody 22 rfl) ?_
      exact J118 1 (r32_c rfl)
    refine g_iconst (pc := 33) X (n := 0) (dl_at t_X22_pageBody 14 rfl) ?_
    refine g_goto (pc := 34) X (off := 84) (tgt := 118) rfl (dl_at t_X22_pageBody 15 rfl) ?_
    exact J118 0 (r32_c rfl)
def k_X22_bracket : List (Nat × Instr × Nat) := [(0, .aload_n 0, 1), (1, .getfield 18, 3), (4, .invokevirtual 119, 3), (7, .aload_n 0, 1), (8, .getfield 18, 3), (11, .getfield 111, 3), (14, .iconst 1, 1), (15, .if_icmp .eq 11, 3), (18, .aload_n 0, 1), (19, .getfield 18, 3), (22, .invokevirtual 147, 3), (25, .athrow, 1), (26, .aload_n 0, 1), (27, .getfield 44, 3), (30, .aload_n 0, 1), (31, .getfield 95, 3), (34, .iconst 1, 1), (35, .iastore, 1), (36, .aload_n 0, 1), (37, .getfield 47, 3), (40, .aload_n 0, 1), (41, .getfield 95, 3), (44, .aload_n 0, 1), (45, .getfield 18, 3), (48, .getfield 176, 3), (51, .iastore, 1), (52, .aload_n 0, 1), (53, .getfield 50, 3), (56, .aload_n 0, 1), (57, .getfield 95, 3), (60, .aload_n 0, 1), (61, .getfield 18, 3), (64, .getfield 173, 3), (67, .iastore, 1), (68, .aload_n 0, 1), (69, .getfield 18, 3), (72, .invokevirtual 119, 3), (75, .aload_n 0, 1), (76, .getfield 18, 3), (79, .bipush 61, 2), (81, .invokevirtual 132, 3), (84, .ifCond .eq 78, 3), (87, .aload_n 0, 1), (88, .getfield 18, 3), (91, .invokevirtual 119, 3), (94, .aload_n 0, 1), (95, .getfield 18, 3), (98, .getfield 111, 3), (101, .iconst 3, 1), (102, .if_icmp .eq 11, 3), (105, .aload_n 0, 1), (106, .getfield 18, 3), (109, .invokevirtual 147, 3), (112, .athrow, 1), (113, .aload_n 0, 1), (114, .getfield 44, 3), (117, .aload_n 0, 1), (118, .getfield 95, 3), (121, .iconst 2, 1), (122, .iastore, 1), (123, .aload_n 0, 1), (124, .getfield 53, 3), (127, .aload_n 0, 1), (128, .getfield 95, 3), (131, .aload_n 0, 1), (132, .getfield 18, 3), (135, .invokevirtual 198, 3), (138, .iastore, 1), (139, .aload_n 0, 1), (140, .getfield 56, 3), (143, .aload_n 0, 1), (144, .getfield 95, 3), (147, .aload_n 0, 1), (148, .getfield 18, 3), (151, .invokevirtual 201, 3), (154, .iastore, 1), (155, .aload_n 0, 1), (156, .getfield 18, 3), (159, .invokevirtual 119, 3), (162, .aload_n 0, 1), (163, .getfield 18, 3), (166, .bipush 93, 2), (168, .invokevirtual 128, 3), (171, .return_, 1)]
theorem t_X22_bracket : ∀ q ∈ k_X22_bracket, decode cX22_bracket q.1 = .ok q.2 := dl_all (by decide +kernel)
noncomputable def m_X22_bracket (a0 : Int) (h : Hp) : Option ((Int × Int) × Hp) :=
  gd (h (h a0 1) (-2) = 336) ((m_X20_next (h a0 1) h).bind fun h4 =>
  gd (h4 (h4 a0 1) (-2) = 336) (if (h4 (h4 a0 1) 3) = 1 then (gd (h4 (h4 a0 15) (-2) % 16 = 1 ∧ (0 : Int) ≤ (h4 a0 5) ∧ (h4 a0 5) < h4 (h4 a0 15) (-1)) (pt h4 (h4 a0 15) (h4 a0 5) 1 fun h35 =>
  gd (h35 (h35 a0 1) (-2) = 336) (gd (h35 (h35 a0 16) (-2) % 16 = 1 ∧ (0 : Int) ≤ (h35 a0 5) ∧ (h35 a0 5) < h35 (h35 a0 16) (-1)) (pt h35 (h35 a0 16) (h35 a0 5) (h35 (h35 a0 1) 4) fun h51 =>
  gd (h51 (h51 a0 1) (-2) = 336) (gd (h51 (h51 a0 17) (-2) % 16 = 1 ∧ (0 : Int) ≤ (h51 a0 5) ∧ (h51 a0 5) < h51 (h51 a0 17) (-1)) (pt h51 (h51 a0 17) (h51 a0 5) (h51 (h51 a0 1) 5) fun h67 =>
  gd (h67 (h67 a0 1) (-2) = 336) ((m_X20_next (h67 a0 1) h67).bind fun h72 =>
  gd (h72 (h72 a0 1) (-2) = 336) ((m_X20_isByte (h72 a0 1) 61 h72).bind fun v81 =>
  if v81 = 0 then (bT (m_X20_need (h72 a0 1) 93 h72) (fun _ h168 =>
  some ((0, 0), h168)) (fun a_ h_ => some ((1, a_), h_)))
  else ((m_X20_next (h72 a0 1) h72).bind fun h91 =>
  gd (h91 (h91 a0 1) (-2) = 336) (if (h91 (h91 a0 1) 3) = 3 then (gd (h91 (h91 a0 15) (-2) % 16 = 1 ∧ (0 : Int) ≤ (h91 a0 5) ∧ (h91 a0 5) < h91 (h91 a0 15) (-1)) (pt h91 (h91 a0 15) (h91 a0 5) 2 fun h122 =>
  gd (h122 (h122 a0 1) (-2) = 336) ((m_X20_inner (h122 a0 1) h122).bind fun v135 =>
  gd (h122 (h122 a0 18) (-2) % 16 = 1 ∧ (0 : Int) ≤ (h122 a0 5) ∧ (h122 a0 5) < h122 (h122 a0 18) (-1)) (pt h122 (h122 a0 18) (h122 a0 5) v135 fun h138 =>
  gd (h138 (h138 a0 1) (-2) = 336) ((m_X20_innerEnd (h138 a0 1) h138).bind fun v151 =>
  gd (h138 (h138 a0 19) (-2) % 16 = 1 ∧ (0 : Int) ≤ (h138 a0 5) ∧ (h138 a0 5) < h138 (h138 a0 19) (-1)) (pt h138 (h138 a0 19) (h138 a0 5) v151 fun h154 =>
  gd (h154 (h154 a0 1) (-2) = 336) ((m_X20_next (h154 a0 1) h154).bind fun h159 =>
  gd (h159 (h159 a0 1) (-2) = 336) (bT (m_X20_need (h159 a0 1) 93 h159) (fun _ h168_1 =>
  some ((0, 0), h168_1)) (fun a_ h_ => some ((1, a_), h_))))))))))
  else (bW (m_X20_broken (h91 a0 1) h91) fun v109 h109 =>
  gd (0 < v109) (some ((1, v109), h109)))))))))))))
  else (bW (m_X20_broken (h4 a0 1) h4) fun v22 h22 =>
  gd (0 < v22) (some ((1, v22), h22)))))
theorem s_X22_bracket {l : Launch} [NoTr l] {D : SD} {a0 : Int} {h : Hp} (hk : h a0 (-2) = 368) {r : (Int × Int) × Hp} (hm : m_X22_bracket a0 h = some r) : Sim l D yX22_bracket (Cond.code yX22_bracket cX22_bracket 1 (Option.none : Option Jvm.ClassFile.FieldType)) 11 410 [rv D a0] h 0 r := by
  refine Sim.of (fin := fun (v : (Int × Int) × Hp) => v) (lsE := [(0, rv D a0)]) hm rfl cwS_code (la_r la_n) (ll_r ll_n) ?_
  intro p e s m below meth c X hcw hmm hcc hnm hname
  have hno := noh hcw hnm hmm hcc
  unfold m_X22_bracket
  refine g_aload_n (pc := 0) X (j := 0) (i := 0) (q := 0) (x := a0) rfl rfl (dl_at t_X22_bracket 0 rfl) ?_
  refine r_getr (pc := 1) X fX22_1 hk q3406 (dl_at t_X22_bracket 1 rfl) ?_
  refine g_gd fun k4 => ?_
  refine r_callV (pc := 4) X (fun _ hv => s_X20_next k4 hv) cw_code q4342 q374 (in_Vk X (As := []) kX20 k4 (Or.inl q4481) q4340 q4341 cw_code q4342 ⟨by decide, by decide⟩ rfl (dl_at t_X22_bracket 2 rfl)) (dl_at t_X22_bracket 2 rfl) (cat24 (st := []) (Nat.le_of_ble_eq_true rfl)) (Nat.le_of_ble_eq_true rfl) (Nat.le_of_ble_eq_true rfl) fun h4 E4 => ?_
  refine g_aload_n (pc := 7) X (j := 0) (i := 0) (q := 0) (x := a0) rfl rfl (dl_at t_X22_bracket 3 rfl) ?_
  have k8 := kx E4 (by decide) hk
  refine r_getr (pc := 8) X fX22_1 k8 q3406 (dl_at t_X22_bracket 4 rfl) ?_
  refine g_gd fun k11 => ?_
  refine r_geti (pc := 11) X fX20_3 k11 q3277 (dl_at t_X22_bracket 5 rfl) fun g11 => ?_
  refine g_iconst (pc := 14) X (n := 1) (dl_at t_X22_bracket 6 rfl) ?_
  refine g_icmpeq (pc := 15) X g11 (r32_c rfl) (off := 11) (tgt := 26) rfl (dl_at t_X22_bracket 7 rfl) (fun _ => ?_) (fun _ => ?_)
  · refine g_aload_n (pc := 26) X (j := 0) (i := 0) (q := 0) (x := a0) rfl rfl (dl_at t_X22_bracket 12 rfl) ?_
    refine r_getr (pc := 27) X fX22_15 k8 q3429 (dl_at t_X22_bracket 13 rfl) ?_
    refine g_aload_n (pc := 30) X (j := 0) (i := 0) (q := 0) (x := a0) rfl rfl (dl_at t_X22_bracket 14 rfl) ?_
    refine r_geti (pc := 31) X fX22_5 k8 q3413 (dl_at t_X22_bracket 15 rfl) fun g31 => ?_
    refine g_iconst (pc := 34) X (n := 1) (dl_at t_X22_bracket 16 rfl) ?_
    refine g_gd fun k35 => ?_
    refine r_iast (pc := 35) X g31 (r32_c rfl) k35 (dl_at t_X22_bracket 17 rfl) (fun h35 E35 => ?_)
    refine g_aload_n (pc := 36) X (j := 0) (i := 0) (q := 0) (x := a0) rfl rfl (dl_at t_X22_bracket 18 rfl) ?_
    have k37 := kx E35 (by decide) k8
    refine r_getr (pc := 37) X fX22_16 k37 q3431 (dl_at t_X22_bracket 19 rfl) ?_
    refine g_aload_n (pc := 40) X (j := 0) (i := 0) (q := 0) (x := a0) rfl rfl (dl_at t_X22_bracket 20 rfl) ?_
    refine r_geti (pc := 41) X fX22_5 k37 q3413 (dl_at t_X22_bracket 21 rfl) fun g41 => ?_
    refine g_aload_n (pc := 44) X (j := 0) (i := 0) (q := 0) (x := a0) rfl rfl (dl_at t_X22_bracket 22 rfl) ?_
    refine r_getr (pc := 45) X fX22_1 k37 q3406 (dl_at t_X22_bracket 23 rfl) ?_
    refine g_gd fun k48 => ?_
    refine r_geti (pc := 48) X fX20_4 k48 q3281 (dl_at t_X22_bracket 24 rfl) fun g48 => ?_
    refine g_gd fun k51 => ?_
    refine r_iast (pc := 51) X g41 g48 k51 (dl_at t_X22_bracket 25 rfl) (fun h51 E51 => ?_)
    refine g_aload_n (pc := 52) X (j := 0) (i := 0) (q := 0) (x := a0) rfl rfl (dl_at t_X22_bracket 26 rfl) ?_
    have k53 := kx E51 (by decide) k37
    refine r_getr (pc := 53) X fX22_17 k53 q3433 (dl_at t_X22_bracket 27 rfl) ?_
    refine g_aload_n (pc := 56) X (j := 0) (i := 0) (q := 0) (x := a0) rfl rfl (dl_at t_X22_bracket 28 rfl) ?_
    refine r_geti (pc := 57) X fX22_5 k53 q3413 (dl_at t_X22_bracket 29 rfl) fun g57 => ?_
    refine g_aload_n (pc := 60) X (j := 0) (i := 0) (q := 0) (x := a0) rfl rfl (dl_at t_X22_bracket 30 rfl) ?_
    refine r_getr (pc := 61) X fX22_1 k53 q3406 (dl_at t_X22_bracket 31 rfl) ?_
    refine g_gd fun k64 => ?_
    refine r_geti (pc := 64) X fX20_5 k64 q3284 (dl_at t_X22_bracket 32 rfl) fun g64 => ?_
    refine g_gd fun k67 => ?_
    refine r_iast (pc := 67) X g57 g64 k67 (dl_at t_X22_bracket 33 rfl) (fun h67 E67 => ?_)
    refine g_aload_n (pc := 68) X (j := 0) (i := 0) (q := 0) (x := a0) rfl rfl (dl_at t_X22_bracket 34 rfl) ?_
    have k69 := kx E67 (by decide) k53
    refine r_getr (pc := 69) X fX22_1 k69 q3406 (dl_at t_X22_bracket 35 rfl) ?_
    refine g_gd fun k72 => ?_
    refine r_callV (pc := 72) X (fun _ hv => s_X20_next k72 hv) cw_code q4342 q374 (in_Vk X (As := []) kX20 k72 (Or.inl q4481) q4340 q4341 cw_code q4342 ⟨by decide, by decide⟩ rfl (dl_at t_X22_bracket 36 rfl)) (dl_at t_X22_bracket 36 rfl) (cat24 (st := []) (Nat.le_of_ble_eq_true rfl)) (Nat.le_of_ble_eq_true rfl) (Nat.le_of_ble_eq_true rfl) fun h72 E72 => ?_
    refine g_aload_n (pc := 75) X (j := 0) (i := 0) (q := 0) (x := a0) rfl rfl (dl_at t_X22_bracket 37 rfl) ?_
    have k76 := kx E72 (by decide) k69
    refine r_getr (pc := 76) X fX22_1 k76 q3406 (dl_at t_X22_bracket 38 rfl) ?_
    refine g_bipush (pc := 79) X (n := 61) rfl (dl_at t_X22_bracket 39 rfl) ?_
    refine g_gd fun k81 => ?_
    refine r_callRz (pc := 81) X (fun _ hv => s_X20_isByte k81 (r32_c rfl) hv) cw_code q4421 q374 (in_Vk X (As := [iv 61]) kX20 k81 (Or.inl q4487) q4419 q4420 cw_code q4421 ⟨by decide, by decide⟩ rfl (dl_at t_X22_bracket 40 rfl)) (dl_at t_X22_bracket 40 rfl) (cat24 (st := []) (Nat.le_of_ble_eq_true rfl)) (Nat.le_of_ble_eq_true rfl) (Nat.le_of_ble_eq_true rfl) fun v81 g81 => ?_
    refine g_ifeq (pc := 84) X (r32_z g81) (off := 78) (tgt := 162) rfl (dl_at t_X22_bracket 41 rfl) (fun _ => ?_) (fun _ => ?_)
    · refine g_aload_n (pc := 162) X (j := 0) (i := 0) (q := 0) (x := a0) rfl rfl (dl_at t_X22_bracket 79 rfl) ?_
      refine r_getr (pc := 163) X fX22_1 k76 q3406 (dl_at t_X22_bracket 80 rfl) ?_
      refine g_bipush (pc := 166) X (n := 93) rfl (dl_at t_X22_bracket 81 rfl) ?_
      refine r_callTv (pc := 168) X (fun _ hv => s_X20_need k81 (r32_c rfl) hv) cw_code q4426 q374 (in_Vk X (As := [iv 93]) kX20 k81 (Or.inl q4486) q4424 q4425 cw_code q4426 ⟨by decide, by decide⟩ rfl (dl_at t_X22_bracket 82 rfl)) (dl_at t_X22_bracket 82 rfl) (cat24 (st := []) (Nat.le_of_ble_eq_true rfl)) (Nat.le_of_ble_eq_true rfl) (Nat.le_of_ble_eq_true rfl) (fun v168 h168 E168 => ?_) (fun _ _ ha _ => gt_at fun Q hQ => gt_out (Q := Q) X rfl ha (hno _) _ Q rfl hQ)
      exact g_vret (pc := 171) X (v := 0) rfl rfl (dl_at t_X22_bracket 83 rfl)
    refine g_aload_n (pc := 87) X (j := 0) (i := 0) (q := 0) (x := a0) rfl rfl (dl_at t_X22_bracket 42 rfl) ?_
    refine r_getr (pc := 88) X fX22_1 k76 q3406 (dl_at t_X22_bracket 43 rfl) ?_
    refine r_callV (pc := 91) X (fun _ hv => s_X20_next k81 hv) cw_code q4342 q374 (in_Vk X (As := []) kX20 k81 (Or.inl q4481) q4340 q4341 cw_code q4342 ⟨by decide, by decide⟩ rfl (dl_at t_X22_bracket 44 rfl)) (dl_at t_X22_bracket 44 rfl) (cat24 (st := []) (Nat.le_of_ble_eq_true rfl)) (Nat.le_of_ble_eq_true rfl) (Nat.le_of_ble_eq_true rfl) fun h91 E91 => ?_
    refine g_aload_n (pc := 94) X (j := 0) (i := 0) (q := 0) (x := a0) rfl rfl (dl_at t_X22_bracket 45 rfl) ?_
    have k95 := kx E91 (by decide) k76
    refine r_getr (pc := 95) X fX22_1 k95 q3406 (dl_at t_X22_bracket 46 rfl) ?_
    refine g_gd fun k98 => ?_
    refine r_geti (pc := 98) X fX20_3 k98 q3277 (dl_at t_X22_bracket 47 rfl) fun g98 => ?_
    refine g_iconst (pc := 101) X (n := 3) (dl_at t_X22_bracket 48 rfl) ?_
    refine g_icmpeq (pc := 102) X g98 (r32_c rfl) (off := 11) (tgt := 113) rfl (dl_at t_X22_bracket 49 rfl) (fun _ => ?_) (fun _ => ?_)
    · refine g_aload_n (pc := 113) X (j := 0) (i := 0) (q := 0) (x := a0) rfl rfl (dl_at t_X22_bracket 54 rfl) ?_
      refine r_getr (pc := 114) X fX22_15 k95 q3429 (dl_at t_X22_bracket 55 rfl) ?_
      refine g_aload_n (pc := 117) X (j := 0) (i := 0) (q := 0) (x := a0) rfl rfl (dl_at t_X22_bracket 56 rfl) ?_
      refine r_geti (pc := 118) X fX22_5 k95 q3413 (dl_at t_X22_bracket 57 rfl) fun g118 => ?_
      refine g_iconst (pc := 121) X (n := 2) (dl_at t_X22_bracket 58 rfl) ?_
      refine g_gd fun k122 => ?_
      refine r_iast (pc := 122) X g118 (r32_c rfl) k122 (dl_at t_X22_bracket 59 rfl) (fun h122 E122 => ?_)
      refine g_aload_n (pc := 123) X (j := 0) (i := 0) (q := 0) (x := a0) rfl rfl (dl_at t_X22_bracket 60 rfl) ?_
      have k124 := kx E122 (by decide) k95
      refine r_getr (pc := 124) X fX22_18 k124 q3435 (dl_at t_X22_bracket 61 rfl) ?_
      refine g_aload_n (pc := 127) X (j := 0) (i := 0) (q := 0) (x := a0) rfl rfl (dl_at t_X22_bracket 62 rfl) ?_
      refine r_geti (pc := 128) X fX22_5 k124 q3413 (dl_at t_X22_bracket 63 rfl) fun g128 => ?_
      refine g_aload_n (pc := 131) X (j := 0) (i := 0) (q := 0) (x := a0) rfl rfl (dl_at t_X22_bracket 64 rfl) ?_
      refine r_getr (pc := 132) X fX22_1 k124 q3406 (dl_at t_X22_bracket 65 rfl) ?_
      refine g_gd fun k135 => ?_
      refine r_callRi (pc := 135) X (fun _ hv => s_X20_inner k135 hv) cw_code q4382 q374 (in_Vk X (As := []) kX20 k135 (Or.inl q4521) q4380 q4381 cw_code q4382 ⟨by decide, by decide⟩ rfl (dl_at t_X22_bracket 66 rfl)) (dl_at t_X22_bracket 66 rfl) (cat24 (st := [iv (h122 a0 5), rv D (h122 a0 18)]) (Nat.le_of_ble_eq_true rfl)) (Nat.le_of_ble_eq_true rfl) (Nat.le_of_ble_eq_true rfl) fun v135 g135 => ?_
      refine g_gd fun k138 => ?_
      refine r_iast (pc := 138) X g128 g135 k138 (dl_at t_X22_bracket 67 rfl) (fun h138 E138 => ?_)
      refine g_aload_n (pc := 139) X (j := 0) (i := 0) (q := 0) (x := a0) rfl rfl (dl_at t_X22_bracket 68 rfl) ?_
      have k140 := kx E138 (by decide) k124
      refine r_getr (pc := 140) X fX22_19 k140 q3437 (dl_at t_X22_bracket 69 rfl) ?_
      refine g_aload_n (pc := 143) X (j := 0) (i := 0) (q := 0) (x := a0) rfl rfl (dl_at t_X22_bracket 70 rfl) ?_
      refine r_geti (pc := 144) X fX22_5 k140 q3413 (dl_at t_X22_bracket 71 rfl) fun g144 => ?_
      refine g_aload_n (pc := 147) X (j := 0) (i := 0) (q := 0) (x := a0) rfl rfl (dl_at t_X22_bracket 72 rfl) ?_
      refine r_getr (pc := 148) X fX22_1 k140 q3406 (dl_at t_X22_bracket 73 rfl) ?_
      refine g_gd fun k151 => ?_
      refine r_callRi (pc := 151) X (fun _ hv => s_X20_innerEnd k151 hv) cw_code q4378 q374 (in_Vk X (As := []) kX20 k151 (Or.inl q4522) q4376 q4377 cw_code q4378 ⟨by decide, by decide⟩ rfl (dl_at t_X22_bracket 74 rfl)) (dl_at t_X22_bracket 74 rfl) (cat24 (st := [iv (h138 a0 5), rv D (h138 a0 19)]) (Nat.le_of_ble_eq_true rfl)) (Nat.le_of_ble_eq_true rfl) (Nat.le_of_ble_eq_true rfl) fun v151 g151 => ?_
      refine g_gd fun k154 => ?_
      refine r_iast (pc := 154) X g144 g151 k154 (dl_at t_X22_bracket 75 rfl) (fun h154 E154 => ?_)
      refine g_aload_n (pc := 155) X (j := 0) (i := 0) (q := 0) (x := a0) rfl rfl (dl_at t_X22_bracket 76 rfl) ?_
      have k156 := kx E154 (by decide) k140
      refine r_getr (pc := 156) X fX22_1 k156 q3406 (dl_at t_X22_bracket 77 rfl) ?_
      refine g_gd fun k159 => ?_
      refine r_callV (pc := 159) X (fun _ hv => s_X20_next k159 hv) cw_code q4342 q374 (in_Vk X (As := []) kX20 k159 (Or.inl q4481) q4340 q4341 cw_code q4342 ⟨by decide, by decide⟩ rfl (dl_at t_X22_bracket 78 rfl)) (dl_at t_X22_bracket 78 rfl) (cat24 (st := []) (Nat.le_of_ble_eq_true rfl)) (Nat.le_of_ble_eq_true rfl) (Nat.le_of_ble_eq_true rfl) fun h159 E159 => ?_
      refine g_aload_n (pc := 162) X (j := 0) (i := 0) (q := 0) (x := a0) rfl rfl (dl_at t_X22_bracket 79 rfl) ?_
      have k163 := kx E159 (by decide) k156
      refine r_getr (pc := 163) X fX22_1 k163 q3406 (dl_at t_X22_bracket 80 rfl) ?_
      refine g_bipush (pc := 166) X (n := 93) rfl (dl_at t_X22_bracket 81 rfl) ?_
      refine g_gd fun k168 => ?_
      refine r_callTv (pc := 168) X (fun _ hv => s_X20_need k168 (r32_c rfl) hv) cw_code q4426 q374 (in_Vk X (As := [iv 93]) kX20 k168 (Or.inl q4486) q4424 q4425 cw_code q4426 ⟨by decide, by decide⟩ rfl (dl_at t_X22_bracket 82 rfl)) (dl_at t_X22_bracket 82 rfl) (cat24 (st := []) (Nat.le_of_ble_eq_true rfl)) (Nat.le_of_ble_eq_true rfl) (Nat.le_of_ble_eq_true rfl) (fun v168_1 h168_1 E168_1 => ?_) (fun _ _ ha _ => gt_at fun Q hQ => gt_out (Q := Q) X rfl ha (hno _) _ Q rfl hQ)
      exact g_vret (pc := 171) X (v := 0) rfl rfl (dl_at t_X22_bracket 83 rfl)
    refine g_aload_n (pc := 105) X (j := 0) (i := 0) (q := 0) (x := a0) rfl rfl (dl_at t_X22_bracket 50 rfl) ?_
    refine r_getr (pc := 106) X fX22_1 k95 q3406 (dl_at t_X22_bracket 51 rfl) ?_
    refine r_callWr (pc := 109) X (fun _ hv => s_X20_broken k98 hv) cw_code q4386 q374 (in_Vk X (As := []) kX20 k98 (Or.inl q4494) q4384 q4385 cw_code q4386 ⟨by decide, by decide⟩ rfl (dl_at t_X22_bracket 52 rfl)) (dl_at t_X22_bracket 52 rfl) (cat24 (st := []) (Nat.le_of_ble_eq_true rfl)) (Nat.le_of_ble_eq_true rfl) (Nat.le_of_ble_eq_true rfl) fun v109 h109 E109 => ?_
    refine g_gd fun p112 => ?_
    refine g_athrow (pc := 112) X (Int.ne_of_gt p112) (dl_at t_X22_bracket 53 rfl) ?_
    exact gt_at fun Q hQ => gt_out (Q := Q) X rfl p112 (hno _) _ Q rfl hQ
  refine g_aload_n (pc := 18) X (j := 0) (i := 0) (q := 0) (x := a0) rfl rfl (dl_at t_X22_bracket 8 rfl) ?_
  refine r_getr (pc := 19) X fX22_1 k8 q3406 (dl_at t_X22_bracket 9 rfl) ?_
  refine r_callWr (pc := 22) X (fun _ hv => s_X20_broken k11 hv) cw_code q4386 q374 (in_Vk X (As := []) kX20 k11 (Or.inl q4494) q4384 q4385 cw_code q4386 ⟨by decide, by decide⟩ rfl (dl_at t_X22_bracket 10 rfl)) (dl_at t_X22_bracket 10 rfl) (cat24 (st := []) (Nat.le_of_ble_eq_true rfl)) (Nat.le_of_ble_eq_true rfl) (Nat.le_of_ble_eq_true rfl) fun v22 h22 E22 => ?_
  refine g_gd fun p25 => ?_
  refine g_athrow (pc := 25) X (Int.ne_of_gt p25) (dl_at t_X22_bracket 11 rfl) ?_
  exact gt_at fun Q hQ => gt_out (Q := Q) X rfl p25 (hno _) _ Q rfl hQ
def k_X22_colon : List (Nat × Instr × Nat) := [(0, .aload_n 0, 1), (1, .getfield 18, 3), (4, .invokevirtual 119, 3), (7, .aload_n 0, 1), (8, .ldc 204, 2), (10, .invokevirtual 159, 3), (13, .istore_n 1, 1), (14, .aload_n 0, 1), (15, .getfield 44, 3), (18, .aload_n 0, 1), (19, .getfield 95, 3), (22, .iconst 3, 1), (23, .iload_n 1, 1), (24, .iadd, 1), (25, .iastore, 1), (26, .iload_n 1, 1), (27, .iconst 3, 1), (28, .if_icmp .ne 43, 3), (31, .aload_n 0, 1), (32, .getfield 18, 3), (35, .bipush 40, 2), (37, .invokevirtual 128, 3), (40, .aload_n 0, 1), (41, .getfield 59, 3), (44, .aload_n 0, 1), (45, .getfield 95, 3), (48, .aload_n 0, 1), (49, .getfield 18, 3), (52, .iconst 0, 1), (53, .ldc 206, 2), (55, .invokevirtual 152, 3), (58, .iastore, 1), (59, .aload_n 0, 1), (60, .getfield 18, 3), (63, .bipush 41, 2), (65, .invokevirtual 128, 3), (68, .goto 84, 3), (71, .iload_n 1, 1), (72, .iconst 4, 1), (73, .if_icmp .ne 79, 3), (76, .aload_n 0, 1), (77, .getfield 18, 3), (80, .bipush 40, 2), (82, .invokevirtual 128, 3), (85, .aload_n 0, 1), (86, .getfield 18, 3), (89, .getfield 111, 3), (92, .iconst 1, 1), (93, .if_icmp .eq 11, 3), (96, .aload_n 0, 1), (97, .getfield 18, 3), (100, .invokevirtual 147, 3), (103, .athrow, 1), (104, .aload_n 0, 1), (105, .getfield 47, 3), (108, .aload_n 0, 1), (109, .getfield 95, 3), (112, .aload_n 0, 1), (113, .getfield 18, 3), (116, .getfield 176, 3), (119, .iastore, 1), (120, .aload_n 0, 1), (121, .getfield 50, 3), (124, .aload_n 0, 1), (125, .getfield 95, 3), (128, .aload_n 0, 1), (129, .getfield 18, 3), (132, .getfield 173, 3), (135, .iastore, 1), (136, .aload_n 0, 1), (137, .getfield 18, 3), (140, .invokevirtual 119, 3), (143, .aload_n 0, 1), (144, .getfield 18, 3), (147, .bipush 41, 2), (149, .invokevirtual 128, 3), (152, .return_, 1)]
theorem t_X22_colon : ∀ q ∈ k_X22_colon, decode cX22_colon q.1 = .ok q.2 := dl_all (by decide +kernel)
noncomputable def m_X22_colon (a0 : Int) (h : Hp) : Option ((Int × Int) × Hp) :=
  gd (h (h a0 1) (-2) = 336) ((m_X20_next (h a0 1) h).bind fun h4 =>
  bT (m_X22_word a0 (-97) h4) (fun v10 h10 =>
  gd (h10 (h10 a0 15) (-2) % 16 = 1 ∧ (0 : Int) ≤ (h10 a0 5) ∧ (h10 a0 5) < h10 (h10 a0 15) (-1)) (pt h10 (h10 a0 15) (h10 a0 5) (w32 (3 + v10)) fun h25 =>
  if v10 ≠ 3 then (if v10 ≠ 4 then (some ((0, 0), h25))
  else (gd (h25 (h25 a0 1) (-2) = 336) (bT (m_X20_need (h25 a0 1) 40 h25) (fun _ h82 =>
  gd (h82 (h82 a0 1) (-2) = 336) (if (h82 (h82 a0 1) 3) = 1 then (gd (h82 (h82 a0 16) (-2) % 16 = 1 ∧ (0 : Int) ≤ (h82 a0 5) ∧ (h82 a0 5) < h82 (h82 a0 16) (-1)) (pt h82 (h82 a0 16) (h82 a0 5) (h82 (h82 a0 1) 4) fun h119 =>
  gd (h119 (h119 a0 1) (-2) = 336) (gd (h119 (h119 a0 17) (-2) % 16 = 1 ∧ (0 : Int) ≤ (h119 a0 5) ∧ (h119 a0 5) < h119 (h119 a0 17) (-1)) (pt h119 (h119 a0 17) (h119 a0 5) (h119 (h119 a0 1) 5) fun h135 =>
  gd (h135 (h135 a0 1) (-2) = 336) ((m_X20_next (h135 a0 1) h135).bind fun h140 =>
  gd (h140 (h140 a0 1) (-2) = 336) (bT (m_X20_need (h140 a0 1) 41 h140) (fun _ h149 =>
  some ((0, 0), h149)) (fun a_ h_ => some ((1, a_), h_))))))))
  else (bW (m_X20_broken (h82 a0 1) h82) fun v100 h100 =>
  gd (0 < v100) (some ((1, v100), h100))))) (fun a_ h_ => some ((1, a_), h_)))))
  else (gd (h25 (h25 a0 1) (-2) = 336) (bT (m_X20_need (h25 a0 1) 40 h25) (fun _ h37 =>
  gd (h37 (h37 a0 1) (-2) = 336) (bT (m_X20_needNumber (h37 a0 1) 0 9999999 h37) (fun v55 h55 =>
  gd (h55 (h37 a0 20) (-2) % 16 = 1 ∧ (0 : Int) ≤ (h37 a0 5) ∧ (h37 a0 5) < h55 (h37 a0 20) (-1)) (pt h55 (h37 a0 20) (h37 a0 5) v55 fun h58 =>
  gd (h58 (h58 a0 1) (-2) = 336) (bT (m_X20_need (h58 a0 1) 41 h58) (fun _ h65 =>
  some ((0, 0), h65)) (fun a_ h_ => some ((1, a_), h_))))) (fun a_ h_ => some ((1, a_), h_)))) (fun a_ h_ => some ((1, a_), h_)))))) (fun a_ h_ => some ((1, a_), h_)))
theorem s_X22_colon {l : Launch} [NoTr l] {D : SD} {a0 : Int} {h : Hp} (hk : h a0 (-2) = 368) {r : (Int × Int) × Hp} (hm : m_X22_colon a0 h = some r) : Sim l D yX22_colon (Cond.code yX22_colon cX22_colon 2 (Option.none : Option Jvm.ClassFile.FieldType)) 11 415 [rv D a0] h 0 r := by
  refine Sim.of (fin := fun (v : (Int × Int) × Hp) => v) (lsE := [(0, rv D a0)]) hm rfl cwS_code (la_r la_n) (ll_r ll_n) ?_
  intro p e s m below meth c X hcw hmm hcc hnm hname
  have hno := noh hcw hnm hmm hcc
  unfold m_X22_colon
  refine g_aload_n (pc := 0) X (j := 0) (i := 0) (q := 0) (x := a0) rfl rfl (dl_at t_X22_colon 0 rfl) ?_
  refine r_getr (pc := 1) X fX22_1 hk q3406 (dl_at t_X22_colon 1 rfl) ?_
  refine g_gd fun k4 => ?_
  refine r_callV (pc := 4) X (fun _ hv => s_X20_next k4 hv) cw_code q4342 q374 (in_Vk X (As := []) kX20 k4 (Or.inl q4481) q4340 q4341 cw_code q4342 ⟨by decide, by decide⟩ rfl (dl_at t_X22_colon 2 rfl)) (dl_at t_X22_colon 2 rfl) (cat24 (st := []) (Nat.le_of_ble_eq_true rfl)) (Nat.le_of_ble_eq_true rfl) (Nat.le_of_ble_eq_true rfl) fun h4 E4 => ?_
  refine g_aload_n (pc := 7) X (j := 0) (i := 0) (q := 0) (x := a0) rfl rfl (dl_at t_X22_colon 3 rfl) ?_
  refine g_ldcS (pc := 8) X (index := 204) (id := (-97)) 95 rfl rfl (dl_at t_X22_colon 4 rfl) ?_
  have k10 := kx E4 (by decide) hk
  refine r_callTi (pc := 10) X (fun _ hv => s_X22_word k10 hv) cw_code q4502 q376 (in_Vk X (As := [rv D (-97)]) kX22 k10 (Or.inl q4499) q4501 qs246 cw_code q4502 ⟨by decide, by decide⟩ rfl (dl_at t_X22_colon 5 rfl)) (dl_at t_X22_colon 5 rfl) (cat24 (st := []) (Nat.le_of_ble_eq_true rfl)) (Nat.le_of_ble_eq_true rfl) (Nat.le_of_ble_eq_true rfl) (fun v10 h10 g10 E10 => ?_) (fun _ _ ha _ => gt_at fun Q hQ => gt_out (Q := Q) X rfl ha (hno _) _ Q rfl hQ)
  refine g_istore_nN (pc := 13) X (j := 1) (i := 1) (x := v10) (b := 0) (w := rv D a0) (rest := []) rfl (Nat.le_of_ble_eq_true rfl) [0] rfl (by decide) rv_cat rfl (dl_at t_X22_colon 6 rfl) ?_
  refine g_aload_n (pc := 14) X (j := 0) (i := 0) (q := 1) (x := a0) rfl rfl (dl_at t_X22_colon 7 rfl) ?_
  have k15 := kx E10 (by decide) k10
  refine r_getr (pc := 15) X fX22_15 k15 q3429 (dl_at t_X22_colon 8 rfl) ?_
  refine g_aload_n (pc := 18) X (j := 0) (i := 0) (q := 1) (x := a0) rfl rfl (dl_at t_X22_colon 9 rfl) ?_
  refine r_geti (pc := 19) X fX22_5 k15 q3413 (dl_at t_X22_colon 10 rfl) fun g19 => ?_
  refine g_iconst (pc := 22) X (n := 3) (dl_at t_X22_colon 11 rfl) ?_
  refine g_iload_n (pc := 23) X (j := 1) (i := 1) (q := 0) (x := v10) rfl rfl (dl_at t_X22_colon 12 rfl) ?_
  refine g_iadd (pc := 24) X (r32_c rfl) g10 (dl_at t_X22_colon 13 rfl) ?_
  refine g_gd fun k25 => ?_
  refine r_iast (pc := 25) X g19 (r32_w _) k25 (dl_at t_X22_colon 14 rfl) (fun h25 E25 => ?_)
  refine g_iload_n (pc := 26) X (j := 1) (i := 1) (q := 0) (x := v10) rfl rfl (dl_at t_X22_colon 15 rfl) ?_
  refine g_iconst (pc := 27) X (n := 3) (dl_at t_X22_colon 16 rfl) ?_
  refine g_icmpne (pc := 28) X g10 (r32_c rfl) (off := 43) (tgt := 71) rfl (dl_at t_X22_colon 17 rfl) (fun _ => ?_) (fun _ => ?_)
  · refine g_iload_n (pc := 71) X (j := 1) (i := 1) (q := 0) (x := v10) rfl rfl (dl_at t_X22_colon 37 rfl) ?_
    refine g_iconst (pc := 72) X (n := 4) (dl_at t_X22_colon 38 rfl) ?_
    refine g_icmpne (pc := 73) X g10 (r32_c rfl) (off := 79) (tgt := 152) rfl (dl_at t_X22_colon 39 rfl) (fun _ => ?_) (fun _ => ?_)
    · exact g_vret (pc := 152) X (v := 0) rfl rfl (dl_at t_X22_colon 76 rfl)
    refine g_aload_n (pc := 76) X (j := 0) (i := 0) (q := 1) (x := a0) rfl rfl (dl_at t_X22_colon 40 rfl) ?_
    have k77 := kx E25 (by decide) k15
    refine r_getr (pc := 77) X fX22_1 k77 q3406 (dl_at t_X22_colon 41 rfl) ?_
    refine g_bipush (pc := 80) X (n := 40) rfl (dl_at t_X22_colon 42 rfl) ?_
    refine g_gd fun k82 => ?_
    refine r_callTv (pc := 82) X (fun _ hv => s_X20_need k82 (r32_c rfl) hv) cw_code q4426 q374 (in_Vk X (As := [iv 40]) kX20 k82 (Or.inl q4486) q4424 q4425 cw_code q4426 ⟨by decide, by decide⟩ rfl (dl_at t_X22_colon 43 rfl)) (dl_at t_X22_colon 43 rfl) (cat24 (st := []) (Nat.le_of_ble_eq_true rfl)) (Nat.le_of_ble_eq_true rfl) (Nat.le_of_ble_eq_true rfl) (fun v82 h82 E82 => ?_) (fun _ _ ha _ => gt_at fun Q hQ => gt_out (Q := Q) X rfl ha (hno _) _ Q rfl hQ)
    refine g_aload_n (pc := 85) X (j := 0) (i := 0) (q := 1) (x := a0) rfl rfl (dl_at t_X22_colon 44 rfl) ?_
    have k86 := kx E82 (by decide) k77
    refine r_getr (pc := 86) X fX22_1 k86 q3406 (dl_at t_X22_colon 45 rfl) ?_
    refine g_gd fun k89 => ?_
    refine r_geti (pc := 89) X fX20_3 k89 q3277 (dl_at t_X22_colon 46 rfl) fun g89 => ?_
    refine g_iconst (pc := 92) X (n := 1) (dl_at t_X22_colon 47 rfl) ?_
    refine g_icmpeq (pc := 93) X g89 (r32_c rfl) (off := 11) (tgt := 104) rfl (dl_at t_X22_colon 48 rfl) (fun _ => ?_) (fun _ => ?_)
    · refine g_aload_n (pc := 104) X (j := 0) (i := 0) (q := 1) (x := a0) rfl rfl (dl_at t_X22_colon 53 rfl) ?_
      refine r_getr (pc := 105) X fX22_16 k86 q3431 (dl_at t_X22_colon 54 rfl) ?_
      refine g_aload_n (pc := 108) X (j := 0) (i := 0) (q := 1) (x := a0) rfl rfl (dl_at t_X22_colon 55 rfl) ?_
      refine r_geti (pc := 109) X fX22_5 k86 q3413 (dl_at t_X22_colon 56 rfl) fun g109 => ?_
      refine g_aload_n (pc := 112) X (j := 0) (i := 0) (q := 1) (x := a0) rfl rfl (dl_at t_X22_colon 57 rfl) ?_
      refine r_getr (pc := 113) X fX22_1 k86 q3406 (dl_at t_X22_colon 58 rfl) ?_
      refine r_geti (pc := 116) X fX20_4 k89 q3281 (dl_at t_X22_colon 59 rfl) fun g116 => ?_
      refine g_gd fun k119 => ?_
      refine r_iast (pc := 119) X g109 g116 k119 (dl_at t_X22_colon 60 rfl) (fun h119 E119 => ?_)
      refine g_aload_n (pc := 120) X (j := 0) (i := 0) (q := 1) (x := a0) rfl rfl (dl_at t_X22_colon 61 rfl) ?_
      have k121 := kx E119 (by decide) k86
      refine r_getr (pc := 121) X fX22_17 k121 q3433 (dl_at t_X22_colon 62 rfl) ?_
      refine g_aload_n (pc := 124) X (j := 0) (i := 0) (q := 1) (x := a0) rfl rfl (dl_at t_X22_colon 63 rfl) ?_
      refine r_geti (pc := 125) X fX22_5 k121 q3413 (dl_at t_X22_colon 64 rfl) fun g125 => ?_
      refine g_aload_n (pc := 128) X (j := 0) (i := 0) (q := 1) (x := a0) rfl rfl (dl_at t_X22_colon 65 rfl) ?_
      refine r_getr (pc := 129) X fX22_1 k121 q3406 (dl_at t_X22_colon 66 rfl) ?_
      refine g_gd fun k132 => ?_
      refine r_geti (pc := 132) X fX20_5 k132 q3284 (dl_at t_X22_colon 67 rfl) fun g132 => ?_
      refine g_gd fun k135 => ?_
      refine r_iast (pc := 135) X g125 g132 k135 (dl_at t_X22_colon 68 rfl) (fun h135 E135 => ?_)
      refine g_aload_n (pc := 136) X (j := 0) (i := 0) (q := 1) (x := a0) rfl rfl (dl_at t_X22_colon 69 rfl) ?_
      have k137 := kx E135 (by decide) k121
      refine r_getr (pc := 137) X fX22_1 k137 q3406 (dl_at t_X22_colon 70 rfl) ?_
      refine g_gd fun k140 => ?_
      refine r_callV (pc := 140) X (fun _ hv => s_X20_next k140 hv) cw_code q4342 q374 (in_Vk X (As := []) kX20 k140 (Or.inl q4481) q4340 q4341 cw_code q4342 ⟨by decide, by decide⟩ rfl (dl_at t_X22_colon 71 rfl)) (dl_at t_X22_colon 71 rfl) (cat24 (st := []) (Nat.le_of_ble_eq_true rfl)) (Nat.le_of_ble_eq_true rfl) (Nat.le_of_ble_eq_true rfl) fun h140 E140 => ?_
      refine g_aload_n (pc := 143) X (j := 0) (i := 0) (q := 1) (x := a0) rfl rfl (dl_at t_X22_colon 72 rfl) ?_
      have k144 := kx E140 (by decide) k137
      refine r_getr (pc := 144) X fX22_1 k144 q3406 (dl_at t_X22_colon 73 rfl) ?_
      refine g_bipush (pc := 147) X (n := 41) rfl (dl_at t_X22_colon 74 rfl) ?_
      refine g_gd fun k149 => ?_
      refine r_callTv (pc := 149) X (fun _ hv => s_X20_need k149 (r32_c rfl) hv) cw_code q4426 q374 (in_Vk X (As := [iv 41]) kX20 k149 (Or.inl q4486) q4424 q4425 cw_code q4426 ⟨by decide, by decide⟩ rfl (dl_at t_X22_colon 75 rfl)) (dl_at t_X22_colon 75 rfl) (cat24 (st := []) (Nat.le_of_ble_eq_true rfl)) (Nat.le_of_ble_eq_true rfl) (Nat.le_of_ble_eq_true rfl) (fun v149 h149 E149 => ?_) (fun _ _ ha _ => gt_at fun Q hQ => gt_out (Q := Q) X rfl ha (hno _) _ Q rfl hQ)
      exact g_vret (pc := 152) X (v := 0) rfl rfl (dl_at t_X22_colon 76 rfl)
    refine g_aload_n (pc := 96) X (j := 0) (i := 0) (q := 1) (x := a0) rfl rfl (dl_at t_X22_colon 49 rfl) ?_
    refine r_getr (pc := 97) X fX22_1 k86 q3406 (dl_at t_X22_colon 50 rfl) ?_
    refine r_callWr (pc := 100) X (fun _ hv => s_X20_broken k89 hv) cw_code q4386 q374 (in_Vk X (As := []) kX20 k89 (Or.inl q4494) q4384 q4385 cw_code q4386 ⟨by decide, by decide⟩ rfl (dl_at t_X22_colon 51 rfl)) (dl_at t_X22_colon 51 rfl) (cat24 (st := []) (Nat.le_of_ble_eq_true rfl)) (Nat.le_of_ble_eq_true rfl) (Nat.le_of_ble_eq_true rfl) fun v100 h100 E100 => ?_
    refine g_gd fun p103 => ?_
    refine g_athrow (pc := 103) X (Int.ne_of_gt p103) (dl_at t_X22_colon 52 rfl) ?_
    exact gt_at fun Q hQ => gt_out (Q := Q) X rfl p103 (hno _) _ Q rfl hQ
  refine g_aload_n (pc := 31) X (j := 0) (i := 0) (q := 1) (x := a0) rfl rfl (dl_at t_X22_colon 18 rfl) ?_
  have k32 := kx E25 (by decide) k15
  refine r_getr (pc := 32) X fX22_1 k32 q3406 (dl_at t_X22_colon 19 rfl) ?_
  refine g_bipush (pc := 35) X (n := 40) rfl (dl_at t_X22_colon 20 rfl) ?_
  refine g_gd fun k37 => ?_
  refine r_callTv (pc := 37) X (fun _ hv => s_X20_need k37 (r32_c rfl) hv) cw_code q4426 q374 (in_Vk X (As := [iv 40]) kX20 k37 (Or.inl q4486) q4424 q4425 cw_code q4426 ⟨by decide, by decide⟩ rfl (dl_at t_X22_colon 21 rfl)) (dl_at t_X22_colon 21 rfl) (cat24 (st := []) (Nat.le_of_ble_eq_true rfl)) (Nat.le_of_ble_eq_true rfl) (Nat.le_of_ble_eq_true rfl) (fun v37 h37 E37 => ?_) (fun _ _ ha _ => gt_at fun Q hQ => gt_out (Q := Q) X rfl ha (hno _) _ Q rfl hQ)
  refine g_aload_n (pc := 40) X (j := 0) (i := 0) (q := 1) (x := a0) rfl rfl (dl_at t_X22_colon 22 rfl) ?_
  have k41 := kx E37 (by decide) k32
  refine r_getr (pc := 41) X fX22_20 k41 q3439 (dl_at t_X22_colon 23 rfl) ?_
  refine g_aload_n (pc := 44) X (j := 0) (i := 0) (q := 1) (x := a0) rfl rfl (dl_at t_X22_colon 24 rfl) ?_
  refine r_geti (pc := 45) X fX22_5 k41 q3413 (dl_at t_X22_colon 25 rfl) fun g45 => ?_
  refine g_aload_n (pc := 48) X (j := 0) (i := 0) (q := 1) (x := a0) rfl rfl (dl_at t_X22_colon 26 rfl) ?_
  refine r_getr (pc := 49) X fX22_1 k41 q3406 (dl_at t_X22_colon 27 rfl) ?_
  refine g_iconst (pc := 52) X (n := 0) (dl_at t_X22_colon 28 rfl) ?_
  refine g_ldc (pc := 53) X (index := 206) (n := 9999999) q4528 (dl_at t_X22_colon 29 rfl) ?_
  refine g_gd fun k55 => ?_
  refine r_callTi (pc := 55) X (fun _ hv => s_X20_needNumber k55 (r32_c rfl) (r32_c rfl) hv) cw_code q4410 q374 (in_Vk X (As := [iv 0, iv 9999999]) kX20 k55 (Or.inl q4496) q4408 q4409 cw_code q4410 ⟨by decide, by decide⟩ rfl (dl_at t_X22_colon 30 rfl)) (dl_at t_X22_colon 30 rfl) (cat24 (st := [iv (h37 a0 5), rv D (h37 a0 20)]) (Nat.le_of_ble_eq_true rfl)) (Nat.le_of_ble_eq_true rfl) (Nat.le_of_ble_eq_true rfl) (fun v55 h55 g55 E55 => ?_) (fun _ _ ha _ => gt_at fun Q hQ => gt_out (Q := Q) X rfl ha (hno _) _ Q rfl hQ)
  refine g_gd fun k58 => ?_
  refine r_iast (pc := 58) X g45 g55 k58 (dl_at t_X22_colon 31 rfl) (fun h58 E58 => ?_)
  refine g_aload_n (pc := 59) X (j := 0) (i := 0) (q := 1) (x := a0) rfl rfl (dl_at t_X22_colon 32 rfl) ?_
  have k60 := kx (E55.trans E58) (by decide) k41
  refine r_getr (pc := 60) X fX22_1 k60 q3406 (dl_at t_X22_colon 33 rfl) ?_
  refine g_bipush (pc := 63) X (n := 41) rfl (dl_at t_X22_colon 34 rfl) ?_
  refine g_gd fun k65 => ?_
  refine r_callTv (pc := 65) X (fun _ hv => s_X20_need k65 (r32_c rfl) hv) cw_code q4426 q374 (in_Vk X (As := [iv 41]) kX20 k65 (Or.inl q4486) q4424 q4425 cw_code q4426 ⟨by decide, by decide⟩ rfl (dl_at t_X22_colon 35 rfl)) (dl_at t_X22_colon 35 rfl) (cat24 (st := []) (Nat.le_of_ble_eq_true rfl)) (Nat.le_of_ble_eq_true rfl) (Nat.le_of_ble_eq_true rfl) (fun v65 h65 E65 => ?_) (fun _ _ ha _ => gt_at fun Q hQ => gt_out (Q := Q) X rfl ha (hno _) _ Q rfl hQ)
  refine g_goto (pc := 68) X (off := 84) (tgt := 152) rfl (dl_at t_X22_colon 36 rfl) ?_
  exact g_vret (pc := 152) X (v := 0) rfl rfl (dl_at t_X22_colon 76 rfl)
def k_X22_step : List (Nat × Instr × Nat) := [(0, .aload_n 0, 1), (1, .getfield 92, 3), (4, .iload_n 2, 1), (5, .isub, 1), (6, .bipush 8, 2), (8, .if_icmp .ne 11, 3), (11, .aload_n 0, 1), (12, .getfield 18, 3), (15, .invokevirtual 147, 3), (18, .athrow, 1), (19, .aload_n 0, 1), (20, .getfield 18, 3), (23, .bipush 42, 2), (25, .invokevirtual 132, 3), (28, .ifCond .eq 26, 3), (31, .aload_n 0, 1), (32, .getfield 32, 3), (35, .aload_n 0, 1), (36, .getfield 92, 3), (39, .iconst (-1), 1), (40, .iastore, 1), (41, .aload_n 0, 1), (42, .getfield 35, 3), (45, .aload_n 0, 1), (46, .getfield 92, 3), (49, .iconst (-1), 1), (50, .iastore, 1), (51, .goto 57, 3), (54, .aload_n 0, 1), (55, .getfield 18, 3), (58, .getfield 111, 3), (61, .iconst 1, 1), (62, .if_icmp .ne 38, 3), (65, .aload_n 0, 1), (66, .getfield 32, 3), (69, .aload_n 0, 1), (70, .getfield 92, 3), (73, .aload_n 0, 1), (74, .getfield 18, 3), (77, .getfield 176, 3), (80, .iastore, 1), (81, .aload_n 0, 1), (82, .getfield 35, 3), (85, .aload_n 0, 1), (86, .getfield 92, 3), (89, .aload_n 0, 1), (90, .getfield 18, 3), (93, .getfield 173, 3), (96, .iastore, 1), (97, .goto 11, 3), (100, .aload_n 0, 1), (101, .getfield 18, 3), (104, .invokevirtual 147, 3), (107, .athrow, 1), (108, .aload_n 0, 1), (109, .getfield 18, 3), (112, .invokevirtual 119, 3), (115, .aload_n 0, 1), (116, .getfield 38, 3), (119, .aload_n 0, 1), (120, .getfield 92, 3), (123, .iload_n 1, 1), (124, .iastore, 1), (125, .aload_n 0, 1), (126, .getfield 95, 3), (129, .iconst 4, 1), (130, .iadd, 1), (131, .istore_n 3, 1), (132, .aload_n 0, 1), (133, .getfield 18, 3), (136, .bipush 91, 2), (138, .invokevirtual 132, 3), (141, .ifCond .ne 15, 3), (144, .aload_n 0, 1), (145, .getfield 18, 3), (148, .bipush 58, 2), (150, .invokevirtual 132, 3), (153, .ifCond .eq 55, 3), (156, .aload_n 0, 1), (157, .getfield 95, 3), (160, .iload_n 3, 1), (161, .if_icmp .ne 11, 3), (164, .aload_n 0, 1), (165, .getfield 18, 3), (168, .invokevirtual 147, 3), (171, .athrow, 1), (172, .aload_n 0, 1), (173, .getfield 18, 3), (176, .bipush 91, 2), (178, .invokevirtual 132, 3), (181, .ifCond .eq 10, 3), (184, .aload_n 0, 1), (185, .invokevirtual 192, 3), (188, .goto 7, 3), (191, .aload_n 0, 1), (192, .invokevirtual 195, 3), (195, .aload_n 0, 1), (196, .dup, 1), (197, .getfield 95, 3), (200, .iconst 1, 1), (201, .iadd, 1), (202, .putfield 95, 3), (205, .goto (-73), 3), (208, .aload_n 0, 1), (209, .dup, 1), (210, .getfield 92, 3), (213, .iconst 1, 1), (214, .iadd, 1), (215, .putfield 92, 3), (218, .aload_n 0, 1), (219, .getfield 41, 3), (222, .aload_n 0, 1), (223, .getfield 92, 3), (226, .aload_n 0, 1), (227, .getfield 95, 3), (230, .iastore, 1), (231, .return_, 1)]
theorem t_X22_step : ∀ q ∈ k_X22_step, decode cX22_step q.1 = .ok q.2 := dl_all (by decide +kernel)
noncomputable def m_X22_step_j195 (a0 : Int) (h_195 : Hp) : Option ((Hp) ⊕ ((Hp) ⊕ (((Int × Int) × Hp)))) :=
  pt h_195 a0 5 (w32 ((h_195 a0 5) + 1)) fun h202 =>
  some (.inl h202)
noncomputable def m_X22_step_j156 (a0 x3_131 : Int) (h_132 : Hp) : Option ((Hp) ⊕ ((Hp) ⊕ (((Int × Int) × Hp)))) :=
  if (h_132 a0 5) ≠ x3_131 then ((m_X20_isByte (h_132 a0 1) 91 h_132).bind fun v178 =>
  if v178 = 0 then (bT (m_X22_colon a0 h_132) (fun _ h192 =>
  m_X22_step_j195 a0 h192) (fun a_ h_ => some (.inr (.inr ((1, a_), h_)))))
  else (bT (m_X22_bracket a0 h_132) (fun _ h185 =>
  m_X22_step_j195 a0 h185) (fun a_ h_ => some (.inr (.inr ((1, a_), h_))))))
  else (bW (m_X20_broken (h_132 a0 1) h_132) fun v168 h168 =>
  gd (0 < v168) (some (.inr (.inr ((1, v168), h168)))))
noncomputable def m_X22_step_l132 (a0 x3_131 : Int) (h_132 : Hp) : Option ((Hp) ⊕ ((Hp) ⊕ (((Int × Int) × Hp)))) :=
  gd (h_132 (h_132 a0 1) (-2) = 336) ((m_X20_isByte (h_132 a0 1) 91 h_132).bind fun v138 =>
  if v138 ≠ 0 then (m_X22_step_j156 a0 x3_131 h_132)
  else ((m_X20_isByte (h_132 a0 1) 58 h_132).bind fun v150 =>
  if v150 = 0 then (some (.inr (.inl h_132)))
  else (m_X22_step_j156 a0 x3_131 h_132)))
noncomputable def m_X22_step_j108 (a0 a1 : Int) (h_108 : Hp) : Option ((Int × Int) × Hp) :=
  gd (h_108 (h_108 a0 1) (-2) = 336) ((m_X20_next (h_108 a0 1) h_108).bind fun h112 =>
  gd (h112 (h112 a0 13) (-2) % 16 = 1 ∧ (0 : Int) ≤ (h112 a0 4) ∧ (h112 a0 4) < h112 (h112 a0 13) (-1)) (pt h112 (h112 a0 13) (h112 a0 4) a1 fun h124 =>
  lt_ (w32 ((h124 a0 5) + 4)) fun x3_131 =>
  (lp (fun (q : Hp) => m_X22_step_l132 a0 x3_131 q) h124).bind (sE (fun (y208 : Hp) => pt y208 a0 4 (w32 ((y208 a0 4) + 1)) fun h215 =>
  gd (h215 (h215 a0 14) (-2) % 16 = 1 ∧ (0 : Int) ≤ (h215 a0 4) ∧ (h215 a0 4) < h215 (h215 a0 14) (-1)) (pt h215 (h215 a0 14) (h215 a0 4) (h215 a0 5) fun h230 =>
  some ((0, 0), h230))) (fun (x : (Int × Int) × Hp) => some x))))
noncomputable def m_X22_step (a0 a1 a2 : Int) (h : Hp) : Option ((Int × Int) × Hp) :=
  if (w32 ((h a0 4) - a2)) ≠ 8 then (gd (h (h a0 1) (-2) = 336) ((m_X20_isByte (h a0 1) 42 h).bind fun v25 =>
  if v25 = 0 then (if (h (h a0 1) 3) ≠ 1 then (bW (m_X20_broken (h a0 1) h) fun v104 h104 =>
  gd (0 < v104) (some ((1, v104), h104)))
  else (gd (h (h a0 11) (-2) % 16 = 1 ∧ (0 : Int) ≤ (h a0 4) ∧ (h a0 4) < h (h a0 11) (-1)) (pt h (h a0 11) (h a0 4) (h (h a0 1) 4) fun h80 =>
  gd (h80 (h80 a0 1) (-2) = 336) (gd (h80 (h80 a0 12) (-2) % 16 = 1 ∧ (0 : Int) ≤ (h80 a0 4) ∧ (h80 a0 4) < h80 (h80 a0 12) (-1)) (pt h80 (h80 a0 12) (h80 a0 4) (h80 (h80 a0 1) 5) fun h96 =>
  m_X22_step_j108 a0 a1 h96)))))
  else (gd (h (h a0 11) (-2) % 16 = 1 ∧ (0 : Int) ≤ (h a0 4) ∧ (h a0 4) < h (h a0 11) (-1)) (pt h (h a0 11) (h a0 4) (-1) fun h40 =>
  gd (h40 (h40 a0 12) (-2) % 16 = 1 ∧ (0 : Int) ≤ (h40 a0 4) ∧ (h40 a0 4) < h40 (h40 a0 12) (-1)) (pt h40 (h40 a0 12) (h40 a0 4) (-1) fun h50 =>
  m_X22_step_j108 a0 a1 h50)))))
  else (gd (h (h a0 1) (-2) = 336) (bW (m_X20_broken (h a0 1) h) fun v15 h15 =>
  gd (0 < v15) (some ((1, v15), h15))))
theorem s_X22_step {l : Launch} [NoTr l] {D : SD} {a0 a1 a2 : Int} {h : Hp} (hk : h a0 (-2) = 368) (r1 : r32 a1) (r2 : r32 a2) {r : (Int × Int) × Hp} (hm : m_X22_step a0 a1 a2 h = some r) : Sim l D yX22_step (Cond.code yX22_step cX22_step 4 (Option.none : Option Jvm.ClassFile.FieldType)) 12 452 [rv D a0, iv a1, iv a2] h 0 r := by
  refine Sim.of (fin := fun (v : (Int × Int) × Hp) => v) (lsE := [(0, rv D a0), (1, iv a1), (2, iv a2)]) hm rfl cwS_code (la_r (la_i (la_i la_n))) (ll_r (ll_i (ll_i ll_n))) ?_
  intro p e s m below meth c X hcw hmm hcc hnm hname
  have hno := noh hcw hnm hmm hcc
  unfold m_X22_step
  refine g_aload_n (pc := 0) X (j := 0) (i := 0) (q := 0) (x := a0) rfl rfl (dl_at t_X22_step 0 rfl) ?_
  refine r_geti (pc := 1) X fX22_4 hk q3412 (dl_at t_X22_step 1 rfl) fun g1 => ?_
  refine g_iload_n (pc := 4) X (j := 2) (i := 2) (q := 2) (x := a2) rfl rfl (dl_at t_X22_step 2 rfl) ?_
  refine g_isub (pc := 5) X g1 r2 (dl_at t_X22_step 3 rfl) ?_
  refine g_bipush (pc := 6) X (n := 8) rfl (dl_at t_X22_step 4 rfl) ?_
  refine g_icmpne (pc := 8) X (r32_w _) (r32_c rfl) (off := 11) (tgt := 19) rfl (dl_at t_X22_step 5 rfl) (fun _ => ?_) (fun _ => ?_)
  · refine g_aload_n (pc := 19) X (j := 0) (i := 0) (q := 0) (x := a0) rfl rfl (dl_at t_X22_step 10 rfl) ?_
    refine r_getr (pc := 20) X fX22_1 hk q3406 (dl_at t_X22_step 11 rfl) ?_
    refine g_bipush (pc := 23) X (n := 42) rfl (dl_at t_X22_step 12 rfl) ?_
    refine g_gd fun k25 => ?_
    refine r_callRz (pc := 25) X (fun _ hv => s_X20_isByte k25 (r32_c rfl) hv) cw_code q4421 q374 (in_Vk X (As := [iv 42]) kX20 k25 (Or.inl q4487) q4419 q4420 cw_code q4421 ⟨by decide, by decide⟩ rfl (dl_at t_X22_step 13 rfl)) (dl_at t_X22_step 13 rfl) (cat24 (st := []) (Nat.le_of_ble_eq_true rfl)) (Nat.le_of_ble_eq_true rfl) (Nat.le_of_ble_eq_true rfl) fun v25 g25 => ?_
    refine g_join (γ := Hp) (fun q => Ext h q) 108 (fun q => [(0, rv D a0), (1, iv a1)]) (fun q => []) (fun q => q) (fun q => m_X22_step_j108 a0 a1 q) ?_ ?_
    · rintro h_108 E_108
      try dsimp only
      unfold m_X22_step_j108
      refine g_aload_n (pc := 108) X (j := 0) (i := 0) (q := 0) (x := a0) rfl rfl (dl_at t_X22_step 54 rfl) ?_
      have k109 := kx E_108 (by decide) hk
      refine r_getr (pc := 109) X fX22_1 k109 q3406 (dl_at t_X22_step 55 rfl) ?_
      refine g_gd fun k112 => ?_
      refine r_callV (pc := 112) X (fun _ hv => s_X20_next k112 hv) cw_code q4342 q374 (in_Vk X (As := []) kX20 k112 (Or.inl q4481) q4340 q4341 cw_code q4342 ⟨by decide, by decide⟩ rfl (dl_at t_X22_step 56 rfl)) (dl_at t_X22_step 56 rfl) (cat24 (st := []) (Nat.le_of_ble_eq_true rfl)) (Nat.le_of_ble_eq_true rfl) (Nat.le_of_ble_eq_true rfl) fun h112 E112 => ?_
      refine g_aload_n (pc := 115) X (j := 0) (i := 0) (q := 0) (x := a0) rfl rfl (dl_at t_X22_step 57 rfl) ?_
      have k116 := kx E112 (by decide) k109
      refine r_getr (pc := 116) X fX22_13 k116 q3425 (dl_at t_X22_step 58 rfl) ?_
      refine g_aload_n (pc := 119) X (j := 0) (i := 0) (q := 0) (x := a0) rfl rfl (dl_at t_X22_step 59 rfl) ?_
      refine r_geti (pc := 120) X fX22_4 k116 q3412 (dl_at t_X22_step 60 rfl) fun g120 => ?_
      refine g_iload_n (pc := 123) X (j := 1) (i := 1) (q := 1) (x := a1) rfl rfl (dl_at t_X22_step 61 rfl) ?_
      refine g_gd fun k124 => ?_
      refine r_iast (pc := 124) X g120 r1 k124 (dl_at t_X22_step 62 rfl) (fun h124 E124 => ?_)
      refine g_aload_n (pc := 125) X (j := 0) (i := 0) (q := 0) (x := a0) rfl rfl (dl_at t_X22_step 63 rfl) ?_
      have k126 := kx E124 (by decide) k116
      refine r_geti (pc := 126) X fX22_5 k126 q3413 (dl_at t_X22_step 64 rfl) fun g126 => ?_
      refine g_iconst (pc := 129) X (n := 4) (dl_at t_X22_step 65 rfl) ?_
      refine g_iadd (pc := 130) X g126 (r32_c rfl) (dl_at t_X22_step 66 rfl) ?_
      refine g_lti (r32_w _) fun x3_131 r3_131 => ?_
      refine g_istore_n (pc := 131) X (j := 3) (i := 3) (x := x3_131) (rest := [(0, rv D a0)]) rfl (Nat.le_of_ble_eq_true rfl) [0] rfl rfl (dl_at t_X22_step 67 rfl) ?_
      refine g_ls (ls2 := [(0, rv D a0), (3, iv x3_131)]) [1, 0] rfl ?_
      refine g_loop1F (fun (q : Hp) => [(0, rv D a0), (3, iv x3_131)]) (fun (q : Hp) => q) (fun (q : Hp) => Ext h124 q) 208 (fun (y208 : Hp) => [(0, rv D a0)]) (fun (y208 : Hp) => y208) (fun (y208 : Hp) => Ext h124 y208) h124 (Ext.refl _) ?_ ?_ (fun _ => rfl)
      · rintro h_132 E_132
        try dsimp only
        unfold m_X22_step_l132
        refine g_aload_n (pc := 132) X (j := 0) (i := 0) (q := 0) (x := a0) rfl rfl (dl_at t_X22_step 68 rfl) ?_
        have k133 := kx E_132 (by decide) k126
        refine r_getr (pc := 133) X fX22_1 k133 q3406 (dl_at t_X22_step 69 rfl) ?_
        refine g_bipush (pc := 136) X (n := 91) rfl (dl_at t_X22_step 70 rfl) ?_
        refine g_gd fun k138 => ?_
        refine r_callRz (pc := 138) X (fun _ hv => s_X20_isByte k138 (r32_c rfl) hv) cw_code q4421 q374 (in_Vk X (As := [iv 91]) kX20 k138 (Or.inl q4487) q4419 q4420 cw_code q4421 ⟨by decide, by decide⟩ rfl (dl_at t_X22_step 71 rfl)) (dl_at t_X22_step 71 rfl) (cat24 (st := []) (Nat.le_of_ble_eq_true rfl)) (Nat.le_of_ble_eq_true rfl) (Nat.le_of_ble_eq_true rfl) fun v138 g138 => ?_
        refine g_join (γ := Unit) (fun q => True) 156 (fun q => [(0, rv D a0), (3, iv x3_131)]) (fun q => []) (fun q => h_132) (fun q => m_X22_step_j156 a0 x3_131 h_132) ?_ ?_
        · rintro _ _
          try dsimp only
          unfold m_X22_step_j156
          refine g_aload_n (pc := 156) X (j := 0) (i := 0) (q := 0) (x := a0) rfl rfl (dl_at t_X22_step 78 rfl) ?_
          refine r_geti (pc := 157) X fX22_5 k133 q3413 (dl_at t_X22_step 79 rfl) fun g157 => ?_
          refine g_iload_n (pc := 160) X (j := 3) (i := 3) (q := 1) (x := x3_131) rfl rfl (dl_at t_X22_step 80 rfl) ?_
          refine g_icmpne (pc := 161) X g157 r3_131 (off := 11) (tgt := 172) rfl (dl_at t_X22_step 81 rfl) (fun _ => ?_) (fun _ => ?_)
          · refine g_aload_n (pc := 172) X (j := 0) (i := 0) (q := 0) (x := a0) rfl rfl (dl_at t_X22_step 86 rfl) ?_
            refine r_getr (pc := 173) X fX22_1 k133 q3406 (dl_at t_X22_step 87 rfl) ?_
            refine g_bipush (pc := 176) X (n := 91) rfl (dl_at t_X22_step 88 rfl) ?_
            refine r_callRz (pc := 178) X (fun _ hv => s_X20_isByte k138 (r32_c rfl) hv) cw_code q4421 q374 (in_Vk X (As := [iv 91]) kX20 k138 (Or.inl q4487) q4419 q4420 cw_code q4421 ⟨by decide, by decide⟩ rfl (dl_at t_X22_step 89 rfl)) (dl_at t_X22_step 89 rfl) (cat24 (st := []) (Nat.le_of_ble_eq_true rfl)) (Nat.le_of_ble_eq_true rfl) (Nat.le_of_ble_eq_true rfl) fun v178 g178 => ?_
            refine g_join (γ := Hp) (fun q => Ext h_132 q) 195 (fun q => [(0, rv D a0), (3, iv x3_131)]) (fun q => []) (fun q => q) (fun q => m_X22_step_j195 a0 q) ?_ ?_
            · rintro h_195 E_195
              try dsimp only
              unfold m_X22_step_j195
              refine g_aload_n (pc := 195) X (j := 0) (i := 0) (q := 0) (x := a0) rfl rfl (dl_at t_X22_step 96 rfl) ?_
              refine g_dup (pc := 196) X rv_cat (dl_at t_X22_step 97 rfl) ?_
              have k197 := kx E_195 (by decide) k133
              refine r_geti (pc := 197) X fX22_5 k197 q3413 (dl_at t_X22_step 98 rfl) fun g197 => ?_
              refine g_iconst (pc := 200) X (n := 1) (dl_at t_X22_step 99 rfl) ?_
              refine g_iadd (pc := 201) X g197 (r32_c rfl) (dl_at t_X22_step 100 rfl) ?_
              refine r_puti (pc := 202) X fX22_5 k197 q3413 rfl (dl_at t_X22_step 101 rfl) (r32_w _) (fun h202 E202 => ?_)
              refine g_goto (pc := 205) X (off := (-73)) (tgt := 132) rfl (dl_at t_X22_step 102 rfl) ?_
              exact g_at fun Q hQ => hQ (E_132.trans (E_195.trans E202))
            intro J195
            refine g_ifeq (pc := 181) X (r32_z g178) (off := 10) (tgt := 191) rfl (dl_at t_X22_step 90 rfl) (fun _ => ?_) (fun _ => ?_)
            · refine g_aload_n (pc := 191) X (j := 0) (i := 0) (q := 0) (x := a0) rfl rfl (dl_at t_X22_step 94 rfl) ?_
              refine r_callTv (pc := 192) X (fun _ hv => s_X22_colon k133 hv) cw_code q4526 q376 (in_Vk X (As := []) kX22 k133 (Or.inl q4523) q4525 qs251 cw_code q4526 ⟨by decide, by decide⟩ rfl (dl_at t_X22_step 95 rfl)) (dl_at t_X22_step 95 rfl) (cat24 (st := []) (Nat.le_of_ble_eq_true rfl)) (Nat.le_of_ble_eq_true rfl) (Nat.le_of_ble_eq_true rfl) (fun v192 h192 E192 => ?_) (fun _ _ ha _ => gt_at fun Q hQ => gt_out (Q := Q) X rfl ha (hno _) _ Q rfl hQ)
              exact J195 h192 E192
            refine g_aload_n (pc := 184) X (j := 0) (i := 0) (q := 0) (x := a0) rfl rfl (dl_at t_X22_step 91 rfl) ?_
            refine r_callTv (pc := 185) X (fun _ hv => s_X22_bracket k133 hv) cw_code q4520 q376 (in_Vk X (As := []) kX22 k133 (Or.inl q4517) q4519 qs250 cw_code q4520 ⟨by decide, by decide⟩ rfl (dl_at t_X22_step 92 rfl)) (dl_at t_X22_step 92 rfl) (cat24 (st := []) (Nat.le_of_ble_eq_true rfl)) (Nat.le_of_ble_eq_true rfl) (Nat.le_of_ble_eq_true rfl) (fun v185 h185 E185 => ?_) (fun _ _ ha _ => gt_at fun Q hQ => gt_out (Q := Q) X rfl ha (hno _) _ Q rfl hQ)
            refine g_goto (pc := 188) X (off := 7) (tgt := 195) rfl (dl_at t_X22_step 93 rfl) ?_
            exact J195 h185 E185
          refine g_aload_n (pc := 164) X (j := 0) (i := 0) (q := 0) (x := a0) rfl rfl (dl_at t_X22_step 82 rfl) ?_
          refine r_getr (pc := 165) X fX22_1 k133 q3406 (dl_at t_X22_step 83 rfl) ?_
          refine r_callWr (pc := 168) X (fun _ hv => s_X20_broken k138 hv) cw_code q4386 q374 (in_Vk X (As := []) kX20 k138 (Or.inl q4494) q4384 q4385 cw_code q4386 ⟨by decide, by decide⟩ rfl (dl_at t_X22_step 84 rfl)) (dl_at t_X22_step 84 rfl) (cat24 (st := []) (Nat.le_of_ble_eq_true rfl)) (Nat.le_of_ble_eq_true rfl) (Nat.le_of_ble_eq_true rfl) fun v168 h168 E168 => ?_
          refine g_gd fun p171 => ?_
          refine g_athrow (pc := 171) X (Int.ne_of_gt p171) (dl_at t_X22_step 85 rfl) ?_
          exact gt_at fun Q hQ => gt_out (Q := Q) X rfl p171 (hno _) _ Q rfl hQ
        intro J156
        refine g_ifne (pc := 141) X (r32_z g138) (off := 15) (tgt := 156) rfl (dl_at t_X22_step 72 rfl) (fun _ => ?_) (fun _ => ?_)
        · exact J156 () trivial
        refine g_aload_n (pc := 144) X (j := 0) (i := 0) (q := 0) (x := a0) rfl rfl (dl_at t_X22_step 73 rfl) ?_
        refine r_getr (pc := 145) X fX22_1 k133 q3406 (dl_at t_X22_step 74 rfl) ?_
        refine g_bipush (pc := 148) X (n := 58) rfl (dl_at t_X22_step 75 rfl) ?_
        refine r_callRz (pc := 150) X (fun _ hv => s_X20_isByte k138 (r32_c rfl) hv) cw_code q4421 q374 (in_Vk X (As := [iv 58]) kX20 k138 (Or.inl q4487) q4419 q4420 cw_code q4421 ⟨by decide, by decide⟩ rfl (dl_at t_X22_step 76 rfl)) (dl_at t_X22_step 76 rfl) (cat24 (st := []) (Nat.le_of_ble_eq_true rfl)) (Nat.le_of_ble_eq_true rfl) (Nat.le_of_ble_eq_true rfl) fun v150 g150 => ?_
        refine g_ifeq (pc := 153) X (r32_z g150) (off := 55) (tgt := 208) rfl (dl_at t_X22_step 77 rfl) (fun _ => ?_) (fun _ => ?_)
        · refine g_ls (ls2 := [(0, rv D a0)]) [0] rfl ?_
          exact g_at fun Q hQ => hQ E_132
        exact J156 () trivial
      · rintro h_208 E_208
        try dsimp only [sE]
        refine g_aload_n (pc := 208) X (j := 0) (i := 0) (q := 0) (x := a0) rfl rfl (dl_at t_X22_step 103 rfl) ?_
        refine g_dup (pc := 209) X rv_cat (dl_at t_X22_step 104 rfl) ?_
        have k210 := kx E_208 (by decide) k126
        refine r_geti (pc := 210) X fX22_4 k210 q3412 (dl_at t_X22_step 105 rfl) fun g210 => ?_
        refine g_iconst (pc := 213) X (n := 1) (dl_at t_X22_step 106 rfl) ?_
        refine g_iadd (pc := 214) X g210 (r32_c rfl) (dl_at t_X22_step 107 rfl) ?_
        refine r_puti (pc := 215) X fX22_4 k210 q3412 rfl (dl_at t_X22_step 108 rfl) (r32_w _) (fun h215 E215 => ?_)
        refine g_aload_n (pc := 218) X (j := 0) (i := 0) (q := 0) (x := a0) rfl rfl (dl_at t_X22_step 109 rfl) ?_
        have k219 := kx E215 (by decide) k210
        refine r_getr (pc := 219) X fX22_14 k219 q3427 (dl_at t_X22_step 110 rfl) ?_
        refine g_aload_n (pc := 222) X (j := 0) (i := 0) (q := 0) (x := a0) rfl rfl (dl_at t_X22_step 111 rfl) ?_
        refine r_geti (pc := 223) X fX22_4 k219 q3412 (dl_at t_X22_step 112 rfl) fun g223 => ?_
        refine g_aload_n (pc := 226) X (j := 0) (i := 0) (q := 0) (x := a0) rfl rfl (dl_at t_X22_step 113 rfl) ?_
        refine r_geti (pc := 227) X fX22_5 k219 q3413 (dl_at t_X22_step 114 rfl) fun g227 => ?_
        refine g_gd fun k230 => ?_
        refine r_iast (pc := 230) X g223 g227 k230 (dl_at t_X22_step 115 rfl) (fun h230 E230 => ?_)
        exact g_vret (pc := 231) X (v := 0) rfl rfl (dl_at t_X22_step 116 rfl)
    intro J108
    refine g_ifeq (pc := 28) X (r32_z g25) (off := 26) (tgt := 54) rfl (dl_at t_X22_step 14 rfl) (fun _ => ?_) (fun _ => ?_)
    · refine g_aload_n (pc := 54) X (j := 0) (i := 0) (q := 0) (x := a0) rfl rfl (dl_at t_X22_step 28 rfl) ?_
      refine r_getr (pc := 55) X fX22_1 hk q3406 (dl_at t_X22_step 29 rfl) ?_
      refine r_geti (pc := 58) X fX20_3 k25 q3277 (dl_at t_X22_step 30 rfl) fun g58 => ?_
      refine g_iconst (pc := 61) X (n := 1) (dl_at t_X22_step 31 rfl) ?_
      refine g_icmpne (pc := 62) X g58 (r32_c rfl) (off := 38) (tgt := 100) rfl (dl_at t_X22_step 32 rfl) (fun _ => ?_) (fun _ => ?_)
      · refine g_aload_n (pc := 100) X (j := 0) (i := 0) (q := 0) (x := a0) rfl rfl (dl_at t_X22_step 50 rfl) ?_
        refine r_getr (pc := 101) X fX22_1 hk q3406 (dl_at t_X22_step 51 rfl) ?_
        refine r_callWr (pc := 104) X (fun _ hv => s_X20_broken k25 hv) cw_code q4386 q374 (in_Vk X (As := []) kX20 k25 (Or.inl q4494) q4384 q4385 cw_code q4386 ⟨by decide, by decide⟩ rfl (dl_at t_X22_step 52 rfl)) (dl_at t_X22_step 52 rfl) (cat24 (st := []) (Nat.le_of_ble_eq_true rfl)) (Nat.le_of_ble_eq_true rfl) (Nat.le_of_ble_eq_true rfl) fun v104 h104 E104 => ?_
        refine g_gd fun p107 => ?_
        refine g_athrow (pc := 107) X (Int.ne_of_gt p107) (dl_at t_X22_step 53 rfl) ?_
        exact gt_at fun Q hQ => gt_out (Q := Q) X rfl p107 (hno _) _ Q rfl hQ
      refine g_aload_n (pc := 65) X (j := 0) (i := 0) (q := 0) (x := a0) rfl rfl (dl_at t_X22_step 33 rfl) ?_
      refine r_getr (pc := 66) X fX22_11 hk q3421 (dl_at t_X22_step 34 rfl) ?_
      refine g_aload_n (pc := 69) X (j := 0) (i := 0) (q := 0) (x := a0) rfl rfl (dl_at t_X22_step 35 rfl) ?_
      refine r_geti (pc := 70) X fX22_4 hk q3412 (dl_at t_X22_step 36 rfl) fun g70 => ?_
      refine g_aload_n (pc := 73) X (j := 0) (i := 0) (q := 0) (x := a0) rfl rfl (dl_at t_X22_step 37 rfl) ?_
      refine r_getr (pc := 74) X fX22_1 hk q3406 (dl_at t_X22_step 38 rfl) ?_
      refine r_geti (pc := 77) X fX20_4 k25 q3281 (dl_at t_X22_step 39 rfl) fun g77 => ?_
      refine g_gd fun k80 => ?_
      refine r_iast (pc := 80) X g70 g77 k80 (dl_at t_X22_step 40 rfl) (fun h80 E80 => ?_)
      refine g_aload_n (pc := 81) X (j := 0) (i := 0) (q := 0) (x := a0) rfl rfl (dl_at t_X22_step 41 rfl) ?_
      have k82 := kx E80 (by decide) hk
      refine r_getr (pc := 82) X fX22_12 k82 q3423 (dl_at t_X22_step 42 rfl) ?_
      refine g_aload_n (pc := 85) X (j := 0) (i := 0) (q := 0) (x := a0) rfl rfl (dl_at t_X22_step 43 rfl) ?_
      refine r_geti (pc := 86) X fX22_4 k82 q3412 (dl_at t_X22_step 44 rfl) fun g86 => ?_
      refine g_aload_n (pc := 89) X (j := 0) (i := 0) (q := 0) (x := a0) rfl rfl (dl_at t_X22_step 45 rfl) ?_
      refine r_getr (pc := 90) X fX22_1 k82 q3406 (dl_at t_X22_step 46 rfl) ?_
      refine g_gd fun k93 => ?_
      refine r_geti (pc := 93) X fX20_5 k93 q3284 (dl_at t_X22_step 47 rfl) fun g93 => ?_
      refine g_gd fun k96 => ?_
      refine r_iast (pc := 96) X g86 g93 k96 (dl_at t_X22_step 48 rfl) (fun h96 E96 => ?_)
      refine g_goto (pc := 97) X (off := 11) (tgt := 108) rfl (dl_at t_X22_step 49 rfl) ?_
      refine g_ls (ls2 := [(0, rv D a0), (1, iv a1)]) [0, 1] rfl ?_
      exact J108 h96 (E80.trans E96)
    refine g_aload_n (pc := 31) X (j := 0) (i := 0) (q := 0) (x := a0) rfl rfl (dl_at t_X22_step 15 rfl) ?_
    refine r_getr (pc := 32) X fX22_11 hk q3421 (dl_at t_X22_step 16 rfl) ?_
    refine g_aload_n (pc := 35) X (j := 0) (i := 0) (q := 0) (x := a0) rfl rfl (dl_at t_X22_step 17 rfl) ?_
    refine r_geti (pc := 36) X fX22_4 hk q3412 (dl_at t_X22_step 18 rfl) fun g36 => ?_
    refine g_iconst (pc := 39) X (n := (-1)) (dl_at t_X22_step 19 rfl) ?_
    refine g_gd fun k40 => ?_
    refine r_iast (pc := 40) X g36 (r32_c rfl) k40 (dl_at t_X22_step 20 rfl) (fun h40 E40 => ?_)
    refine g_aload_n (pc := 41) X (j := 0) (i := 0) (q := 0) (x := a0) rfl rfl (dl_at t_X22_step 21 rfl) ?_
    have k42 := kx E40 (by decide) hk
    refine r_getr (pc := 42) X fX22_12 k42 q3423 (dl_at t_X22_step 22 rfl) ?_
    refine g_aload_n (pc := 45) X (j := 0) (i := 0) (q := 0) (x := a0) rfl rfl (dl_at t_X22_step 23 rfl) ?_
    refine r_geti (pc := 46) X fX22_4 k42 q3412 (dl_at t_X22_step 24 rfl) fun g46 => ?_
    refine g_iconst (pc := 49) X (n := (-1)) (dl_at t_X22_step 25 rfl) ?_
    refine g_gd fun k50 => ?_
    refine r_iast (pc := 50) X g46 (r32_c rfl) k50 (dl_at t_X22_step 26 rfl) (fun h50 E50 => ?_)
    refine g_goto (pc := 51) X (off := 57) (tgt := 108) rfl (dl_at t_X22_step 27 rfl) ?_
    refine g_ls (ls2 := [(0, rv D a0), (1, iv a1)]) [0, 1] rfl ?_
    exact J108 h50 (E40.trans E50)
  refine g_aload_n (pc := 11) X (j := 0) (i := 0) (q := 0) (x := a0) rfl rfl (dl_at t_X22_step 6 rfl) ?_
  refine r_getr (pc := 12) X fX22_1 hk q3406 (dl_at t_X22_step 7 rfl) ?_
  refine g_gd fun k15 => ?_
  refine r_callWr (pc := 15) X (fun _ hv => s_X20_broken k15 hv) cw_code q4386 q374 (in_Vk X (As := []) kX20 k15 (Or.inl q4494) q4384 q4385 cw_code q4386 ⟨by decide, by decide⟩ rfl (dl_at t_X22_step 8 rfl)) (dl_at t_X22_step 8 rfl) (cat24 (st := []) (Nat.le_of_ble_eq_true rfl)) (Nat.le_of_ble_eq_true rfl) (Nat.le_of_ble_eq_true rfl) fun v15 h15 E15 => ?_
  refine g_gd fun p18 => ?_
  refine g_athrow (pc := 18) X (Int.ne_of_gt p18) (dl_at t_X22_step 9 rfl) ?_
  exact gt_at fun Q hQ => gt_out (Q := Q) X rfl p18 (hno _) _ Q rfl hQ
def k_X22_selector : List (Nat × Instr × Nat) := [(0, .aload_n 0, 1), (1, .getfield 88, 3), (4, .bipush 120, 2), (6, .if_icmp .ne 11, 3), (9, .aload_n 0, 1), (10, .getfield 18, 3), (13, .invokevirtual 147, 3), (16, .athrow, 1), (17, .aload_n 0, 1), (18, .getfield 92, 3), (21, .istore_n 1, 1), (22, .aload_n 0, 1), (23, .iconst 0, 1), (24, .iload_n 1, 1), (25, .invokevirtual 185, 3), (28, .aload_n 0, 1), (29, .getfield 18, 3), (32, .bipush 62, 2), (34, .invokevirtual 132, 3), (37, .ifCond .ne 27, 3), (40, .aload_n 0, 1), (41, .getfield 18, 3), (44, .bipush 47, 2), (46, .invokevirtual 132, 3), (49, .ifCond .ne 15, 3), (52, .aload_n 0, 1), (53, .getfield 18, 3), (56, .bipush 43, 2), (58, .invokevirtual 132, 3), (61, .ifCond .eq 27, 3), (64, .aload_n 0, 1), (65, .getfield 18, 3), (68, .getfield 189, 3), (71, .istore_n 2, 1), (72, .aload_n 0, 1), (73, .getfield 18, 3), (76, .invokevirtual 119, 3), (79, .aload_n 0, 1), (80, .iload_n 2, 1), (81, .iload_n 1, 1), (82, .invokevirtual 185, 3), (85, .goto (-57), 3), (88, .aload_n 0, 1), (89, .dup, 1), (90, .getfield 88, 3), (93, .iconst 1, 1), (94, .iadd, 1), (95, .putfield 88, 3), (98, .aload_n 0, 1), (99, .getfield 26, 3), (102, .aload_n 0, 1), (103, .getfield 88, 3), (106, .aload_n 0, 1), (107, .getfield 92, 3), (110, .iastore, 1), (111, .return_, 1)]
theorem t_X22_selector : ∀ q ∈ k_X22_selector, decode cX22_selector q.1 = .ok q.2 := dl_all (by decide +kernel)
noncomputable def m_X22_selector_j64 (a0 x1_21 : Int) (h_28 : Hp) : Option ((Hp) ⊕ ((Hp) ⊕ (((Int × Int) × Hp)))) :=
  lt_ (h_28 (h_28 a0 1) 7) fun x2_71 =>
  (m_X20_next (h_28 a0 1) h_28).bind fun h76 =>
  bT (m_X22_step a0 x2_71 x1_21 h76) (fun _ h82 =>
  some (.inl h82)) (fun a_ h_ => some (.inr (.inr ((1, a_), h_))))
noncomputable def m_X22_selector_l28 (a0 x1_21 : Int) (h_28 : Hp) : Option ((Hp) ⊕ ((Hp) ⊕ (((Int × Int) × Hp)))) :=
  gd (h_28 (h_28 a0 1) (-2) = 336) ((m_X20_isByte (h_28 a0 1) 62 h_28).bind fun v34 =>
  if v34 ≠ 0 then (m_X22_selector_j64 a0 x1_21 h_28)
  else ((m_X20_isByte (h_28 a0 1) 47 h_28).bind fun v46 =>
  if v46 ≠ 0 then (m_X22_selector_j64 a0 x1_21 h_28)
  else ((m_X20_isByte (h_28 a0 1) 43 h_28).bind fun v58 =>
  if v58 = 0 then (some (.inr (.inl h_28)))
  else (m_X22_selector_j64 a0 x1_21 h_28))))
noncomputable def m_X22_selector (a0 : Int) (h : Hp) : Option ((Int × Int) × Hp) :=
  if (h a0 3) ≠ 120 then (lt_ (h a0 4) fun x1_21 =>
  bT (m_X22_step a0 0 x1_21 h) (fun _ h25 =>
  (lp (fun (q : Hp) => m_X22_selector_l28 a0 x1_21 q) h25).bind (sE (fun (y88 : Hp) => pt y88 a0 3 (w32 ((y88 a0 3) + 1)) fun h95 =>
  gd (h95 (h95 a0 9) (-2) % 16 = 1 ∧ (0 : Int) ≤ (h95 a0 3) ∧ (h95 a0 3) < h95 (h95 a0 9) (-1)) (pt h95 (h95 a0 9) (h95 a0 3) (h95 a0 4) fun h110 =>
  some ((0, 0), h110))) (fun (x : (Int × Int) × Hp) => some x))) (fun a_ h_ => some ((1, a_), h_)))
  else (gd (h (h a0 1) (-2) = 336) (bW (m_X20_broken (h a0 1) h) fun v13 h13 =>
  gd (0 < v13) (some ((1, v13), h13))))
theorem s_X22_selector {l : Launch} [NoTr l] {D : SD} {a0 : Int} {h : Hp} (hk : h a0 (-2) = 368) {r : (Int × Int) × Hp} (hm : m_X22_selector a0 h = some r) : Sim l D yX22_selector (Cond.code yX22_selector cX22_selector 3 (Option.none : Option Jvm.ClassFile.FieldType)) 13 491 [rv D a0] h 0 r := by
  refine Sim.of (fin := fun (v : (Int × Int) × Hp) => v) (lsE := [(0, rv D a0)]) hm rfl cwS_code (la_r la_n) (ll_r ll_n) ?_
  intro p e s m below meth c X hcw hmm hcc hnm hname
  have hno := noh hcw hnm hmm hcc
  unfold m_X22_selector
  refine g_aload_n (pc := 0) X (j := 0) (i := 0) (q := 0) (x := a0) rfl rfl (dl_at t_X22_selector 0 rfl) ?_
  refine r_geti (pc := 1) X fX22_3 hk q3409 (dl_at t_X22_selector 1 rfl) fun g1 => ?_
  refine g_bipush (pc := 4) X (n := 120) rfl (dl_at t_X22_selector 2 rfl) ?_
  refine g_icmpne (pc := 6) X g1 (r32_c rfl) (off := 11) (tgt := 17) rfl (dl_at t_X22_selector 3 rfl) (fun _ => ?_) (fun _ => ?_)
  · refine g_aload_n (pc := 17) X (j := 0) (i := 0) (q := 0) (x := a0) rfl rfl (dl_at t_X22_selector 8 rfl) ?_
    refine r_geti (pc := 18) X fX22_4 hk q3412 (dl_at t_X22_selector 9 rfl) fun g18 => ?_
    refine g_lti g18 fun x1_21 r1_21 => ?_
    refine g_istore_nN (pc := 21) X (j := 1) (i := 1) (x := x1_21) (b := 0) (w := rv D a0) (rest := []) rfl (Nat.le_of_ble_eq_true rfl) [0] rfl (by decide) rv_cat rfl (dl_at t_X22_selector 10 rfl) ?_
    refine g_aload_n (pc := 22) X (j := 0) (i := 0) (q := 1) (x := a0) rfl rfl (dl_at t_X22_selector 11 rfl) ?_
    refine g_iconst (pc := 23) X (n := 0) (dl_at t_X22_selector 12 rfl) ?_
    refine g_iload_n (pc := 24) X (j := 1) (i := 1) (q := 0) (x := x1_21) rfl rfl (dl_at t_X22_selector 13 rfl) ?_
    refine r_callTv (pc := 25) X (fun _ hv => s_X22_step hk (r32_c rfl) r1_21 hv) cw_code q4516 q376 (in_Vk X (As := [iv 0, iv x1_21]) kX22 hk (Or.inl q4513) q4515 qs249 cw_code q4516 ⟨by decide, by decide⟩ rfl (dl_at t_X22_selector 14 rfl)) (dl_at t_X22_selector 14 rfl) (cat24 (st := []) (Nat.le_of_ble_eq_true rfl)) (Nat.le_of_ble_eq_true rfl) (Nat.le_of_ble_eq_true rfl) (fun v25 h25 E25 => ?_) (fun _ _ ha _ => gt_at fun Q hQ => gt_out (Q := Q) X rfl ha (hno _) _ Q rfl hQ)
    refine g_ls (ls2 := [(0, rv D a0), (1, iv x1_21)]) [1, 0] rfl ?_
    refine g_loop1F (fun (q : Hp) => [(0, rv D a0), (1, iv x1_21)]) (fun (q : Hp) => q) (fun (q : Hp) => Ext h25 q) 88 (fun (y88 : Hp) => [(0, rv D a0)]) (fun (y88 : Hp) => y88) (fun (y88 : Hp) => Ext h25 y88) h25 (Ext.refl _) ?_ ?_ (fun _ => rfl)
    · rintro h_28 E_28
      try dsimp only
      unfold m_X22_selector_l28
      refine g_aload_n (pc := 28) X (j := 0) (i := 0) (q := 0) (x := a0) rfl rfl (dl_at t_X22_selector 15 rfl) ?_
      have k29 := kx (E25.trans E_28) (by decide) hk
      refine r_getr (pc := 29) X fX22_1 k29 q3406 (dl_at t_X22_selector 16 rfl) ?_
      refine g_bipush (pc := 32) X (n := 62) rfl (dl_at t_X22_selector 17 rfl) ?_
      refine g_gd fun k34 => ?_
      refine r_callRz (pc := 34) X (fun _ hv => s_X20_isByte k34 (r32_c rfl) hv) cw_code q4421 q374 (in_Vk X (As := [iv 62]) kX20 k34 (Or.inl q4487) q4419 q4420 cw_code q4421 ⟨by decide, by decide⟩ rfl (dl_at t_X22_selector 18 rfl)) (dl_at t_X22_selector 18 rfl) (cat24 (st := []) (Nat.le_of_ble_eq_true rfl)) (Nat.le_of_ble_eq_true rfl) (Nat.le_of_ble_eq_true rfl) fun v34 g34 => ?_
      refine g_join (γ := Unit) (fun q => True) 64 (fun q => [(0, rv D a0), (1, iv x1_21)]) (fun q => []) (fun q => h_28) (fun q => m_X22_selector_j64 a0 x1_21 h_28) ?_ ?_
      · rintro _ _
        try dsimp only
        unfold m_X22_selector_j64
        refine g_aload_n (pc := 64) X (j := 0) (i := 0) (q := 0) (x := a0) rfl rfl (dl_at t_X22_selector 30 rfl) ?_
        refine r_getr (pc := 65) X fX22_1 k29 q3406 (dl_at t_X22_selector 31 rfl) ?_
        refine r_geti (pc := 68) X fX20_7 k34 q3288 (dl_at t_X22_selector 32 rfl) fun g68 => ?_
        refine g_lti g68 fun x2_71 r2_71 => ?_
        refine g_istore_nN (pc := 71) X (j := 2) (i := 2) (x := x2_71) (b := 1) (w := iv x1_21) (rest := [(0, rv D a0)]) rfl (Nat.le_of_ble_eq_true rfl) [1, 0] rfl (by decide) rfl rfl (dl_at t_X22_selector 33 rfl) ?_
        refine g_aload_n (pc := 72) X (j := 0) (i := 0) (q := 2) (x := a0) rfl rfl (dl_at t_X22_selector 34 rfl) ?_
        refine r_getr (pc := 73) X fX22_1 k29 q3406 (dl_at t_X22_selector 35 rfl) ?_
        refine r_callV (pc := 76) X (fun _ hv => s_X20_next k34 hv) cw_code q4342 q374 (in_Vk X (As := []) kX20 k34 (Or.inl q4481) q4340 q4341 cw_code q4342 ⟨by decide, by decide⟩ rfl (dl_at t_X22_selector 36 rfl)) (dl_at t_X22_selector 36 rfl) (cat24 (st := []) (Nat.le_of_ble_eq_true rfl)) (Nat.le_of_ble_eq_true rfl) (Nat.le_of_ble_eq_true rfl) fun h76 E76 => ?_
        refine g_aload_n (pc := 79) X (j := 0) (i := 0) (q := 2) (x := a0) rfl rfl (dl_at t_X22_selector 37 rfl) ?_
        refine g_iload_n (pc := 80) X (j := 2) (i := 2) (q := 0) (x := x2_71) rfl rfl (dl_at t_X22_selector 38 rfl) ?_
        refine g_iload_n (pc := 81) X (j := 1) (i := 1) (q := 1) (x := x1_21) rfl rfl (dl_at t_X22_selector 39 rfl) ?_
        have k82 := kx E76 (by decide) k29
        refine r_callTv (pc := 82) X (fun _ hv => s_X22_step k82 r2_71 r1_21 hv) cw_code q4516 q376 (in_Vk X (As := [iv x2_71, iv x1_21]) kX22 k82 (Or.inl q4513) q4515 qs249 cw_code q4516 ⟨by decide, by decide⟩ rfl (dl_at t_X22_selector 40 rfl)) (dl_at t_X22_selector 40 rfl) (cat24 (st := []) (Nat.le_of_ble_eq_true rfl)) (Nat.le_of_ble_eq_true rfl) (Nat.le_of_ble_eq_true rfl) (fun v82 h82 E82 => ?_) (fun _ _ ha _ => gt_at fun Q hQ => gt_out (Q := Q) X rfl ha (hno _) _ Q rfl hQ)
        refine g_goto (pc := 85) X (off := (-57)) (tgt := 28) rfl (dl_at t_X22_selector 41 rfl) ?_
        refine g_ls (ls2 := [(0, rv D a0), (1, iv x1_21)]) [2, 1] rfl ?_
        exact g_at fun Q hQ => hQ (E_28.trans (E76.trans E82))
      intro J64
      refine g_ifne (pc := 37) X (r32_z g34) (off := 27) (tgt := 64) rfl (dl_at t_X22_selector 19 rfl) (fun _ => ?_) (fun _ => ?_)
      · exact J64 () trivial
      refine g_aload_n (pc := 40) X (j := 0) (i := 0) (q := 0) (x := a0) rfl rfl (dl_at t_X22_selector 20 rfl) ?_
      refine r_getr (pc := 41) X fX22_1 k29 q3406 (dl_at t_X22_selector 21 rfl) ?_
      refine g_bipush (pc := 44) X (n := 47) rfl (dl_at t_X22_selector 22 rfl) ?_
      refine r_callRz (pc := 46) X (fun _ hv => s_X20_isByte k34 (r32_c rfl) hv) cw_code q4421 q374 (in_Vk X (As := [iv 47]) kX20 k34 (Or.inl q4487) q4419 q4420 cw_code q4421 ⟨by decide, by decide⟩ rfl (dl_at t_X22_selector 23 rfl)) (dl_at t_X22_selector 23 rfl) (cat24 (st := []) (Nat.le_of_ble_eq_true rfl)) (Nat.le_of_ble_eq_true rfl) (Nat.le_of_ble_eq_true rfl) fun v46 g46 => ?_
      refine g_ifne (pc := 49) X (r32_z g46) (off := 15) (tgt := 64) rfl (dl_at t_X22_selector 24 rfl) (fun _ => ?_) (fun _ => ?_)
      · exact J64 () trivial
      refine g_aload_n (pc := 52) X (j := 0) (i := 0) (q := 0) (x := a0) rfl rfl (dl_at t_X22_selector 25 rfl) ?_
      refine r_getr (pc := 53) X fX22_1 k29 q3406 (dl_at t_X22_selector 26 rfl) ?_
      refine g_bipush (pc := 56) X (n := 43) rfl (dl_at t_X22_selector 27 rfl) ?_
      refine r_callRz (pc := 58) X (fun _ hv => s_X20_isByte k34 (r32_c rfl) hv) cw_code q4421 q374 (in_Vk X (As := [iv 43]) kX20 k34 (Or.inl q4487) q4419 q4420 cw_code q4421 ⟨by decide, by decide⟩ rfl (dl_at t_X22_selector 28 rfl)) (dl_at t_X22_selector 28 rfl) (cat24 (st := []) (Nat.le_of_ble_eq_true rfl)) (Nat.le_of_ble_eq_true rfl) (Nat.le_of_ble_eq_true rfl) fun v58 g58 => ?_
      refine g_ifeq (pc := 61) X (r32_z g58) (off := 27) (tgt := 88) rfl (dl_at t_X22_selector 29 rfl) (fun _ => ?_) (fun _ => ?_)
      · refine g_ls (ls2 := [(0, rv D a0)]) [0] rfl ?_
        exact g_at fun Q hQ => hQ E_28
      exact J64 () trivial
    · rintro h_88 E_88
      try dsimp only [sE]
      refine g_aload_n (pc := 88) X (j := 0) (i := 0) (q := 0) (x := a0) rfl rfl (dl_at t_X22_selector 42 rfl) ?_
      refine g_dup (pc := 89) X rv_cat (dl_at t_X22_selector 43 rfl) ?_
      have k90 := kx (E25.trans E_88) (by decide) hk
      refine r_geti (pc := 90) X fX22_3 k90 q3409 (dl_at t_X22_selector 44 rfl) fun g90 => ?_
      refine g_iconst (pc := 93) X (n := 1) (dl_at t_X22_selector 45 rfl) ?_
      refine g_iadd (pc := 94) X g90 (r32_c rfl) (dl_at t_X22_selector 46 rfl) ?_
      refine r_puti (pc := 95) X fX22_3 k90 q3409 rfl (dl_at t_X22_selector 47 rfl) (r32_w _) (fun h95 E95 => ?_)
      refine g_aload_n (pc := 98) X (j := 0) (i := 0) (q := 0) (x := a0) rfl rfl (dl_at t_X22_selector 48 rfl) ?_
      have k99 := kx E95 (by decide) k90
      refine r_getr (pc := 99) X fX22_9 k99 q3417 (dl_at t_X22_selector 49 rfl) ?_
      refine g_aload_n (pc := 102) X (j := 0) (i := 0) (q := 0) (x := a0) rfl rfl (dl_at t_X22_selector 50 rfl) ?_
      refine r_geti (pc := 103) X fX22_3 k99 q3409 (dl_at t_X22_selector 51 rfl) fun g103 => ?_
      refine g_aload_n (pc := 106) X (j := 0) (i := 0) (q := 0) (x := a0) rfl rfl (dl_at t_X22_selector 52 rfl) ?_
      refine r_geti (pc := 107) X fX22_4 k99 q3412 (dl_at t_X22_selector 53 rfl) fun g107 => ?_
      refine g_gd fun k110 => ?_
      refine r_iast (pc := 110) X g103 g107 k110 (dl_at t_X22_selector 54 rfl) (fun h110 E110 => ?_)
      exact g_vret (pc := 111) X (v := 0) rfl rfl (dl_at t_X22_selector 55 rfl)
  refine g_aload_n (pc := 9) X (j := 0) (i := 0) (q := 0) (x := a0) rfl rfl (dl_at t_X22_selector 4 rfl) ?_
  refine r_getr (pc := 10) X fX22_1 hk q3406 (dl_at t_X22_selector 5 rfl) ?_
  refine g_gd fun k13 => ?_
  refine r_callWr (pc := 13) X (fun _ hv => s_X20_broken k13 hv) cw_code q4386 q374 (in_Vk X (As := []) kX20 k13 (Or.inl q4494) q4384 q4385 cw_code q4386 ⟨by decide, by decide⟩ rfl (dl_at t_X22_selector 6 rfl)) (dl_at t_X22_selector 6 rfl) (cat24 (st := []) (Nat.le_of_ble_eq_true rfl)) (Nat.le_of_ble_eq_true rfl) (Nat.le_of_ble_eq_true rfl) fun v13 h13 E13 => ?_
  refine g_gd fun p16 => ?_
  refine g_athrow (pc := 16) X (Int.ne_of_gt p16) (dl_at t_X22_selector 7 rfl) ?_
  exact gt_at fun Q hQ => gt_out (Q := Q) X rfl p16 (hno _) _ Q rfl hQ
