set_option maxRecDepth 100000
def k_X22_numberOf : List (Nat × Instr × Nat) := [(0, .ldc 207, 2), (2, .astore_n 1, 1), (3, .iconst 0, 1), (4, .istore_n 2, 1), (5, .iconst 0, 1), (6, .istore_n 3, 1), (7, .iconst 0, 1), (8, .istore 4, 2), (10, .iload 4, 2), (12, .aload_n 1, 1), (13, .invokevirtual 163, 3), (16, .if_icmp .ge 110, 3), (19, .aload_n 1, 1), (20, .iload 4, 2), (22, .invokevirtual 169, 3), (25, .bipush 32, 2), (27, .if_icmp .eq 6, 3), (30, .goto 90, 3), (33, .aload_n 0, 1), (34, .getfield 173, 3), (37, .aload_n 0, 1), (38, .getfield 176, 3), (41, .isub, 1), (42, .iload 4, 2), (44, .iload_n 3, 1), (45, .isub, 1), (46, .if_icmp .ne 66, 3), (49, .iconst 1, 1), (50, .istore 5, 2), (52, .iconst 0, 1), (53, .istore 6, 2), (55, .iload 6, 2), (57, .iload 4, 2), (59, .iload_n 3, 1), (60, .isub, 1), (61, .if_icmp .ge 44, 3), (64, .iload 5, 2), (66, .ifCond .eq 30, 3), (69, .aload_n 0, 1), (70, .getfield 209, 3), (73, .aload_n 0, 1), (74, .getfield 176, 3), (77, .iload 6, 2), (79, .iadd, 1), (80, .baload, 1), (81, .aload_n 1, 1), (82, .iload_n 3, 1), (83, .iload 6, 2), (85, .iadd, 1), (86, .invokevirtual 169, 3), (89, .if_icmp .ne 7, 3), (92, .iconst 1, 1), (93, .goto 4, 3), (96, .iconst 0, 1), (97, .istore 5, 2), (99, .iinc 6 1, 3), (102, .goto (-47), 3), (105, .iload 5, 2), (107, .ifCond .eq 5, 3), (110, .iload_n 2, 1), (111, .ireturn, 1), (112, .iinc 2 1, 3), (115, .iload 4, 2), (117, .iconst 1, 1), (118, .iadd, 1), (119, .istore_n 3, 1), (120, .iinc 4 1, 3), (123, .goto (-113), 3), (126, .iconst (-1), 1), (127, .ireturn, 1)]
theorem t_X22_numberOf : ∀ q ∈ k_X22_numberOf, decode cX22_numberOf q.1 = .ok q.2 := dl_all (by decide +kernel)
noncomputable def m_X22_numberOf_j120 (x4_10 x2_120 x3_120 : Int) : Option ((Int × Int × Int) ⊕ ((Int))) :=
  lt_ (w32 (x4_10 + 1)) fun x4_120 =>
  some (.inl (x2_120, x3_120, x4_120))
noncomputable def m_X22_numberOf_j112 (x2_10 x4_10 : Int) : Option ((Int × Int × Int) ⊕ ((Int))) :=
  lt_ (w32 (x2_10 + 1)) fun x2_112 =>
  lt_ (w32 (x4_10 + 1)) fun x3_119 =>
  m_X22_numberOf_j120 x4_10 x2_112 x3_119
noncomputable def m_X22_numberOf_j97 (x6_55 s0_97 : Int) : Option ((Int × Int) ⊕ ((Int))) :=
  lt_ (w32 (x6_55 + 1)) fun x6_99 =>
  some (.inl (s0_97, x6_99))
noncomputable def m_X22_numberOf_j96 (x6_55 : Int) : Option ((Int × Int) ⊕ ((Int))) :=
  m_X22_numberOf_j97 x6_55 0
noncomputable def m_X22_numberOf_l55 (a0 x1_2 x3_10 x4_10 x5_55 x6_55 : Int) (h : Hp) : Option ((Int × Int) ⊕ ((Int))) :=
  if (w32 (x4_10 - x3_10)) ≤ x6_55 then (some (.inr x5_55))
  else (if x5_55 = 0 then (m_X22_numberOf_j96 x6_55)
  else (gd (h (h a0 0) (-2) % 16 = 2 ∧ (0 : Int) ≤ (w32 ((h a0 4) + x6_55)) ∧ (w32 ((h a0 4) + x6_55)) < h (h a0 0) (-1)) ((x_sat x1_2 (w32 (x3_10 + x6_55))).bind fun v86 =>
  if (h (h a0 0) (w32 ((h a0 4) + x6_55))) ≠ v86 then (m_X22_numberOf_j96 x6_55)
  else (m_X22_numberOf_j97 x6_55 1))))
noncomputable def m_X22_numberOf_l10 (a0 x1_2 x2_10 x3_10 x4_10 : Int) (h : Hp) : Option ((Int × Int × Int) ⊕ ((Int))) :=
  (x_slen x1_2).bind fun v13 =>
  if v13 ≤ x4_10 then (some (.inr (-1)))
  else ((x_sat x1_2 x4_10).bind fun v22 =>
  if v22 = 32 then (gd (h a0 (-2) = 336) (if (w32 ((h a0 5) - (h a0 4))) ≠ (w32 (x4_10 - x3_10)) then (m_X22_numberOf_j112 x2_10 x4_10)
  else (lt_ 1 fun x5_50 =>
  lt_ 0 fun x6_53 =>
  (lp (fun (q : Int × Int) => m_X22_numberOf_l55 a0 x1_2 x3_10 x4_10 q.1 q.2 h) (x5_50, x6_53)).bind (fun (y105 : Int) => if y105 = 0 then (m_X22_numberOf_j112 x2_10 x4_10)
  else (some (.inr x2_10))))))
  else (m_X22_numberOf_j120 x4_10 x2_10 x3_10))
noncomputable def m_X22_numberOf (a0 : Int) (h : Hp) : Option (Int) :=
  lt_ (-98) fun x1_2 =>
  lt_ 0 fun x2_4 =>
  lt_ 0 fun x3_6 =>
  lt_ 0 fun x4_8 =>
  (lp (fun (q : Int × Int × Int) => m_X22_numberOf_l10 a0 x1_2 q.1 q.2.1 q.2.2 h) (x2_4, x3_6, x4_8)).bind (fun (x : Int) => some x)
theorem s_X22_numberOf {l : Launch} [NoTr l] {D : SD} {a0 : Int} {h : Hp}  {r : Int} (hm : m_X22_numberOf a0 h = some r) : Sim l D yX22_numberOf (Cond.code yX22_numberOf cX22_numberOf 7 (Option.some Jvm.ClassFile.FieldType.int)) 4 200 [rv D a0] h 1 ((0, r), h) := by
  refine Sim.of (fin := fun (v : Int) => ((0, v), h)) (lsE := [(0, rv D a0)]) hm rfl cwS_code (la_r la_n) (ll_r ll_n) ?_
  intro p e s m below meth c X hcw hmm hcc hnm hname
  unfold m_X22_numberOf
  refine g_ldcS (pc := 0) X (index := 207) (id := (-98)) 96 rfl rfl (dl_at t_X22_numberOf 0 rfl) ?_
  refine g_ltr fun x1_2 => ?_
  refine g_astore_nN (pc := 2) X (j := 1) (i := 1) (x := x1_2) (b := 0) (w := rv D a0) (rest := []) rfl (Nat.le_of_ble_eq_true rfl) [0] rfl (by decide) rv_cat rfl (dl_at t_X22_numberOf 1 rfl) ?_
  refine g_iconst (pc := 3) X (n := 0) (dl_at t_X22_numberOf 2 rfl) ?_
  refine g_ltz (Or.inl rfl) fun x2_4 r2_4 => ?_
  refine g_istore_nN (pc := 4) X (j := 2) (i := 2) (x := x2_4) (b := 1) (w := rv D x1_2) (rest := [(0, rv D a0)]) rfl (Nat.le_of_ble_eq_true rfl) [0, 1] rfl (by decide) rv_cat rfl (dl_at t_X22_numberOf 3 rfl) ?_
  refine g_iconst (pc := 5) X (n := 0) (dl_at t_X22_numberOf 4 rfl) ?_
  refine g_ltz (Or.inl rfl) fun x3_6 r3_6 => ?_
  refine g_istore_nN (pc := 6) X (j := 3) (i := 3) (x := x3_6) (b := 2) (w := iv x2_4) (rest := [(1, rv D x1_2), (0, rv D a0)]) rfl (Nat.le_of_ble_eq_true rfl) [0, 1, 2] rfl (by decide) rfl rfl (dl_at t_X22_numberOf 5 rfl) ?_
  refine g_iconst (pc := 7) X (n := 0) (dl_at t_X22_numberOf 6 rfl) ?_
  refine g_ltz (Or.inl rfl) fun x4_8 r4_8 => ?_
  refine g_istoreN (pc := 8) X (i := 4) (x := x4_8) (b := 3) (w := iv x3_6) (rest := [(2, iv x2_4), (1, rv D x1_2), (0, rv D a0)]) (Nat.le_of_ble_eq_true rfl) [0, 1, 2, 3] rfl (by decide) rfl rfl (dl_at t_X22_numberOf 7 rfl) ?_
  refine g_ls (ls2 := [(0, rv D a0), (1, rv D x1_2), (2, iv x2_4), (3, iv x3_6), (4, iv x4_8)]) [4, 3, 2, 1, 0] rfl ?_
  refine g_loop0F (fun (q : Int × Int × Int) => [(0, rv D a0), (1, rv D x1_2), (2, iv q.1), (3, iv q.2.1), (4, iv q.2.2)]) (fun (q : Int × Int × Int) => h) (fun (q : Int × Int × Int) => r32 q.1 ∧ r32 q.2.1 ∧ r32 q.2.2) (x2_4, x3_6, x4_8) ⟨(r32_z r2_4), (r32_z r3_6), (r32_z r4_8)⟩ ?_ (fun _ => rfl)
  · rintro ⟨x2_10, x3_10, x4_10⟩ ⟨r2_10, r3_10, r4_10⟩
    try dsimp only
    unfold m_X22_numberOf_l10
    refine g_iload (pc := 10) X (i := 4) (q := 4) (x := x4_10) rfl (dl_at t_X22_numberOf 8 rfl) ?_
    refine g_aload_n (pc := 12) X (j := 1) (i := 1) (q := 1) (x := x1_2) rfl rfl (dl_at t_X22_numberOf 9 rfl) ?_
    refine r_slen (pc := 13) X q4503 (cat24 (st := [iv x4_10]) (Nat.le_of_ble_eq_true rfl)) (Nat.le_of_ble_eq_true rfl) (Nat.le_of_ble_eq_true rfl) (dl_at t_X22_numberOf 10 rfl) fun v13 g13 => ?_
    refine g_icmpge (pc := 16) X r4_10 g13 (off := 110) (tgt := 126) rfl (dl_at t_X22_numberOf 11 rfl) (fun _ => ?_) (fun _ => ?_)
    · refine g_iconst (pc := 126) X (n := (-1)) (dl_at t_X22_numberOf 68 rfl) ?_
      exact g_at fun Q hQ => (g_iret (pc := 127) X (r32_c rfl) rfl rfl (dl_at t_X22_numberOf 69 rfl)) _ Q rfl hQ
    refine g_aload_n (pc := 19) X (j := 1) (i := 1) (q := 1) (x := x1_2) rfl rfl (dl_at t_X22_numberOf 12 rfl) ?_
    refine g_iload (pc := 20) X (i := 4) (q := 4) (x := x4_10) rfl (dl_at t_X22_numberOf 13 rfl) ?_
    refine r_sat (pc := 22) X r4_10 q4504 (cat24 (st := []) (Nat.le_of_ble_eq_true rfl)) (Nat.le_of_ble_eq_true rfl) (Nat.le_of_ble_eq_true rfl) (dl_at t_X22_numberOf 14 rfl) fun v22 g22 => ?_
    refine g_bipush (pc := 25) X (n := 32) rfl (dl_at t_X22_numberOf 15 rfl) ?_
    refine g_join (γ := Int × Int) (fun q => r32 q.1 ∧ r32 q.2) 120 (fun q => [(0, rv D a0), (1, rv D x1_2), (2, iv q.1), (3, iv q.2), (4, iv x4_10)]) (fun q => []) (fun q => h) (fun q => m_X22_numberOf_j120 x4_10 q.1 q.2) ?_ ?_
    · rintro ⟨x2_120, x3_120⟩ ⟨r2_120, r3_120⟩
      try dsimp only
      unfold m_X22_numberOf_j120
      refine r_iincN (pc := 120) X (i := 4) (q := 4) (n := 1) (x := x4_10) (b := 3) (w := iv x3_120) (rest := [(0, rv D a0), (1, rv D x1_2), (2, iv x2_120)]) rfl r4_10 (r32_c rfl) (Nat.le_of_ble_eq_true rfl) [3, 0, 1, 2] rfl (by decide) rfl rfl (dl_at t_X22_numberOf 66 rfl) fun x4_120 r4_120 => ?_
      refine g_goto (pc := 123) X (off := (-113)) (tgt := 10) rfl (dl_at t_X22_numberOf 67 rfl) ?_
      refine g_ls (ls2 := [(0, rv D a0), (1, rv D x1_2), (2, iv x2_120), (3, iv x3_120), (4, iv x4_120)]) [2, 3, 4, 1, 0] rfl ?_
      exact g_at fun Q hQ => hQ ⟨r2_120, r3_120, r4_120⟩
    intro J120
    refine g_icmpeq (pc := 27) X g22 (r32_c rfl) (off := 6) (tgt := 33) rfl (dl_at t_X22_numberOf 16 rfl) (fun _ => ?_) (fun _ => ?_)
    · refine g_aload_n (pc := 33) X (j := 0) (i := 0) (q := 0) (x := a0) rfl rfl (dl_at t_X22_numberOf 18 rfl) ?_
      refine g_gd fun k34 => ?_
      refine r_geti (pc := 34) X fX20_5 k34 q3284 (dl_at t_X22_numberOf 19 rfl) fun g34 => ?_
      refine g_aload_n (pc := 37) X (j := 0) (i := 0) (q := 0) (x := a0) rfl rfl (dl_at t_X22_numberOf 20 rfl) ?_
      refine r_geti (pc := 38) X fX20_4 k34 q3281 (dl_at t_X22_numberOf 21 rfl) fun g38 => ?_
      refine g_isub (pc := 41) X g34 g38 (dl_at t_X22_numberOf 22 rfl) ?_
      refine g_iload (pc := 42) X (i := 4) (q := 4) (x := x4_10) rfl (dl_at t_X22_numberOf 23 rfl) ?_
      refine g_iload_n (pc := 44) X (j := 3) (i := 3) (q := 3) (x := x3_10) rfl rfl (dl_at t_X22_numberOf 24 rfl) ?_
      refine g_isub (pc := 45) X r4_10 r3_10 (dl_at t_X22_numberOf 25 rfl) ?_
      refine g_join (γ := Unit) (fun q => True) 112 (fun q => [(0, rv D a0), (1, rv D x1_2), (2, iv x2_10), (4, iv x4_10)]) (fun q => []) (fun q => h) (fun q => m_X22_numberOf_j112 x2_10 x4_10) ?_ ?_
      · rintro _ _
        try dsimp only
        unfold m_X22_numberOf_j112
        refine r_iincN (pc := 112) X (i := 2) (q := 2) (n := 1) (x := x2_10) (b := 1) (w := rv D x1_2) (rest := [(0, rv D a0), (4, iv x4_10)]) rfl r2_10 (r32_c rfl) (Nat.le_of_ble_eq_true rfl) [1, 0, 3] rfl (by decide) rv_cat rfl (dl_at t_X22_numberOf 61 rfl) fun x2_112 r2_112 => ?_
        refine g_iload (pc := 115) X (i := 4) (q := 3) (x := x4_10) rfl (dl_at t_X22_numberOf 62 rfl) ?_
        refine g_iconst (pc := 117) X (n := 1) (dl_at t_X22_numberOf 63 rfl) ?_
        refine g_iadd (pc := 118) X r4_10 (r32_c rfl) (dl_at t_X22_numberOf 64 rfl) ?_
        refine g_lti (r32_w _) fun x3_119 r3_119 => ?_
        refine g_istore_nN (pc := 119) X (j := 3) (i := 3) (x := x3_119) (b := 2) (w := iv x2_112) (rest := [(1, rv D x1_2), (0, rv D a0), (4, iv x4_10)]) rfl (Nat.le_of_ble_eq_true rfl) [0, 1, 2, 3] rfl (by decide) rfl rfl (dl_at t_X22_numberOf 65 rfl) ?_
        refine g_ls (ls2 := [(0, rv D a0), (1, rv D x1_2), (2, iv x2_112), (3, iv x3_119), (4, iv x4_10)]) [3, 2, 1, 0, 4] rfl ?_
        exact J120 (x2_112, x3_119) ⟨r2_112, r3_119⟩
      intro J112
      refine g_icmpne (pc := 46) X (r32_w _) (r32_w _) (off := 66) (tgt := 112) rfl (dl_at t_X22_numberOf 26 rfl) (fun _ => ?_) (fun _ => ?_)
      · refine g_ls (ls2 := [(0, rv D a0), (1, rv D x1_2), (2, iv x2_10), (4, iv x4_10)]) [0, 1, 2, 4] rfl ?_
        exact J112 () trivial
      refine g_iconst (pc := 49) X (n := 1) (dl_at t_X22_numberOf 27 rfl) ?_
      refine g_ltz (Or.inr rfl) fun x5_50 r5_50 => ?_
      refine g_istoreN (pc := 50) X (i := 5) (x := x5_50) (b := 4) (w := iv x4_10) (rest := [(0, rv D a0), (1, rv D x1_2), (2, iv x2_10), (3, iv x3_10)]) (Nat.le_of_ble_eq_true rfl) [4, 0, 1, 2, 3] rfl (by decide) rfl rfl (dl_at t_X22_numberOf 28 rfl) ?_
      refine g_iconst (pc := 52) X (n := 0) (dl_at t_X22_numberOf 29 rfl) ?_
      refine g_ltz (Or.inl rfl) fun x6_53 r6_53 => ?_
      refine g_istoreN (pc := 53) X (i := 6) (x := x6_53) (b := 5) (w := iv x5_50) (rest := [(4, iv x4_10), (0, rv D a0), (1, rv D x1_2), (2, iv x2_10), (3, iv x3_10)]) (Nat.le_of_ble_eq_true rfl) [0, 1, 2, 3, 4, 5] rfl (by decide) rfl rfl (dl_at t_X22_numberOf 30 rfl) ?_
      refine g_ls (ls2 := [(0, rv D a0), (1, rv D x1_2), (2, iv x2_10), (3, iv x3_10), (4, iv x4_10), (5, iv x5_50), (6, iv x6_53)]) [3, 4, 5, 6, 2, 1, 0] rfl ?_
      refine g_loop1 (fun (q : Int × Int) => [(0, rv D a0), (1, rv D x1_2), (2, iv x2_10), (3, iv x3_10), (4, iv x4_10), (5, iv q.1), (6, iv q.2)]) (fun (q : Int × Int) => h) (fun (q : Int × Int) => (q.1 = 0 ∨ q.1 = 1) ∧ r32 q.2) 105 (fun (y105 : Int) => [(0, rv D a0), (1, rv D x1_2), (2, iv x2_10), (4, iv x4_10), (5, iv y105)]) (fun (y105 : Int) => h) (fun (y105 : Int) => (y105 = 0 ∨ y105 = 1)) (x5_50, x6_53) ⟨r5_50, (r32_z r6_53)⟩ ?_ ?_
      · rintro ⟨x5_55, x6_55⟩ ⟨r5_55, r6_55⟩
        try dsimp only
        unfold m_X22_numberOf_l55
        refine g_iload (pc := 55) X (i := 6) (q := 6) (x := x6_55) rfl (dl_at t_X22_numberOf 31 rfl) ?_
        refine g_iload (pc := 57) X (i := 4) (q := 4) (x := x4_10) rfl (dl_at t_X22_numberOf 32 rfl) ?_
        refine g_iload_n (pc := 59) X (j := 3) (i := 3) (q := 3) (x := x3_10) rfl rfl (dl_at t_X22_numberOf 33 rfl) ?_
        refine g_isub (pc := 60) X r4_10 r3_10 (dl_at t_X22_numberOf 34 rfl) ?_
        refine g_icmpge (pc := 61) X r6_55 (r32_w _) (off := 44) (tgt := 105) rfl (dl_at t_X22_numberOf 35 rfl) (fun _ => ?_) (fun _ => ?_)
        · refine g_ls (ls2 := [(0, rv D a0), (1, rv D x1_2), (2, iv x2_10), (4, iv x4_10), (5, iv x5_55)]) [0, 1, 2, 4, 5] rfl ?_
          exact g_at fun Q hQ => hQ r5_55
        refine g_iload (pc := 64) X (i := 5) (q := 5) (x := x5_55) rfl (dl_at t_X22_numberOf 36 rfl) ?_
        refine g_join (γ := Int) (fun q => (q = 0 ∨ q = 1)) 97 (fun q => [(0, rv D a0), (1, rv D x1_2), (2, iv x2_10), (3, iv x3_10), (4, iv x4_10), (6, iv x6_55)]) (fun q => [iv q]) (fun q => h) (fun q => m_X22_numberOf_j97 x6_55 q) ?_ ?_
        · rintro s0_97 rs0_97
          try dsimp only
          unfold m_X22_numberOf_j97
          refine g_istoreN (pc := 97) X (i := 5) (x := s0_97) (b := 4) (w := iv x4_10) (rest := [(0, rv D a0), (1, rv D x1_2), (2, iv x2_10), (3, iv x3_10), (6, iv x6_55)]) (Nat.le_of_ble_eq_true rfl) [4, 0, 1, 2, 3, 5] rfl (by decide) rfl rfl (dl_at t_X22_numberOf 54 rfl) ?_
          refine r_iincN (pc := 99) X (i := 6) (q := 6) (n := 1) (x := x6_55) (b := 5) (w := iv s0_97) (rest := [(4, iv x4_10), (0, rv D a0), (1, rv D x1_2), (2, iv x2_10), (3, iv x3_10)]) rfl r6_55 (r32_c rfl) (Nat.le_of_ble_eq_true rfl) [0, 1, 2, 3, 4, 5] rfl (by decide) rfl rfl (dl_at t_X22_numberOf 55 rfl) fun x6_99 r6_99 => ?_
          refine g_goto (pc := 102) X (off := (-47)) (tgt := 55) rfl (dl_at t_X22_numberOf 56 rfl) ?_
          refine g_ls (ls2 := [(0, rv D a0), (1, rv D x1_2), (2, iv x2_10), (3, iv x3_10), (4, iv x4_10), (5, iv s0_97), (6, iv x6_99)]) [3, 4, 5, 6, 2, 1, 0] rfl ?_
          exact g_at fun Q hQ => hQ ⟨rs0_97, r6_99⟩
        intro J97
        refine g_join (γ := Unit) (fun q => True) 96 (fun q => [(0, rv D a0), (1, rv D x1_2), (2, iv x2_10), (3, iv x3_10), (4, iv x4_10), (6, iv x6_55)]) (fun q => []) (fun q => h) (fun q => m_X22_numberOf_j96 x6_55) ?_ ?_
        · rintro _ _
          try dsimp only
          unfold m_X22_numberOf_j96
          refine g_iconst (pc := 96) X (n := 0) (dl_at t_X22_numberOf 53 rfl) ?_
          exact J97 0 (Or.inl rfl)
        intro J96
        refine g_ifeq (pc := 66) X (r32_z r5_55) (off := 30) (tgt := 96) rfl (dl_at t_X22_numberOf 37 rfl) (fun _ => ?_) (fun _ => ?_)
        · refine g_ls (ls2 := [(0, rv D a0), (1, rv D x1_2), (2, iv x2_10), (3, iv x3_10), (4, iv x4_10), (6, iv x6_55)]) [0, 1, 2, 3, 4, 6] rfl ?_
          exact J96 () trivial
        refine g_aload_n (pc := 69) X (j := 0) (i := 0) (q := 0) (x := a0) rfl rfl (dl_at t_X22_numberOf 38 rfl) ?_
        refine r_getr (pc := 70) X fX20_0 k34 q3274 (dl_at t_X22_numberOf 39 rfl) ?_
        refine g_aload_n (pc := 73) X (j := 0) (i := 0) (q := 0) (x := a0) rfl rfl (dl_at t_X22_numberOf 40 rfl) ?_
        refine r_geti (pc := 74) X fX20_4 k34 q3281 (dl_at t_X22_numberOf 41 rfl) fun g74 => ?_
        refine g_iload (pc := 77) X (i := 6) (q := 6) (x := x6_55) rfl (dl_at t_X22_numberOf 42 rfl) ?_
        refine g_iadd (pc := 79) X g74 r6_55 (dl_at t_X22_numberOf 43 rfl) ?_
        refine g_gd fun k80 => ?_
        refine g_bald (pc := 80) X (r32_w _) k80 (dl_at t_X22_numberOf 44 rfl) fun g80 => ?_
        refine g_aload_n (pc := 81) X (j := 1) (i := 1) (q := 1) (x := x1_2) rfl rfl (dl_at t_X22_numberOf 45 rfl) ?_
        refine g_iload_n (pc := 82) X (j := 3) (i := 3) (q := 3) (x := x3_10) rfl rfl (dl_at t_X22_numberOf 46 rfl) ?_
        refine g_iload (pc := 83) X (i := 6) (q := 6) (x := x6_55) rfl (dl_at t_X22_numberOf 47 rfl) ?_
        refine g_iadd (pc := 85) X r3_10 r6_55 (dl_at t_X22_numberOf 48 rfl) ?_
        refine r_sat (pc := 86) X (r32_w _) q4504 (cat24 (st := [iv (h (h a0 0) (w32 ((h a0 4) + x6_55)))]) (Nat.le_of_ble_eq_true rfl)) (Nat.le_of_ble_eq_true rfl) (Nat.le_of_ble_eq_true rfl) (dl_at t_X22_numberOf 49 rfl) fun v86 g86 => ?_
        refine g_icmpne (pc := 89) X (r32_b g80) g86 (off := 7) (tgt := 96) rfl (dl_at t_X22_numberOf 50 rfl) (fun _ => ?_) (fun _ => ?_)
        · refine g_ls (ls2 := [(0, rv D a0), (1, rv D x1_2), (2, iv x2_10), (3, iv x3_10), (4, iv x4_10), (6, iv x6_55)]) [0, 1, 2, 3, 4, 6] rfl ?_
          exact J96 () trivial
        refine g_iconst (pc := 92) X (n := 1) (dl_at t_X22_numberOf 51 rfl) ?_
        refine g_goto (pc := 93) X (off := 4) (tgt := 97) rfl (dl_at t_X22_numberOf 52 rfl) ?_
        refine g_ls (ls2 := [(0, rv D a0), (1, rv D x1_2), (2, iv x2_10), (3, iv x3_10), (4, iv x4_10), (6, iv x6_55)]) [0, 1, 2, 3, 4, 6] rfl ?_
        exact J97 1 (Or.inr rfl)
      · rintro x5_105 r5_105
        try dsimp only [sE]
        refine g_iload (pc := 105) X (i := 5) (q := 4) (x := x5_105) rfl (dl_at t_X22_numberOf 57 rfl) ?_
        refine g_ifeq (pc := 107) X (r32_z r5_105) (off := 5) (tgt := 112) rfl (dl_at t_X22_numberOf 58 rfl) (fun _ => ?_) (fun _ => ?_)
        · refine g_ls (ls2 := [(0, rv D a0), (1, rv D x1_2), (2, iv x2_10), (4, iv x4_10)]) [0, 1, 2, 3] rfl ?_
          exact J112 () trivial
        refine g_iload_n (pc := 110) X (j := 2) (i := 2) (q := 2) (x := x2_10) rfl rfl (dl_at t_X22_numberOf 59 rfl) ?_
        exact g_at fun Q hQ => (g_iret (pc := 111) X r2_10 rfl rfl (dl_at t_X22_numberOf 60 rfl)) _ Q rfl hQ
    refine g_goto (pc := 30) X (off := 90) (tgt := 120) rfl (dl_at t_X22_numberOf 17 rfl) ?_
    exact J120 (x2_10, x3_10) ⟨r2_10, r3_10⟩
def k_X22_size : List (Nat × Instr × Nat) := [(0, .aload_n 0, 1), (1, .getfield 18, 3), (4, .getfield 111, 3), (7, .iconst 2, 1), (8, .if_icmp .eq 11, 3), (11, .aload_n 0, 1), (12, .getfield 18, 3), (15, .invokevirtual 147, 3), (18, .athrow, 1), (19, .aload_n 0, 1), (20, .getfield 18, 3), (23, .getfield 235, 3), (26, .istore_n 1, 1), (27, .aload_n 0, 1), (28, .getfield 18, 3), (31, .getfield 176, 3), (34, .istore_n 2, 1), (35, .aload_n 0, 1), (36, .getfield 18, 3), (39, .invokevirtual 119, 3), (42, .aload_n 0, 1), (43, .getfield 18, 3), (46, .bipush 37, 2), (48, .invokevirtual 132, 3), (51, .ifCond .eq 34, 3), (54, .iload_n 1, 1), (55, .iconst 1, 1), (56, .if_icmp .lt 10, 3), (59, .iload_n 1, 1), (60, .sipush 1000, 3), (63, .if_icmp .le 12, 3), (66, .new 238, 3), (69, .dup, 1), (70, .iload_n 2, 1), (71, .invokespecial 240, 3), (74, .athrow, 1), (75, .aload_n 0, 1), (76, .getfield 18, 3), (79, .invokevirtual 119, 3), (82, .iload_n 1, 1), (83, .ineg, 1), (84, .ireturn, 1), (85, .iload_n 1, 1), (86, .sipush 1000, 3), (89, .if_icmp .lt 9, 3), (92, .iload_n 1, 1), (93, .ldc 156, 2), (95, .if_icmp .le 12, 3), (98, .new 238, 3), (101, .dup, 1), (102, .iload_n 2, 1), (103, .invokespecial 240, 3), (106, .athrow, 1), (107, .iload_n 1, 1), (108, .ireturn, 1)]
theorem t_X22_size : ∀ q ∈ k_X22_size, decode cX22_size q.1 = .ok q.2 := dl_all (by decide +kernel)
noncomputable def m_X22_size (a0 : Int) (h : Hp) : Option ((Int × Int) × Hp) :=
  gd (h (h a0 1) (-2) = 336) (if (h (h a0 1) 3) = 2 then (lt_ (h (h a0 1) 6) fun x1_26 =>
  lt_ (h (h a0 1) 4) fun x2_34 =>
  (m_X20_next (h a0 1) h).bind fun h39 =>
  gd (h39 (h39 a0 1) (-2) = 336) ((m_X20_isByte (h39 a0 1) 37 h39).bind fun v48 =>
  if v48 = 0 then (if x1_26 < 1000 then (al h39 448 7 fun a98 h98 =>
  (x_broken a98 x2_34 h98).bind fun h103 =>
  some ((1, a98), h103))
  else (if x1_26 ≤ 100000 then (some ((0, x1_26), h39))
  else (al h39 448 7 fun a98_1 h98_1 =>
  (x_broken a98_1 x2_34 h98_1).bind fun h103_1 =>
  some ((1, a98_1), h103_1))))
  else (if x1_26 < 1 then (al h39 448 7 fun a66 h66 =>
  (x_broken a66 x2_34 h66).bind fun h71 =>
  some ((1, a66), h71))
  else (if x1_26 ≤ 1000 then ((m_X20_next (h39 a0 1) h39).bind fun h79 =>
  some ((0, (w32 (-x1_26))), h79))
  else (al h39 448 7 fun a66_1 h66_1 =>
  (x_broken a66_1 x2_34 h66_1).bind fun h71_1 =>
  some ((1, a66_1), h71_1))))))
  else (bW (m_X20_broken (h a0 1) h) fun v15 h15 =>
  gd (0 < v15) (some ((1, v15), h15))))
theorem s_X22_size {l : Launch} [NoTr l] {D : SD} {a0 : Int} {h : Hp} (hk : h a0 (-2) = 368) {r : (Int × Int) × Hp} (hm : m_X22_size a0 h = some r) : Sim l D yX22_size (Cond.code yX22_size cX22_size 3 (Option.some Jvm.ClassFile.FieldType.int)) 10 373 [rv D a0] h 1 r := by
  refine Sim.of (fin := fun (v : (Int × Int) × Hp) => v) (lsE := [(0, rv D a0)]) hm rfl cwS_code (la_r la_n) (ll_r ll_n) ?_
  intro p e s m below meth c X hcw hmm hcc hnm hname
  have hno := noh hcw hnm hmm hcc
  unfold m_X22_size
  refine g_aload_n (pc := 0) X (j := 0) (i := 0) (q := 0) (x := a0) rfl rfl (dl_at t_X22_size 0 rfl) ?_
  refine r_getr (pc := 1) X fX22_1 hk q3406 (dl_at t_X22_size 1 rfl) ?_
  refine g_gd fun k4 => ?_
  refine r_geti (pc := 4) X fX20_3 k4 q3277 (dl_at t_X22_size 2 rfl) fun g4 => ?_
  refine g_iconst (pc := 7) X (n := 2) (dl_at t_X22_size 3 rfl) ?_
  refine g_icmpeq (pc := 8) X g4 (r32_c rfl) (off := 11) (tgt := 19) rfl (dl_at t_X22_size 4 rfl) (fun _ => ?_) (fun _ => ?_)
  · refine g_aload_n (pc := 19) X (j := 0) (i := 0) (q := 0) (x := a0) rfl rfl (dl_at t_X22_size 9 rfl) ?_
    refine r_getr (pc := 20) X fX22_1 hk q3406 (dl_at t_X22_size 10 rfl) ?_
    refine r_geti (pc := 23) X fX20_6 k4 q3286 (dl_at t_X22_size 11 rfl) fun g23 => ?_
    refine g_lti g23 fun x1_26 r1_26 => ?_
    refine g_istore_nN (pc := 26) X (j := 1) (i := 1) (x := x1_26) (b := 0) (w := rv D a0) (rest := []) rfl (Nat.le_of_ble_eq_true rfl) [0] rfl (by decide) rv_cat rfl (dl_at t_X22_size 12 rfl) ?_
    refine g_aload_n (pc := 27) X (j := 0) (i := 0) (q := 1) (x := a0) rfl rfl (dl_at t_X22_size 13 rfl) ?_
    refine r_getr (pc := 28) X fX22_1 hk q3406 (dl_at t_X22_size 14 rfl) ?_
    refine r_geti (pc := 31) X fX20_4 k4 q3281 (dl_at t_X22_size 15 rfl) fun g31 => ?_
    refine g_lti g31 fun x2_34 r2_34 => ?_
    refine g_istore_nN (pc := 34) X (j := 2) (i := 2) (x := x2_34) (b := 1) (w := iv x1_26) (rest := [(0, rv D a0)]) rfl (Nat.le_of_ble_eq_true rfl) [0, 1] rfl (by decide) rfl rfl (dl_at t_X22_size 16 rfl) ?_
    refine g_aload_n (pc := 35) X (j := 0) (i := 0) (q := 2) (x := a0) rfl rfl (dl_at t_X22_size 17 rfl) ?_
    refine r_getr (pc := 36) X fX22_1 hk q3406 (dl_at t_X22_size 18 rfl) ?_
    refine r_callV (pc := 39) X (fun _ hv => s_X20_next k4 hv) cw_code q4342 q374 (in_Vk X (As := []) kX20 k4 (Or.inl q4481) q4340 q4341 cw_code q4342 ⟨by decide, by decide⟩ rfl (dl_at t_X22_size 19 rfl)) (dl_at t_X22_size 19 rfl) (cat24 (st := []) (Nat.le_of_ble_eq_true rfl)) (Nat.le_of_ble_eq_true rfl) (Nat.le_of_ble_eq_true rfl) fun h39 E39 => ?_
    refine g_aload_n (pc := 42) X (j := 0) (i := 0) (q := 2) (x := a0) rfl rfl (dl_at t_X22_size 20 rfl) ?_
    have k43 := kx E39 (by decide) hk
    refine r_getr (pc := 43) X fX22_1 k43 q3406 (dl_at t_X22_size 21 rfl) ?_
    refine g_bipush (pc := 46) X (n := 37) rfl (dl_at t_X22_size 22 rfl) ?_
    refine g_gd fun k48 => ?_
    refine r_callRz (pc := 48) X (fun _ hv => s_X20_isByte k48 (r32_c rfl) hv) cw_code q4421 q374 (in_Vk X (As := [iv 37]) kX20 k48 (Or.inl q4487) q4419 q4420 cw_code q4421 ⟨by decide, by decide⟩ rfl (dl_at t_X22_size 23 rfl)) (dl_at t_X22_size 23 rfl) (cat24 (st := []) (Nat.le_of_ble_eq_true rfl)) (Nat.le_of_ble_eq_true rfl) (Nat.le_of_ble_eq_true rfl) fun v48 g48 => ?_
    refine g_ifeq (pc := 51) X (r32_z g48) (off := 34) (tgt := 85) rfl (dl_at t_X22_size 24 rfl) (fun _ => ?_) (fun _ => ?_)
    · refine g_iload_n (pc := 85) X (j := 1) (i := 1) (q := 1) (x := x1_26) rfl rfl (dl_at t_X22_size 42 rfl) ?_
      refine g_sipush (pc := 86) X (n := 1000) rfl (dl_at t_X22_size 43 rfl) ?_
      refine g_icmplt (pc := 89) X r1_26 (r32_c rfl) (off := 9) (tgt := 98) rfl (dl_at t_X22_size 44 rfl) (fun _ => ?_) (fun _ => ?_)
      · refine r_new (pc := 98) X kX27 q4546 (dl_at t_X22_size 48 rfl) fun a98 h98 p98 k98 E98 => ?_
        refine g_dup (pc := 101) X rv_cat (dl_at t_X22_size 49 rfl) ?_
        refine g_iload_n (pc := 102) X (j := 2) (i := 2) (q := 0) (x := x2_34) rfl rfl (dl_at t_X22_size 50 rfl) ?_
        refine r_callV (pc := 103) X (fun _ hv => sx_ScholarsPressModel_Broken_init_I_V k98 r2_34 hv) cw_code q4398 q392 (in_I X (As := [iv x2_34]) (Int.ne_of_gt p98) rfl (Or.inl q4547) q4397 q4398 ⟨by decide, by decide⟩ rfl (dl_at t_X22_size 51 rfl)) (dl_at t_X22_size 51 rfl) (cat24 (st := [rv D a98]) (Nat.le_of_ble_eq_true rfl)) (Nat.le_of_ble_eq_true rfl) (Nat.le_of_ble_eq_true rfl) fun h103 E103 => ?_
        refine g_athrow (pc := 106) X (Int.ne_of_gt p98) (dl_at t_X22_size 52 rfl) ?_
        exact gt_at fun Q hQ => gt_out (Q := Q) X rfl p98 (hno _) _ Q rfl hQ
      refine g_iload_n (pc := 92) X (j := 1) (i := 1) (q := 1) (x := x1_26) rfl rfl (dl_at t_X22_size 45 rfl) ?_
      refine g_ldc (pc := 93) X (index := 156) (n := 100000) q4497 (dl_at t_X22_size 46 rfl) ?_
      refine g_icmple (pc := 95) X r1_26 (r32_c rfl) (off := 12) (tgt := 107) rfl (dl_at t_X22_size 47 rfl) (fun _ => ?_) (fun _ => ?_)
      · refine g_iload_n (pc := 107) X (j := 1) (i := 1) (q := 1) (x := x1_26) rfl rfl (dl_at t_X22_size 53 rfl) ?_
        exact g_iret (pc := 108) X r1_26 rfl rfl (dl_at t_X22_size 54 rfl)
      refine r_new (pc := 98) X kX27 q4546 (dl_at t_X22_size 48 rfl) fun a98_1 h98_1 p98_1 k98_1 E98_1 => ?_
      refine g_dup (pc := 101) X rv_cat (dl_at t_X22_size 49 rfl) ?_
      refine g_iload_n (pc := 102) X (j := 2) (i := 2) (q := 0) (x := x2_34) rfl rfl (dl_at t_X22_size 50 rfl) ?_
      refine r_callV (pc := 103) X (fun _ hv => sx_ScholarsPressModel_Broken_init_I_V k98_1 r2_34 hv) cw_code q4398 q392 (in_I X (As := [iv x2_34]) (Int.ne_of_gt p98_1) rfl (Or.inl q4547) q4397 q4398 ⟨by decide, by decide⟩ rfl (dl_at t_X22_size 51 rfl)) (dl_at t_X22_size 51 rfl) (cat24 (st := [rv D a98_1]) (Nat.le_of_ble_eq_true rfl)) (Nat.le_of_ble_eq_true rfl) (Nat.le_of_ble_eq_true rfl) fun h103_1 E103_1 => ?_
      refine g_athrow (pc := 106) X (Int.ne_of_gt p98_1) (dl_at t_X22_size 52 rfl) ?_
      exact gt_at fun Q hQ => gt_out (Q := Q) X rfl p98_1 (hno _) _ Q rfl hQ
    refine g_iload_n (pc := 54) X (j := 1) (i := 1) (q := 1) (x := x1_26) rfl rfl (dl_at t_X22_size 25 rfl) ?_
    refine g_iconst (pc := 55) X (n := 1) (dl_at t_X22_size 26 rfl) ?_
    refine g_icmplt (pc := 56) X r1_26 (r32_c rfl) (off := 10) (tgt := 66) rfl (dl_at t_X22_size 27 rfl) (fun _ => ?_) (fun _ => ?_)
    · refine r_new (pc := 66) X kX27 q4546 (dl_at t_X22_size 31 rfl) fun a66 h66 p66 k66 E66 => ?_
      refine g_dup (pc := 69) X rv_cat (dl_at t_X22_size 32 rfl) ?_
      refine g_iload_n (pc := 70) X (j := 2) (i := 2) (q := 0) (x := x2_34) rfl rfl (dl_at t_X22_size 33 rfl) ?_
      refine r_callV (pc := 71) X (fun _ hv => sx_ScholarsPressModel_Broken_init_I_V k66 r2_34 hv) cw_code q4398 q392 (in_I X (As := [iv x2_34]) (Int.ne_of_gt p66) rfl (Or.inl q4547) q4397 q4398 ⟨by decide, by decide⟩ rfl (dl_at t_X22_size 34 rfl)) (dl_at t_X22_size 34 rfl) (cat24 (st := [rv D a66]) (Nat.le_of_ble_eq_true rfl)) (Nat.le_of_ble_eq_true rfl) (Nat.le_of_ble_eq_true rfl) fun h71 E71 => ?_
      refine g_athrow (pc := 74) X (Int.ne_of_gt p66) (dl_at t_X22_size 35 rfl) ?_
      exact gt_at fun Q hQ => gt_out (Q := Q) X rfl p66 (hno _) _ Q rfl hQ
    refine g_iload_n (pc := 59) X (j := 1) (i := 1) (q := 1) (x := x1_26) rfl rfl (dl_at t_X22_size 28 rfl) ?_
    refine g_sipush (pc := 60) X (n := 1000) rfl (dl_at t_X22_size 29 rfl) ?_
    refine g_icmple (pc := 63) X r1_26 (r32_c rfl) (off := 12) (tgt := 75) rfl (dl_at t_X22_size 30 rfl) (fun _ => ?_) (fun _ => ?_)
    · refine g_aload_n (pc := 75) X (j := 0) (i := 0) (q := 2) (x := a0) rfl rfl (dl_at t_X22_size 36 rfl) ?_
      refine r_getr (pc := 76) X fX22_1 k43 q3406 (dl_at t_X22_size 37 rfl) ?_
      refine r_callV (pc := 79) X (fun _ hv => s_X20_next k48 hv) cw_code q4342 q374 (in_Vk X (As := []) kX20 k48 (Or.inl q4481) q4340 q4341 cw_code q4342 ⟨by decide, by decide⟩ rfl (dl_at t_X22_size 38 rfl)) (dl_at t_X22_size 38 rfl) (cat24 (st := []) (Nat.le_of_ble_eq_true rfl)) (Nat.le_of_ble_eq_true rfl) (Nat.le_of_ble_eq_true rfl) fun h79 E79 => ?_
      refine g_iload_n (pc := 82) X (j := 1) (i := 1) (q := 1) (x := x1_26) rfl rfl (dl_at t_X22_size 39 rfl) ?_
      refine g_ineg (pc := 83) X r1_26 (dl_at t_X22_size 40 rfl) ?_
      exact g_iret (pc := 84) X (r32_w _) rfl rfl (dl_at t_X22_size 41 rfl)
    refine r_new (pc := 66) X kX27 q4546 (dl_at t_X22_size 31 rfl) fun a66_1 h66_1 p66_1 k66_1 E66_1 => ?_
    refine g_dup (pc := 69) X rv_cat (dl_at t_X22_size 32 rfl) ?_
    refine g_iload_n (pc := 70) X (j := 2) (i := 2) (q := 0) (x := x2_34) rfl rfl (dl_at t_X22_size 33 rfl) ?_
    refine r_callV (pc := 71) X (fun _ hv => sx_ScholarsPressModel_Broken_init_I_V k66_1 r2_34 hv) cw_code q4398 q392 (in_I X (As := [iv x2_34]) (Int.ne_of_gt p66_1) rfl (Or.inl q4547) q4397 q4398 ⟨by decide, by decide⟩ rfl (dl_at t_X22_size 34 rfl)) (dl_at t_X22_size 34 rfl) (cat24 (st := [rv D a66_1]) (Nat.le_of_ble_eq_true rfl)) (Nat.le_of_ble_eq_true rfl) (Nat.le_of_ble_eq_true rfl) fun h71_1 E71_1 => ?_
    refine g_athrow (pc := 74) X (Int.ne_of_gt p66_1) (dl_at t_X22_size 35 rfl) ?_
    exact gt_at fun Q hQ => gt_out (Q := Q) X rfl p66_1 (hno _) _ Q rfl hQ
  refine g_aload_n (pc := 11) X (j := 0) (i := 0) (q := 0) (x := a0) rfl rfl (dl_at t_X22_size 5 rfl) ?_
  refine r_getr (pc := 12) X fX22_1 hk q3406 (dl_at t_X22_size 6 rfl) ?_
  refine r_callWr (pc := 15) X (fun _ hv => s_X20_broken k4 hv) cw_code q4386 q374 (in_Vk X (As := []) kX20 k4 (Or.inl q4494) q4384 q4385 cw_code q4386 ⟨by decide, by decide⟩ rfl (dl_at t_X22_size 7 rfl)) (dl_at t_X22_size 7 rfl) (cat24 (st := []) (Nat.le_of_ble_eq_true rfl)) (Nat.le_of_ble_eq_true rfl) (Nat.le_of_ble_eq_true rfl) fun v15 h15 E15 => ?_
  refine g_gd fun p18 => ?_
  refine g_athrow (pc := 18) X (Int.ne_of_gt p18) (dl_at t_X22_size 8 rfl) ?_
  exact gt_at fun Q hQ => gt_out (Q := Q) X rfl p18 (hno _) _ Q rfl hQ
def k_X22_counter : List (Nat × Instr × Nat) := [(0, .aload_n 0, 1), (1, .getfield 18, 3), (4, .getfield 111, 3), (7, .iconst 1, 1), (8, .if_icmp .eq 11, 3), (11, .aload_n 0, 1), (12, .getfield 18, 3), (15, .invokevirtual 147, 3), (18, .athrow, 1), (19, .aload_n 0, 1), (20, .getfield 18, 3), (23, .ldc 231, 2), (25, .invokevirtual 115, 3), (28, .ifCond .eq 12, 3), (31, .aload_n 0, 1), (32, .getfield 18, 3), (35, .invokevirtual 119, 3), (38, .iconst 0, 1), (39, .ireturn, 1), (40, .iconst 0, 1), (41, .istore_n 1, 1), (42, .iload_n 1, 1), (43, .aload_n 0, 1), (44, .getfield 104, 3), (47, .if_icmp .ge 49, 3), (50, .aload_n 0, 1), (51, .getfield 9, 3), (54, .aload_n 0, 1), (55, .getfield 77, 3), (58, .iload_n 1, 1), (59, .iaload, 1), (60, .aload_n 0, 1), (61, .getfield 80, 3), (64, .iload_n 1, 1), (65, .iaload, 1), (66, .aload_n 0, 1), (67, .getfield 9, 3), (70, .aload_n 0, 1), (71, .getfield 18, 3), (74, .getfield 176, 3), (77, .aload_n 0, 1), (78, .getfield 18, 3), (81, .getfield 173, 3), (84, .invokestatic 242, 3), (87, .ifCond .ne 9, 3), (90, .iinc 1 1, 3), (93, .goto (-51), 3), (96, .iload_n 1, 1), (97, .bipush 12, 2), (99, .if_icmp .ne 11, 3), (102, .aload_n 0, 1), (103, .getfield 18, 3), (106, .invokevirtual 147, 3), (109, .athrow, 1), (110, .iload_n 1, 1), (111, .aload_n 0, 1), (112, .getfield 104, 3), (115, .if_icmp .ne 39, 3), (118, .aload_n 0, 1), (119, .getfield 77, 3), (122, .iload_n 1, 1), (123, .aload_n 0, 1), (124, .getfield 18, 3), (127, .getfield 176, 3), (130, .iastore, 1), (131, .aload_n 0, 1), (132, .getfield 80, 3), (135, .iload_n 1, 1), (136, .aload_n 0, 1), (137, .getfield 18, 3), (140, .getfield 173, 3), (143, .iastore, 1), (144, .aload_n 0, 1), (145, .dup, 1), (146, .getfield 104, 3), (149, .iconst 1, 1), (150, .iadd, 1), (151, .putfield 104, 3), (154, .aload_n 0, 1), (155, .getfield 18, 3), (158, .invokevirtual 119, 3), (161, .iconst 1, 1), (162, .iload_n 1, 1), (163, .iadd, 1), (164, .ireturn, 1)]
theorem t_X22_counter : ∀ q ∈ k_X22_counter, decode cX22_counter q.1 = .ok q.2 := dl_all (by decide +kernel)
noncomputable def m_X22_counter_l42 (a0 x1_42 : Int) (h : Hp) : Option ((Int) ⊕ ((Int))) :=
  if (h a0 8) ≤ x1_42 then (some (.inr x1_42))
  else (gd (h (h a0 26) (-2) % 16 = 1 ∧ (0 : Int) ≤ x1_42 ∧ x1_42 < h (h a0 26) (-1)) (gd (h (h a0 27) (-2) % 16 = 1 ∧ (0 : Int) ≤ x1_42 ∧ x1_42 < h (h a0 27) (-1)) ((m_X18_same (h a0 0) (h (h a0 26) x1_42) (h (h a0 27) x1_42) (h a0 0) (h (h a0 1) 4) (h (h a0 1) 5) h).bind fun v84 =>
  if v84 ≠ 0 then (some (.inr x1_42))
  else (lt_ (w32 (x1_42 + 1)) fun x1_90 =>
  some (.inl x1_90)))))
noncomputable def m_X22_counter (a0 : Int) (h : Hp) : Option ((Int × Int) × Hp) :=
  gd (h (h a0 1) (-2) = 336) (if (h (h a0 1) 3) = 1 then ((m_X20_isName (h a0 1) (-102) h).bind fun v25 =>
  if v25 = 0 then (lt_ 0 fun x1_41 =>
  (lp (fun (q : Int) => m_X22_counter_l42 a0 q h) x1_41).bind (fun (y96 : Int) => if y96 ≠ 12 then (if y96 ≠ (h a0 8) then ((m_X20_next (h a0 1) h).bind fun h158 =>
  some ((0, (w32 (1 + y96))), h158))
  else (gd (h (h a0 26) (-2) % 16 = 1 ∧ (0 : Int) ≤ y96 ∧ y96 < h (h a0 26) (-1)) (pt h (h a0 26) y96 (h (h a0 1) 4) fun h130 =>
  gd (h130 (h130 a0 1) (-2) = 336) (gd (h130 (h130 a0 27) (-2) % 16 = 1 ∧ (0 : Int) ≤ y96 ∧ y96 < h130 (h130 a0 27) (-1)) (pt h130 (h130 a0 27) y96 (h130 (h130 a0 1) 5) fun h143 =>
  pt h143 a0 8 (w32 ((h143 a0 8) + 1)) fun h151 =>
  gd (h151 (h151 a0 1) (-2) = 336) ((m_X20_next (h151 a0 1) h151).bind fun h158_1 =>
  some ((0, (w32 (1 + y96))), h158_1)))))))
  else (bW (m_X20_broken (h a0 1) h) fun v106 h106 =>
  gd (0 < v106) (some ((1, v106), h106)))))
  else ((m_X20_next (h a0 1) h).bind fun h35 =>
  some ((0, 0), h35)))
  else (bW (m_X20_broken (h a0 1) h) fun v15 h15 =>
  gd (0 < v15) (some ((1, v15), h15))))
theorem s_X22_counter {l : Launch} [NoTr l] {D : SD} {a0 : Int} {h : Hp} (hk : h a0 (-2) = 368) {r : (Int × Int) × Hp} (hm : m_X22_counter a0 h = some r) : Sim l D yX22_counter (Cond.code yX22_counter cX22_counter 2 (Option.some Jvm.ClassFile.FieldType.int)) 10 373 [rv D a0] h 1 r := by
  refine Sim.of (fin := fun (v : (Int × Int) × Hp) => v) (lsE := [(0, rv D a0)]) hm rfl cwS_code (la_r la_n) (ll_r ll_n) ?_
  intro p e s m below meth c X hcw hmm hcc hnm hname
  have hno := noh hcw hnm hmm hcc
  unfold m_X22_counter
  refine g_aload_n (pc := 0) X (j := 0) (i := 0) (q := 0) (x := a0) rfl rfl (dl_at t_X22_counter 0 rfl) ?_
  refine r_getr (pc := 1) X fX22_1 hk q3406 (dl_at t_X22_counter 1 rfl) ?_
  refine g_gd fun k4 => ?_
  refine r_geti (pc := 4) X fX20_3 k4 q3277 (dl_at t_X22_counter 2 rfl) fun g4 => ?_
  refine g_iconst (pc := 7) X (n := 1) (dl_at t_X22_counter 3 rfl) ?_
  refine g_icmpeq (pc := 8) X g4 (r32_c rfl) (off := 11) (tgt := 19) rfl (dl_at t_X22_counter 4 rfl) (fun _ => ?_) (fun _ => ?_)
  · refine g_aload_n (pc := 19) X (j := 0) (i := 0) (q := 0) (x := a0) rfl rfl (dl_at t_X22_counter 9 rfl) ?_
    refine r_getr (pc := 20) X fX22_1 hk q3406 (dl_at t_X22_counter 10 rfl) ?_
    refine g_ldcS (pc := 23) X (index := 231) (id := (-102)) 100 rfl rfl (dl_at t_X22_counter 11 rfl) ?_
    refine r_callRz (pc := 25) X (fun _ hv => s_X20_isName k4 hv) cw_code q4364 q374 (in_Vk X (As := [rv D (-102)]) kX20 k4 (Or.inl q4480) q4362 q4363 cw_code q4364 ⟨by decide, by decide⟩ rfl (dl_at t_X22_counter 12 rfl)) (dl_at t_X22_counter 12 rfl) (cat24 (st := []) (Nat.le_of_ble_eq_true rfl)) (Nat.le_of_ble_eq_true rfl) (Nat.le_of_ble_eq_true rfl) fun v25 g25 => ?_
    refine g_ifeq (pc := 28) X (r32_z g25) (off := 12) (tgt := 40) rfl (dl_at t_X22_counter 13 rfl) (fun _ => ?_) (fun _ => ?_)
    · refine g_iconst (pc := 40) X (n := 0) (dl_at t_X22_counter 19 rfl) ?_
      refine g_ltz (Or.inl rfl) fun x1_41 r1_41 => ?_
      refine g_istore_nN (pc := 41) X (j := 1) (i := 1) (x := x1_41) (b := 0) (w := rv D a0) (rest := []) rfl (Nat.le_of_ble_eq_true rfl) [0] rfl (by decide) rv_cat rfl (dl_at t_X22_counter 20 rfl) ?_
      refine g_ls (ls2 := [(0, rv D a0), (1, iv x1_41)]) [1, 0] rfl ?_
      refine g_loop1 (fun (q : Int) => [(0, rv D a0), (1, iv q)]) (fun (q : Int) => h) (fun (q : Int) => r32 q) 96 (fun (y96 : Int) => [(0, rv D a0), (1, iv y96)]) (fun (y96 : Int) => h) (fun (y96 : Int) => r32 y96) x1_41 (r32_z r1_41) ?_ ?_
      · rintro x1_42 r1_42
        try dsimp only
        unfold m_X22_counter_l42
        refine g_iload_n (pc := 42) X (j := 1) (i := 1) (q := 1) (x := x1_42) rfl rfl (dl_at t_X22_counter 21 rfl) ?_
        refine g_aload_n (pc := 43) X (j := 0) (i := 0) (q := 0) (x := a0) rfl rfl (dl_at t_X22_counter 22 rfl) ?_
        refine r_geti (pc := 44) X fX22_8 hk q3416 (dl_at t_X22_counter 23 rfl) fun g44 => ?_
        refine g_icmpge (pc := 47) X r1_42 g44 (off := 49) (tgt := 96) rfl (dl_at t_X22_counter 24 rfl) (fun _ => ?_) (fun _ => ?_)
        · exact g_at fun Q hQ => hQ r1_42
        refine g_aload_n (pc := 50) X (j := 0) (i := 0) (q := 0) (x := a0) rfl rfl (dl_at t_X22_counter 25 rfl) ?_
        refine r_getr (pc := 51) X fX22_0 hk q3404 (dl_at t_X22_counter 26 rfl) ?_
        refine g_aload_n (pc := 54) X (j := 0) (i := 0) (q := 0) (x := a0) rfl rfl (dl_at t_X22_counter 27 rfl) ?_
        refine r_getr (pc := 55) X fX22_26 hk q3451 (dl_at t_X22_counter 28 rfl) ?_
        refine g_iload_n (pc := 58) X (j := 1) (i := 1) (q := 1) (x := x1_42) rfl rfl (dl_at t_X22_counter 29 rfl) ?_
        refine g_gd fun k59 => ?_
        refine g_iald (pc := 59) X r1_42 k59 (dl_at t_X22_counter 30 rfl) fun g59 => ?_
        refine g_aload_n (pc := 60) X (j := 0) (i := 0) (q := 0) (x := a0) rfl rfl (dl_at t_X22_counter 31 rfl) ?_
        refine r_getr (pc := 61) X fX22_27 hk q3452 (dl_at t_X22_counter 32 rfl) ?_
        refine g_iload_n (pc := 64) X (j := 1) (i := 1) (q := 1) (x := x1_42) rfl rfl (dl_at t_X22_counter 33 rfl) ?_
        refine g_gd fun k65 => ?_
        refine g_iald (pc := 65) X r1_42 k65 (dl_at t_X22_counter 34 rfl) fun g65 => ?_
        refine g_aload_n (pc := 66) X (j := 0) (i := 0) (q := 0) (x := a0) rfl rfl (dl_at t_X22_counter 35 rfl) ?_
        refine r_getr (pc := 67) X fX22_0 hk q3404 (dl_at t_X22_counter 36 rfl) ?_
        refine g_aload_n (pc := 70) X (j := 0) (i := 0) (q := 0) (x := a0) rfl rfl (dl_at t_X22_counter 37 rfl) ?_
        refine r_getr (pc := 71) X fX22_1 hk q3406 (dl_at t_X22_counter 38 rfl) ?_
        refine r_geti (pc := 74) X fX20_4 k4 q3281 (dl_at t_X22_counter 39 rfl) fun g74 => ?_
        refine g_aload_n (pc := 77) X (j := 0) (i := 0) (q := 0) (x := a0) rfl rfl (dl_at t_X22_counter 40 rfl) ?_
        refine r_getr (pc := 78) X fX22_1 hk q3406 (dl_at t_X22_counter 41 rfl) ?_
        refine r_geti (pc := 81) X fX20_5 k4 q3284 (dl_at t_X22_counter 42 rfl) fun g81 => ?_
        refine r_callRz (pc := 84) X (fun _ hv => s_X18_same g59 g65 g74 g81 hv) cw_code q4464 q372 (in_Sc X (As := [rv D (h a0 0), iv (h (h a0 26) x1_42), iv (h (h a0 27) x1_42), rv D (h a0 0), iv (h (h a0 1) 4), iv (h (h a0 1) 5)]) (Or.inr ⟨_, nw_in q4557 rfl⟩) q4463 q372 q4464 ⟨by decide, by decide⟩ rfl (dl_at t_X22_counter 43 rfl)) (dl_at t_X22_counter 43 rfl) (cat24 (st := []) (Nat.le_of_ble_eq_true rfl)) (Nat.le_of_ble_eq_true rfl) (Nat.le_of_ble_eq_true rfl) fun v84 g84 => ?_
        refine g_ifne (pc := 87) X (r32_z g84) (off := 9) (tgt := 96) rfl (dl_at t_X22_counter 44 rfl) (fun _ => ?_) (fun _ => ?_)
        · exact g_at fun Q hQ => hQ r1_42
        refine r_iincN (pc := 90) X (i := 1) (q := 1) (n := 1) (x := x1_42) (b := 0) (w := rv D a0) (rest := []) rfl r1_42 (r32_c rfl) (Nat.le_of_ble_eq_true rfl) [0] rfl (by decide) rv_cat rfl (dl_at t_X22_counter 45 rfl) fun x1_90 r1_90 => ?_
        refine g_goto (pc := 93) X (off := (-51)) (tgt := 42) rfl (dl_at t_X22_counter 46 rfl) ?_
        refine g_ls (ls2 := [(0, rv D a0), (1, iv x1_90)]) [1, 0] rfl ?_
        exact g_at fun Q hQ => hQ r1_90
      · rintro x1_96 r1_96
        try dsimp only [sE]
        refine g_iload_n (pc := 96) X (j := 1) (i := 1) (q := 1) (x := x1_96) rfl rfl (dl_at t_X22_counter 47 rfl) ?_
        refine g_bipush (pc := 97) X (n := 12) rfl (dl_at t_X22_counter 48 rfl) ?_
        refine g_icmpne (pc := 99) X r1_96 (r32_c rfl) (off := 11) (tgt := 110) rfl (dl_at t_X22_counter 49 rfl) (fun _ => ?_) (fun _ => ?_)
        · refine g_iload_n (pc := 110) X (j := 1) (i := 1) (q := 1) (x := x1_96) rfl rfl (dl_at t_X22_counter 54 rfl) ?_
          refine g_aload_n (pc := 111) X (j := 0) (i := 0) (q := 0) (x := a0) rfl rfl (dl_at t_X22_counter 55 rfl) ?_
          refine r_geti (pc := 112) X fX22_8 hk q3416 (dl_at t_X22_counter 56 rfl) fun g112 => ?_
          refine g_icmpne (pc := 115) X r1_96 g112 (off := 39) (tgt := 154) rfl (dl_at t_X22_counter 57 rfl) (fun _ => ?_) (fun _ => ?_)
          · refine g_aload_n (pc := 154) X (j := 0) (i := 0) (q := 0) (x := a0) rfl rfl (dl_at t_X22_counter 78 rfl) ?_
            refine r_getr (pc := 155) X fX22_1 hk q3406 (dl_at t_X22_counter 79 rfl) ?_
            refine r_callV (pc := 158) X (fun _ hv => s_X20_next k4 hv) cw_code q4342 q374 (in_Vk X (As := []) kX20 k4 (Or.inl q4481) q4340 q4341 cw_code q4342 ⟨by decide, by decide⟩ rfl (dl_at t_X22_counter 80 rfl)) (dl_at t_X22_counter 80 rfl) (cat24 (st := []) (Nat.le_of_ble_eq_true rfl)) (Nat.le_of_ble_eq_true rfl) (Nat.le_of_ble_eq_true rfl) fun h158 E158 => ?_
            refine g_iconst (pc := 161) X (n := 1) (dl_at t_X22_counter 81 rfl) ?_
            refine g_iload_n (pc := 162) X (j := 1) (i := 1) (q := 1) (x := x1_96) rfl rfl (dl_at t_X22_counter 82 rfl) ?_
            refine g_iadd (pc := 163) X (r32_c rfl) r1_96 (dl_at t_X22_counter 83 rfl) ?_
            exact g_iret (pc := 164) X (r32_w _) rfl rfl (dl_at t_X22_counter 84 rfl)
          refine g_aload_n (pc := 118) X (j := 0) (i := 0) (q := 0) (x := a0) rfl rfl (dl_at t_X22_counter 58 rfl) ?_
          refine r_getr (pc := 119) X fX22_26 hk q3451 (dl_at t_X22_counter 59 rfl) ?_
          refine g_iload_n (pc := 122) X (j := 1) (i := 1) (q := 1) (x := x1_96) rfl rfl (dl_at t_X22_counter 60 rfl) ?_
          refine g_aload_n (pc := 123) X (j := 0) (i := 0) (q := 0) (x := a0) rfl rfl (dl_at t_X22_counter 61 rfl) ?_
          refine r_getr (pc := 124) X fX22_1 hk q3406 (dl_at t_X22_counter 62 rfl) ?_
          refine r_geti (pc := 127) X fX20_4 k4 q3281 (dl_at t_X22_counter 63 rfl) fun g127 => ?_
          refine g_gd fun k130 => ?_
          refine r_iast (pc := 130) X r1_96 g127 k130 (dl_at t_X22_counter 64 rfl) (fun h130 E130 => ?_)
          refine g_aload_n (pc := 131) X (j := 0) (i := 0) (q := 0) (x := a0) rfl rfl (dl_at t_X22_counter 65 rfl) ?_
          have k132 := kx E130 (by decide) hk
          refine r_getr (pc := 132) X fX22_27 k132 q3452 (dl_at t_X22_counter 66 rfl) ?_
          refine g_iload_n (pc := 135) X (j := 1) (i := 1) (q := 1) (x := x1_96) rfl rfl (dl_at t_X22_counter 67 rfl) ?_
          refine g_aload_n (pc := 136) X (j := 0) (i := 0) (q := 0) (x := a0) rfl rfl (dl_at t_X22_counter 68 rfl) ?_
          refine r_getr (pc := 137) X fX22_1 k132 q3406 (dl_at t_X22_counter 69 rfl) ?_
          refine g_gd fun k140 => ?_
          refine r_geti (pc := 140) X fX20_5 k140 q3284 (dl_at t_X22_counter 70 rfl) fun g140 => ?_
          refine g_gd fun k143 => ?_
          refine r_iast (pc := 143) X r1_96 g140 k143 (dl_at t_X22_counter 71 rfl) (fun h143 E143 => ?_)
          refine g_aload_n (pc := 144) X (j := 0) (i := 0) (q := 0) (x := a0) rfl rfl (dl_at t_X22_counter 72 rfl) ?_
          refine g_dup (pc := 145) X rv_cat (dl_at t_X22_counter 73 rfl) ?_
          have k146 := kx E143 (by decide) k132
          refine r_geti (pc := 146) X fX22_8 k146 q3416 (dl_at t_X22_counter 74 rfl) fun g146 => ?_
          refine g_iconst (pc := 149) X (n := 1) (dl_at t_X22_counter 75 rfl) ?_
          refine g_iadd (pc := 150) X g146 (r32_c rfl) (dl_at t_X22_counter 76 rfl) ?_
          refine r_puti (pc := 151) X fX22_8 k146 q3416 rfl (dl_at t_X22_counter 77 rfl) (r32_w _) (fun h151 E151 => ?_)
          refine g_aload_n (pc := 154) X (j := 0) (i := 0) (q := 0) (x := a0) rfl rfl (dl_at t_X22_counter 78 rfl) ?_
          have k155 := kx E151 (by decide) k146
          refine r_getr (pc := 155) X fX22_1 k155 q3406 (dl_at t_X22_counter 79 rfl) ?_
          refine g_gd fun k158 => ?_
          refine r_callV (pc := 158) X (fun _ hv => s_X20_next k158 hv) cw_code q4342 q374 (in_Vk X (As := []) kX20 k158 (Or.inl q4481) q4340 q4341 cw_code q4342 ⟨by decide, by decide⟩ rfl (dl_at t_X22_counter 80 rfl)) (dl_at t_X22_counter 80 rfl) (cat24 (st := []) (Nat.le_of_ble_eq_true rfl)) (Nat.le_of_ble_eq_true rfl) (Nat.le_of_ble_eq_true rfl) fun h158_1 E158_1 => ?_
          refine g_iconst (pc := 161) X (n := 1) (dl_at t_X22_counter 81 rfl) ?_
          refine g_iload_n (pc := 162) X (j := 1) (i := 1) (q := 1) (x := x1_96) rfl rfl (dl_at t_X22_counter 82 rfl) ?_
          refine g_iadd (pc := 163) X (r32_c rfl) r1_96 (dl_at t_X22_counter 83 rfl) ?_
          exact g_iret (pc := 164) X (r32_w _) rfl rfl (dl_at t_X22_counter 84 rfl)
        refine g_aload_n (pc := 102) X (j := 0) (i := 0) (q := 0) (x := a0) rfl rfl (dl_at t_X22_counter 50 rfl) ?_
        refine r_getr (pc := 103) X fX22_1 hk q3406 (dl_at t_X22_counter 51 rfl) ?_
        refine r_callWr (pc := 106) X (fun _ hv => s_X20_broken k4 hv) cw_code q4386 q374 (in_Vk X (As := []) kX20 k4 (Or.inl q4494) q4384 q4385 cw_code q4386 ⟨by decide, by decide⟩ rfl (dl_at t_X22_counter 52 rfl)) (dl_at t_X22_counter 52 rfl) (cat24 (st := []) (Nat.le_of_ble_eq_true rfl)) (Nat.le_of_ble_eq_true rfl) (Nat.le_of_ble_eq_true rfl) fun v106 h106 E106 => ?_
        refine g_gd fun p109 => ?_
        refine g_athrow (pc := 109) X (Int.ne_of_gt p109) (dl_at t_X22_counter 53 rfl) ?_
        exact gt_at fun Q hQ => gt_out (Q := Q) X rfl p109 (hno _) _ Q rfl hQ
    refine g_aload_n (pc := 31) X (j := 0) (i := 0) (q := 0) (x := a0) rfl rfl (dl_at t_X22_counter 14 rfl) ?_
    refine r_getr (pc := 32) X fX22_1 hk q3406 (dl_at t_X22_counter 15 rfl) ?_
    refine r_callV (pc := 35) X (fun _ hv => s_X20_next k4 hv) cw_code q4342 q374 (in_Vk X (As := []) kX20 k4 (Or.inl q4481) q4340 q4341 cw_code q4342 ⟨by decide, by decide⟩ rfl (dl_at t_X22_counter 16 rfl)) (dl_at t_X22_counter 16 rfl) (cat24 (st := []) (Nat.le_of_ble_eq_true rfl)) (Nat.le_of_ble_eq_true rfl) (Nat.le_of_ble_eq_true rfl) fun h35 E35 => ?_
    refine g_iconst (pc := 38) X (n := 0) (dl_at t_X22_counter 17 rfl) ?_
    exact g_iret (pc := 39) X (r32_c rfl) rfl rfl (dl_at t_X22_counter 18 rfl)
  refine g_aload_n (pc := 11) X (j := 0) (i := 0) (q := 0) (x := a0) rfl rfl (dl_at t_X22_counter 5 rfl) ?_
  refine r_getr (pc := 12) X fX22_1 hk q3406 (dl_at t_X22_counter 6 rfl) ?_
  refine r_callWr (pc := 15) X (fun _ hv => s_X20_broken k4 hv) cw_code q4386 q374 (in_Vk X (As := []) kX20 k4 (Or.inl q4494) q4384 q4385 cw_code q4386 ⟨by decide, by decide⟩ rfl (dl_at t_X22_counter 7 rfl)) (dl_at t_X22_counter 7 rfl) (cat24 (st := []) (Nat.le_of_ble_eq_true rfl)) (Nat.le_of_ble_eq_true rfl) (Nat.le_of_ble_eq_true rfl) fun v15 h15 E15 => ?_
  refine g_gd fun p18 => ?_
  refine g_athrow (pc := 18) X (Int.ne_of_gt p18) (dl_at t_X22_counter 8 rfl) ?_
  exact gt_at fun Q hQ => gt_out (Q := Q) X rfl p18 (hno _) _ Q rfl hQ
def k_X22_valueOf : List (Nat × Instr × Nat) := [(0, .iload_n 1, 1), (100, .aload_n 0, 1), (101, .ldc 218, 2), (103, .invokevirtual 159, 3), (106, .ireturn, 1), (107, .aload_n 0, 1), (108, .invokevirtual 220, 3), (111, .ireturn, 1), (112, .aload_n 0, 1), (113, .getfield 18, 3), (116, .sipush 1000, 3), (119, .ldc 223, 2), (121, .invokevirtual 152, 3), (124, .ireturn, 1), (125, .aload_n 0, 1), (126, .getfield 18, 3), (129, .iconst 0, 1), (130, .ldc 224, 2), (132, .invokevirtual 152, 3), (135, .ireturn, 1), (136, .aload_n 0, 1), (137, .ldc 225, 2), (139, .invokevirtual 159, 3), (142, .ireturn, 1), (143, .aload_n 0, 1), (144, .ldc 227, 2), (146, .invokevirtual 159, 3), (149, .ireturn, 1), (150, .aload_n 0, 1), (151, .getfield 18, 3), (154, .iconst 1, 1), (155, .sipush 10000, 3), (158, .invokevirtual 152, 3), (161, .ireturn, 1), (162, .aload_n 0, 1), (163, .getfield 18, 3), (166, .iconst 1, 1), (167, .bipush 9, 2), (169, .invokevirtual 152, 3), (172, .ireturn, 1), (173, .aload_n 0, 1), (174, .invokevirtual 229, 3), (177, .ireturn, 1), (178, .aload_n 0, 1), (179, .getfield 18, 3), (182, .ldc 231, 2), (184, .invokevirtual 115, 3), (187, .ifCond .eq 12, 3), (190, .aload_n 0, 1), (191, .getfield 18, 3), (194, .invokevirtual 119, 3), (197, .iconst 0, 1), (198, .ireturn, 1), (199, .aload_n 0, 1), (200, .getfield 18, 3), (203, .getfield 111, 3), (206, .iconst 3, 1), (207, .if_icmp .eq 11, 3), (210, .aload_n 0, 1), (211, .getfield 18, 3), (214, .invokevirtual 147, 3), (217, .athrow, 1), (218, .aload_n 0, 1), (219, .getfield 71, 3), (222, .aload_n 0, 1), (223, .getfield 101, 3), (226, .aload_n 0, 1), (227, .getfield 18, 3), (230, .invokevirtual 198, 3), (233, .iastore, 1), (234, .aload_n 0, 1), (235, .getfield 74, 3), (238, .aload_n 0, 1), (239, .getfield 101, 3), (242, .aload_n 0, 1), (243, .getfield 18, 3), (246, .invokevirtual 201, 3), (249, .iastore, 1), (250, .aload_n 0, 1), (251, .getfield 18, 3), (254, .invokevirtual 119, 3), (257, .iconst 1, 1), (258, .ireturn, 1), (259, .aload_n 0, 1), (260, .ldc 233, 2), (262, .invokevirtual 159, 3), (265, .ireturn, 1), (266, .aload_n 0, 1), (267, .getfield 18, 3), (270, .iconst 0, 1), (271, .bipush 9, 2), (273, .invokevirtual 152, 3), (276, .ireturn, 1), (277, .aload_n 0, 1), (278, .getfield 18, 3), (281, .iconst 0, 1), (282, .ldc 151, 2), (284, .invokevirtual 152, 3), (287, .ireturn, 1)]
theorem t_X22_valueOf : ∀ q ∈ k_X22_valueOf, decode cX22_valueOf q.1 = .ok q.2 := dl_all (by decide +kernel)
theorem dS_X22_valueOf_1 : decode cX22_valueOf 1 = .ok (.tableswitch 276 0 20 #[99, 106, 111, 124, 124, 124, 124, 124, 135, 142, 149, 161, 161, 142, 142, 172, 172, 177, 258, 265, 142], 99) := by decide +kernel
noncomputable def m_X22_valueOf (a0 a1 : Int) (h : Hp) : Option ((Int × Int) × Hp) :=
  if a1 = 0 then (bT (m_X22_word a0 (-99) h) (fun v103 h103 =>
  some ((0, v103), h103)) (fun a_ h_ => some ((1, a_), h_)))
  else (if a1 = 1 then (bT (m_X22_size a0 h) (fun v108 h108 =>
  some ((0, v108), h108)) (fun a_ h_ => some ((1, a_), h_)))
  else (if a1 = 2 then (gd (h (h a0 1) (-2) = 336) (bT (m_X20_needNumber (h a0 1) 1000 200000 h) (fun v121 h121 =>
  some ((0, v121), h121)) (fun a_ h_ => some ((1, a_), h_))))
  else (if a1 ∈ ([3, 4, 5, 6, 7] : List Int) then (gd (h (h a0 1) (-2) = 336) (bT (m_X20_needNumber (h a0 1) 0 500000 h) (fun v132 h132 =>
  some ((0, v132), h132)) (fun a_ h_ => some ((1, a_), h_))))
  else (if a1 = 8 then (bT (m_X22_word a0 (-100) h) (fun v139 h139 =>
  some ((0, v139), h139)) (fun a_ h_ => some ((1, a_), h_)))
  else (if a1 ∈ ([9, 13, 14, 20] : List Int) then (bT (m_X22_word a0 (-101) h) (fun v146 h146 =>
  some ((0, v146), h146)) (fun a_ h_ => some ((1, a_), h_)))
  else (if a1 = 10 then (gd (h (h a0 1) (-2) = 336) (bT (m_X20_needNumber (h a0 1) 1 10000 h) (fun v158 h158 =>
  some ((0, v158), h158)) (fun a_ h_ => some ((1, a_), h_))))
  else (if a1 ∈ ([11, 12] : List Int) then (gd (h (h a0 1) (-2) = 336) (bT (m_X20_needNumber (h a0 1) 1 9 h) (fun v169 h169 =>
  some ((0, v169), h169)) (fun a_ h_ => some ((1, a_), h_))))
  else (if a1 ∈ ([15, 16] : List Int) then (bT (m_X22_counter a0 h) (fun v174 h174 =>
  some ((0, v174), h174)) (fun a_ h_ => some ((1, a_), h_)))
  else (if a1 = 17 then (gd (h (h a0 1) (-2) = 336) ((m_X20_isName (h a0 1) (-102) h).bind fun v184 =>
  if v184 = 0 then (if (h (h a0 1) 3) = 3 then ((m_X20_inner (h a0 1) h).bind fun v230 =>
  gd (h (h a0 24) (-2) % 16 = 1 ∧ (0 : Int) ≤ (h a0 7) ∧ (h a0 7) < h (h a0 24) (-1)) (pt h (h a0 24) (h a0 7) v230 fun h233 =>
  gd (h233 (h233 a0 1) (-2) = 336) ((m_X20_innerEnd (h233 a0 1) h233).bind fun v246 =>
  gd (h233 (h233 a0 25) (-2) % 16 = 1 ∧ (0 : Int) ≤ (h233 a0 7) ∧ (h233 a0 7) < h233 (h233 a0 25) (-1)) (pt h233 (h233 a0 25) (h233 a0 7) v246 fun h249 =>
  gd (h249 (h249 a0 1) (-2) = 336) ((m_X20_next (h249 a0 1) h249).bind fun h254 =>
  some ((0, 1), h254))))))
  else (bW (m_X20_broken (h a0 1) h) fun v214 h214 =>
  gd (0 < v214) (some ((1, v214), h214))))
  else ((m_X20_next (h a0 1) h).bind fun h194 =>
  some ((0, 0), h194))))
  else (if a1 = 18 then (bT (m_X22_word a0 (-103) h) (fun v262 h262 =>
  some ((0, v262), h262)) (fun a_ h_ => some ((1, a_), h_)))
  else (if a1 = 19 then (gd (h (h a0 1) (-2) = 336) (bT (m_X20_needNumber (h a0 1) 0 9 h) (fun v273 h273 =>
  some ((0, v273), h273)) (fun a_ h_ => some ((1, a_), h_))))
  else (gd (h (h a0 1) (-2) = 336) (bT (m_X20_needNumber (h a0 1) 0 1000000 h) (fun v284 h284 =>
  some ((0, v284), h284)) (fun a_ h_ => some ((1, a_), h_)))))))))))))))
theorem s_X22_valueOf {l : Launch} [NoTr l] {D : SD} {a0 a1 : Int} {h : Hp} (hk : h a0 (-2) = 368) (r1 : r32 a1) {r : (Int × Int) × Hp} (hm : m_X22_valueOf a0 a1 h = some r) : Sim l D yX22_valueOf (Cond.code yX22_valueOf cX22_valueOf 2 (Option.some Jvm.ClassFile.FieldType.int)) 11 415 [rv D a0, iv a1] h 1 r := by
  refine Sim.of (fin := fun (v : (Int × Int) × Hp) => v) (lsE := [(0, rv D a0), (1, iv a1)]) hm rfl cwS_code (la_r (la_i la_n)) (ll_r (ll_i ll_n)) ?_
  intro p e s m below meth c X hcw hmm hcc hnm hname
  have hno := noh hcw hnm hmm hcc
  unfold m_X22_valueOf
  refine g_iload_n (pc := 0) X (j := 1) (i := 1) (q := 1) (x := a1) rfl rfl (dl_at t_X22_valueOf 0 rfl) ?_
  refine g_case (fun w1 => ?_) (fun nw1 => ?_)
  · refine g_tabIn (pc := 1) X (off := 99) (tgt := 100) r1 w1 (by decide) (by decide) rfl rfl dS_X22_valueOf_1 ?_
    refine g_aload_n (pc := 100) X (j := 0) (i := 0) (q := 0) (x := a0) rfl rfl (dl_at t_X22_valueOf 1 rfl) ?_
    refine g_ldcS (pc := 101) X (index := 218) (id := (-99)) 97 rfl rfl (dl_at t_X22_valueOf 2 rfl) ?_
    refine r_callTi (pc := 103) X (fun _ hv => s_X22_word hk hv) cw_code q4502 q376 (in_Vk X (As := [rv D (-99)]) kX22 hk (Or.inl q4499) q4501 qs246 cw_code q4502 ⟨by decide, by decide⟩ rfl (dl_at t_X22_valueOf 3 rfl)) (dl_at t_X22_valueOf 3 rfl) (cat24 (st := []) (Nat.le_of_ble_eq_true rfl)) (Nat.le_of_ble_eq_true rfl) (Nat.le_of_ble_eq_true rfl) (fun v103 h103 g103 E103 => ?_) (fun _ _ ha _ => gt_at fun Q hQ => gt_out (Q := Q) X rfl ha (hno _) _ Q rfl hQ)
    exact g_iret (pc := 106) X g103 rfl rfl (dl_at t_X22_valueOf 4 rfl)
  refine g_case (fun w1_1 => ?_) (fun nw1_1 => ?_)
  · refine g_tabIn (pc := 1) X (off := 106) (tgt := 107) r1 w1_1 (by decide) (by decide) rfl rfl dS_X22_valueOf_1 ?_
    refine g_aload_n (pc := 107) X (j := 0) (i := 0) (q := 0) (x := a0) rfl rfl (dl_at t_X22_valueOf 5 rfl) ?_
    refine r_callTi (pc := 108) X (fun _ hv => s_X22_size hk hv) cw_code q4545 q376 (in_Vk X (As := []) kX22 hk (Or.inl q4542) q4544 qs254 cw_code q4545 ⟨by decide, by decide⟩ rfl (dl_at t_X22_valueOf 6 rfl)) (dl_at t_X22_valueOf 6 rfl) (cat24 (st := []) (Nat.le_of_ble_eq_true rfl)) (Nat.le_of_ble_eq_true rfl) (Nat.le_of_ble_eq_true rfl) (fun v108 h108 g108 E108 => ?_) (fun _ _ ha _ => gt_at fun Q hQ => gt_out (Q := Q) X rfl ha (hno _) _ Q rfl hQ)
    exact g_iret (pc := 111) X g108 rfl rfl (dl_at t_X22_valueOf 7 rfl)
  refine g_case (fun w1_2 => ?_) (fun nw1_2 => ?_)
  · refine g_tabIn (pc := 1) X (off := 111) (tgt := 112) r1 w1_2 (by decide) (by decide) rfl rfl dS_X22_valueOf_1 ?_
    refine g_aload_n (pc := 112) X (j := 0) (i := 0) (q := 0) (x := a0) rfl rfl (dl_at t_X22_valueOf 8 rfl) ?_
    refine r_getr (pc := 113) X fX22_1 hk q3406 (dl_at t_X22_valueOf 9 rfl) ?_
    refine g_sipush (pc := 116) X (n := 1000) rfl (dl_at t_X22_valueOf 10 rfl) ?_
    refine g_ldc (pc := 119) X (index := 223) (n := 200000) q4548 (dl_at t_X22_valueOf 11 rfl) ?_
    refine g_gd fun k121 => ?_
    refine r_callTi (pc := 121) X (fun _ hv => s_X20_needNumber k121 (r32_c rfl) (r32_c rfl) hv) cw_code q4410 q374 (in_Vk X (As := [iv 1000, iv 200000]) kX20 k121 (Or.inl q4496) q4408 q4409 cw_code q4410 ⟨by decide, by decide⟩ rfl (dl_at t_X22_valueOf 12 rfl)) (dl_at t_X22_valueOf 12 rfl) (cat24 (st := []) (Nat.le_of_ble_eq_true rfl)) (Nat.le_of_ble_eq_true rfl) (Nat.le_of_ble_eq_true rfl) (fun v121 h121 g121 E121 => ?_) (fun _ _ ha _ => gt_at fun Q hQ => gt_out (Q := Q) X rfl ha (hno _) _ Q rfl hQ)
    exact g_iret (pc := 124) X g121 rfl rfl (dl_at t_X22_valueOf 13 rfl)
  refine g_case (fun w1_3 => ?_) (fun nw1_3 => ?_)
  · refine g_tabIns (pc := 1) X (off := 124) (tgt := 125) [3, 4, 5, 6, 7] r1 w1_3 rfl rfl dS_X22_valueOf_1 ?_
    refine g_aload_n (pc := 125) X (j := 0) (i := 0) (q := 0) (x := a0) rfl rfl (dl_at t_X22_valueOf 14 rfl) ?_
    refine r_getr (pc := 126) X fX22_1 hk q3406 (dl_at t_X22_valueOf 15 rfl) ?_
    refine g_iconst (pc := 129) X (n := 0) (dl_at t_X22_valueOf 16 rfl) ?_
    refine g_ldc (pc := 130) X (index := 224) (n := 500000) q4549 (dl_at t_X22_valueOf 17 rfl) ?_
    refine g_gd fun k132 => ?_
    refine r_callTi (pc := 132) X (fun _ hv => s_X20_needNumber k132 (r32_c rfl) (r32_c rfl) hv) cw_code q4410 q374 (in_Vk X (As := [iv 0, iv 500000]) kX20 k132 (Or.inl q4496) q4408 q4409 cw_code q4410 ⟨by decide, by decide⟩ rfl (dl_at t_X22_valueOf 18 rfl)) (dl_at t_X22_valueOf 18 rfl) (cat24 (st := []) (Nat.le_of_ble_eq_true rfl)) (Nat.le_of_ble_eq_true rfl) (Nat.le_of_ble_eq_true rfl) (fun v132 h132 g132 E132 => ?_) (fun _ _ ha _ => gt_at fun Q hQ => gt_out (Q := Q) X rfl ha (hno _) _ Q rfl hQ)
    exact g_iret (pc := 135) X g132 rfl rfl (dl_at t_X22_valueOf 19 rfl)
  refine g_case (fun w1_4 => ?_) (fun nw1_4 => ?_)
  · refine g_tabIn (pc := 1) X (off := 135) (tgt := 136) r1 w1_4 (by decide) (by decide) rfl rfl dS_X22_valueOf_1 ?_
    refine g_aload_n (pc := 136) X (j := 0) (i := 0) (q := 0) (x := a0) rfl rfl (dl_at t_X22_valueOf 20 rfl) ?_
    refine g_ldcS (pc := 137) X (index := 225) (id := (-100)) 98 rfl rfl (dl_at t_X22_valueOf 21 rfl) ?_
    refine r_callTi (pc := 139) X (fun _ hv => s_X22_word hk hv) cw_code q4502 q376 (in_Vk X (As := [rv D (-100)]) kX22 hk (Or.inl q4499) q4501 qs246 cw_code q4502 ⟨by decide, by decide⟩ rfl (dl_at t_X22_valueOf 22 rfl)) (dl_at t_X22_valueOf 22 rfl) (cat24 (st := []) (Nat.le_of_ble_eq_true rfl)) (Nat.le_of_ble_eq_true rfl) (Nat.le_of_ble_eq_true rfl) (fun v139 h139 g139 E139 => ?_) (fun _ _ ha _ => gt_at fun Q hQ => gt_out (Q := Q) X rfl ha (hno _) _ Q rfl hQ)
    exact g_iret (pc := 142) X g139 rfl rfl (dl_at t_X22_valueOf 23 rfl)
  refine g_case (fun w1_5 => ?_) (fun nw1_5 => ?_)
  · refine g_tabIns (pc := 1) X (off := 142) (tgt := 143) [9, 13, 14, 20] r1 w1_5 rfl rfl dS_X22_valueOf_1 ?_
    refine g_aload_n (pc := 143) X (j := 0) (i := 0) (q := 0) (x := a0) rfl rfl (dl_at t_X22_valueOf 24 rfl) ?_
    refine g_ldcS (pc := 144) X (index := 227) (id := (-101)) 99 rfl rfl (dl_at t_X22_valueOf 25 rfl) ?_
    refine r_callTi (pc := 146) X (fun _ hv => s_X22_word hk hv) cw_code q4502 q376 (in_Vk X (As := [rv D (-101)]) kX22 hk (Or.inl q4499) q4501 qs246 cw_code q4502 ⟨by decide, by decide⟩ rfl (dl_at t_X22_valueOf 26 rfl)) (dl_at t_X22_valueOf 26 rfl) (cat24 (st := []) (Nat.le_of_ble_eq_true rfl)) (Nat.le_of_ble_eq_true rfl) (Nat.le_of_ble_eq_true rfl) (fun v146 h146 g146 E146 => ?_) (fun _ _ ha _ => gt_at fun Q hQ => gt_out (Q := Q) X rfl ha (hno _) _ Q rfl hQ)
    exact g_iret (pc := 149) X g146 rfl rfl (dl_at t_X22_valueOf 27 rfl)
  refine g_case (fun w1_6 => ?_) (fun nw1_6 => ?_)
  · refine g_tabIn (pc := 1) X (off := 149) (tgt := 150) r1 w1_6 (by decide) (by decide) rfl rfl dS_X22_valueOf_1 ?_
    refine g_aload_n (pc := 150) X (j := 0) (i := 0) (q := 0) (x := a0) rfl rfl (dl_at t_X22_valueOf 28 rfl) ?_
    refine r_getr (pc := 151) X fX22_1 hk q3406 (dl_at t_X22_valueOf 29 rfl) ?_
    refine g_iconst (pc := 154) X (n := 1) (dl_at t_X22_valueOf 30 rfl) ?_
    refine g_sipush (pc := 155) X (n := 10000) rfl (dl_at t_X22_valueOf 31 rfl) ?_
    refine g_gd fun k158 => ?_
    refine r_callTi (pc := 158) X (fun _ hv => s_X20_needNumber k158 (r32_c rfl) (r32_c rfl) hv) cw_code q4410 q374 (in_Vk X (As := [iv 1, iv 10000]) kX20 k158 (Or.inl q4496) q4408 q4409 cw_code q4410 ⟨by decide, by decide⟩ rfl (dl_at t_X22_valueOf 32 rfl)) (dl_at t_X22_valueOf 32 rfl) (cat24 (st := []) (Nat.le_of_ble_eq_true rfl)) (Nat.le_of_ble_eq_true rfl) (Nat.le_of_ble_eq_true rfl) (fun v158 h158 g158 E158 => ?_) (fun _ _ ha _ => gt_at fun Q hQ => gt_out (Q := Q) X rfl ha (hno _) _ Q rfl hQ)
    exact g_iret (pc := 161) X g158 rfl rfl (dl_at t_X22_valueOf 33 rfl)
  refine g_case (fun w1_7 => ?_) (fun nw1_7 => ?_)
  · refine g_tabIns (pc := 1) X (off := 161) (tgt := 162) [11, 12] r1 w1_7 rfl rfl dS_X22_valueOf_1 ?_
    refine g_aload_n (pc := 162) X (j := 0) (i := 0) (q := 0) (x := a0) rfl rfl (dl_at t_X22_valueOf 34 rfl) ?_
    refine r_getr (pc := 163) X fX22_1 hk q3406 (dl_at t_X22_valueOf 35 rfl) ?_
    refine g_iconst (pc := 166) X (n := 1) (dl_at t_X22_valueOf 36 rfl) ?_
    refine g_bipush (pc := 167) X (n := 9) rfl (dl_at t_X22_valueOf 37 rfl) ?_
    refine g_gd fun k169 => ?_
    refine r_callTi (pc := 169) X (fun _ hv => s_X20_needNumber k169 (r32_c rfl) (r32_c rfl) hv) cw_code q4410 q374 (in_Vk X (As := [iv 1, iv 9]) kX20 k169 (Or.inl q4496) q4408 q4409 cw_code q4410 ⟨by decide, by decide⟩ rfl (dl_at t_X22_valueOf 38 rfl)) (dl_at t_X22_valueOf 38 rfl) (cat24 (st := []) (Nat.le_of_ble_eq_true rfl)) (Nat.le_of_ble_eq_true rfl) (Nat.le_of_ble_eq_true rfl) (fun v169 h169 g169 E169 => ?_) (fun _ _ ha _ => gt_at fun Q hQ => gt_out (Q := Q) X rfl ha (hno _) _ Q rfl hQ)
    exact g_iret (pc := 172) X g169 rfl rfl (dl_at t_X22_valueOf 39 rfl)
  refine g_case (fun w1_8 => ?_) (fun nw1_8 => ?_)
  · refine g_tabIns (pc := 1) X (off := 172) (tgt := 173) [15, 16] r1 w1_8 rfl rfl dS_X22_valueOf_1 ?_
    refine g_aload_n (pc := 173) X (j := 0) (i := 0) (q := 0) (x := a0) rfl rfl (dl_at t_X22_valueOf 40 rfl) ?_
    refine r_callTi (pc := 174) X (fun _ hv => s_X22_counter hk hv) cw_code q4555 q376 (in_Vk X (As := []) kX22 hk (Or.inl q4552) q4554 qs255 cw_code q4555 ⟨by decide, by decide⟩ rfl (dl_at t_X22_valueOf 41 rfl)) (dl_at t_X22_valueOf 41 rfl) (cat24 (st := []) (Nat.le_of_ble_eq_true rfl)) (Nat.le_of_ble_eq_true rfl) (Nat.le_of_ble_eq_true rfl) (fun v174 h174 g174 E174 => ?_) (fun _ _ ha _ => gt_at fun Q hQ => gt_out (Q := Q) X rfl ha (hno _) _ Q rfl hQ)
    exact g_iret (pc := 177) X g174 rfl rfl (dl_at t_X22_valueOf 42 rfl)
  refine g_case (fun w1_9 => ?_) (fun nw1_9 => ?_)
  · refine g_tabIn (pc := 1) X (off := 177) (tgt := 178) r1 w1_9 (by decide) (by decide) rfl rfl dS_X22_valueOf_1 ?_
    refine g_aload_n (pc := 178) X (j := 0) (i := 0) (q := 0) (x := a0) rfl rfl (dl_at t_X22_valueOf 43 rfl) ?_
    refine r_getr (pc := 179) X fX22_1 hk q3406 (dl_at t_X22_valueOf 44 rfl) ?_
    refine g_ldcS (pc := 182) X (index := 231) (id := (-102)) 100 rfl rfl (dl_at t_X22_valueOf 45 rfl) ?_
    refine g_gd fun k184 => ?_
    refine r_callRz (pc := 184) X (fun _ hv => s_X20_isName k184 hv) cw_code q4364 q374 (in_Vk X (As := [rv D (-102)]) kX20 k184 (Or.inl q4480) q4362 q4363 cw_code q4364 ⟨by decide, by decide⟩ rfl (dl_at t_X22_valueOf 46 rfl)) (dl_at t_X22_valueOf 46 rfl) (cat24 (st := []) (Nat.le_of_ble_eq_true rfl)) (Nat.le_of_ble_eq_true rfl) (Nat.le_of_ble_eq_true rfl) fun v184 g184 => ?_
    refine g_ifeq (pc := 187) X (r32_z g184) (off := 12) (tgt := 199) rfl (dl_at t_X22_valueOf 47 rfl) (fun _ => ?_) (fun _ => ?_)
    · refine g_aload_n (pc := 199) X (j := 0) (i := 0) (q := 0) (x := a0) rfl rfl (dl_at t_X22_valueOf 53 rfl) ?_
      refine r_getr (pc := 200) X fX22_1 hk q3406 (dl_at t_X22_valueOf 54 rfl) ?_
      refine r_geti (pc := 203) X fX20_3 k184 q3277 (dl_at t_X22_valueOf 55 rfl) fun g203 => ?_
      refine g_iconst (pc := 206) X (n := 3) (dl_at t_X22_valueOf 56 rfl) ?_
      refine g_icmpeq (pc := 207) X g203 (r32_c rfl) (off := 11) (tgt := 218) rfl (dl_at t_X22_valueOf 57 rfl) (fun _ => ?_) (fun _ => ?_)
      · refine g_aload_n (pc := 218) X (j := 0) (i := 0) (q := 0) (x := a0) rfl rfl (dl_at t_X22_valueOf 62 rfl) ?_
        refine r_getr (pc := 219) X fX22_24 hk q3447 (dl_at t_X22_valueOf 63 rfl) ?_
        refine g_aload_n (pc := 222) X (j := 0) (i := 0) (q := 0) (x := a0) rfl rfl (dl_at t_X22_valueOf 64 rfl) ?_
        refine r_geti (pc := 223) X fX22_7 hk q3415 (dl_at t_X22_valueOf 65 rfl) fun g223 => ?_
        refine g_aload_n (pc := 226) X (j := 0) (i := 0) (q := 0) (x := a0) rfl rfl (dl_at t_X22_valueOf 66 rfl) ?_
        refine r_getr (pc := 227) X fX22_1 hk q3406 (dl_at t_X22_valueOf 67 rfl) ?_
        refine r_callRi (pc := 230) X (fun _ hv => s_X20_inner k184 hv) cw_code q4382 q374 (in_Vk X (As := []) kX20 k184 (Or.inl q4521) q4380 q4381 cw_code q4382 ⟨by decide, by decide⟩ rfl (dl_at t_X22_valueOf 68 rfl)) (dl_at t_X22_valueOf 68 rfl) (cat24 (st := [iv (h a0 7), rv D (h a0 24)]) (Nat.le_of_ble_eq_true rfl)) (Nat.le_of_ble_eq_true rfl) (Nat.le_of_ble_eq_true rfl) fun v230 g230 => ?_
        refine g_gd fun k233 => ?_
        refine r_iast (pc := 233) X g223 g230 k233 (dl_at t_X22_valueOf 69 rfl) (fun h233 E233 => ?_)
        refine g_aload_n (pc := 234) X (j := 0) (i := 0) (q := 0) (x := a0) rfl rfl (dl_at t_X22_valueOf 70 rfl) ?_
        have k235 := kx E233 (by decide) hk
        refine r_getr (pc := 235) X fX22_25 k235 q3449 (dl_at t_X22_valueOf 71 rfl) ?_
        refine g_aload_n (pc := 238) X (j := 0) (i := 0) (q := 0) (x := a0) rfl rfl (dl_at t_X22_valueOf 72 rfl) ?_
        refine r_geti (pc := 239) X fX22_7 k235 q3415 (dl_at t_X22_valueOf 73 rfl) fun g239 => ?_
        refine g_aload_n (pc := 242) X (j := 0) (i := 0) (q := 0) (x := a0) rfl rfl (dl_at t_X22_valueOf 74 rfl) ?_
        refine r_getr (pc := 243) X fX22_1 k235 q3406 (dl_at t_X22_valueOf 75 rfl) ?_
        refine g_gd fun k246 => ?_
        refine r_callRi (pc := 246) X (fun _ hv => s_X20_innerEnd k246 hv) cw_code q4378 q374 (in_Vk X (As := []) kX20 k246 (Or.inl q4522) q4376 q4377 cw_code q4378 ⟨by decide, by decide⟩ rfl (dl_at t_X22_valueOf 76 rfl)) (dl_at t_X22_valueOf 76 rfl) (cat24 (st := [iv (h233 a0 7), rv D (h233 a0 25)]) (Nat.le_of_ble_eq_true rfl)) (Nat.le_of_ble_eq_true rfl) (Nat.le_of_ble_eq_true rfl) fun v246 g246 => ?_
        refine g_gd fun k249 => ?_
        refine r_iast (pc := 249) X g239 g246 k249 (dl_at t_X22_valueOf 77 rfl) (fun h249 E249 => ?_)
        refine g_aload_n (pc := 250) X (j := 0) (i := 0) (q := 0) (x := a0) rfl rfl (dl_at t_X22_valueOf 78 rfl) ?_
        have k251 := kx E249 (by decide) k235
        refine r_getr (pc := 251) X fX22_1 k251 q3406 (dl_at t_X22_valueOf 79 rfl) ?_
        refine g_gd fun k254 => ?_
        refine r_callV (pc := 254) X (fun _ hv => s_X20_next k254 hv) cw_code q4342 q374 (in_Vk X (As := []) kX20 k254 (Or.inl q4481) q4340 q4341 cw_code q4342 ⟨by decide, by decide⟩ rfl (dl_at t_X22_valueOf 80 rfl)) (dl_at t_X22_valueOf 80 rfl) (cat24 (st := []) (Nat.le_of_ble_eq_true rfl)) (Nat.le_of_ble_eq_true rfl) (Nat.le_of_ble_eq_true rfl) fun h254 E254 => ?_
        refine g_iconst (pc := 257) X (n := 1) (dl_at t_X22_valueOf 81 rfl) ?_
        exact g_iret (pc := 258) X (r32_c rfl) rfl rfl (dl_at t_X22_valueOf 82 rfl)
      refine g_aload_n (pc := 210) X (j := 0) (i := 0) (q := 0) (x := a0) rfl rfl (dl_at t_X22_valueOf 58 rfl) ?_
      refine r_getr (pc := 211) X fX22_1 hk q3406 (dl_at t_X22_valueOf 59 rfl) ?_
      refine r_callWr (pc := 214) X (fun _ hv => s_X20_broken k184 hv) cw_code q4386 q374 (in_Vk X (As := []) kX20 k184 (Or.inl q4494) q4384 q4385 cw_code q4386 ⟨by decide, by decide⟩ rfl (dl_at t_X22_valueOf 60 rfl)) (dl_at t_X22_valueOf 60 rfl) (cat24 (st := []) (Nat.le_of_ble_eq_true rfl)) (Nat.le_of_ble_eq_true rfl) (Nat.le_of_ble_eq_true rfl) fun v214 h214 E214 => ?_
      refine g_gd fun p217 => ?_
      refine g_athrow (pc := 217) X (Int.ne_of_gt p217) (dl_at t_X22_valueOf 61 rfl) ?_
      exact gt_at fun Q hQ => gt_out (Q := Q) X rfl p217 (hno _) _ Q rfl hQ
    refine g_aload_n (pc := 190) X (j := 0) (i := 0) (q := 0) (x := a0) rfl rfl (dl_at t_X22_valueOf 48 rfl) ?_
    refine r_getr (pc := 191) X fX22_1 hk q3406 (dl_at t_X22_valueOf 49 rfl) ?_
    refine r_callV (pc := 194) X (fun _ hv => s_X20_next k184 hv) cw_code q4342 q374 (in_Vk X (As := []) kX20 k184 (Or.inl q4481) q4340 q4341 cw_code q4342 ⟨by decide, by decide⟩ rfl (dl_at t_X22_valueOf 50 rfl)) (dl_at t_X22_valueOf 50 rfl) (cat24 (st := []) (Nat.le_of_ble_eq_true rfl)) (Nat.le_of_ble_eq_true rfl) (Nat.le_of_ble_eq_true rfl) fun h194 E194 => ?_
    refine g_iconst (pc := 197) X (n := 0) (dl_at t_X22_valueOf 51 rfl) ?_
    exact g_iret (pc := 198) X (r32_c rfl) rfl rfl (dl_at t_X22_valueOf 52 rfl)
  refine g_case (fun w1_10 => ?_) (fun nw1_10 => ?_)
  · refine g_tabIn (pc := 1) X (off := 258) (tgt := 259) r1 w1_10 (by decide) (by decide) rfl rfl dS_X22_valueOf_1 ?_
    refine g_aload_n (pc := 259) X (j := 0) (i := 0) (q := 0) (x := a0) rfl rfl (dl_at t_X22_valueOf 83 rfl) ?_
    refine g_ldcS (pc := 260) X (index := 233) (id := (-103)) 101 rfl rfl (dl_at t_X22_valueOf 84 rfl) ?_
    refine r_callTi (pc := 262) X (fun _ hv => s_X22_word hk hv) cw_code q4502 q376 (in_Vk X (As := [rv D (-103)]) kX22 hk (Or.inl q4499) q4501 qs246 cw_code q4502 ⟨by decide, by decide⟩ rfl (dl_at t_X22_valueOf 85 rfl)) (dl_at t_X22_valueOf 85 rfl) (cat24 (st := []) (Nat.le_of_ble_eq_true rfl)) (Nat.le_of_ble_eq_true rfl) (Nat.le_of_ble_eq_true rfl) (fun v262 h262 g262 E262 => ?_) (fun _ _ ha _ => gt_at fun Q hQ => gt_out (Q := Q) X rfl ha (hno _) _ Q rfl hQ)
    exact g_iret (pc := 265) X g262 rfl rfl (dl_at t_X22_valueOf 86 rfl)
  refine g_case (fun w1_11 => ?_) (fun nw1_11 => ?_)
  · refine g_tabIn (pc := 1) X (off := 265) (tgt := 266) r1 w1_11 (by decide) (by decide) rfl rfl dS_X22_valueOf_1 ?_
    refine g_aload_n (pc := 266) X (j := 0) (i := 0) (q := 0) (x := a0) rfl rfl (dl_at t_X22_valueOf 87 rfl) ?_
    refine r_getr (pc := 267) X fX22_1 hk q3406 (dl_at t_X22_valueOf 88 rfl) ?_
    refine g_iconst (pc := 270) X (n := 0) (dl_at t_X22_valueOf 89 rfl) ?_
    refine g_bipush (pc := 271) X (n := 9) rfl (dl_at t_X22_valueOf 90 rfl) ?_
    refine g_gd fun k273 => ?_
    refine r_callTi (pc := 273) X (fun _ hv => s_X20_needNumber k273 (r32_c rfl) (r32_c rfl) hv) cw_code q4410 q374 (in_Vk X (As := [iv 0, iv 9]) kX20 k273 (Or.inl q4496) q4408 q4409 cw_code q4410 ⟨by decide, by decide⟩ rfl (dl_at t_X22_valueOf 91 rfl)) (dl_at t_X22_valueOf 91 rfl) (cat24 (st := []) (Nat.le_of_ble_eq_true rfl)) (Nat.le_of_ble_eq_true rfl) (Nat.le_of_ble_eq_true rfl) (fun v273 h273 g273 E273 => ?_) (fun _ _ ha _ => gt_at fun Q hQ => gt_out (Q := Q) X rfl ha (hno _) _ Q rfl hQ)
    exact g_iret (pc := 276) X g273 rfl rfl (dl_at t_X22_valueOf 92 rfl)
  have w1_12 : ¬ a1 ∈ ([0, 1, 2, 3, 4, 5, 6, 7, 8, 9, 13, 14, 20, 10, 11, 12, 15, 16, 17, 18, 19] : List Int) := by simp only [List.mem_cons, List.not_mem_nil, or_false, not_or] at *; simp only [*, not_false_eq_true, and_self]
  refine g_tabElse (pc := 1) X (tgt := 277) [0, 1, 2, 3, 4, 5, 6, 7, 8, 9, 13, 14, 20, 10, 11, 12, 15, 16, 17, 18, 19] r1 w1_12 rfl rfl dS_X22_valueOf_1 ?_
  refine g_aload_n (pc := 277) X (j := 0) (i := 0) (q := 0) (x := a0) rfl rfl (dl_at t_X22_valueOf 93 rfl) ?_
  refine r_getr (pc := 278) X fX22_1 hk q3406 (dl_at t_X22_valueOf 94 rfl) ?_
  refine g_iconst (pc := 281) X (n := 0) (dl_at t_X22_valueOf 95 rfl) ?_
  refine g_ldc (pc := 282) X (index := 151) (n := 1000000) q4495 (dl_at t_X22_valueOf 96 rfl) ?_
  refine g_gd fun k284 => ?_
  refine r_callTi (pc := 284) X (fun _ hv => s_X20_needNumber k284 (r32_c rfl) (r32_c rfl) hv) cw_code q4410 q374 (in_Vk X (As := [iv 0, iv 1000000]) kX20 k284 (Or.inl q4496) q4408 q4409 cw_code q4410 ⟨by decide, by decide⟩ rfl (dl_at t_X22_valueOf 97 rfl)) (dl_at t_X22_valueOf 97 rfl) (cat24 (st := []) (Nat.le_of_ble_eq_true rfl)) (Nat.le_of_ble_eq_true rfl) (Nat.le_of_ble_eq_true rfl) (fun v284 h284 g284 E284 => ?_) (fun _ _ ha _ => gt_at fun Q hQ => gt_out (Q := Q) X rfl ha (hno _) _ Q rfl hQ)
  exact g_iret (pc := 287) X g284 rfl rfl (dl_at t_X22_valueOf 98 rfl)
def k_X22_body : List (Nat × Instr × Nat) := [(0, .aload_n 0, 1), (1, .getfield 18, 3), (4, .bipush 123, 2), (6, .invokevirtual 128, 3), (9, .aload_n 0, 1), (10, .getfield 18, 3), (13, .bipush 125, 2), (15, .invokevirtual 132, 3), (18, .ifCond .ne 134, 3), (21, .aload_n 0, 1), (22, .getfield 18, 3), (25, .getfield 111, 3), (28, .iconst 1, 1), (29, .if_icmp .ne 13, 3), (32, .aload_n 0, 1), (33, .getfield 101, 3), (36, .sipush 600, 3), (39, .if_icmp .ne 11, 3), (42, .aload_n 0, 1), (43, .getfield 18, 3), (46, .invokevirtual 147, 3), (49, .athrow, 1), (50, .aload_n 0, 1), (51, .getfield 18, 3), (54, .invokestatic 210, 3), (57, .istore_n 1, 1), (58, .iload_n 1, 1), (59, .ifCond .ge 11, 3), (62, .aload_n 0, 1), (63, .getfield 18, 3), (66, .invokevirtual 147, 3), (69, .athrow, 1), (70, .aload_n 0, 1), (71, .getfield 18, 3), (74, .invokevirtual 119, 3), (77, .aload_n 0, 1), (78, .getfield 18, 3), (81, .bipush 58, 2), (83, .invokevirtual 128, 3), (86, .aload_n 0, 1), (87, .getfield 65, 3), (90, .aload_n 0, 1), (91, .getfield 101, 3), (94, .iload_n 1, 1), (95, .iastore, 1), (96, .aload_n 0, 1), (97, .getfield 71, 3), (100, .aload_n 0, 1), (101, .getfield 101, 3), (104, .iconst 0, 1), (105, .iastore, 1), (106, .aload_n 0, 1), (107, .getfield 74, 3), (110, .aload_n 0, 1), (111, .getfield 101, 3), (114, .iconst 0, 1), (115, .iastore, 1), (116, .aload_n 0, 1), (117, .getfield 68, 3), (120, .aload_n 0, 1), (121, .getfield 101, 3), (124, .aload_n 0, 1), (125, .iload_n 1, 1), (126, .invokevirtual 214, 3), (129, .iastore, 1), (130, .aload_n 0, 1), (131, .getfield 18, 3), (134, .bipush 59, 2), (136, .invokevirtual 128, 3), (139, .aload_n 0, 1), (140, .dup, 1), (141, .getfield 101, 3), (144, .iconst 1, 1), (145, .iadd, 1), (146, .putfield 101, 3), (149, .goto (-140), 3), (152, .aload_n 0, 1), (153, .getfield 18, 3), (156, .invokevirtual 119, 3), (159, .aload_n 0, 1), (160, .dup, 1), (161, .getfield 98, 3), (164, .iconst 1, 1), (165, .iadd, 1), (166, .putfield 98, 3), (169, .aload_n 0, 1), (170, .getfield 62, 3), (173, .aload_n 0, 1), (174, .getfield 98, 3), (177, .aload_n 0, 1), (178, .getfield 101, 3), (181, .iastore, 1), (182, .return_, 1)]
theorem t_X22_body : ∀ q ∈ k_X22_body, decode cX22_body q.1 = .ok q.2 := dl_all (by decide +kernel)
noncomputable def m_X22_body_l9 (a0 : Int) (h_9 : Hp) : Option ((Hp) ⊕ ((Hp) ⊕ (((Int × Int) × Hp)))) :=
  gd (h_9 (h_9 a0 1) (-2) = 336) ((m_X20_isByte (h_9 a0 1) 125 h_9).bind fun v15 =>
  if v15 ≠ 0 then (some (.inr (.inl h_9)))
  else (if (h_9 (h_9 a0 1) 3) ≠ 1 then (bW (m_X20_broken (h_9 a0 1) h_9) fun v46 h46 =>
  gd (0 < v46) (some (.inr (.inr ((1, v46), h46)))))
  else (if (h_9 a0 7) ≠ 600 then ((m_X22_numberOf (h_9 a0 1) h_9).bind fun v54 =>
  if 0 ≤ v54 then ((m_X20_next (h_9 a0 1) h_9).bind fun h74 =>
  gd (h74 (h74 a0 1) (-2) = 336) (bT (m_X20_need (h74 a0 1) 58 h74) (fun _ h83 =>
  gd (h83 (h83 a0 22) (-2) % 16 = 1 ∧ (0 : Int) ≤ (h83 a0 7) ∧ (h83 a0 7) < h83 (h83 a0 22) (-1)) (pt h83 (h83 a0 22) (h83 a0 7) v54 fun h95 =>
  gd (h95 (h95 a0 24) (-2) % 16 = 1 ∧ (0 : Int) ≤ (h95 a0 7) ∧ (h95 a0 7) < h95 (h95 a0 24) (-1)) (pt h95 (h95 a0 24) (h95 a0 7) 0 fun h105 =>
  gd (h105 (h105 a0 25) (-2) % 16 = 1 ∧ (0 : Int) ≤ (h105 a0 7) ∧ (h105 a0 7) < h105 (h105 a0 25) (-1)) (pt h105 (h105 a0 25) (h105 a0 7) 0 fun h115 =>
  bT (m_X22_valueOf a0 v54 h115) (fun v126 h126 =>
  gd (h126 (h115 a0 23) (-2) % 16 = 1 ∧ (0 : Int) ≤ (h115 a0 7) ∧ (h115 a0 7) < h126 (h115 a0 23) (-1)) (pt h126 (h115 a0 23) (h115 a0 7) v126 fun h129 =>
  gd (h129 (h129 a0 1) (-2) = 336) (bT (m_X20_need (h129 a0 1) 59 h129) (fun _ h136 =>
  pt h136 a0 7 (w32 ((h136 a0 7) + 1)) fun h146 =>
  some (.inl h146)) (fun a_ h_ => some (.inr (.inr ((1, a_), h_))))))) (fun a_ h_ => some (.inr (.inr ((1, a_), h_)))))))) (fun a_ h_ => some (.inr (.inr ((1, a_), h_))))))
  else (bW (m_X20_broken (h_9 a0 1) h_9) fun v66 h66 =>
  gd (0 < v66) (some (.inr (.inr ((1, v66), h66))))))
  else (bW (m_X20_broken (h_9 a0 1) h_9) fun v46_1 h46_1 =>
  gd (0 < v46_1) (some (.inr (.inr ((1, v46_1), h46_1))))))))
noncomputable def m_X22_body (a0 : Int) (h : Hp) : Option ((Int × Int) × Hp) :=
  gd (h (h a0 1) (-2) = 336) (bT (m_X20_need (h a0 1) 123 h) (fun _ h6 =>
  (lp (fun (q : Hp) => m_X22_body_l9 a0 q) h6).bind (sE (fun (y152 : Hp) => gd (y152 (y152 a0 1) (-2) = 336) ((m_X20_next (y152 a0 1) y152).bind fun h156 =>
  pt h156 a0 6 (w32 ((h156 a0 6) + 1)) fun h166 =>
  gd (h166 (h166 a0 21) (-2) % 16 = 1 ∧ (0 : Int) ≤ (h166 a0 6) ∧ (h166 a0 6) < h166 (h166 a0 21) (-1)) (pt h166 (h166 a0 21) (h166 a0 6) (h166 a0 7) fun h181 =>
  some ((0, 0), h181)))) (fun (x : (Int × Int) × Hp) => some x))) (fun a_ h_ => some ((1, a_), h_)))
theorem s_X22_body {l : Launch} [NoTr l] {D : SD} {a0 : Int} {h : Hp} (hk : h a0 (-2) = 368) {r : (Int × Int) × Hp} (hm : m_X22_body a0 h = some r) : Sim l D yX22_body (Cond.code yX22_body cX22_body 2 (Option.none : Option Jvm.ClassFile.FieldType)) 12 452 [rv D a0] h 0 r := by
  refine Sim.of (fin := fun (v : (Int × Int) × Hp) => v) (lsE := [(0, rv D a0)]) hm rfl cwS_code (la_r la_n) (ll_r ll_n) ?_
  intro p e s m below meth c X hcw hmm hcc hnm hname
  have hno := noh hcw hnm hmm hcc
  unfold m_X22_body
  refine g_aload_n (pc := 0) X (j := 0) (i := 0) (q := 0) (x := a0) rfl rfl (dl_at t_X22_body 0 rfl) ?_
  refine r_getr (pc := 1) X fX22_1 hk q3406 (dl_at t_X22_body 1 rfl) ?_
  refine g_bipush (pc := 4) X (n := 123) rfl (dl_at t_X22_body 2 rfl) ?_
  refine g_gd fun k6 => ?_
  refine r_callTv (pc := 6) X (fun _ hv => s_X20_need k6 (r32_c rfl) hv) cw_code q4426 q374 (in_Vk X (As := [iv 123]) kX20 k6 (Or.inl q4486) q4424 q4425 cw_code q4426 ⟨by decide, by decide⟩ rfl (dl_at t_X22_body 3 rfl)) (dl_at t_X22_body 3 rfl) (cat24 (st := []) (Nat.le_of_ble_eq_true rfl)) (Nat.le_of_ble_eq_true rfl) (Nat.le_of_ble_eq_true rfl) (fun v6 h6 E6 => ?_) (fun _ _ ha _ => gt_at fun Q hQ => gt_out (Q := Q) X rfl ha (hno _) _ Q rfl hQ)
  refine g_loop1F (fun (q : Hp) => [(0, rv D a0)]) (fun (q : Hp) => q) (fun (q : Hp) => Ext h6 q) 152 (fun (y152 : Hp) => [(0, rv D a0)]) (fun (y152 : Hp) => y152) (fun (y152 : Hp) => Ext h6 y152) h6 (Ext.refl _) ?_ ?_ (fun _ => rfl)
  · rintro h_9 E_9
    try dsimp only
    unfold m_X22_body_l9
    refine g_aload_n (pc := 9) X (j := 0) (i := 0) (q := 0) (x := a0) rfl rfl (dl_at t_X22_body 4 rfl) ?_
    have k10 := kx (E6.trans E_9) (by decide) hk
    refine r_getr (pc := 10) X fX22_1 k10 q3406 (dl_at t_X22_body 5 rfl) ?_
    refine g_bipush (pc := 13) X (n := 125) rfl (dl_at t_X22_body 6 rfl) ?_
    refine g_gd fun k15 => ?_
    refine r_callRz (pc := 15) X (fun _ hv => s_X20_isByte k15 (r32_c rfl) hv) cw_code q4421 q374 (in_Vk X (As := [iv 125]) kX20 k15 (Or.inl q4487) q4419 q4420 cw_code q4421 ⟨by decide, by decide⟩ rfl (dl_at t_X22_body 7 rfl)) (dl_at t_X22_body 7 rfl) (cat24 (st := []) (Nat.le_of_ble_eq_true rfl)) (Nat.le_of_ble_eq_true rfl) (Nat.le_of_ble_eq_true rfl) fun v15 g15 => ?_
    refine g_ifne (pc := 18) X (r32_z g15) (off := 134) (tgt := 152) rfl (dl_at t_X22_body 8 rfl) (fun _ => ?_) (fun _ => ?_)
    · exact g_at fun Q hQ => hQ E_9
    refine g_aload_n (pc := 21) X (j := 0) (i := 0) (q := 0) (x := a0) rfl rfl (dl_at t_X22_body 9 rfl) ?_
    refine r_getr (pc := 22) X fX22_1 k10 q3406 (dl_at t_X22_body 10 rfl) ?_
    refine r_geti (pc := 25) X fX20_3 k15 q3277 (dl_at t_X22_body 11 rfl) fun g25 => ?_
    refine g_iconst (pc := 28) X (n := 1) (dl_at t_X22_body 12 rfl) ?_
    refine g_icmpne (pc := 29) X g25 (r32_c rfl) (off := 13) (tgt := 42) rfl (dl_at t_X22_body 13 rfl) (fun _ => ?_) (fun _ => ?_)
    · refine g_aload_n (pc := 42) X (j := 0) (i := 0) (q := 0) (x := a0) rfl rfl (dl_at t_X22_body 18 rfl) ?_
      refine r_getr (pc := 43) X fX22_1 k10 q3406 (dl_at t_X22_body 19 rfl) ?_
      refine r_callWr (pc := 46) X (fun _ hv => s_X20_broken k15 hv) cw_code q4386 q374 (in_Vk X (As := []) kX20 k15 (Or.inl q4494) q4384 q4385 cw_code q4386 ⟨by decide, by decide⟩ rfl (dl_at t_X22_body 20 rfl)) (dl_at t_X22_body 20 rfl) (cat24 (st := []) (Nat.le_of_ble_eq_true rfl)) (Nat.le_of_ble_eq_true rfl) (Nat.le_of_ble_eq_true rfl) fun v46 h46 E46 => ?_
      refine g_gd fun p49 => ?_
      refine g_athrow (pc := 49) X (Int.ne_of_gt p49) (dl_at t_X22_body 21 rfl) ?_
      exact gt_at fun Q hQ => gt_out (Q := Q) X rfl p49 (hno _) _ Q rfl hQ
    refine g_aload_n (pc := 32) X (j := 0) (i := 0) (q := 0) (x := a0) rfl rfl (dl_at t_X22_body 14 rfl) ?_
    refine r_geti (pc := 33) X fX22_7 k10 q3415 (dl_at t_X22_body 15 rfl) fun g33 => ?_
    refine g_sipush (pc := 36) X (n := 600) rfl (dl_at t_X22_body 16 rfl) ?_
    refine g_icmpne (pc := 39) X g33 (r32_c rfl) (off := 11) (tgt := 50) rfl (dl_at t_X22_body 17 rfl) (fun _ => ?_) (fun _ => ?_)
    · refine g_aload_n (pc := 50) X (j := 0) (i := 0) (q := 0) (x := a0) rfl rfl (dl_at t_X22_body 22 rfl) ?_
      refine r_getr (pc := 51) X fX22_1 k10 q3406 (dl_at t_X22_body 23 rfl) ?_
      refine r_callRi (pc := 54) X (fun _ hv => s_X22_numberOf hv) cw_code q4535 q376 (in_Sc X (As := [rv D (h_9 a0 1)]) (Or.inl q4533) q4534 q376 q4535 ⟨by decide, by decide⟩ rfl (dl_at t_X22_body 24 rfl)) (dl_at t_X22_body 24 rfl) (cat24 (st := []) (Nat.le_of_ble_eq_true rfl)) (Nat.le_of_ble_eq_true rfl) (Nat.le_of_ble_eq_true rfl) fun v54 g54 => ?_
      refine g_istore_nN (pc := 57) X (j := 1) (i := 1) (x := v54) (b := 0) (w := rv D a0) (rest := []) rfl (Nat.le_of_ble_eq_true rfl) [0] rfl (by decide) rv_cat rfl (dl_at t_X22_body 25 rfl) ?_
      refine g_iload_n (pc := 58) X (j := 1) (i := 1) (q := 0) (x := v54) rfl rfl (dl_at t_X22_body 26 rfl) ?_
      refine g_ifge (pc := 59) X g54 (off := 11) (tgt := 70) rfl (dl_at t_X22_body 27 rfl) (fun _ => ?_) (fun _ => ?_)
      · refine g_aload_n (pc := 70) X (j := 0) (i := 0) (q := 1) (x := a0) rfl rfl (dl_at t_X22_body 32 rfl) ?_
        refine r_getr (pc := 71) X fX22_1 k10 q3406 (dl_at t_X22_body 33 rfl) ?_
        refine r_callV (pc := 74) X (fun _ hv => s_X20_next k15 hv) cw_code q4342 q374 (in_Vk X (As := []) kX20 k15 (Or.inl q4481) q4340 q4341 cw_code q4342 ⟨by decide, by decide⟩ rfl (dl_at t_X22_body 34 rfl)) (dl_at t_X22_body 34 rfl) (cat24 (st := []) (Nat.le_of_ble_eq_true rfl)) (Nat.le_of_ble_eq_true rfl) (Nat.le_of_ble_eq_true rfl) fun h74 E74 => ?_
        refine g_aload_n (pc := 77) X (j := 0) (i := 0) (q := 1) (x := a0) rfl rfl (dl_at t_X22_body 35 rfl) ?_
        have k78 := kx E74 (by decide) k10
        refine r_getr (pc := 78) X fX22_1 k78 q3406 (dl_at t_X22_body 36 rfl) ?_
        refine g_bipush (pc := 81) X (n := 58) rfl (dl_at t_X22_body 37 rfl) ?_
        refine g_gd fun k83 => ?_
        refine r_callTv (pc := 83) X (fun _ hv => s_X20_need k83 (r32_c rfl) hv) cw_code q4426 q374 (in_Vk X (As := [iv 58]) kX20 k83 (Or.inl q4486) q4424 q4425 cw_code q4426 ⟨by decide, by decide⟩ rfl (dl_at t_X22_body 38 rfl)) (dl_at t_X22_body 38 rfl) (cat24 (st := []) (Nat.le_of_ble_eq_true rfl)) (Nat.le_of_ble_eq_true rfl) (Nat.le_of_ble_eq_true rfl) (fun v83 h83 E83 => ?_) (fun _ _ ha _ => gt_at fun Q hQ => gt_out (Q := Q) X rfl ha (hno _) _ Q rfl hQ)
        refine g_aload_n (pc := 86) X (j := 0) (i := 0) (q := 1) (x := a0) rfl rfl (dl_at t_X22_body 39 rfl) ?_
        have k87 := kx E83 (by decide) k78
        refine r_getr (pc := 87) X fX22_22 k87 q3443 (dl_at t_X22_body 40 rfl) ?_
        refine g_aload_n (pc := 90) X (j := 0) (i := 0) (q := 1) (x := a0) rfl rfl (dl_at t_X22_body 41 rfl) ?_
        refine r_geti (pc := 91) X fX22_7 k87 q3415 (dl_at t_X22_body 42 rfl) fun g91 => ?_
        refine g_iload_n (pc := 94) X (j := 1) (i := 1) (q := 0) (x := v54) rfl rfl (dl_at t_X22_body 43 rfl) ?_
        refine g_gd fun k95 => ?_
        refine r_iast (pc := 95) X g91 g54 k95 (dl_at t_X22_body 44 rfl) (fun h95 E95 => ?_)
        refine g_aload_n (pc := 96) X (j := 0) (i := 0) (q := 1) (x := a0) rfl rfl (dl_at t_X22_body 45 rfl) ?_
        have k97 := kx E95 (by decide) k87
        refine r_getr (pc := 97) X fX22_24 k97 q3447 (dl_at t_X22_body 46 rfl) ?_
        refine g_aload_n (pc := 100) X (j := 0) (i := 0) (q := 1) (x := a0) rfl rfl (dl_at t_X22_body 47 rfl) ?_
        refine r_geti (pc := 101) X fX22_7 k97 q3415 (dl_at t_X22_body 48 rfl) fun g101 => ?_
        refine g_iconst (pc := 104) X (n := 0) (dl_at t_X22_body 49 rfl) ?_
        refine g_gd fun k105 => ?_
        refine r_iast (pc := 105) X g101 (r32_c rfl) k105 (dl_at t_X22_body 50 rfl) (fun h105 E105 => ?_)
        refine g_aload_n (pc := 106) X (j := 0) (i := 0) (q := 1) (x := a0) rfl rfl (dl_at t_X22_body 51 rfl) ?_
        have k107 := kx E105 (by decide) k97
        refine r_getr (pc := 107) X fX22_25 k107 q3449 (dl_at t_X22_body 52 rfl) ?_
        refine g_aload_n (pc := 110) X (j := 0) (i := 0) (q := 1) (x := a0) rfl rfl (dl_at t_X22_body 53 rfl) ?_
        refine r_geti (pc := 111) X fX22_7 k107 q3415 (dl_at t_X22_body 54 rfl) fun g111 => ?_
        refine g_iconst (pc := 114) X (n := 0) (dl_at t_X22_body 55 rfl) ?_
        refine g_gd fun k115 => ?_
        refine r_iast (pc := 115) X g111 (r32_c rfl) k115 (dl_at t_X22_body 56 rfl) (fun h115 E115 => ?_)
        refine g_aload_n (pc := 116) X (j := 0) (i := 0) (q := 1) (x := a0) rfl rfl (dl_at t_X22_body 57 rfl) ?_
        have k117 := kx E115 (by decide) k107
        refine r_getr (pc := 117) X fX22_23 k117 q3445 (dl_at t_X22_body 58 rfl) ?_
        refine g_aload_n (pc := 120) X (j := 0) (i := 0) (q := 1) (x := a0) rfl rfl (dl_at t_X22_body 59 rfl) ?_
        refine r_geti (pc := 121) X fX22_7 k117 q3415 (dl_at t_X22_body 60 rfl) fun g121 => ?_
        refine g_aload_n (pc := 124) X (j := 0) (i := 0) (q := 1) (x := a0) rfl rfl (dl_at t_X22_body 61 rfl) ?_
        refine g_iload_n (pc := 125) X (j := 1) (i := 1) (q := 0) (x := v54) rfl rfl (dl_at t_X22_body 62 rfl) ?_
        refine r_callTi (pc := 126) X (fun _ hv => s_X22_valueOf k117 g54 hv) cw_code q4540 q376 (in_Vk X (As := [iv v54]) kX22 k117 (Or.inl q4537) q4539 qs253 cw_code q4540 ⟨by decide, by decide⟩ rfl (dl_at t_X22_body 63 rfl)) (dl_at t_X22_body 63 rfl) (cat24 (st := [iv (h115 a0 7), rv D (h115 a0 23)]) (Nat.le_of_ble_eq_true rfl)) (Nat.le_of_ble_eq_true rfl) (Nat.le_of_ble_eq_true rfl) (fun v126 h126 g126 E126 => ?_) (fun _ _ ha _ => gt_at fun Q hQ => gt_out (Q := Q) X rfl ha (hno _) _ Q rfl hQ)
        refine g_gd fun k129 => ?_
        refine r_iast (pc := 129) X g121 g126 k129 (dl_at t_X22_body 64 rfl) (fun h129 E129 => ?_)
        refine g_aload_n (pc := 130) X (j := 0) (i := 0) (q := 1) (x := a0) rfl rfl (dl_at t_X22_body 65 rfl) ?_
        have k131 := kx (E126.trans E129) (by decide) k117
        refine r_getr (pc := 131) X fX22_1 k131 q3406 (dl_at t_X22_body 66 rfl) ?_
        refine g_bipush (pc := 134) X (n := 59) rfl (dl_at t_X22_body 67 rfl) ?_
        refine g_gd fun k136 => ?_
        refine r_callTv (pc := 136) X (fun _ hv => s_X20_need k136 (r32_c rfl) hv) cw_code q4426 q374 (in_Vk X (As := [iv 59]) kX20 k136 (Or.inl q4486) q4424 q4425 cw_code q4426 ⟨by decide, by decide⟩ rfl (dl_at t_X22_body 68 rfl)) (dl_at t_X22_body 68 rfl) (cat24 (st := []) (Nat.le_of_ble_eq_true rfl)) (Nat.le_of_ble_eq_true rfl) (Nat.le_of_ble_eq_true rfl) (fun v136 h136 E136 => ?_) (fun _ _ ha _ => gt_at fun Q hQ => gt_out (Q := Q) X rfl ha (hno _) _ Q rfl hQ)
        refine g_aload_n (pc := 139) X (j := 0) (i := 0) (q := 1) (x := a0) rfl rfl (dl_at t_X22_body 69 rfl) ?_
        refine g_dup (pc := 140) X rv_cat (dl_at t_X22_body 70 rfl) ?_
        have k141 := kx E136 (by decide) k131
        refine r_geti (pc := 141) X fX22_7 k141 q3415 (dl_at t_X22_body 71 rfl) fun g141 => ?_
        refine g_iconst (pc := 144) X (n := 1) (dl_at t_X22_body 72 rfl) ?_
        refine g_iadd (pc := 145) X g141 (r32_c rfl) (dl_at t_X22_body 73 rfl) ?_
        refine r_puti (pc := 146) X fX22_7 k141 q3415 rfl (dl_at t_X22_body 74 rfl) (r32_w _) (fun h146 E146 => ?_)
        refine g_goto (pc := 149) X (off := (-140)) (tgt := 9) rfl (dl_at t_X22_body 75 rfl) ?_
        refine g_ls (ls2 := [(0, rv D a0)]) [1] rfl ?_
        exact g_at fun Q hQ => hQ (E_9.trans (E74.trans (E83.trans (E95.trans (E105.trans (E115.trans (E126.trans (E129.trans (E136.trans E146)))))))))
      refine g_aload_n (pc := 62) X (j := 0) (i := 0) (q := 1) (x := a0) rfl rfl (dl_at t_X22_body 28 rfl) ?_
      refine r_getr (pc := 63) X fX22_1 k10 q3406 (dl_at t_X22_body 29 rfl) ?_
      refine r_callWr (pc := 66) X (fun _ hv => s_X20_broken k15 hv) cw_code q4386 q374 (in_Vk X (As := []) kX20 k15 (Or.inl q4494) q4384 q4385 cw_code q4386 ⟨by decide, by decide⟩ rfl (dl_at t_X22_body 30 rfl)) (dl_at t_X22_body 30 rfl) (cat24 (st := []) (Nat.le_of_ble_eq_true rfl)) (Nat.le_of_ble_eq_true rfl) (Nat.le_of_ble_eq_true rfl) fun v66 h66 E66 => ?_
      refine g_gd fun p69 => ?_
      refine g_athrow (pc := 69) X (Int.ne_of_gt p69) (dl_at t_X22_body 31 rfl) ?_
      exact gt_at fun Q hQ => gt_out (Q := Q) X rfl p69 (hno _) _ Q rfl hQ
    refine g_aload_n (pc := 42) X (j := 0) (i := 0) (q := 0) (x := a0) rfl rfl (dl_at t_X22_body 18 rfl) ?_
    refine r_getr (pc := 43) X fX22_1 k10 q3406 (dl_at t_X22_body 19 rfl) ?_
    refine r_callWr (pc := 46) X (fun _ hv => s_X20_broken k15 hv) cw_code q4386 q374 (in_Vk X (As := []) kX20 k15 (Or.inl q4494) q4384 q4385 cw_code q4386 ⟨by decide, by decide⟩ rfl (dl_at t_X22_body 20 rfl)) (dl_at t_X22_body 20 rfl) (cat24 (st := []) (Nat.le_of_ble_eq_true rfl)) (Nat.le_of_ble_eq_true rfl) (Nat.le_of_ble_eq_true rfl) fun v46_1 h46_1 E46_1 => ?_
    refine g_gd fun p49_1 => ?_
    refine g_athrow (pc := 49) X (Int.ne_of_gt p49_1) (dl_at t_X22_body 21 rfl) ?_
    exact gt_at fun Q hQ => gt_out (Q := Q) X rfl p49_1 (hno _) _ Q rfl hQ
  · rintro h_152 E_152
    try dsimp only [sE]
    refine g_aload_n (pc := 152) X (j := 0) (i := 0) (q := 0) (x := a0) rfl rfl (dl_at t_X22_body 76 rfl) ?_
    have k153 := kx (E6.trans E_152) (by decide) hk
    refine r_getr (pc := 153) X fX22_1 k153 q3406 (dl_at t_X22_body 77 rfl) ?_
    refine g_gd fun k156 => ?_
    refine r_callV (pc := 156) X (fun _ hv => s_X20_next k156 hv) cw_code q4342 q374 (in_Vk X (As := []) kX20 k156 (Or.inl q4481) q4340 q4341 cw_code q4342 ⟨by decide, by decide⟩ rfl (dl_at t_X22_body 78 rfl)) (dl_at t_X22_body 78 rfl) (cat24 (st := []) (Nat.le_of_ble_eq_true rfl)) (Nat.le_of_ble_eq_true rfl) (Nat.le_of_ble_eq_true rfl) fun h156 E156 => ?_
    refine g_aload_n (pc := 159) X (j := 0) (i := 0) (q := 0) (x := a0) rfl rfl (dl_at t_X22_body 79 rfl) ?_
    refine g_dup (pc := 160) X rv_cat (dl_at t_X22_body 80 rfl) ?_
    have k161 := kx E156 (by decide) k153
    refine r_geti (pc := 161) X fX22_6 k161 q3414 (dl_at t_X22_body 81 rfl) fun g161 => ?_
    refine g_iconst (pc := 164) X (n := 1) (dl_at t_X22_body 82 rfl) ?_
    refine g_iadd (pc := 165) X g161 (r32_c rfl) (dl_at t_X22_body 83 rfl) ?_
    refine r_puti (pc := 166) X fX22_6 k161 q3414 rfl (dl_at t_X22_body 84 rfl) (r32_w _) (fun h166 E166 => ?_)
    refine g_aload_n (pc := 169) X (j := 0) (i := 0) (q := 0) (x := a0) rfl rfl (dl_at t_X22_body 85 rfl) ?_
    have k170 := kx E166 (by decide) k161
    refine r_getr (pc := 170) X fX22_21 k170 q3441 (dl_at t_X22_body 86 rfl) ?_
    refine g_aload_n (pc := 173) X (j := 0) (i := 0) (q := 0) (x := a0) rfl rfl (dl_at t_X22_body 87 rfl) ?_
    refine r_geti (pc := 174) X fX22_6 k170 q3414 (dl_at t_X22_body 88 rfl) fun g174 => ?_
    refine g_aload_n (pc := 177) X (j := 0) (i := 0) (q := 0) (x := a0) rfl rfl (dl_at t_X22_body 89 rfl) ?_
    refine r_geti (pc := 178) X fX22_7 k170 q3415 (dl_at t_X22_body 90 rfl) fun g178 => ?_
    refine g_gd fun k181 => ?_
    refine r_iast (pc := 181) X g174 g178 k181 (dl_at t_X22_body 91 rfl) (fun h181 E181 => ?_)
    exact g_vret (pc := 182) X (v := 0) rfl rfl (dl_at t_X22_body 92 rfl)
def k_X22_rule : List (Nat × Instr × Nat) := [(0, .aload_n 0, 1), (1, .getfield 88, 3), (4, .istore_n 1, 1), (5, .aload_n 0, 1), (6, .invokevirtual 179, 3), (9, .aload_n 0, 1), (10, .getfield 18, 3), (13, .bipush 44, 2), (15, .invokevirtual 132, 3), (18, .ifCond .eq 17, 3), (21, .aload_n 0, 1), (22, .getfield 18, 3), (25, .invokevirtual 119, 3), (28, .aload_n 0, 1), (29, .invokevirtual 179, 3), (32, .goto (-23), 3), (35, .iload_n 1, 1), (36, .istore_n 2, 1), (37, .iload_n 2, 1), (38, .aload_n 0, 1), (39, .getfield 88, 3), (42, .if_icmp .ge 19, 3), (45, .aload_n 0, 1), (46, .getfield 29, 3), (49, .iload_n 2, 1), (50, .aload_n 0, 1), (51, .getfield 98, 3), (54, .iastore, 1), (55, .iinc 2 1, 3), (58, .goto (-21), 3), (61, .aload_n 0, 1), (62, .invokevirtual 182, 3), (65, .return_, 1)]
theorem t_X22_rule : ∀ q ∈ k_X22_rule, decode cX22_rule q.1 = .ok q.2 := dl_all (by decide +kernel)
noncomputable def m_X22_rule_l9 (a0 : Int) (h_9 : Hp) : Option ((Hp) ⊕ ((Hp) ⊕ (((Int × Int) × Hp)))) :=
  gd (h_9 (h_9 a0 1) (-2) = 336) ((m_X20_isByte (h_9 a0 1) 44 h_9).bind fun v15 =>
  if v15 = 0 then (some (.inr (.inl h_9)))
  else ((m_X20_next (h_9 a0 1) h_9).bind fun h25 =>
  bT (m_X22_selector a0 h25) (fun _ h29 =>
  some (.inl h29)) (fun a_ h_ => some (.inr (.inr ((1, a_), h_))))))
noncomputable def m_X22_rule_l37 (a0 x2_37 : Int) (h_37 : Hp) : Option ((Int × Hp) ⊕ (((Int × Int) × Hp))) :=
  if (h_37 a0 3) ≤ x2_37 then (bT (m_X22_body a0 h_37) (fun _ h62 =>
  some (.inr ((0, 0), h62))) (fun a_ h_ => some (.inr ((1, a_), h_))))
  else (gd (h_37 (h_37 a0 10) (-2) % 16 = 1 ∧ (0 : Int) ≤ x2_37 ∧ x2_37 < h_37 (h_37 a0 10) (-1)) (pt h_37 (h_37 a0 10) x2_37 (h_37 a0 6) fun h54 =>
  lt_ (w32 (x2_37 + 1)) fun x2_55 =>
  some (.inl (x2_55, h54))))
noncomputable def m_X22_rule (a0 : Int) (h : Hp) : Option ((Int × Int) × Hp) :=
  lt_ (h a0 3) fun x1_4 =>
  bT (m_X22_selector a0 h) (fun _ h6 =>
  (lp (fun (q : Hp) => m_X22_rule_l9 a0 q) h6).bind (sE (fun (y35 : Hp) => (lp (fun (q : Int × Hp) => m_X22_rule_l37 a0 q.1 q.2) (x1_4, y35)).bind (fun (x : (Int × Int) × Hp) => some x)) (fun (x : (Int × Int) × Hp) => some x))) (fun a_ h_ => some ((1, a_), h_))
theorem s_X22_rule {l : Launch} [NoTr l] {D : SD} {a0 : Int} {h : Hp} (hk : h a0 (-2) = 368) {r : (Int × Int) × Hp} (hm : m_X22_rule a0 h = some r) : Sim l D yX22_rule (Cond.code yX22_rule cX22_rule 3 (Option.none : Option Jvm.ClassFile.FieldType)) 14 529 [rv D a0] h 0 r := by
  refine Sim.of (fin := fun (v : (Int × Int) × Hp) => v) (lsE := [(0, rv D a0)]) hm rfl cwS_code (la_r la_n) (ll_r ll_n) ?_
  intro p e s m below meth c X hcw hmm hcc hnm hname
  have hno := noh hcw hnm hmm hcc
  unfold m_X22_rule
  refine g_aload_n (pc := 0) X (j := 0) (i := 0) (q := 0) (x := a0) rfl rfl (dl_at t_X22_rule 0 rfl) ?_
  refine r_geti (pc := 1) X fX22_3 hk q3409 (dl_at t_X22_rule 1 rfl) fun g1 => ?_
  refine g_lti g1 fun x1_4 r1_4 => ?_
  refine g_istore_nN (pc := 4) X (j := 1) (i := 1) (x := x1_4) (b := 0) (w := rv D a0) (rest := []) rfl (Nat.le_of_ble_eq_true rfl) [0] rfl (by decide) rv_cat rfl (dl_at t_X22_rule 2 rfl) ?_
  refine g_aload_n (pc := 5) X (j := 0) (i := 0) (q := 1) (x := a0) rfl rfl (dl_at t_X22_rule 3 rfl) ?_
  refine r_callTv (pc := 6) X (fun _ hv => s_X22_selector hk hv) cw_code q4512 q376 (in_Vk X (As := []) kX22 hk (Or.inl q4509) q4511 qs248 cw_code q4512 ⟨by decide, by decide⟩ rfl (dl_at t_X22_rule 4 rfl)) (dl_at t_X22_rule 4 rfl) (cat24 (st := []) (Nat.le_of_ble_eq_true rfl)) (Nat.le_of_ble_eq_true rfl) (Nat.le_of_ble_eq_true rfl) (fun v6 h6 E6 => ?_) (fun _ _ ha _ => gt_at fun Q hQ => gt_out (Q := Q) X rfl ha (hno _) _ Q rfl hQ)
  refine g_ls (ls2 := [(0, rv D a0), (1, iv x1_4)]) [1, 0] rfl ?_
  refine g_loop1F (fun (q : Hp) => [(0, rv D a0), (1, iv x1_4)]) (fun (q : Hp) => q) (fun (q : Hp) => Ext h6 q) 35 (fun (y35 : Hp) => [(0, rv D a0), (1, iv x1_4)]) (fun (y35 : Hp) => y35) (fun (y35 : Hp) => Ext h6 y35) h6 (Ext.refl _) ?_ ?_ (fun _ => rfl)
  · rintro h_9 E_9
    try dsimp only
    unfold m_X22_rule_l9
    refine g_aload_n (pc := 9) X (j := 0) (i := 0) (q := 0) (x := a0) rfl rfl (dl_at t_X22_rule 5 rfl) ?_
    have k10 := kx (E6.trans E_9) (by decide) hk
    refine r_getr (pc := 10) X fX22_1 k10 q3406 (dl_at t_X22_rule 6 rfl) ?_
    refine g_bipush (pc := 13) X (n := 44) rfl (dl_at t_X22_rule 7 rfl) ?_
    refine g_gd fun k15 => ?_
    refine r_callRz (pc := 15) X (fun _ hv => s_X20_isByte k15 (r32_c rfl) hv) cw_code q4421 q374 (in_Vk X (As := [iv 44]) kX20 k15 (Or.inl q4487) q4419 q4420 cw_code q4421 ⟨by decide, by decide⟩ rfl (dl_at t_X22_rule 8 rfl)) (dl_at t_X22_rule 8 rfl) (cat24 (st := []) (Nat.le_of_ble_eq_true rfl)) (Nat.le_of_ble_eq_true rfl) (Nat.le_of_ble_eq_true rfl) fun v15 g15 => ?_
    refine g_ifeq (pc := 18) X (r32_z g15) (off := 17) (tgt := 35) rfl (dl_at t_X22_rule 9 rfl) (fun _ => ?_) (fun _ => ?_)
    · exact g_at fun Q hQ => hQ E_9
    refine g_aload_n (pc := 21) X (j := 0) (i := 0) (q := 0) (x := a0) rfl rfl (dl_at t_X22_rule 10 rfl) ?_
    refine r_getr (pc := 22) X fX22_1 k10 q3406 (dl_at t_X22_rule 11 rfl) ?_
    refine r_callV (pc := 25) X (fun _ hv => s_X20_next k15 hv) cw_code q4342 q374 (in_Vk X (As := []) kX20 k15 (Or.inl q4481) q4340 q4341 cw_code q4342 ⟨by decide, by decide⟩ rfl (dl_at t_X22_rule 12 rfl)) (dl_at t_X22_rule 12 rfl) (cat24 (st := []) (Nat.le_of_ble_eq_true rfl)) (Nat.le_of_ble_eq_true rfl) (Nat.le_of_ble_eq_true rfl) fun h25 E25 => ?_
    refine g_aload_n (pc := 28) X (j := 0) (i := 0) (q := 0) (x := a0) rfl rfl (dl_at t_X22_rule 13 rfl) ?_
    have k29 := kx E25 (by decide) k10
    refine r_callTv (pc := 29) X (fun _ hv => s_X22_selector k29 hv) cw_code q4512 q376 (in_Vk X (As := []) kX22 k29 (Or.inl q4509) q4511 qs248 cw_code q4512 ⟨by decide, by decide⟩ rfl (dl_at t_X22_rule 14 rfl)) (dl_at t_X22_rule 14 rfl) (cat24 (st := []) (Nat.le_of_ble_eq_true rfl)) (Nat.le_of_ble_eq_true rfl) (Nat.le_of_ble_eq_true rfl) (fun v29 h29 E29 => ?_) (fun _ _ ha _ => gt_at fun Q hQ => gt_out (Q := Q) X rfl ha (hno _) _ Q rfl hQ)
    refine g_goto (pc := 32) X (off := (-23)) (tgt := 9) rfl (dl_at t_X22_rule 15 rfl) ?_
    exact g_at fun Q hQ => hQ (E_9.trans (E25.trans E29))
  · rintro h_35 E_35
    try dsimp only [sE]
    refine g_iload_n (pc := 35) X (j := 1) (i := 1) (q := 1) (x := x1_4) rfl rfl (dl_at t_X22_rule 16 rfl) ?_
    refine g_istore_n (pc := 36) X (j := 2) (i := 2) (x := x1_4) (rest := [(0, rv D a0)]) rfl (Nat.le_of_ble_eq_true rfl) [0] rfl rfl (dl_at t_X22_rule 17 rfl) ?_
    refine g_ls (ls2 := [(0, rv D a0), (2, iv x1_4)]) [1, 0] rfl ?_
    refine g_loop0F (fun (q : Int × Hp) => [(0, rv D a0), (2, iv q.1)]) (fun (q : Int × Hp) => q.2) (fun (q : Int × Hp) => r32 q.1 ∧ Ext h_35 q.2) (x1_4, h_35) ⟨r1_4, (Ext.refl _)⟩ ?_ (fun _ => rfl)
    · rintro ⟨x2_37, h_37⟩ ⟨r2_37, E_37⟩
      try dsimp only
      unfold m_X22_rule_l37
      refine g_iload_n (pc := 37) X (j := 2) (i := 2) (q := 1) (x := x2_37) rfl rfl (dl_at t_X22_rule 18 rfl) ?_
      refine g_aload_n (pc := 38) X (j := 0) (i := 0) (q := 0) (x := a0) rfl rfl (dl_at t_X22_rule 19 rfl) ?_
      have k39 := kx (E6.trans (E_35.trans E_37)) (by decide) hk
      refine r_geti (pc := 39) X fX22_3 k39 q3409 (dl_at t_X22_rule 20 rfl) fun g39 => ?_
      refine g_icmpge (pc := 42) X r2_37 g39 (off := 19) (tgt := 61) rfl (dl_at t_X22_rule 21 rfl) (fun _ => ?_) (fun _ => ?_)
      · refine g_aload_n (pc := 61) X (j := 0) (i := 0) (q := 0) (x := a0) rfl rfl (dl_at t_X22_rule 30 rfl) ?_
        refine r_callTv (pc := 62) X (fun _ hv => s_X22_body k39 hv) cw_code q4532 q376 (in_Vk X (As := []) kX22 k39 (Or.inl q4529) q4531 qs252 cw_code q4532 ⟨by decide, by decide⟩ rfl (dl_at t_X22_rule 31 rfl)) (dl_at t_X22_rule 31 rfl) (cat24 (st := []) (Nat.le_of_ble_eq_true rfl)) (Nat.le_of_ble_eq_true rfl) (Nat.le_of_ble_eq_true rfl) (fun v62 h62 E62 => ?_) (fun _ _ ha _ => gt_at fun Q hQ => gt_out (Q := Q) X rfl ha (hno _) _ Q rfl hQ)
        exact g_at fun Q hQ => (g_vret (pc := 65) X (v := 0) rfl rfl (dl_at t_X22_rule 32 rfl)) _ Q rfl hQ
      refine g_aload_n (pc := 45) X (j := 0) (i := 0) (q := 0) (x := a0) rfl rfl (dl_at t_X22_rule 22 rfl) ?_
      refine r_getr (pc := 46) X fX22_10 k39 q3419 (dl_at t_X22_rule 23 rfl) ?_
      refine g_iload_n (pc := 49) X (j := 2) (i := 2) (q := 1) (x := x2_37) rfl rfl (dl_at t_X22_rule 24 rfl) ?_
      refine g_aload_n (pc := 50) X (j := 0) (i := 0) (q := 0) (x := a0) rfl rfl (dl_at t_X22_rule 25 rfl) ?_
      refine r_geti (pc := 51) X fX22_6 k39 q3414 (dl_at t_X22_rule 26 rfl) fun g51 => ?_
      refine g_gd fun k54 => ?_
      refine r_iast (pc := 54) X r2_37 g51 k54 (dl_at t_X22_rule 27 rfl) (fun h54 E54 => ?_)
      refine r_iinc (pc := 55) X (i := 2) (q := 1) (n := 1) (x := x2_37) (rest := [(0, rv D a0)]) rfl r2_37 (r32_c rfl) (Nat.le_of_ble_eq_true rfl) [0] rfl rfl (dl_at t_X22_rule 28 rfl) fun x2_55 r2_55 => ?_
      refine g_goto (pc := 58) X (off := (-21)) (tgt := 37) rfl (dl_at t_X22_rule 29 rfl) ?_
      refine g_ls (ls2 := [(0, rv D a0), (2, iv x2_55)]) [1, 0] rfl ?_
      exact g_at fun Q hQ => hQ ⟨r2_55, (E_37.trans E54)⟩
def k_X22_read : List (Nat × Instr × Nat) := [(0, .iconst 0, 1), (1, .istore_n 3, 1), (2, .iload_n 3, 1), (3, .iload_n 2, 1), (4, .if_icmp .ge 18, 3), (7, .aload_n 0, 1), (8, .getfield 9, 3), (11, .iload_n 3, 1), (12, .aload_n 1, 1), (13, .iload_n 3, 1), (14, .baload, 1), (15, .bastore, 1), (16, .iinc 3 1, 3), (19, .goto (-17), 3), (22, .aload_n 0, 1), (23, .invokevirtual 83, 3), (26, .aload_n 0, 1), (27, .getfield 18, 3), (30, .aload_n 0, 1), (31, .getfield 9, 3), (34, .iload_n 2, 1), (35, .invokevirtual 107, 3), (38, .aload_n 0, 1), (39, .getfield 18, 3), (42, .getfield 111, 3), (45, .iconst 5, 1), (46, .if_icmp .eq 36, 3), (49, .aload_n 0, 1), (50, .getfield 18, 3), (53, .ldc 114, 2), (55, .invokevirtual 115, 3), (58, .ifCond .eq 17, 3), (61, .aload_n 0, 1), (62, .getfield 18, 3), (65, .invokevirtual 119, 3), (68, .aload_n 0, 1), (69, .invokevirtual 122, 3), (72, .goto (-34), 3), (75, .aload_n 0, 1), (76, .invokevirtual 125, 3), (79, .goto (-41), 3), (82, .return_, 1)]
theorem t_X22_read : ∀ q ∈ k_X22_read, decode cX22_read q.1 = .ok q.2 := dl_all (by decide +kernel)
noncomputable def m_X22_read_l2 (a0 a1 a2 x3_2 : Int) (h_2 : Hp) : Option ((Int × Hp) ⊕ ((Hp))) :=
  if a2 ≤ x3_2 then (some (.inr h_2))
  else (gd (h_2 a1 (-2) % 16 = 2 ∧ (0 : Int) ≤ x3_2 ∧ x3_2 < h_2 a1 (-1)) (gd (h_2 (h_2 a0 0) (-2) % 16 = 2 ∧ (0 : Int) ≤ x3_2 ∧ x3_2 < h_2 (h_2 a0 0) (-1)) (pt h_2 (h_2 a0 0) x3_2 (h_2 a1 x3_2) fun h15 =>
  lt_ (w32 (x3_2 + 1)) fun x3_16 =>
  some (.inl (x3_16, h15)))))
noncomputable def m_X22_read_l38 (a0 : Int) (h_38 : Hp) : Option ((Hp) ⊕ (((Int × Int) × Hp))) :=
  gd (h_38 (h_38 a0 1) (-2) = 336) (if (h_38 (h_38 a0 1) 3) = 5 then (some (.inr ((0, 0), h_38)))
  else ((m_X20_isName (h_38 a0 1) (-89) h_38).bind fun v55 =>
  if v55 = 0 then (bT (m_X22_rule a0 h_38) (fun _ h76 =>
  some (.inl h76)) (fun a_ h_ => some (.inr ((1, a_), h_))))
  else ((m_X20_next (h_38 a0 1) h_38).bind fun h65 =>
  bT (m_X22_pageBody a0 h65) (fun _ h69 =>
  some (.inl h69)) (fun a_ h_ => some (.inr ((1, a_), h_))))))
noncomputable def m_X22_read (a0 a1 a2 : Int) (h : Hp) : Option ((Int × Int) × Hp) :=
  lt_ 0 fun x3_1 =>
  (lp (fun (q : Int × Hp) => m_X22_read_l2 a0 a1 a2 q.1 q.2) (x3_1, h)).bind (fun (y22 : Hp) => (m_X22_clear a0 y22).bind fun h23 =>
  gd (h23 (h23 a0 1) (-2) = 336) ((m_X20_open (h23 a0 1) (h23 a0 0) a2 h23).bind fun h35 =>
  (lp (fun (q : Hp) => m_X22_read_l38 a0 q) h35).bind (fun (x : (Int × Int) × Hp) => some x)))
theorem s_X22_read {l : Launch} [NoTr l] {D : SD} {a0 a1 a2 : Int} {h : Hp} (hk : h a0 (-2) = 368) (r2 : r32 a2) {r : (Int × Int) × Hp} (hm : m_X22_read a0 a1 a2 h = some r) : Sim l D yX22_read (Cond.code yX22_read cX22_read 4 (Option.none : Option Jvm.ClassFile.FieldType)) 15 567 [rv D a0, rv D a1, iv a2] h 0 r := by
  refine Sim.of (fin := fun (v : (Int × Int) × Hp) => v) (lsE := [(0, rv D a0), (1, rv D a1), (2, iv a2)]) hm rfl cwS_code (la_r (la_r (la_i la_n))) (ll_r (ll_r (ll_i ll_n))) ?_
  intro p e s m below meth c X hcw hmm hcc hnm hname
  have hno := noh hcw hnm hmm hcc
  unfold m_X22_read
  refine g_iconst (pc := 0) X (n := 0) (dl_at t_X22_read 0 rfl) ?_
  refine g_ltz (Or.inl rfl) fun x3_1 r3_1 => ?_
  refine g_istore_nN (pc := 1) X (j := 3) (i := 3) (x := x3_1) (b := 2) (w := iv a2) (rest := [(0, rv D a0), (1, rv D a1)]) rfl (Nat.le_of_ble_eq_true rfl) [2, 0, 1] rfl (by decide) rfl rfl (dl_at t_X22_read 1 rfl) ?_
  refine g_ls (ls2 := [(0, rv D a0), (1, rv D a1), (2, iv a2), (3, iv x3_1)]) [2, 3, 1, 0] rfl ?_
  refine g_loop1 (fun (q : Int × Hp) => [(0, rv D a0), (1, rv D a1), (2, iv a2), (3, iv q.1)]) (fun (q : Int × Hp) => q.2) (fun (q : Int × Hp) => r32 q.1 ∧ Ext h q.2) 22 (fun (y22 : Hp) => [(0, rv D a0), (2, iv a2)]) (fun (y22 : Hp) => y22) (fun (y22 : Hp) => Ext h y22) (x3_1, h) ⟨(r32_z r3_1), (Ext.refl _)⟩ ?_ ?_
  · rintro ⟨x3_2, h_2⟩ ⟨r3_2, E_2⟩
    try dsimp only
    unfold m_X22_read_l2
    refine g_iload_n (pc := 2) X (j := 3) (i := 3) (q := 3) (x := x3_2) rfl rfl (dl_at t_X22_read 2 rfl) ?_
    refine g_iload_n (pc := 3) X (j := 2) (i := 2) (q := 2) (x := a2) rfl rfl (dl_at t_X22_read 3 rfl) ?_
    refine g_icmpge (pc := 4) X r3_2 r2 (off := 18) (tgt := 22) rfl (dl_at t_X22_read 4 rfl) (fun _ => ?_) (fun _ => ?_)
    · refine g_ls (ls2 := [(0, rv D a0), (2, iv a2)]) [0, 2] rfl ?_
      exact g_at fun Q hQ => hQ E_2
    refine g_aload_n (pc := 7) X (j := 0) (i := 0) (q := 0) (x := a0) rfl rfl (dl_at t_X22_read 5 rfl) ?_
    have k8 := kx E_2 (by decide) hk
    refine r_getr (pc := 8) X fX22_0 k8 q3404 (dl_at t_X22_read 6 rfl) ?_
    refine g_iload_n (pc := 11) X (j := 3) (i := 3) (q := 3) (x := x3_2) rfl rfl (dl_at t_X22_read 7 rfl) ?_
    refine g_aload_n (pc := 12) X (j := 1) (i := 1) (q := 1) (x := a1) rfl rfl (dl_at t_X22_read 8 rfl) ?_
    refine g_iload_n (pc := 13) X (j := 3) (i := 3) (q := 3) (x := x3_2) rfl rfl (dl_at t_X22_read 9 rfl) ?_
    refine g_gd fun k14 => ?_
    refine g_bald (pc := 14) X r3_2 k14 (dl_at t_X22_read 10 rfl) fun g14 => ?_
    refine g_gd fun k15 => ?_
    refine r_bastB (pc := 15) X r3_2 g14 k15 (dl_at t_X22_read 11 rfl) (fun h15 E15 => ?_)
    refine r_iincN (pc := 16) X (i := 3) (q := 3) (n := 1) (x := x3_2) (b := 2) (w := iv a2) (rest := [(0, rv D a0), (1, rv D a1)]) rfl r3_2 (r32_c rfl) (Nat.le_of_ble_eq_true rfl) [2, 0, 1] rfl (by decide) rfl rfl (dl_at t_X22_read 12 rfl) fun x3_16 r3_16 => ?_
    refine g_goto (pc := 19) X (off := (-17)) (tgt := 2) rfl (dl_at t_X22_read 13 rfl) ?_
    refine g_ls (ls2 := [(0, rv D a0), (1, rv D a1), (2, iv a2), (3, iv x3_16)]) [2, 3, 1, 0] rfl ?_
    exact g_at fun Q hQ => hQ ⟨r3_16, (E_2.trans E15)⟩
  · rintro h_22 E_22
    try dsimp only [sE]
    refine g_aload_n (pc := 22) X (j := 0) (i := 0) (q := 0) (x := a0) rfl rfl (dl_at t_X22_read 14 rfl) ?_
    have k23 := kx E_22 (by decide) hk
    refine r_callV (pc := 23) X (fun _ hv => s_X22_clear k23 hv) cw_code q3401 q376 (in_Vk X (As := []) kX22 k23 (Or.inl q3398) q3399 q3400 cw_code q3401 ⟨by decide, by decide⟩ rfl (dl_at t_X22_read 15 rfl)) (dl_at t_X22_read 15 rfl) (cat24 (st := []) (Nat.le_of_ble_eq_true rfl)) (Nat.le_of_ble_eq_true rfl) (Nat.le_of_ble_eq_true rfl) fun h23 E23 => ?_
    refine g_aload_n (pc := 26) X (j := 0) (i := 0) (q := 0) (x := a0) rfl rfl (dl_at t_X22_read 16 rfl) ?_
    have k27 := kx E23 (by decide) k23
    refine r_getr (pc := 27) X fX22_1 k27 q3406 (dl_at t_X22_read 17 rfl) ?_
    refine g_aload_n (pc := 30) X (j := 0) (i := 0) (q := 0) (x := a0) rfl rfl (dl_at t_X22_read 18 rfl) ?_
    refine r_getr (pc := 31) X fX22_0 k27 q3404 (dl_at t_X22_read 19 rfl) ?_
    refine g_iload_n (pc := 34) X (j := 2) (i := 2) (q := 1) (x := a2) rfl rfl (dl_at t_X22_read 20 rfl) ?_
    refine g_gd fun k35 => ?_
    refine r_callV (pc := 35) X (fun _ hv => s_X20_open k35 r2 hv) cw_code q4338 q374 (in_Vk X (As := [rv D (h23 a0 0), iv a2]) kX20 k35 (Or.inl q4478) q4336 q4337 cw_code q4338 ⟨by decide, by decide⟩ rfl (dl_at t_X22_read 21 rfl)) (dl_at t_X22_read 21 rfl) (cat24 (st := []) (Nat.le_of_ble_eq_true rfl)) (Nat.le_of_ble_eq_true rfl) (Nat.le_of_ble_eq_true rfl) fun h35 E35 => ?_
    refine g_ls (ls2 := [(0, rv D a0)]) [0] rfl ?_
    refine g_loop0F (fun (q : Hp) => [(0, rv D a0)]) (fun (q : Hp) => q) (fun (q : Hp) => Ext h35 q) h35 (Ext.refl _) ?_ (fun _ => rfl)
    · rintro h_38 E_38
      try dsimp only
      unfold m_X22_read_l38
      refine g_aload_n (pc := 38) X (j := 0) (i := 0) (q := 0) (x := a0) rfl rfl (dl_at t_X22_read 22 rfl) ?_
      have k39 := kx (E35.trans E_38) (by decide) k27
      refine r_getr (pc := 39) X fX22_1 k39 q3406 (dl_at t_X22_read 23 rfl) ?_
      refine g_gd fun k42 => ?_
      refine r_geti (pc := 42) X fX20_3 k42 q3277 (dl_at t_X22_read 24 rfl) fun g42 => ?_
      refine g_iconst (pc := 45) X (n := 5) (dl_at t_X22_read 25 rfl) ?_
      refine g_icmpeq (pc := 46) X g42 (r32_c rfl) (off := 36) (tgt := 82) rfl (dl_at t_X22_read 26 rfl) (fun _ => ?_) (fun _ => ?_)
      · exact g_at fun Q hQ => (g_vret (pc := 82) X (v := 0) rfl rfl (dl_at t_X22_read 41 rfl)) _ Q rfl hQ
      refine g_aload_n (pc := 49) X (j := 0) (i := 0) (q := 0) (x := a0) rfl rfl (dl_at t_X22_read 27 rfl) ?_
      refine r_getr (pc := 50) X fX22_1 k39 q3406 (dl_at t_X22_read 28 rfl) ?_
      refine g_ldcS (pc := 53) X (index := 114) (id := (-89)) 87 rfl rfl (dl_at t_X22_read 29 rfl) ?_
      refine r_callRz (pc := 55) X (fun _ hv => s_X20_isName k42 hv) cw_code q4364 q374 (in_Vk X (As := [rv D (-89)]) kX20 k42 (Or.inl q4480) q4362 q4363 cw_code q4364 ⟨by decide, by decide⟩ rfl (dl_at t_X22_read 30 rfl)) (dl_at t_X22_read 30 rfl) (cat24 (st := []) (Nat.le_of_ble_eq_true rfl)) (Nat.le_of_ble_eq_true rfl) (Nat.le_of_ble_eq_true rfl) fun v55 g55 => ?_
      refine g_ifeq (pc := 58) X (r32_z g55) (off := 17) (tgt := 75) rfl (dl_at t_X22_read 31 rfl) (fun _ => ?_) (fun _ => ?_)
      · refine g_aload_n (pc := 75) X (j := 0) (i := 0) (q := 0) (x := a0) rfl rfl (dl_at t_X22_read 38 rfl) ?_
        refine r_callTv (pc := 76) X (fun _ hv => s_X22_rule k39 hv) cw_code q4508 q376 (in_Vk X (As := []) kX22 k39 (Or.inl q4505) q4507 qs247 cw_code q4508 ⟨by decide, by decide⟩ rfl (dl_at t_X22_read 39 rfl)) (dl_at t_X22_read 39 rfl) (cat24 (st := []) (Nat.le_of_ble_eq_true rfl)) (Nat.le_of_ble_eq_true rfl) (Nat.le_of_ble_eq_true rfl) (fun v76 h76 E76 => ?_) (fun _ _ ha _ => gt_at fun Q hQ => gt_out (Q := Q) X rfl ha (hno _) _ Q rfl hQ)
        refine g_goto (pc := 79) X (off := (-41)) (tgt := 38) rfl (dl_at t_X22_read 40 rfl) ?_
        exact g_at fun Q hQ => hQ (E_38.trans E76)
      refine g_aload_n (pc := 61) X (j := 0) (i := 0) (q := 0) (x := a0) rfl rfl (dl_at t_X22_read 32 rfl) ?_
      refine r_getr (pc := 62) X fX22_1 k39 q3406 (dl_at t_X22_read 33 rfl) ?_
      refine r_callV (pc := 65) X (fun _ hv => s_X20_next k42 hv) cw_code q4342 q374 (in_Vk X (As := []) kX20 k42 (Or.inl q4481) q4340 q4341 cw_code q4342 ⟨by decide, by decide⟩ rfl (dl_at t_X22_read 34 rfl)) (dl_at t_X22_read 34 rfl) (cat24 (st := []) (Nat.le_of_ble_eq_true rfl)) (Nat.le_of_ble_eq_true rfl) (Nat.le_of_ble_eq_true rfl) fun h65 E65 => ?_
      refine g_aload_n (pc := 68) X (j := 0) (i := 0) (q := 0) (x := a0) rfl rfl (dl_at t_X22_read 35 rfl) ?_
      have k69 := kx E65 (by decide) k39
      refine r_callTv (pc := 69) X (fun _ hv => s_X22_pageBody k69 hv) cw_code q4485 q376 (in_Vk X (As := []) kX22 k69 (Or.inl q4482) q4484 qs245 cw_code q4485 ⟨by decide, by decide⟩ rfl (dl_at t_X22_read 36 rfl)) (dl_at t_X22_read 36 rfl) (cat24 (st := []) (Nat.le_of_ble_eq_true rfl)) (Nat.le_of_ble_eq_true rfl) (Nat.le_of_ble_eq_true rfl) (fun v69 h69 E69 => ?_) (fun _ _ ha _ => gt_at fun Q hQ => gt_out (Q := Q) X rfl ha (hno _) _ Q rfl hQ)
      refine g_goto (pc := 72) X (off := (-34)) (tgt := 38) rfl (dl_at t_X22_read 37 rfl) ?_
      exact g_at fun Q hQ => hQ (E_38.trans (E65.trans E69))
def k_X18_style : List (Nat × Instr × Nat) := [(0, .aload_n 0, 1), (1, .getfield 44, 3), (4, .aload_n 0, 1), (5, .getfield 13, 3), (8, .aload_n 0, 1), (9, .getfield 104, 3), (12, .invokevirtual 139, 3), (15, .goto 14, 3), (18, .astore_n 1, 1), (19, .aload_n 0, 1), (20, .aload_n 1, 1), (21, .getfield 124, 3), (24, .iconst 1, 1), (25, .invokevirtual 125, 3), (28, .ireturn, 1), (29, .aload_n 0, 1), (30, .iconst 0, 1), (31, .putfield 87, 3), (34, .aload_n 0, 1), (35, .iconst (-1), 1), (36, .invokevirtual 115, 3), (39, .aload_n 0, 1), (40, .getfield 40, 3), (43, .astore_n 1, 1), (44, .aload_n 0, 1), (45, .aload_n 0, 1), (46, .getfield 44, 3), (49, .putfield 40, 3), (52, .aload_n 0, 1), (53, .aload_n 1, 1), (54, .putfield 44, 3), (57, .aload_n 0, 1), (58, .iconst 0, 1), (59, .putfield 140, 3), (62, .aload_n 0, 1), (63, .getfield 40, 3), (66, .getfield 144, 3), (69, .ireturn, 1)]
theorem t_X18_style : ∀ q ∈ k_X18_style, decode cX18_style q.1 = .ok q.2 := dl_all (by decide +kernel)
noncomputable def m_X18_style (a0 : Int) (h : Hp) : Option (Int × Hp) :=
  gd (h (h a0 9) (-2) = 368) (bT (m_X22_read (h a0 9) (h a0 2) (h a0 3) h) (fun _ h12_1 =>
  pt h12_1 a0 0 0 fun h31 =>
  (m_X18_wasRead a0 (-1) h31).bind fun h36 =>
  lt_ (h36 a0 8) fun x1_43 =>
  pt h36 a0 8 (h36 a0 9) fun h49 =>
  pt h49 a0 9 x1_43 fun h54 =>
  pt h54 a0 14 0 fun h59 =>
  gd (h59 (h59 a0 8) (-2) = 368) (some ((h59 (h59 a0 8) 3), h59))) (fun a12 h12 => if h12 a12 (-2) = 448 then (bW (m_X18_broken a0 (h12 a12 0) 1 h12) fun v25 h25 =>
  some (v25, h25))
  else (none)))
theorem s_X18_style {l : Launch} [NoTr l] {D : SD} {a0 : Int} {h : Hp} (hk : h a0 (-2) = 304) {r : Int × Hp} (hm : m_X18_style a0 h = some r) : Sim l D yX18_style (Cond.codeWith yX18_style cX18_style 2 (Option.some Jvm.ClassFile.FieldType.int) [((0 : Nat), (15 : Nat), (18 : Nat), (122 : Nat))]) 16 606 [rv D a0] h 1 ((0, r.1), r.2) := by
  refine Sim.of (fin := fun (v : Int × Hp) => ((0, v.1), v.2)) (lsE := [(0, rv D a0)]) hm rfl cwS_with (la_r la_n) (ll_r ll_n) ?_
  intro p e s m below meth c X hcw hmm hcc hnm hname
  have htb := tabW hcw hnm hmm hcc
  unfold m_X18_style
  refine g_aload_n (pc := 0) X (j := 0) (i := 0) (q := 0) (x := a0) rfl rfl (dl_at t_X18_style 0 rfl) ?_
  refine r_getr (pc := 1) X fX18_9 hk q4245 (dl_at t_X18_style 1 rfl) ?_
  refine g_aload_n (pc := 4) X (j := 0) (i := 0) (q := 0) (x := a0) rfl rfl (dl_at t_X18_style 2 rfl) ?_
  refine r_getr (pc := 5) X fX18_2 hk q4238 (dl_at t_X18_style 3 rfl) ?_
  refine g_aload_n (pc := 8) X (j := 0) (i := 0) (q := 0) (x := a0) rfl rfl (dl_at t_X18_style 4 rfl) ?_
  refine r_geti (pc := 9) X fX18_3 hk q4239 (dl_at t_X18_style 5 rfl) fun g9 => ?_
  refine g_gd fun k12 => ?_
  refine r_callTv (pc := 12) X (fun _ hv => s_X22_read k12 g9 hv) cw_code q4477 q376 (in_Vk X (As := [rv D (h a0 2), iv (h a0 3)]) kX22 k12 (Or.inl q4474) q4475 q4476 cw_code q4477 ⟨by decide, by decide⟩ rfl (dl_at t_X18_style 6 rfl)) (dl_at t_X18_style 6 rfl) (cat24 (st := []) (Nat.le_of_ble_eq_true rfl)) (Nat.le_of_ble_eq_true rfl) (Nat.le_of_ble_eq_true rfl) (fun v12 h12_1 E12_1 => ?_) (fun a12 h12 p12 E12 => ?_)
  · refine g_goto (pc := 15) X (off := 14) (tgt := 29) rfl (dl_at t_X18_style 7 rfl) ?_
    refine g_aload_n (pc := 29) X (j := 0) (i := 0) (q := 0) (x := a0) rfl rfl (dl_at t_X18_style 15 rfl) ?_
    refine g_iconst (pc := 30) X (n := 0) (dl_at t_X18_style 16 rfl) ?_
    have k31 := kx E12_1 (by decide) hk
    refine r_puti (pc := 31) X fX18_0 k31 q4236 rfl (dl_at t_X18_style 17 rfl) (r32_c rfl) (fun h31 E31 => ?_)
    refine g_aload_n (pc := 34) X (j := 0) (i := 0) (q := 0) (x := a0) rfl rfl (dl_at t_X18_style 18 rfl) ?_
    refine g_iconst (pc := 35) X (n := (-1)) (dl_at t_X18_style 19 rfl) ?_
    have k36 := kx E31 (by decide) k31
    refine r_callV (pc := 36) X (fun _ hv => s_X18_wasRead k36 (r32_c rfl) hv) cw_code q4435 q372 (in_Vk X (As := [iv (-1)]) kX18 k36 (Or.inl q4432) q4434 qs242 cw_code q4435 ⟨by decide, by decide⟩ rfl (dl_at t_X18_style 20 rfl)) (dl_at t_X18_style 20 rfl) (cat24 (st := []) (Nat.le_of_ble_eq_true rfl)) (Nat.le_of_ble_eq_true rfl) (Nat.le_of_ble_eq_true rfl) fun h36 E36 => ?_
    refine g_aload_n (pc := 39) X (j := 0) (i := 0) (q := 0) (x := a0) rfl rfl (dl_at t_X18_style 21 rfl) ?_
    have k40 := kx E36 (by decide) k36
    refine r_getr (pc := 40) X fX18_8 k40 q4244 (dl_at t_X18_style 22 rfl) ?_
    refine g_ltr fun x1_43 => ?_
    refine g_astore_nN (pc := 43) X (j := 1) (i := 1) (x := x1_43) (b := 0) (w := rv D a0) (rest := []) rfl (Nat.le_of_ble_eq_true rfl) [0] rfl (by decide) rv_cat rfl (dl_at t_X18_style 23 rfl) ?_
    refine g_aload_n (pc := 44) X (j := 0) (i := 0) (q := 1) (x := a0) rfl rfl (dl_at t_X18_style 24 rfl) ?_
    refine g_aload_n (pc := 45) X (j := 0) (i := 0) (q := 1) (x := a0) rfl rfl (dl_at t_X18_style 25 rfl) ?_
    refine r_getr (pc := 46) X fX18_9 k40 q4245 (dl_at t_X18_style 26 rfl) ?_
    refine r_putr (pc := 49) X fX18_8 k40 q4244 rfl (dl_at t_X18_style 27 rfl)  (fun h49 E49 => ?_)
    refine g_aload_n (pc := 52) X (j := 0) (i := 0) (q := 1) (x := a0) rfl rfl (dl_at t_X18_style 28 rfl) ?_
    refine g_aload_n (pc := 53) X (j := 1) (i := 1) (q := 0) (x := x1_43) rfl rfl (dl_at t_X18_style 29 rfl) ?_
    have k54 := kx E49 (by decide) k40
    refine r_putr (pc := 54) X fX18_9 k54 q4245 rfl (dl_at t_X18_style 30 rfl)  (fun h54 E54 => ?_)
    refine g_aload_n (pc := 57) X (j := 0) (i := 0) (q := 1) (x := a0) rfl rfl (dl_at t_X18_style 31 rfl) ?_
    refine g_iconst (pc := 58) X (n := 0) (dl_at t_X18_style 32 rfl) ?_
    have k59 := kx E54 (by decide) k54
    refine r_putz (pc := 59) X fX18_14 k59 q4250 rfl (dl_at t_X18_style 33 rfl) (Or.inl rfl) (fun h59 E59 => ?_)
    refine g_aload_n (pc := 62) X (j := 0) (i := 0) (q := 1) (x := a0) rfl rfl (dl_at t_X18_style 34 rfl) ?_
    have k63 := kx E59 (by decide) k59
    refine r_getr (pc := 63) X fX18_8 k63 q4244 (dl_at t_X18_style 35 rfl) ?_
    refine g_gd fun k66 => ?_
    refine r_geti (pc := 66) X fX22_3 k66 q3411 (dl_at t_X18_style 36 rfl) fun g66 => ?_
    exact g_iret (pc := 69) X g66 rfl rfl (dl_at t_X18_style 37 rfl)
  refine gt_case (fun k12_1 => ?_) (fun _ => ?_)
  · refine gt_catch (pc := 12) X kX27 k12_1 [((0, 15, 18, 122), "ScholarsPressModel$Broken", true)] (hp := 18) rfl (by decide +kernel) (List.forall_mem_cons.mpr ⟨⟨q4330, by decide⟩, fun _ h => absurd h List.not_mem_nil⟩) htb ?_
    refine g_astore_nN (pc := 18) X (j := 1) (i := 1) (x := a12) (b := 0) (w := rv D a0) (rest := []) rfl (Nat.le_of_ble_eq_true rfl) [0] rfl (by decide) rv_cat rfl (dl_at t_X18_style 8 rfl) ?_
    refine g_aload_n (pc := 19) X (j := 0) (i := 0) (q := 1) (x := a0) rfl rfl (dl_at t_X18_style 9 rfl) ?_
    refine g_aload_n (pc := 20) X (j := 1) (i := 1) (q := 0) (x := a12) rfl rfl (dl_at t_X18_style 10 rfl) ?_
    refine r_geti (pc := 21) X fX27_0 k12_1 q4401 (dl_at t_X18_style 11 rfl) fun g21 => ?_
    refine g_iconst (pc := 24) X (n := 1) (dl_at t_X18_style 12 rfl) ?_
    have k25 := kx E12 (by decide) hk
    refine r_callWi (pc := 25) X (fun _ hv => s_X18_broken k25 g21 (r32_c rfl) hv) cw_code q4431 q372 (in_Vk X (As := [iv (h12 a12 0), iv 1]) kX18 k25 (Or.inl q4428) q4430 qs241 cw_code q4431 ⟨by decide, by decide⟩ rfl (dl_at t_X18_style 13 rfl)) (dl_at t_X18_style 13 rfl) (cat24 (st := []) (Nat.le_of_ble_eq_true rfl)) (Nat.le_of_ble_eq_true rfl) (Nat.le_of_ble_eq_true rfl) fun v25 h25 g25 E25 => ?_
    exact g_iret (pc := 28) X g25 rfl rfl (dl_at t_X18_style 14 rfl)
  exact gt_none
def k_X23_byteAt : List (Nat × Instr × Nat) := [(0, .iload_n 1, 1), (1, .aload_n 0, 1), (2, .getfield 73, 3), (5, .if_icmp .ge 16, 3), (8, .aload_n 0, 1), (9, .getfield 9, 3), (12, .iload_n 1, 1), (13, .baload, 1), (14, .sipush 255, 3), (17, .iand, 1), (18, .goto 4, 3), (21, .iconst (-1), 1), (22, .ireturn, 1)]
theorem t_X23_byteAt : ∀ q ∈ k_X23_byteAt, decode cX23_byteAt q.1 = .ok q.2 := dl_all (by decide +kernel)
noncomputable def m_X23_byteAt (a0 a1 : Int) (h : Hp) : Option (Int) :=
  if (h a0 1) ≤ a1 then (some (-1))
  else (gd (h (h a0 0) (-2) % 16 = 2 ∧ (0 : Int) ≤ a1 ∧ a1 < h (h a0 0) (-1)) (some (iand_ (h (h a0 0) a1) 255)))
theorem s_X23_byteAt {l : Launch} [NoTr l] {D : SD} {a0 a1 : Int} {h : Hp} (hk : h a0 (-2) = 384) (r1 : r32 a1) {r : Int} (hm : m_X23_byteAt a0 a1 h = some r) : Sim l D yX23_byteAt (Cond.code yX23_byteAt cX23_byteAt 2 (Option.some Jvm.ClassFile.FieldType.int)) 0 0 [rv D a0, iv a1] h 1 ((0, r), h) := by
  refine Sim.of (fin := fun (v : Int) => ((0, v), h)) (lsE := [(0, rv D a0), (1, iv a1)]) hm rfl cwS_code (la_r (la_i la_n)) (ll_r (ll_i ll_n)) ?_
  intro p e s m below meth c X hcw hmm hcc hnm hname
  unfold m_X23_byteAt
  refine g_iload_n (pc := 0) X (j := 1) (i := 1) (q := 1) (x := a1) rfl rfl (dl_at t_X23_byteAt 0 rfl) ?_
  refine g_aload_n (pc := 1) X (j := 0) (i := 0) (q := 0) (x := a0) rfl rfl (dl_at t_X23_byteAt 1 rfl) ?_
  refine r_geti (pc := 2) X fX23_1 hk q3520 (dl_at t_X23_byteAt 2 rfl) fun g2 => ?_
  refine g_icmpge (pc := 5) X r1 g2 (off := 16) (tgt := 21) rfl (dl_at t_X23_byteAt 3 rfl) (fun _ => ?_) (fun _ => ?_)
  · refine g_iconst (pc := 21) X (n := (-1)) (dl_at t_X23_byteAt 11 rfl) ?_
    exact g_iret (pc := 22) X (r32_c rfl) rfl rfl (dl_at t_X23_byteAt 12 rfl)
  refine g_aload_n (pc := 8) X (j := 0) (i := 0) (q := 0) (x := a0) rfl rfl (dl_at t_X23_byteAt 4 rfl) ?_
  refine r_getr (pc := 9) X fX23_0 hk q3516 (dl_at t_X23_byteAt 5 rfl) ?_
  refine g_iload_n (pc := 12) X (j := 1) (i := 1) (q := 1) (x := a1) rfl rfl (dl_at t_X23_byteAt 6 rfl) ?_
  refine g_gd fun k13 => ?_
  refine g_bald (pc := 13) X r1 k13 (dl_at t_X23_byteAt 7 rfl) fun g13 => ?_
  refine g_sipush (pc := 14) X (n := 255) rfl (dl_at t_X23_byteAt 8 rfl) ?_
  refine g_iand (pc := 17) X (dl_at t_X23_byteAt 9 rfl) ?_
  refine g_goto (pc := 18) X (off := 4) (tgt := 22) rfl (dl_at t_X23_byteAt 10 rfl) ?_
  exact g_iret (pc := 22) X (r32_iand _ _) rfl rfl (dl_at t_X23_byteAt 12 rfl)
def k_X23_nameAt : List (Nat × Instr × Nat) := [(0, .aload_n 0, 1), (1, .iload_n 1, 1), (2, .invokevirtual 90, 3), (5, .invokestatic 98, 3), (8, .ifCond .ne 12, 3), (11, .new 101, 3), (14, .dup, 1), (15, .iload_n 1, 1), (16, .invokespecial 103, 3), (19, .athrow, 1), (20, .iload_n 1, 1), (21, .istore_n 2, 1), (22, .aload_n 0, 1), (23, .iload_n 2, 1), (24, .invokevirtual 90, 3), (27, .invokestatic 98, 3), (30, .ifCond .ne 14, 3), (33, .aload_n 0, 1), (34, .iload_n 2, 1), (35, .invokevirtual 90, 3), (38, .invokestatic 106, 3), (41, .ifCond .eq 9, 3), (44, .iinc 2 1, 3), (47, .goto (-25), 3), (50, .iload_n 2, 1), (51, .iload_n 1, 1), (52, .isub, 1), (53, .bipush 12, 2), (55, .if_icmp .le 12, 3), (58, .new 101, 3), (61, .dup, 1), (62, .iload_n 1, 1), (63, .invokespecial 103, 3), (66, .athrow, 1), (67, .iload_n 2, 1), (68, .ireturn, 1)]
theorem t_X23_nameAt : ∀ q ∈ k_X23_nameAt, decode cX23_nameAt q.1 = .ok q.2 := dl_all (by decide +kernel)
noncomputable def m_X23_nameAt_j44 (x2_22 : Int) : Option ((Int) ⊕ ((Int))) :=
  lt_ (w32 (x2_22 + 1)) fun x2_44 =>
  some (.inl x2_44)
noncomputable def m_X23_nameAt_l22 (a0 x2_22 : Int) (h : Hp) : Option ((Int) ⊕ ((Int))) :=
  (m_X23_byteAt a0 x2_22 h).bind fun v24 =>
  (m_X18_isSmall v24).bind fun v27 =>
  if v27 ≠ 0 then (m_X23_nameAt_j44 x2_22)
  else ((m_X23_byteAt a0 x2_22 h).bind fun v35 =>
  (m_X18_isDigit v35).bind fun v38 =>
  if v38 = 0 then (some (.inr x2_22))
  else (m_X23_nameAt_j44 x2_22))
noncomputable def m_X23_nameAt (a0 a1 : Int) (h : Hp) : Option ((Int × Int) × Hp) :=
  (m_X23_byteAt a0 a1 h).bind fun v2 =>
  (m_X18_isSmall v2).bind fun v5 =>
  if v5 ≠ 0 then ((lp (fun (q : Int) => m_X23_nameAt_l22 a0 q h) a1).bind (fun (y50 : Int) => if (w32 (y50 - a1)) ≤ 12 then (some ((0, y50), h))
  else (al h 448 7 fun a58 h58 =>
  (x_broken a58 a1 h58).bind fun h63 =>
  some ((1, a58), h63))))
  else (al h 448 7 fun a11 h11 =>
  (x_broken a11 a1 h11).bind fun h16 =>
  some ((1, a11), h16))
theorem s_X23_nameAt {l : Launch} [NoTr l] {D : SD} {a0 a1 : Int} {h : Hp} (hk : h a0 (-2) = 384) (r1 : r32 a1) {r : (Int × Int) × Hp} (hm : m_X23_nameAt a0 a1 h = some r) : Sim l D yX23_nameAt (Cond.code yX23_nameAt cX23_nameAt 3 (Option.some Jvm.ClassFile.FieldType.int)) 9 337 [rv D a0, iv a1] h 1 r := by
  refine Sim.of (fin := fun (v : (Int × Int) × Hp) => v) (lsE := [(0, rv D a0), (1, iv a1)]) hm rfl cwS_code (la_r (la_i la_n)) (ll_r (ll_i ll_n)) ?_
  intro p e s m below meth c X hcw hmm hcc hnm hname
  have hno := noh hcw hnm hmm hcc
  unfold m_X23_nameAt
  refine g_aload_n (pc := 0) X (j := 0) (i := 0) (q := 0) (x := a0) rfl rfl (dl_at t_X23_nameAt 0 rfl) ?_
  refine g_iload_n (pc := 1) X (j := 1) (i := 1) (q := 1) (x := a1) rfl rfl (dl_at t_X23_nameAt 1 rfl) ?_
  refine r_callRi (pc := 2) X (fun _ hv => s_X23_byteAt hk r1 hv) cw_code q4570 q377 (in_Vk X (As := [iv a1]) kX23 hk (Or.inl q4567) q4569 qs256 cw_code q4570 ⟨by decide, by decide⟩ rfl (dl_at t_X23_nameAt 2 rfl)) (dl_at t_X23_nameAt 2 rfl) (cat24 (st := []) (Nat.le_of_ble_eq_true rfl)) (Nat.le_of_ble_eq_true rfl) (Nat.le_of_ble_eq_true rfl) fun v2 g2 => ?_
  refine r_callRz (pc := 5) X (fun _ hv => s_X18_isSmall g2 hv) cw_code q4352 q372 (in_Sc X (As := [iv v2]) (Or.inr ⟨_, nw_in q4579 rfl⟩) q4351 q372 q4352 ⟨by decide, by decide⟩ rfl (dl_at t_X23_nameAt 3 rfl)) (dl_at t_X23_nameAt 3 rfl) (cat24 (st := []) (Nat.le_of_ble_eq_true rfl)) (Nat.le_of_ble_eq_true rfl) (Nat.le_of_ble_eq_true rfl) fun v5 g5 => ?_
  refine g_ifne (pc := 8) X (r32_z g5) (off := 12) (tgt := 20) rfl (dl_at t_X23_nameAt 4 rfl) (fun _ => ?_) (fun _ => ?_)
  · refine g_iload_n (pc := 20) X (j := 1) (i := 1) (q := 1) (x := a1) rfl rfl (dl_at t_X23_nameAt 10 rfl) ?_
    refine g_istore_nN (pc := 21) X (j := 2) (i := 2) (x := a1) (b := 1) (w := iv a1) (rest := [(0, rv D a0)]) rfl (Nat.le_of_ble_eq_true rfl) [1, 0] rfl (by decide) rfl rfl (dl_at t_X23_nameAt 11 rfl) ?_
    refine g_ls (ls2 := [(0, rv D a0), (1, iv a1), (2, iv a1)]) [2, 1, 0] rfl ?_
    refine g_loop1 (fun (q : Int) => [(0, rv D a0), (1, iv a1), (2, iv q)]) (fun (q : Int) => h) (fun (q : Int) => r32 q) 50 (fun (y50 : Int) => [(1, iv a1), (2, iv y50)]) (fun (y50 : Int) => h) (fun (y50 : Int) => r32 y50) a1 r1 ?_ ?_
    · rintro x2_22 r2_22
      try dsimp only
      unfold m_X23_nameAt_l22
      refine g_aload_n (pc := 22) X (j := 0) (i := 0) (q := 0) (x := a0) rfl rfl (dl_at t_X23_nameAt 12 rfl) ?_
      refine g_iload_n (pc := 23) X (j := 2) (i := 2) (q := 2) (x := x2_22) rfl rfl (dl_at t_X23_nameAt 13 rfl) ?_
      refine r_callRi (pc := 24) X (fun _ hv => s_X23_byteAt hk r2_22 hv) cw_code q4570 q377 (in_Vk X (As := [iv x2_22]) kX23 hk (Or.inl q4567) q4569 qs256 cw_code q4570 ⟨by decide, by decide⟩ rfl (dl_at t_X23_nameAt 14 rfl)) (dl_at t_X23_nameAt 14 rfl) (cat24 (st := []) (Nat.le_of_ble_eq_true rfl)) (Nat.le_of_ble_eq_true rfl) (Nat.le_of_ble_eq_true rfl) fun v24 g24 => ?_
      refine r_callRz (pc := 27) X (fun _ hv => s_X18_isSmall g24 hv) cw_code q4352 q372 (in_Sc X (As := [iv v24]) (Or.inr ⟨_, nw_in q4579 rfl⟩) q4351 q372 q4352 ⟨by decide, by decide⟩ rfl (dl_at t_X23_nameAt 15 rfl)) (dl_at t_X23_nameAt 15 rfl) (cat24 (st := []) (Nat.le_of_ble_eq_true rfl)) (Nat.le_of_ble_eq_true rfl) (Nat.le_of_ble_eq_true rfl) fun v27 g27 => ?_
      refine g_join (γ := Unit) (fun q => True) 44 (fun q => [(0, rv D a0), (1, iv a1), (2, iv x2_22)]) (fun q => []) (fun q => h) (fun q => m_X23_nameAt_j44 x2_22) ?_ ?_
      · rintro _ _
        try dsimp only
        unfold m_X23_nameAt_j44
        refine r_iincN (pc := 44) X (i := 2) (q := 2) (n := 1) (x := x2_22) (b := 1) (w := iv a1) (rest := [(0, rv D a0)]) rfl r2_22 (r32_c rfl) (Nat.le_of_ble_eq_true rfl) [1, 0] rfl (by decide) rfl rfl (dl_at t_X23_nameAt 22 rfl) fun x2_44 r2_44 => ?_
        refine g_goto (pc := 47) X (off := (-25)) (tgt := 22) rfl (dl_at t_X23_nameAt 23 rfl) ?_
        refine g_ls (ls2 := [(0, rv D a0), (1, iv a1), (2, iv x2_44)]) [2, 1, 0] rfl ?_
        exact g_at fun Q hQ => hQ r2_44
      intro J44
      refine g_ifne (pc := 30) X (r32_z g27) (off := 14) (tgt := 44) rfl (dl_at t_X23_nameAt 16 rfl) (fun _ => ?_) (fun _ => ?_)
      · exact J44 () trivial
      refine g_aload_n (pc := 33) X (j := 0) (i := 0) (q := 0) (x := a0) rfl rfl (dl_at t_X23_nameAt 17 rfl) ?_
      refine g_iload_n (pc := 34) X (j := 2) (i := 2) (q := 2) (x := x2_22) rfl rfl (dl_at t_X23_nameAt 18 rfl) ?_
      refine r_callRi (pc := 35) X (fun _ hv => s_X23_byteAt hk r2_22 hv) cw_code q4570 q377 (in_Vk X (As := [iv x2_22]) kX23 hk (Or.inl q4567) q4569 qs256 cw_code q4570 ⟨by decide, by decide⟩ rfl (dl_at t_X23_nameAt 19 rfl)) (dl_at t_X23_nameAt 19 rfl) (cat24 (st := []) (Nat.le_of_ble_eq_true rfl)) (Nat.le_of_ble_eq_true rfl) (Nat.le_of_ble_eq_true rfl) fun v35 g35 => ?_
      refine r_callRz (pc := 38) X (fun _ hv => s_X18_isDigit g35 hv) cw_code q4355 q372 (in_Sc X (As := [iv v35]) (Or.inr ⟨_, nw_in q4582 rfl⟩) q4354 q372 q4355 ⟨by decide, by decide⟩ rfl (dl_at t_X23_nameAt 20 rfl)) (dl_at t_X23_nameAt 20 rfl) (cat24 (st := []) (Nat.le_of_ble_eq_true rfl)) (Nat.le_of_ble_eq_true rfl) (Nat.le_of_ble_eq_true rfl) fun v38 g38 => ?_
      refine g_ifeq (pc := 41) X (r32_z g38) (off := 9) (tgt := 50) rfl (dl_at t_X23_nameAt 21 rfl) (fun _ => ?_) (fun _ => ?_)
      · refine g_ls (ls2 := [(1, iv a1), (2, iv x2_22)]) [1, 2] rfl ?_
        exact g_at fun Q hQ => hQ r2_22
      exact J44 () trivial
    · rintro x2_50 r2_50
      try dsimp only [sE]
      refine g_iload_n (pc := 50) X (j := 2) (i := 2) (q := 1) (x := x2_50) rfl rfl (dl_at t_X23_nameAt 24 rfl) ?_
      refine g_iload_n (pc := 51) X (j := 1) (i := 1) (q := 0) (x := a1) rfl rfl (dl_at t_X23_nameAt 25 rfl) ?_
      refine g_isub (pc := 52) X r2_50 r1 (dl_at t_X23_nameAt 26 rfl) ?_
      refine g_bipush (pc := 53) X (n := 12) rfl (dl_at t_X23_nameAt 27 rfl) ?_
      refine g_icmple (pc := 55) X (r32_w _) (r32_c rfl) (off := 12) (tgt := 67) rfl (dl_at t_X23_nameAt 28 rfl) (fun _ => ?_) (fun _ => ?_)
      · refine g_iload_n (pc := 67) X (j := 2) (i := 2) (q := 1) (x := x2_50) rfl rfl (dl_at t_X23_nameAt 34 rfl) ?_
        exact g_iret (pc := 68) X r2_50 rfl rfl (dl_at t_X23_nameAt 35 rfl)
      refine r_new (pc := 58) X kX27 q4580 (dl_at t_X23_nameAt 29 rfl) fun a58 h58 p58 k58 E58 => ?_
      refine g_dup (pc := 61) X rv_cat (dl_at t_X23_nameAt 30 rfl) ?_
      refine g_iload_n (pc := 62) X (j := 1) (i := 1) (q := 0) (x := a1) rfl rfl (dl_at t_X23_nameAt 31 rfl) ?_
      refine r_callV (pc := 63) X (fun _ hv => sx_ScholarsPressModel_Broken_init_I_V k58 r1 hv) cw_code q4398 q392 (in_I X (As := [iv a1]) (Int.ne_of_gt p58) rfl (Or.inl q4581) q4397 q4398 ⟨by decide, by decide⟩ rfl (dl_at t_X23_nameAt 32 rfl)) (dl_at t_X23_nameAt 32 rfl) (cat24 (st := [rv D a58]) (Nat.le_of_ble_eq_true rfl)) (Nat.le_of_ble_eq_true rfl) (Nat.le_of_ble_eq_true rfl) fun h63 E63 => ?_
      refine g_athrow (pc := 66) X (Int.ne_of_gt p58) (dl_at t_X23_nameAt 33 rfl) ?_
      exact gt_at fun Q hQ => gt_out (Q := Q) X rfl p58 (hno _) _ Q rfl hQ
  refine r_new (pc := 11) X kX27 q4580 (dl_at t_X23_nameAt 5 rfl) fun a11 h11 p11 k11 E11 => ?_
  refine g_dup (pc := 14) X rv_cat (dl_at t_X23_nameAt 6 rfl) ?_
  refine g_iload_n (pc := 15) X (j := 1) (i := 1) (q := 1) (x := a1) rfl rfl (dl_at t_X23_nameAt 7 rfl) ?_
  refine r_callV (pc := 16) X (fun _ hv => sx_ScholarsPressModel_Broken_init_I_V k11 r1 hv) cw_code q4398 q392 (in_I X (As := [iv a1]) (Int.ne_of_gt p11) rfl (Or.inl q4581) q4397 q4398 ⟨by decide, by decide⟩ rfl (dl_at t_X23_nameAt 8 rfl)) (dl_at t_X23_nameAt 8 rfl) (cat24 (st := [rv D a11]) (Nat.le_of_ble_eq_true rfl)) (Nat.le_of_ble_eq_true rfl) (Nat.le_of_ble_eq_true rfl) fun h16 E16 => ?_
  refine g_athrow (pc := 19) X (Int.ne_of_gt p11) (dl_at t_X23_nameAt 9 rfl) ?_
  exact gt_at fun Q hQ => gt_out (Q := Q) X rfl p11 (hno _) _ Q rfl hQ
def k_X23_find : List (Nat × Instr × Nat) := [(0, .iconst 0, 1), (1, .istore_n 3, 1), (2, .iload_n 3, 1), (3, .aload_n 0, 1), (4, .getfield 83, 3), (7, .if_icmp .ge 39, 3), (10, .aload_n 0, 1), (11, .getfield 9, 3), (14, .aload_n 0, 1), (15, .getfield 61, 3), (18, .iload_n 3, 1), (19, .iaload, 1), (20, .aload_n 0, 1), (21, .getfield 64, 3), (24, .iload_n 3, 1), (25, .iaload, 1), (26, .aload_n 0, 1), (27, .getfield 9, 3), (30, .iload_n 1, 1), (31, .iload_n 2, 1), (32, .invokestatic 131, 3), (35, .ifCond .eq 5, 3), (38, .iload_n 3, 1), (39, .ireturn, 1), (40, .iinc 3 1, 3), (43, .goto (-41), 3), (46, .iconst (-1), 1), (47, .ireturn, 1)]
theorem t_X23_find : ∀ q ∈ k_X23_find, decode cX23_find q.1 = .ok q.2 := dl_all (by decide +kernel)
noncomputable def m_X23_find_l2 (a0 a1 a2 x3_2 : Int) (h : Hp) : Option ((Int) ⊕ ((Int))) :=
  if (h a0 4) ≤ x3_2 then (some (.inr (-1)))
  else (gd (h (h a0 21) (-2) % 16 = 1 ∧ (0 : Int) ≤ x3_2 ∧ x3_2 < h (h a0 21) (-1)) (gd (h (h a0 22) (-2) % 16 = 1 ∧ (0 : Int) ≤ x3_2 ∧ x3_2 < h (h a0 22) (-1)) ((m_X18_same (h a0 0) (h (h a0 21) x3_2) (h (h a0 22) x3_2) (h a0 0) a1 a2 h).bind fun v32 =>
  if v32 = 0 then (lt_ (w32 (x3_2 + 1)) fun x3_40 =>
  some (.inl x3_40))
  else (some (.inr x3_2)))))
noncomputable def m_X23_find (a0 a1 a2 : Int) (h : Hp) : Option (Int) :=
  lt_ 0 fun x3_1 =>
  (lp (fun (q : Int) => m_X23_find_l2 a0 a1 a2 q h) x3_1).bind (fun (x : Int) => some x)
theorem s_X23_find {l : Launch} [NoTr l] {D : SD} {a0 a1 a2 : Int} {h : Hp} (hk : h a0 (-2) = 384) (r1 : r32 a1) (r2 : r32 a2) {r : Int} (hm : m_X23_find a0 a1 a2 h = some r) : Sim l D yX23_find (Cond.code yX23_find cX23_find 4 (Option.some Jvm.ClassFile.FieldType.int)) 1 42 [rv D a0, iv a1, iv a2] h 1 ((0, r), h) := by
  refine Sim.of (fin := fun (v : Int) => ((0, v), h)) (lsE := [(0, rv D a0), (1, iv a1), (2, iv a2)]) hm rfl cwS_code (la_r (la_i (la_i la_n))) (ll_r (ll_i (ll_i ll_n))) ?_
  intro p e s m below meth c X hcw hmm hcc hnm hname
  unfold m_X23_find
  refine g_iconst (pc := 0) X (n := 0) (dl_at t_X23_find 0 rfl) ?_
  refine g_ltz (Or.inl rfl) fun x3_1 r3_1 => ?_
  refine g_istore_nN (pc := 1) X (j := 3) (i := 3) (x := x3_1) (b := 2) (w := iv a2) (rest := [(0, rv D a0), (1, iv a1)]) rfl (Nat.le_of_ble_eq_true rfl) [2, 0, 1] rfl (by decide) rfl rfl (dl_at t_X23_find 1 rfl) ?_
  refine g_ls (ls2 := [(0, rv D a0), (1, iv a1), (2, iv a2), (3, iv x3_1)]) [2, 3, 1, 0] rfl ?_
  refine g_loop0F (fun (q : Int) => [(0, rv D a0), (1, iv a1), (2, iv a2), (3, iv q)]) (fun (q : Int) => h) (fun (q : Int) => r32 q) x3_1 (r32_z r3_1) ?_ (fun _ => rfl)
  · rintro x3_2 r3_2
    try dsimp only
    unfold m_X23_find_l2
    refine g_iload_n (pc := 2) X (j := 3) (i := 3) (q := 3) (x := x3_2) rfl rfl (dl_at t_X23_find 2 rfl) ?_
    refine g_aload_n (pc := 3) X (j := 0) (i := 0) (q := 0) (x := a0) rfl rfl (dl_at t_X23_find 3 rfl) ?_
    refine r_geti (pc := 4) X fX23_4 hk q3529 (dl_at t_X23_find 4 rfl) fun g4 => ?_
    refine g_icmpge (pc := 7) X r3_2 g4 (off := 39) (tgt := 46) rfl (dl_at t_X23_find 5 rfl) (fun _ => ?_) (fun _ => ?_)
    · refine g_iconst (pc := 46) X (n := (-1)) (dl_at t_X23_find 26 rfl) ?_
      exact g_at fun Q hQ => (g_iret (pc := 47) X (r32_c rfl) rfl rfl (dl_at t_X23_find 27 rfl)) _ Q rfl hQ
    refine g_aload_n (pc := 10) X (j := 0) (i := 0) (q := 0) (x := a0) rfl rfl (dl_at t_X23_find 6 rfl) ?_
    refine r_getr (pc := 11) X fX23_0 hk q3516 (dl_at t_X23_find 7 rfl) ?_
    refine g_aload_n (pc := 14) X (j := 0) (i := 0) (q := 0) (x := a0) rfl rfl (dl_at t_X23_find 8 rfl) ?_
    refine r_getr (pc := 15) X fX23_21 hk q3570 (dl_at t_X23_find 9 rfl) ?_
    refine g_iload_n (pc := 18) X (j := 3) (i := 3) (q := 3) (x := x3_2) rfl rfl (dl_at t_X23_find 10 rfl) ?_
    refine g_gd fun k19 => ?_
    refine g_iald (pc := 19) X r3_2 k19 (dl_at t_X23_find 11 rfl) fun g19 => ?_
    refine g_aload_n (pc := 20) X (j := 0) (i := 0) (q := 0) (x := a0) rfl rfl (dl_at t_X23_find 12 rfl) ?_
    refine r_getr (pc := 21) X fX23_22 hk q3571 (dl_at t_X23_find 13 rfl) ?_
    refine g_iload_n (pc := 24) X (j := 3) (i := 3) (q := 3) (x := x3_2) rfl rfl (dl_at t_X23_find 14 rfl) ?_
    refine g_gd fun k25 => ?_
    refine g_iald (pc := 25) X r3_2 k25 (dl_at t_X23_find 15 rfl) fun g25 => ?_
    refine g_aload_n (pc := 26) X (j := 0) (i := 0) (q := 0) (x := a0) rfl rfl (dl_at t_X23_find 16 rfl) ?_
    refine r_getr (pc := 27) X fX23_0 hk q3516 (dl_at t_X23_find 17 rfl) ?_
    refine g_iload_n (pc := 30) X (j := 1) (i := 1) (q := 1) (x := a1) rfl rfl (dl_at t_X23_find 18 rfl) ?_
    refine g_iload_n (pc := 31) X (j := 2) (i := 2) (q := 2) (x := a2) rfl rfl (dl_at t_X23_find 19 rfl) ?_
    refine r_callRz (pc := 32) X (fun _ hv => s_X18_same g19 g25 r1 r2 hv) cw_code q4464 q372 (in_Sc X (As := [rv D (h a0 0), iv (h (h a0 21) x3_2), iv (h (h a0 22) x3_2), rv D (h a0 0), iv a1, iv a2]) (Or.inr ⟨_, nw_in q4590 rfl⟩) q4463 q372 q4464 ⟨by decide, by decide⟩ rfl (dl_at t_X23_find 20 rfl)) (dl_at t_X23_find 20 rfl) (cat24 (st := []) (Nat.le_of_ble_eq_true rfl)) (Nat.le_of_ble_eq_true rfl) (Nat.le_of_ble_eq_true rfl) fun v32 g32 => ?_
    refine g_ifeq (pc := 35) X (r32_z g32) (off := 5) (tgt := 40) rfl (dl_at t_X23_find 21 rfl) (fun _ => ?_) (fun _ => ?_)
    · refine r_iincN (pc := 40) X (i := 3) (q := 3) (n := 1) (x := x3_2) (b := 2) (w := iv a2) (rest := [(0, rv D a0), (1, iv a1)]) rfl r3_2 (r32_c rfl) (Nat.le_of_ble_eq_true rfl) [2, 0, 1] rfl (by decide) rfl rfl (dl_at t_X23_find 24 rfl) fun x3_40 r3_40 => ?_
      refine g_goto (pc := 43) X (off := (-41)) (tgt := 2) rfl (dl_at t_X23_find 25 rfl) ?_
      refine g_ls (ls2 := [(0, rv D a0), (1, iv a1), (2, iv a2), (3, iv x3_40)]) [2, 3, 1, 0] rfl ?_
      exact g_at fun Q hQ => hQ r3_40
    refine g_iload_n (pc := 38) X (j := 3) (i := 3) (q := 3) (x := x3_2) rfl rfl (dl_at t_X23_find 22 rfl) ?_
    exact g_at fun Q hQ => (g_iret (pc := 39) X r3_2 rfl rfl (dl_at t_X23_find 23 rfl)) _ Q rfl hQ
def k_X23_need : List (Nat × Instr × Nat) := [(0, .aload_n 0, 1), (1, .iload_n 1, 1), (2, .invokevirtual 90, 3), (5, .iload_n 2, 1), (6, .if_icmp .eq 12, 3), (9, .new 101, 3), (12, .dup, 1), (13, .iload_n 1, 1), (14, .invokespecial 103, 3), (17, .athrow, 1), (18, .return_, 1)]
theorem t_X23_need : ∀ q ∈ k_X23_need, decode cX23_need q.1 = .ok q.2 := dl_all (by decide +kernel)
noncomputable def m_X23_need (a0 a1 a2 : Int) (h : Hp) : Option ((Int × Int) × Hp) :=
  (m_X23_byteAt a0 a1 h).bind fun v2 =>
  if v2 = a2 then (some ((0, 0), h))
  else (al h 448 7 fun a9 h9 =>
  (x_broken a9 a1 h9).bind fun h14 =>
  some ((1, a9), h14))
theorem s_X23_need {l : Launch} [NoTr l] {D : SD} {a0 a1 a2 : Int} {h : Hp} (hk : h a0 (-2) = 384) (r1 : r32 a1) (r2 : r32 a2) {r : (Int × Int) × Hp} (hm : m_X23_need a0 a1 a2 h = some r) : Sim l D yX23_need (Cond.code yX23_need cX23_need 3 (Option.none : Option Jvm.ClassFile.FieldType)) 9 337 [rv D a0, iv a1, iv a2] h 0 r := by
  refine Sim.of (fin := fun (v : (Int × Int) × Hp) => v) (lsE := [(0, rv D a0), (1, iv a1), (2, iv a2)]) hm rfl cwS_code (la_r (la_i (la_i la_n))) (ll_r (ll_i (ll_i ll_n))) ?_
  intro p e s m below meth c X hcw hmm hcc hnm hname
  have hno := noh hcw hnm hmm hcc
  unfold m_X23_need
  refine g_aload_n (pc := 0) X (j := 0) (i := 0) (q := 0) (x := a0) rfl rfl (dl_at t_X23_need 0 rfl) ?_
  refine g_iload_n (pc := 1) X (j := 1) (i := 1) (q := 1) (x := a1) rfl rfl (dl_at t_X23_need 1 rfl) ?_
  refine r_callRi (pc := 2) X (fun _ hv => s_X23_byteAt hk r1 hv) cw_code q4570 q377 (in_Vk X (As := [iv a1]) kX23 hk (Or.inl q4567) q4569 qs256 cw_code q4570 ⟨by decide, by decide⟩ rfl (dl_at t_X23_need 2 rfl)) (dl_at t_X23_need 2 rfl) (cat24 (st := []) (Nat.le_of_ble_eq_true rfl)) (Nat.le_of_ble_eq_true rfl) (Nat.le_of_ble_eq_true rfl) fun v2 g2 => ?_
  refine g_iload_n (pc := 5) X (j := 2) (i := 2) (q := 2) (x := a2) rfl rfl (dl_at t_X23_need 3 rfl) ?_
  refine g_icmpeq (pc := 6) X g2 r2 (off := 12) (tgt := 18) rfl (dl_at t_X23_need 4 rfl) (fun _ => ?_) (fun _ => ?_)
  · exact g_vret (pc := 18) X (v := 0) rfl rfl (dl_at t_X23_need 10 rfl)
  refine r_new (pc := 9) X kX27 q4580 (dl_at t_X23_need 5 rfl) fun a9 h9 p9 k9 E9 => ?_
  refine g_dup (pc := 12) X rv_cat (dl_at t_X23_need 6 rfl) ?_
  refine g_iload_n (pc := 13) X (j := 1) (i := 1) (q := 1) (x := a1) rfl rfl (dl_at t_X23_need 7 rfl) ?_
  refine r_callV (pc := 14) X (fun _ hv => sx_ScholarsPressModel_Broken_init_I_V k9 r1 hv) cw_code q4398 q392 (in_I X (As := [iv a1]) (Int.ne_of_gt p9) rfl (Or.inl q4581) q4397 q4398 ⟨by decide, by decide⟩ rfl (dl_at t_X23_need 8 rfl)) (dl_at t_X23_need 8 rfl) (cat24 (st := [rv D a9]) (Nat.le_of_ble_eq_true rfl)) (Nat.le_of_ble_eq_true rfl) (Nat.le_of_ble_eq_true rfl) fun h14 E14 => ?_
  refine g_athrow (pc := 17) X (Int.ne_of_gt p9) (dl_at t_X23_need 9 rfl) ?_
  exact gt_at fun Q hQ => gt_out (Q := Q) X rfl p9 (hno _) _ Q rfl hQ
def k_X23_add : List (Nat × Instr × Nat) := [(0, .aload_n 0, 1), (1, .getfield 15, 3), (4, .aload_n 0, 1), (5, .getfield 77, 3), (8, .iload_n 1, 1), (9, .iastore, 1), (10, .aload_n 0, 1), (11, .getfield 19, 3), (14, .aload_n 0, 1), (15, .getfield 77, 3), (18, .iload_n 2, 1), (19, .iastore, 1), (20, .aload_n 0, 1), (21, .getfield 22, 3), (24, .aload_n 0, 1), (25, .getfield 77, 3), (28, .iload_n 3, 1), (29, .iastore, 1), (30, .aload_n 0, 1), (31, .dup, 1), (32, .getfield 77, 3), (35, .iconst 1, 1), (36, .iadd, 1), (37, .putfield 77, 3), (40, .return_, 1)]
theorem t_X23_add : ∀ q ∈ k_X23_add, decode cX23_add q.1 = .ok q.2 := dl_all (by decide +kernel)
noncomputable def m_X23_add (a0 a1 a2 a3 : Int) (h : Hp) : Option (Hp) :=
  gd (h (h a0 6) (-2) % 16 = 1 ∧ (0 : Int) ≤ (h a0 2) ∧ (h a0 2) < h (h a0 6) (-1)) (pt h (h a0 6) (h a0 2) a1 fun h9 =>
  gd (h9 (h9 a0 7) (-2) % 16 = 1 ∧ (0 : Int) ≤ (h9 a0 2) ∧ (h9 a0 2) < h9 (h9 a0 7) (-1)) (pt h9 (h9 a0 7) (h9 a0 2) a2 fun h19 =>
  gd (h19 (h19 a0 8) (-2) % 16 = 1 ∧ (0 : Int) ≤ (h19 a0 2) ∧ (h19 a0 2) < h19 (h19 a0 8) (-1)) (pt h19 (h19 a0 8) (h19 a0 2) a3 fun h29 =>
  pt h29 a0 2 (w32 ((h29 a0 2) + 1)) fun h37 =>
  some h37)))
theorem s_X23_add {l : Launch} [NoTr l] {D : SD} {a0 a1 a2 a3 : Int} {h : Hp} (hk : h a0 (-2) = 384) (r1 : r32 a1) (r2 : r32 a2) (r3 : r32 a3) {r : Hp} (hm : m_X23_add a0 a1 a2 a3 h = some r) : Sim l D yX23_add (Cond.code yX23_add cX23_add 4 (Option.none : Option Jvm.ClassFile.FieldType)) 0 0 [rv D a0, iv a1, iv a2, iv a3] h 0 ((0, 0), r) := by
  refine Sim.of (fin := fun (v : Hp) => ((0, 0), v)) (lsE := [(0, rv D a0), (1, iv a1), (2, iv a2), (3, iv a3)]) hm rfl cwS_code (la_r (la_i (la_i (la_i la_n)))) (ll_r (ll_i (ll_i (ll_i ll_n)))) ?_
  intro p e s m below meth c X hcw hmm hcc hnm hname
  unfold m_X23_add
  refine g_aload_n (pc := 0) X (j := 0) (i := 0) (q := 0) (x := a0) rfl rfl (dl_at t_X23_add 0 rfl) ?_
  refine r_getr (pc := 1) X fX23_6 hk q3533 (dl_at t_X23_add 1 rfl) ?_
  refine g_aload_n (pc := 4) X (j := 0) (i := 0) (q := 0) (x := a0) rfl rfl (dl_at t_X23_add 2 rfl) ?_
  refine r_geti (pc := 5) X fX23_2 hk q3522 (dl_at t_X23_add 3 rfl) fun g5 => ?_
  refine g_iload_n (pc := 8) X (j := 1) (i := 1) (q := 1) (x := a1) rfl rfl (dl_at t_X23_add 4 rfl) ?_
  refine g_gd fun k9 => ?_
  refine r_iast (pc := 9) X g5 r1 k9 (dl_at t_X23_add 5 rfl) (fun h9 E9 => ?_)
  refine g_aload_n (pc := 10) X (j := 0) (i := 0) (q := 0) (x := a0) rfl rfl (dl_at t_X23_add 6 rfl) ?_
  have k11 := kx E9 (by decide) hk
  refine r_getr (pc := 11) X fX23_7 k11 q3536 (dl_at t_X23_add 7 rfl) ?_
  refine g_aload_n (pc := 14) X (j := 0) (i := 0) (q := 0) (x := a0) rfl rfl (dl_at t_X23_add 8 rfl) ?_
  refine r_geti (pc := 15) X fX23_2 k11 q3522 (dl_at t_X23_add 9 rfl) fun g15 => ?_
  refine g_iload_n (pc := 18) X (j := 2) (i := 2) (q := 2) (x := a2) rfl rfl (dl_at t_X23_add 10 rfl) ?_
  refine g_gd fun k19 => ?_
  refine r_iast (pc := 19) X g15 r2 k19 (dl_at t_X23_add 11 rfl) (fun h19 E19 => ?_)
  refine g_aload_n (pc := 20) X (j := 0) (i := 0) (q := 0) (x := a0) rfl rfl (dl_at t_X23_add 12 rfl) ?_
  have k21 := kx E19 (by decide) k11
  refine r_getr (pc := 21) X fX23_8 k21 q3539 (dl_at t_X23_add 13 rfl) ?_
  refine g_aload_n (pc := 24) X (j := 0) (i := 0) (q := 0) (x := a0) rfl rfl (dl_at t_X23_add 14 rfl) ?_
  refine r_geti (pc := 25) X fX23_2 k21 q3522 (dl_at t_X23_add 15 rfl) fun g25 => ?_
  refine g_iload_n (pc := 28) X (j := 3) (i := 3) (q := 3) (x := a3) rfl rfl (dl_at t_X23_add 16 rfl) ?_
  refine g_gd fun k29 => ?_
  refine r_iast (pc := 29) X g25 r3 k29 (dl_at t_X23_add 17 rfl) (fun h29 E29 => ?_)
  refine g_aload_n (pc := 30) X (j := 0) (i := 0) (q := 0) (x := a0) rfl rfl (dl_at t_X23_add 18 rfl) ?_
  refine g_dup (pc := 31) X rv_cat (dl_at t_X23_add 19 rfl) ?_
  have k32 := kx E29 (by decide) k21
  refine r_geti (pc := 32) X fX23_2 k32 q3522 (dl_at t_X23_add 20 rfl) fun g32 => ?_
  refine g_iconst (pc := 35) X (n := 1) (dl_at t_X23_add 21 rfl) ?_
  refine g_iadd (pc := 36) X g32 (r32_c rfl) (dl_at t_X23_add 22 rfl) ?_
  refine r_puti (pc := 37) X fX23_2 k32 q3522 rfl (dl_at t_X23_add 23 rfl) (r32_w _) (fun h37 E37 => ?_)
  exact g_vret (pc := 40) X (v := 0) rfl rfl (dl_at t_X23_add 24 rfl)
def k_X23_reference : List (Nat × Instr × Nat) := [(0, .aload_n 0, 1), (1, .getfield 109, 3), (4, .iconst 1, 1), (5, .iadd, 1), (6, .istore_n 1, 1), (7, .aload_n 0, 1), (8, .iload_n 1, 1), (9, .invokevirtual 135, 3), (12, .istore_n 2, 1), (13, .aload_n 0, 1), (14, .getfield 9, 3), (17, .iload_n 1, 1), (18, .iload_n 2, 1), (19, .ldc 138, 2), (21, .invokestatic 140, 3), (24, .istore_n 3, 1), (25, .aload_n 0, 1), (26, .getfield 9, 3), (29, .iload_n 1, 1), (30, .iload_n 2, 1), (31, .ldc 144, 2), (33, .invokestatic 140, 3), (36, .istore 4, 2), (38, .aload_n 0, 1), (39, .iload_n 1, 1), (40, .iload_n 2, 1), (41, .invokevirtual 146, 3), (44, .istore 5, 2), (46, .iload_n 3, 1), (47, .ifCond .ne 22, 3), (50, .iload 4, 2), (52, .ifCond .ne 17, 3), (55, .iload 5, 2), (57, .ifCond .ge 12, 3), (60, .new 101, 3), (63, .dup, 1), (64, .iload_n 1, 1), (65, .invokespecial 103, 3), (68, .athrow, 1), (69, .aload_n 0, 1), (70, .iload_n 2, 1), (71, .bipush 59, 2), (73, .invokevirtual 150, 3), (76, .iload_n 3, 1), (77, .ifCond .ne 8, 3), (80, .iload 4, 2), (82, .ifCond .eq 23, 3), (85, .aload_n 0, 1), (86, .iconst 3, 1), (87, .iload_n 3, 1), (88, .ifCond .eq 8, 3), (91, .bipush 60, 2), (93, .goto 5, 3), (96, .bipush 38, 2), (98, .iconst 0, 1), (99, .invokevirtual 127, 3), (102, .goto 39, 3), (105, .aload_n 0, 1), (106, .getfield 67, 3), (109, .iload 5, 2), (111, .iaload, 1), (112, .aload_n 0, 1), (113, .getfield 70, 3), (116, .iload 5, 2), (118, .iaload, 1), (119, .if_icmp .ge 22, 3), (122, .aload_n 0, 1), (123, .iconst 0, 1), (124, .aload_n 0, 1), (125, .getfield 67, 3), (128, .iload 5, 2), (130, .iaload, 1), (131, .aload_n 0, 1), (132, .getfield 70, 3), (135, .iload 5, 2), (137, .iaload, 1), (138, .invokevirtual 127, 3), (141, .aload_n 0, 1), (142, .iload_n 2, 1), (143, .iconst 1, 1), (144, .iadd, 1), (145, .putfield 109, 3), (148, .return_, 1)]
theorem t_X23_reference : ∀ q ∈ k_X23_reference, decode cX23_reference q.1 = .ok q.2 := dl_all (by decide +kernel)
noncomputable def m_X23_reference_j85 (a0 v9 v21 : Int) (h73 : Hp) : Option ((Int × Int) × Hp) :=
  if v21 = 0 then ((m_X23_add a0 3 38 0 h73).bind fun h99 =>
  pt h99 a0 25 (w32 (v9 + 1)) fun h145 =>
  some ((0, 0), h145))
  else ((m_X23_add a0 3 60 0 h73).bind fun h99_1 =>
  pt h99_1 a0 25 (w32 (v9 + 1)) fun h145_1 =>
  some ((0, 0), h145_1))
noncomputable def m_X23_reference_j69 (v41 v33 v21 v9 a0 : Int) (h9 : Hp) : Option ((Int × Int) × Hp) :=
  bT (m_X23_need a0 v9 59 h9) (fun _ h73 =>
  if v21 ≠ 0 then (m_X23_reference_j85 a0 v9 v21 h73)
  else (if v33 = 0 then (gd (h73 (h73 a0 23) (-2) % 16 = 1 ∧ (0 : Int) ≤ v41 ∧ v41 < h73 (h73 a0 23) (-1)) (gd (h73 (h73 a0 24) (-2) % 16 = 1 ∧ (0 : Int) ≤ v41 ∧ v41 < h73 (h73 a0 24) (-1)) (if (h73 (h73 a0 24) v41) ≤ (h73 (h73 a0 23) v41) then (pt h73 a0 25 (w32 (v9 + 1)) fun h145_2 =>
  some ((0, 0), h145_2))
  else ((m_X23_add a0 0 (h73 (h73 a0 23) v41) (h73 (h73 a0 24) v41) h73).bind fun h138 =>
  pt h138 a0 25 (w32 (v9 + 1)) fun h145_3 =>
  some ((0, 0), h145_3)))))
  else (m_X23_reference_j85 a0 v9 v21 h73))) (fun a_ h_ => some ((1, a_), h_))
noncomputable def m_X23_reference (a0 : Int) (h : Hp) : Option ((Int × Int) × Hp) :=
  lt_ (w32 ((h a0 25) + 1)) fun x1_6 =>
  bT (m_X23_nameAt a0 x1_6 h) (fun v9 h9 =>
  (m_X18_is (h9 a0 0) x1_6 v9 (-86) h9).bind fun v21 =>
  (m_X18_is (h9 a0 0) x1_6 v9 (-87) h9).bind fun v33 =>
  (m_X23_find a0 x1_6 v9 h9).bind fun v41 =>
  if v21 ≠ 0 then (m_X23_reference_j69 v41 v33 v21 v9 a0 h9)
  else (if v33 ≠ 0 then (m_X23_reference_j69 v41 v33 v21 v9 a0 h9)
  else (if 0 ≤ v41 then (m_X23_reference_j69 v41 v33 v21 v9 a0 h9)
  else (al h9 448 7 fun a60 h60 =>
  (x_broken a60 x1_6 h60).bind fun h65 =>
  some ((1, a60), h65))))) (fun a_ h_ => some ((1, a_), h_))
theorem s_X23_reference {l : Launch} [NoTr l] {D : SD} {a0 : Int} {h : Hp} (hk : h a0 (-2) = 384) {r : (Int × Int) × Hp} (hm : m_X23_reference a0 h = some r) : Sim l D yX23_reference (Cond.code yX23_reference cX23_reference 6 (Option.none : Option Jvm.ClassFile.FieldType)) 10 375 [rv D a0] h 0 r := by
  refine Sim.of (fin := fun (v : (Int × Int) × Hp) => v) (lsE := [(0, rv D a0)]) hm rfl cwS_code (la_r la_n) (ll_r ll_n) ?_
  intro p e s m below meth c X hcw hmm hcc hnm hname
  have hno := noh hcw hnm hmm hcc
  unfold m_X23_reference
  refine g_aload_n (pc := 0) X (j := 0) (i := 0) (q := 0) (x := a0) rfl rfl (dl_at t_X23_reference 0 rfl) ?_
  refine r_geti (pc := 1) X fX23_25 hk q3574 (dl_at t_X23_reference 1 rfl) fun g1 => ?_
  refine g_iconst (pc := 4) X (n := 1) (dl_at t_X23_reference 2 rfl) ?_
  refine g_iadd (pc := 5) X g1 (r32_c rfl) (dl_at t_X23_reference 3 rfl) ?_
  refine g_lti (r32_w _) fun x1_6 r1_6 => ?_
  refine g_istore_nN (pc := 6) X (j := 1) (i := 1) (x := x1_6) (b := 0) (w := rv D a0) (rest := []) rfl (Nat.le_of_ble_eq_true rfl) [0] rfl (by decide) rv_cat rfl (dl_at t_X23_reference 4 rfl) ?_
  refine g_aload_n (pc := 7) X (j := 0) (i := 0) (q := 1) (x := a0) rfl rfl (dl_at t_X23_reference 5 rfl) ?_
  refine g_iload_n (pc := 8) X (j := 1) (i := 1) (q := 0) (x := x1_6) rfl rfl (dl_at t_X23_reference 6 rfl) ?_
  refine r_callTi (pc := 9) X (fun _ hv => s_X23_nameAt hk r1_6 hv) cw_code q4578 q377 (in_Vk X (As := [iv x1_6]) kX23 hk (Or.inl q4575) q4577 qs258 cw_code q4578 ⟨by decide, by decide⟩ rfl (dl_at t_X23_reference 7 rfl)) (dl_at t_X23_reference 7 rfl) (cat24 (st := []) (Nat.le_of_ble_eq_true rfl)) (Nat.le_of_ble_eq_true rfl) (Nat.le_of_ble_eq_true rfl) (fun v9 h9 g9 E9 => ?_) (fun _ _ ha _ => gt_at fun Q hQ => gt_out (Q := Q) X rfl ha (hno _) _ Q rfl hQ)
  refine g_istore_nN (pc := 12) X (j := 2) (i := 2) (x := v9) (b := 1) (w := iv x1_6) (rest := [(0, rv D a0)]) rfl (Nat.le_of_ble_eq_true rfl) [0, 1] rfl (by decide) rfl rfl (dl_at t_X23_reference 8 rfl) ?_
  refine g_aload_n (pc := 13) X (j := 0) (i := 0) (q := 2) (x := a0) rfl rfl (dl_at t_X23_reference 9 rfl) ?_
  have k14 := kx E9 (by decide) hk
  refine r_getr (pc := 14) X fX23_0 k14 q3516 (dl_at t_X23_reference 10 rfl) ?_
  refine g_iload_n (pc := 17) X (j := 1) (i := 1) (q := 1) (x := x1_6) rfl rfl (dl_at t_X23_reference 11 rfl) ?_
  refine g_iload_n (pc := 18) X (j := 2) (i := 2) (q := 0) (x := v9) rfl rfl (dl_at t_X23_reference 12 rfl) ?_
  refine g_ldcS (pc := 19) X (index := 138) (id := (-86)) 84 rfl rfl (dl_at t_X23_reference 13 rfl) ?_
  refine r_callRz (pc := 21) X (fun _ hv => s_X18_is r1_6 g9 hv) cw_code q4367 q372 (in_Sc X (As := [rv D (h9 a0 0), iv x1_6, iv v9, rv D (-86)]) (Or.inr ⟨_, nw_in q4584 rfl⟩) q4366 q372 q4367 ⟨by decide, by decide⟩ rfl (dl_at t_X23_reference 14 rfl)) (dl_at t_X23_reference 14 rfl) (cat24 (st := []) (Nat.le_of_ble_eq_true rfl)) (Nat.le_of_ble_eq_true rfl) (Nat.le_of_ble_eq_true rfl) fun v21 g21 => ?_
  refine g_istore_nN (pc := 24) X (j := 3) (i := 3) (x := v21) (b := 2) (w := iv v9) (rest := [(1, iv x1_6), (0, rv D a0)]) rfl (Nat.le_of_ble_eq_true rfl) [0, 1, 2] rfl (by decide) rfl rfl (dl_at t_X23_reference 15 rfl) ?_
  refine g_aload_n (pc := 25) X (j := 0) (i := 0) (q := 3) (x := a0) rfl rfl (dl_at t_X23_reference 16 rfl) ?_
  refine r_getr (pc := 26) X fX23_0 k14 q3516 (dl_at t_X23_reference 17 rfl) ?_
  refine g_iload_n (pc := 29) X (j := 1) (i := 1) (q := 2) (x := x1_6) rfl rfl (dl_at t_X23_reference 18 rfl) ?_
  refine g_iload_n (pc := 30) X (j := 2) (i := 2) (q := 1) (x := v9) rfl rfl (dl_at t_X23_reference 19 rfl) ?_
  refine g_ldcS (pc := 31) X (index := 144) (id := (-87)) 85 rfl rfl (dl_at t_X23_reference 20 rfl) ?_
  refine r_callRz (pc := 33) X (fun _ hv => s_X18_is r1_6 g9 hv) cw_code q4367 q372 (in_Sc X (As := [rv D (h9 a0 0), iv x1_6, iv v9, rv D (-87)]) (Or.inr ⟨_, nw_in q4584 rfl⟩) q4366 q372 q4367 ⟨by decide, by decide⟩ rfl (dl_at t_X23_reference 21 rfl)) (dl_at t_X23_reference 21 rfl) (cat24 (st := []) (Nat.le_of_ble_eq_true rfl)) (Nat.le_of_ble_eq_true rfl) (Nat.le_of_ble_eq_true rfl) fun v33 g33 => ?_
  refine g_istoreN (pc := 36) X (i := 4) (x := v33) (b := 3) (w := iv v21) (rest := [(2, iv v9), (1, iv x1_6), (0, rv D a0)]) (Nat.le_of_ble_eq_true rfl) [0, 1, 2, 3] rfl (by decide) rfl rfl (dl_at t_X23_reference 22 rfl) ?_
  refine g_aload_n (pc := 38) X (j := 0) (i := 0) (q := 4) (x := a0) rfl rfl (dl_at t_X23_reference 23 rfl) ?_
  refine g_iload_n (pc := 39) X (j := 1) (i := 1) (q := 3) (x := x1_6) rfl rfl (dl_at t_X23_reference 24 rfl) ?_
  refine g_iload_n (pc := 40) X (j := 2) (i := 2) (q := 2) (x := v9) rfl rfl (dl_at t_X23_reference 25 rfl) ?_
  refine r_callRi (pc := 41) X (fun _ hv => s_X23_find k14 r1_6 g9 hv) cw_code q4589 q377 (in_Vk X (As := [iv x1_6, iv v9]) kX23 k14 (Or.inl q4586) q4588 qs259 cw_code q4589 ⟨by decide, by decide⟩ rfl (dl_at t_X23_reference 26 rfl)) (dl_at t_X23_reference 26 rfl) (cat24 (st := []) (Nat.le_of_ble_eq_true rfl)) (Nat.le_of_ble_eq_true rfl) (Nat.le_of_ble_eq_true rfl) fun v41 g41 => ?_
  refine g_istoreN (pc := 44) X (i := 5) (x := v41) (b := 4) (w := iv v33) (rest := [(3, iv v21), (2, iv v9), (1, iv x1_6), (0, rv D a0)]) (Nat.le_of_ble_eq_true rfl) [0, 1, 2, 3, 4] rfl (by decide) rfl rfl (dl_at t_X23_reference 27 rfl) ?_
  refine g_iload_n (pc := 46) X (j := 3) (i := 3) (q := 2) (x := v21) rfl rfl (dl_at t_X23_reference 28 rfl) ?_
  refine g_join (γ := Unit) (fun q => True) 69 (fun q => [(0, rv D a0), (2, iv v9), (3, iv v21), (4, iv v33), (5, iv v41)]) (fun q => []) (fun q => h9) (fun q => m_X23_reference_j69 v41 v33 v21 v9 a0 h9) ?_ ?_
  · rintro _ _
    try dsimp only
    unfold m_X23_reference_j69
    refine g_aload_n (pc := 69) X (j := 0) (i := 0) (q := 0) (x := a0) rfl rfl (dl_at t_X23_reference 39 rfl) ?_
    refine g_iload_n (pc := 70) X (j := 2) (i := 2) (q := 1) (x := v9) rfl rfl (dl_at t_X23_reference 40 rfl) ?_
    refine g_bipush (pc := 71) X (n := 59) rfl (dl_at t_X23_reference 41 rfl) ?_
    refine r_callTv (pc := 73) X (fun _ hv => s_X23_need k14 g9 (r32_c rfl) hv) cw_code q4594 q377 (in_Vk X (As := [iv v9, iv 59]) kX23 k14 (Or.inl q4591) q4593 qs260 cw_code q4594 ⟨by decide, by decide⟩ rfl (dl_at t_X23_reference 42 rfl)) (dl_at t_X23_reference 42 rfl) (cat24 (st := []) (Nat.le_of_ble_eq_true rfl)) (Nat.le_of_ble_eq_true rfl) (Nat.le_of_ble_eq_true rfl) (fun v73 h73 E73 => ?_) (fun _ _ ha _ => gt_at fun Q hQ => gt_out (Q := Q) X rfl ha (hno _) _ Q rfl hQ)
    refine g_iload_n (pc := 76) X (j := 3) (i := 3) (q := 2) (x := v21) rfl rfl (dl_at t_X23_reference 43 rfl) ?_
    refine g_join (γ := Unit) (fun q => True) 85 (fun q => [(0, rv D a0), (2, iv v9), (3, iv v21)]) (fun q => []) (fun q => h73) (fun q => m_X23_reference_j85 a0 v9 v21 h73) ?_ ?_
    · rintro _ _
      try dsimp only
      unfold m_X23_reference_j85
      refine g_aload_n (pc := 85) X (j := 0) (i := 0) (q := 0) (x := a0) rfl rfl (dl_at t_X23_reference 47 rfl) ?_
      refine g_iconst (pc := 86) X (n := 3) (dl_at t_X23_reference 48 rfl) ?_
      refine g_iload_n (pc := 87) X (j := 3) (i := 3) (q := 2) (x := v21) rfl rfl (dl_at t_X23_reference 49 rfl) ?_
      refine g_ifeq (pc := 88) X (r32_z g21) (off := 8) (tgt := 96) rfl (dl_at t_X23_reference 50 rfl) (fun _ => ?_) (fun _ => ?_)
      · refine g_bipush (pc := 96) X (n := 38) rfl (dl_at t_X23_reference 53 rfl) ?_
        refine g_iconst (pc := 98) X (n := 0) (dl_at t_X23_reference 54 rfl) ?_
        have k99 := kx E73 (by decide) k14
        refine r_callV (pc := 99) X (fun _ hv => s_X23_add k99 (r32_c rfl) (r32_c rfl) (r32_c rfl) hv) cw_code q4598 q377 (in_Vk X (As := [iv 3, iv 38, iv 0]) kX23 k99 (Or.inl q4595) q4597 qs261 cw_code q4598 ⟨by decide, by decide⟩ rfl (dl_at t_X23_reference 55 rfl)) (dl_at t_X23_reference 55 rfl) (cat24 (st := []) (Nat.le_of_ble_eq_true rfl)) (Nat.le_of_ble_eq_true rfl) (Nat.le_of_ble_eq_true rfl) fun h99 E99 => ?_
        refine g_goto (pc := 102) X (off := 39) (tgt := 141) rfl (dl_at t_X23_reference 56 rfl) ?_
        refine g_aload_n (pc := 141) X (j := 0) (i := 0) (q := 0) (x := a0) rfl rfl (dl_at t_X23_reference 77 rfl) ?_
        refine g_iload_n (pc := 142) X (j := 2) (i := 2) (q := 1) (x := v9) rfl rfl (dl_at t_X23_reference 78 rfl) ?_
        refine g_iconst (pc := 143) X (n := 1) (dl_at t_X23_reference 79 rfl) ?_
        refine g_iadd (pc := 144) X g9 (r32_c rfl) (dl_at t_X23_reference 80 rfl) ?_
        have k145 := kx E99 (by decide) k99
        refine r_puti (pc := 145) X fX23_25 k145 q3574 rfl (dl_at t_X23_reference 81 rfl) (r32_w _) (fun h145 E145 => ?_)
        exact g_vret (pc := 148) X (v := 0) rfl rfl (dl_at t_X23_reference 82 rfl)
      refine g_bipush (pc := 91) X (n := 60) rfl (dl_at t_X23_reference 51 rfl) ?_
      refine g_goto (pc := 93) X (off := 5) (tgt := 98) rfl (dl_at t_X23_reference 52 rfl) ?_
      refine g_iconst (pc := 98) X (n := 0) (dl_at t_X23_reference 54 rfl) ?_
      have k99_1 := kx E73 (by decide) k14
      refine r_callV (pc := 99) X (fun _ hv => s_X23_add k99_1 (r32_c rfl) (r32_c rfl) (r32_c rfl) hv) cw_code q4598 q377 (in_Vk X (As := [iv 3, iv 60, iv 0]) kX23 k99_1 (Or.inl q4595) q4597 qs261 cw_code q4598 ⟨by decide, by decide⟩ rfl (dl_at t_X23_reference 55 rfl)) (dl_at t_X23_reference 55 rfl) (cat24 (st := []) (Nat.le_of_ble_eq_true rfl)) (Nat.le_of_ble_eq_true rfl) (Nat.le_of_ble_eq_true rfl) fun h99_1 E99_1 => ?_
      refine g_goto (pc := 102) X (off := 39) (tgt := 141) rfl (dl_at t_X23_reference 56 rfl) ?_
      refine g_aload_n (pc := 141) X (j := 0) (i := 0) (q := 0) (x := a0) rfl rfl (dl_at t_X23_reference 77 rfl) ?_
      refine g_iload_n (pc := 142) X (j := 2) (i := 2) (q := 1) (x := v9) rfl rfl (dl_at t_X23_reference 78 rfl) ?_
      refine g_iconst (pc := 143) X (n := 1) (dl_at t_X23_reference 79 rfl) ?_
      refine g_iadd (pc := 144) X g9 (r32_c rfl) (dl_at t_X23_reference 80 rfl) ?_
      have k145_1 := kx E99_1 (by decide) k99_1
      refine r_puti (pc := 145) X fX23_25 k145_1 q3574 rfl (dl_at t_X23_reference 81 rfl) (r32_w _) (fun h145_1 E145_1 => ?_)
      exact g_vret (pc := 148) X (v := 0) rfl rfl (dl_at t_X23_reference 82 rfl)
    intro J85
    refine g_ifne (pc := 77) X (r32_z g21) (off := 8) (tgt := 85) rfl (dl_at t_X23_reference 44 rfl) (fun _ => ?_) (fun _ => ?_)
    · refine g_ls (ls2 := [(0, rv D a0), (2, iv v9), (3, iv v21)]) [0, 1, 2] rfl ?_
      exact J85 () trivial
    refine g_iload (pc := 80) X (i := 4) (q := 3) (x := v33) rfl (dl_at t_X23_reference 45 rfl) ?_
    refine g_ifeq (pc := 82) X (r32_z g33) (off := 23) (tgt := 105) rfl (dl_at t_X23_reference 46 rfl) (fun _ => ?_) (fun _ => ?_)
    · refine g_aload_n (pc := 105) X (j := 0) (i := 0) (q := 0) (x := a0) rfl rfl (dl_at t_X23_reference 57 rfl) ?_
      have k106 := kx E73 (by decide) k14
      refine r_getr (pc := 106) X fX23_23 k106 q3572 (dl_at t_X23_reference 58 rfl) ?_
      refine g_iload (pc := 109) X (i := 5) (q := 4) (x := v41) rfl (dl_at t_X23_reference 59 rfl) ?_
      refine g_gd fun k111 => ?_
      refine g_iald (pc := 111) X g41 k111 (dl_at t_X23_reference 60 rfl) fun g111 => ?_
      refine g_aload_n (pc := 112) X (j := 0) (i := 0) (q := 0) (x := a0) rfl rfl (dl_at t_X23_reference 61 rfl) ?_
      refine r_getr (pc := 113) X fX23_24 k106 q3573 (dl_at t_X23_reference 62 rfl) ?_
      refine g_iload (pc := 116) X (i := 5) (q := 4) (x := v41) rfl (dl_at t_X23_reference 63 rfl) ?_
      refine g_gd fun k118 => ?_
      refine g_iald (pc := 118) X g41 k118 (dl_at t_X23_reference 64 rfl) fun g118 => ?_
      refine g_icmpge (pc := 119) X g111 g118 (off := 22) (tgt := 141) rfl (dl_at t_X23_reference 65 rfl) (fun _ => ?_) (fun _ => ?_)
      · refine g_aload_n (pc := 141) X (j := 0) (i := 0) (q := 0) (x := a0) rfl rfl (dl_at t_X23_reference 77 rfl) ?_
        refine g_iload_n (pc := 142) X (j := 2) (i := 2) (q := 1) (x := v9) rfl rfl (dl_at t_X23_reference 78 rfl) ?_
        refine g_iconst (pc := 143) X (n := 1) (dl_at t_X23_reference 79 rfl) ?_
        refine g_iadd (pc := 144) X g9 (r32_c rfl) (dl_at t_X23_reference 80 rfl) ?_
        refine r_puti (pc := 145) X fX23_25 k106 q3574 rfl (dl_at t_X23_reference 81 rfl) (r32_w _) (fun h145_2 E145_2 => ?_)
        exact g_vret (pc := 148) X (v := 0) rfl rfl (dl_at t_X23_reference 82 rfl)
      refine g_aload_n (pc := 122) X (j := 0) (i := 0) (q := 0) (x := a0) rfl rfl (dl_at t_X23_reference 66 rfl) ?_
      refine g_iconst (pc := 123) X (n := 0) (dl_at t_X23_reference 67 rfl) ?_
      refine g_aload_n (pc := 124) X (j := 0) (i := 0) (q := 0) (x := a0) rfl rfl (dl_at t_X23_reference 68 rfl) ?_
      refine r_getr (pc := 125) X fX23_23 k106 q3572 (dl_at t_X23_reference 69 rfl) ?_
      refine g_iload (pc := 128) X (i := 5) (q := 4) (x := v41) rfl (dl_at t_X23_reference 70 rfl) ?_
      refine g_iald (pc := 130) X g41 k111 (dl_at t_X23_reference 71 rfl) fun g130 => ?_
      refine g_aload_n (pc := 131) X (j := 0) (i := 0) (q := 0) (x := a0) rfl rfl (dl_at t_X23_reference 72 rfl) ?_
      refine r_getr (pc := 132) X fX23_24 k106 q3573 (dl_at t_X23_reference 73 rfl) ?_
      refine g_iload (pc := 135) X (i := 5) (q := 4) (x := v41) rfl (dl_at t_X23_reference 74 rfl) ?_
      refine g_iald (pc := 137) X g41 k118 (dl_at t_X23_reference 75 rfl) fun g137 => ?_
      refine r_callV (pc := 138) X (fun _ hv => s_X23_add k106 (r32_c rfl) g130 g137 hv) cw_code q4598 q377 (in_Vk X (As := [iv 0, iv (h73 (h73 a0 23) v41), iv (h73 (h73 a0 24) v41)]) kX23 k106 (Or.inl q4595) q4597 qs261 cw_code q4598 ⟨by decide, by decide⟩ rfl (dl_at t_X23_reference 76 rfl)) (dl_at t_X23_reference 76 rfl) (cat24 (st := []) (Nat.le_of_ble_eq_true rfl)) (Nat.le_of_ble_eq_true rfl) (Nat.le_of_ble_eq_true rfl) fun h138 E138 => ?_
      refine g_aload_n (pc := 141) X (j := 0) (i := 0) (q := 0) (x := a0) rfl rfl (dl_at t_X23_reference 77 rfl) ?_
      refine g_iload_n (pc := 142) X (j := 2) (i := 2) (q := 1) (x := v9) rfl rfl (dl_at t_X23_reference 78 rfl) ?_
      refine g_iconst (pc := 143) X (n := 1) (dl_at t_X23_reference 79 rfl) ?_
      refine g_iadd (pc := 144) X g9 (r32_c rfl) (dl_at t_X23_reference 80 rfl) ?_
      have k145_2 := kx E138 (by decide) k106
      refine r_puti (pc := 145) X fX23_25 k145_2 q3574 rfl (dl_at t_X23_reference 81 rfl) (r32_w _) (fun h145_3 E145_3 => ?_)
      exact g_vret (pc := 148) X (v := 0) rfl rfl (dl_at t_X23_reference 82 rfl)
    refine g_ls (ls2 := [(0, rv D a0), (2, iv v9), (3, iv v21)]) [0, 1, 2] rfl ?_
    exact J85 () trivial
  intro J69
  refine g_ifne (pc := 47) X (r32_z g21) (off := 22) (tgt := 69) rfl (dl_at t_X23_reference 29 rfl) (fun _ => ?_) (fun _ => ?_)
  · refine g_ls (ls2 := [(0, rv D a0), (2, iv v9), (3, iv v21), (4, iv v33), (5, iv v41)]) [5, 3, 2, 1, 0] rfl ?_
    exact J69 () trivial
  refine g_iload (pc := 50) X (i := 4) (q := 1) (x := v33) rfl (dl_at t_X23_reference 30 rfl) ?_
  refine g_ifne (pc := 52) X (r32_z g33) (off := 17) (tgt := 69) rfl (dl_at t_X23_reference 31 rfl) (fun _ => ?_) (fun _ => ?_)
  · refine g_ls (ls2 := [(0, rv D a0), (2, iv v9), (3, iv v21), (4, iv v33), (5, iv v41)]) [5, 3, 2, 1, 0] rfl ?_
    exact J69 () trivial
  refine g_iload (pc := 55) X (i := 5) (q := 0) (x := v41) rfl (dl_at t_X23_reference 32 rfl) ?_
  refine g_ifge (pc := 57) X g41 (off := 12) (tgt := 69) rfl (dl_at t_X23_reference 33 rfl) (fun _ => ?_) (fun _ => ?_)
  · refine g_ls (ls2 := [(0, rv D a0), (2, iv v9), (3, iv v21), (4, iv v33), (5, iv v41)]) [5, 3, 2, 1, 0] rfl ?_
    exact J69 () trivial
  refine r_new (pc := 60) X kX27 q4580 (dl_at t_X23_reference 34 rfl) fun a60 h60 p60 k60 E60 => ?_
  refine g_dup (pc := 63) X rv_cat (dl_at t_X23_reference 35 rfl) ?_
  refine g_iload_n (pc := 64) X (j := 1) (i := 1) (q := 4) (x := x1_6) rfl rfl (dl_at t_X23_reference 36 rfl) ?_
  refine r_callV (pc := 65) X (fun _ hv => sx_ScholarsPressModel_Broken_init_I_V k60 r1_6 hv) cw_code q4398 q392 (in_I X (As := [iv x1_6]) (Int.ne_of_gt p60) rfl (Or.inl q4581) q4397 q4398 ⟨by decide, by decide⟩ rfl (dl_at t_X23_reference 37 rfl)) (dl_at t_X23_reference 37 rfl) (cat24 (st := [rv D a60]) (Nat.le_of_ble_eq_true rfl)) (Nat.le_of_ble_eq_true rfl) (Nat.le_of_ble_eq_true rfl) fun h65 E65 => ?_
  refine g_athrow (pc := 68) X (Int.ne_of_gt p60) (dl_at t_X23_reference 38 rfl) ?_
  exact gt_at fun Q hQ => gt_out (Q := Q) X rfl p60 (hno _) _ Q rfl hQ
def k_X23_comment : List (Nat × Instr × Nat) := [(0, .aload_n 0, 1), (1, .iload_n 1, 1), (2, .bipush 45, 2), (4, .invokevirtual 150, 3), (7, .iload_n 1, 1), (8, .iconst 1, 1), (9, .iadd, 1), (10, .istore_n 2, 1), (11, .iload_n 2, 1), (12, .aload_n 0, 1), (13, .getfield 73, 3), (16, .if_icmp .ge 43, 3), (19, .aload_n 0, 1), (20, .iload_n 2, 1), (21, .invokevirtual 90, 3), (24, .bipush 45, 2), (26, .if_icmp .ne 27, 3), (29, .aload_n 0, 1), (30, .iload_n 2, 1), (31, .iconst 1, 1), (32, .iadd, 1), (33, .invokevirtual 90, 3), (36, .bipush 45, 2), (38, .if_icmp .ne 15, 3), (41, .aload_n 0, 1), (42, .iload_n 2, 1), (43, .iconst 2, 1), (44, .iadd, 1), (45, .invokevirtual 90, 3), (48, .bipush 62, 2), (50, .if_icmp .eq 9, 3), (53, .iinc 2 1, 3), (56, .goto (-45), 3), (59, .iload_n 2, 1), (60, .aload_n 0, 1), (61, .getfield 73, 3), (64, .if_icmp .lt 15, 3), (67, .new 101, 3), (70, .dup, 1), (71, .aload_n 0, 1), (72, .getfield 73, 3), (75, .invokespecial 103, 3), (78, .athrow, 1), (79, .aload_n 0, 1), (80, .iload_n 2, 1), (81, .iconst 3, 1), (82, .iadd, 1), (83, .putfield 109, 3), (86, .return_, 1)]
theorem t_X23_comment : ∀ q ∈ k_X23_comment, decode cX23_comment q.1 = .ok q.2 := dl_all (by decide +kernel)
noncomputable def m_X23_comment_j53 (x2_11 : Int) : Option ((Int) ⊕ ((Int))) :=
  lt_ (w32 (x2_11 + 1)) fun x2_53 =>
  some (.inl x2_53)
noncomputable def m_X23_comment_l11 (a0 x2_11 : Int) (h4 : Hp) : Option ((Int) ⊕ ((Int))) :=
  if (h4 a0 1) ≤ x2_11 then (some (.inr x2_11))
  else ((m_X23_byteAt a0 x2_11 h4).bind fun v21 =>
  if v21 ≠ 45 then (m_X23_comment_j53 x2_11)
  else ((m_X23_byteAt a0 (w32 (x2_11 + 1)) h4).bind fun v33 =>
  if v33 ≠ 45 then (m_X23_comment_j53 x2_11)
  else ((m_X23_byteAt a0 (w32 (x2_11 + 2)) h4).bind fun v45 =>
  if v45 = 62 then (some (.inr x2_11))
  else (m_X23_comment_j53 x2_11))))
noncomputable def m_X23_comment (a0 a1 : Int) (h : Hp) : Option ((Int × Int) × Hp) :=
  bT (m_X23_need a0 a1 45 h) (fun _ h4 =>
  lt_ (w32 (a1 + 1)) fun x2_10 =>
  (lp (fun (q : Int) => m_X23_comment_l11 a0 q h4) x2_10).bind (fun (y59 : Int) => if y59 < (h4 a0 1) then (pt h4 a0 25 (w32 (y59 + 3)) fun h83 =>
  some ((0, 0), h83))
  else (al h4 448 7 fun a67 h67 =>
  (x_broken a67 (h67 a0 1) h67).bind fun h75 =>
  some ((1, a67), h75)))) (fun a_ h_ => some ((1, a_), h_))
theorem s_X23_comment {l : Launch} [NoTr l] {D : SD} {a0 a1 : Int} {h : Hp} (hk : h a0 (-2) = 384) (r1 : r32 a1) {r : (Int × Int) × Hp} (hm : m_X23_comment a0 a1 h = some r) : Sim l D yX23_comment (Cond.code yX23_comment cX23_comment 3 (Option.none : Option Jvm.ClassFile.FieldType)) 10 375 [rv D a0, iv a1] h 0 r := by
  refine Sim.of (fin := fun (v : (Int × Int) × Hp) => v) (lsE := [(0, rv D a0), (1, iv a1)]) hm rfl cwS_code (la_r (la_i la_n)) (ll_r (ll_i ll_n)) ?_
  intro p e s m below meth c X hcw hmm hcc hnm hname
  have hno := noh hcw hnm hmm hcc
  unfold m_X23_comment
  refine g_aload_n (pc := 0) X (j := 0) (i := 0) (q := 0) (x := a0) rfl rfl (dl_at t_X23_comment 0 rfl) ?_
  refine g_iload_n (pc := 1) X (j := 1) (i := 1) (q := 1) (x := a1) rfl rfl (dl_at t_X23_comment 1 rfl) ?_
  refine g_bipush (pc := 2) X (n := 45) rfl (dl_at t_X23_comment 2 rfl) ?_
  refine r_callTv (pc := 4) X (fun _ hv => s_X23_need hk r1 (r32_c rfl) hv) cw_code q4594 q377 (in_Vk X (As := [iv a1, iv 45]) kX23 hk (Or.inl q4591) q4593 qs260 cw_code q4594 ⟨by decide, by decide⟩ rfl (dl_at t_X23_comment 3 rfl)) (dl_at t_X23_comment 3 rfl) (cat24 (st := []) (Nat.le_of_ble_eq_true rfl)) (Nat.le_of_ble_eq_true rfl) (Nat.le_of_ble_eq_true rfl) (fun v4 h4 E4 => ?_) (fun _ _ ha _ => gt_at fun Q hQ => gt_out (Q := Q) X rfl ha (hno _) _ Q rfl hQ)
  refine g_iload_n (pc := 7) X (j := 1) (i := 1) (q := 1) (x := a1) rfl rfl (dl_at t_X23_comment 4 rfl) ?_
  refine g_iconst (pc := 8) X (n := 1) (dl_at t_X23_comment 5 rfl) ?_
  refine g_iadd (pc := 9) X r1 (r32_c rfl) (dl_at t_X23_comment 6 rfl) ?_
  refine g_lti (r32_w _) fun x2_10 r2_10 => ?_
  refine g_istore_n (pc := 10) X (j := 2) (i := 2) (x := x2_10) (rest := [(0, rv D a0)]) rfl (Nat.le_of_ble_eq_true rfl) [0] rfl rfl (dl_at t_X23_comment 7 rfl) ?_
  refine g_ls (ls2 := [(0, rv D a0), (2, iv x2_10)]) [1, 0] rfl ?_
  refine g_loop1 (fun (q : Int) => [(0, rv D a0), (2, iv q)]) (fun (q : Int) => h4) (fun (q : Int) => r32 q) 59 (fun (y59 : Int) => [(0, rv D a0), (2, iv y59)]) (fun (y59 : Int) => h4) (fun (y59 : Int) => r32 y59) x2_10 r2_10 ?_ ?_
  · rintro x2_11 r2_11
    try dsimp only
    unfold m_X23_comment_l11
    refine g_iload_n (pc := 11) X (j := 2) (i := 2) (q := 1) (x := x2_11) rfl rfl (dl_at t_X23_comment 8 rfl) ?_
    refine g_aload_n (pc := 12) X (j := 0) (i := 0) (q := 0) (x := a0) rfl rfl (dl_at t_X23_comment 9 rfl) ?_
    have k13 := kx E4 (by decide) hk
    refine r_geti (pc := 13) X fX23_1 k13 q3520 (dl_at t_X23_comment 10 rfl) fun g13 => ?_
    refine g_icmpge (pc := 16) X r2_11 g13 (off := 43) (tgt := 59) rfl (dl_at t_X23_comment 11 rfl) (fun _ => ?_) (fun _ => ?_)
    · exact g_at fun Q hQ => hQ r2_11
    refine g_aload_n (pc := 19) X (j := 0) (i := 0) (q := 0) (x := a0) rfl rfl (dl_at t_X23_comment 12 rfl) ?_
    refine g_iload_n (pc := 20) X (j := 2) (i := 2) (q := 1) (x := x2_11) rfl rfl (dl_at t_X23_comment 13 rfl) ?_
    refine r_callRi (pc := 21) X (fun _ hv => s_X23_byteAt k13 r2_11 hv) cw_code q4570 q377 (in_Vk X (As := [iv x2_11]) kX23 k13 (Or.inl q4567) q4569 qs256 cw_code q4570 ⟨by decide, by decide⟩ rfl (dl_at t_X23_comment 14 rfl)) (dl_at t_X23_comment 14 rfl) (cat24 (st := []) (Nat.le_of_ble_eq_true rfl)) (Nat.le_of_ble_eq_true rfl) (Nat.le_of_ble_eq_true rfl) fun v21 g21 => ?_
    refine g_bipush (pc := 24) X (n := 45) rfl (dl_at t_X23_comment 15 rfl) ?_
    refine g_join (γ := Unit) (fun q => True) 53 (fun q => [(0, rv D a0), (2, iv x2_11)]) (fun q => []) (fun q => h4) (fun q => m_X23_comment_j53 x2_11) ?_ ?_
    · rintro _ _
      try dsimp only
      unfold m_X23_comment_j53
      refine r_iinc (pc := 53) X (i := 2) (q := 1) (n := 1) (x := x2_11) (rest := [(0, rv D a0)]) rfl r2_11 (r32_c rfl) (Nat.le_of_ble_eq_true rfl) [0] rfl rfl (dl_at t_X23_comment 31 rfl) fun x2_53 r2_53 => ?_
      refine g_goto (pc := 56) X (off := (-45)) (tgt := 11) rfl (dl_at t_X23_comment 32 rfl) ?_
      refine g_ls (ls2 := [(0, rv D a0), (2, iv x2_53)]) [1, 0] rfl ?_
      exact g_at fun Q hQ => hQ r2_53
    intro J53
    refine g_icmpne (pc := 26) X g21 (r32_c rfl) (off := 27) (tgt := 53) rfl (dl_at t_X23_comment 16 rfl) (fun _ => ?_) (fun _ => ?_)
    · exact J53 () trivial
    refine g_aload_n (pc := 29) X (j := 0) (i := 0) (q := 0) (x := a0) rfl rfl (dl_at t_X23_comment 17 rfl) ?_
    refine g_iload_n (pc := 30) X (j := 2) (i := 2) (q := 1) (x := x2_11) rfl rfl (dl_at t_X23_comment 18 rfl) ?_
    refine g_iconst (pc := 31) X (n := 1) (dl_at t_X23_comment 19 rfl) ?_
    refine g_iadd (pc := 32) X r2_11 (r32_c rfl) (dl_at t_X23_comment 20 rfl) ?_
    refine r_callRi (pc := 33) X (fun _ hv => s_X23_byteAt k13 (r32_w _) hv) cw_code q4570 q377 (in_Vk X (As := [iv (w32 (x2_11 + 1))]) kX23 k13 (Or.inl q4567) q4569 qs256 cw_code q4570 ⟨by decide, by decide⟩ rfl (dl_at t_X23_comment 21 rfl)) (dl_at t_X23_comment 21 rfl) (cat24 (st := []) (Nat.le_of_ble_eq_true rfl)) (Nat.le_of_ble_eq_true rfl) (Nat.le_of_ble_eq_true rfl) fun v33 g33 => ?_
    refine g_bipush (pc := 36) X (n := 45) rfl (dl_at t_X23_comment 22 rfl) ?_
    refine g_icmpne (pc := 38) X g33 (r32_c rfl) (off := 15) (tgt := 53) rfl (dl_at t_X23_comment 23 rfl) (fun _ => ?_) (fun _ => ?_)
    · exact J53 () trivial
    refine g_aload_n (pc := 41) X (j := 0) (i := 0) (q := 0) (x := a0) rfl rfl (dl_at t_X23_comment 24 rfl) ?_
    refine g_iload_n (pc := 42) X (j := 2) (i := 2) (q := 1) (x := x2_11) rfl rfl (dl_at t_X23_comment 25 rfl) ?_
    refine g_iconst (pc := 43) X (n := 2) (dl_at t_X23_comment 26 rfl) ?_
    refine g_iadd (pc := 44) X r2_11 (r32_c rfl) (dl_at t_X23_comment 27 rfl) ?_
    refine r_callRi (pc := 45) X (fun _ hv => s_X23_byteAt k13 (r32_w _) hv) cw_code q4570 q377 (in_Vk X (As := [iv (w32 (x2_11 + 2))]) kX23 k13 (Or.inl q4567) q4569 qs256 cw_code q4570 ⟨by decide, by decide⟩ rfl (dl_at t_X23_comment 28 rfl)) (dl_at t_X23_comment 28 rfl) (cat24 (st := []) (Nat.le_of_ble_eq_true rfl)) (Nat.le_of_ble_eq_true rfl) (Nat.le_of_ble_eq_true rfl) fun v45 g45 => ?_
    refine g_bipush (pc := 48) X (n := 62) rfl (dl_at t_X23_comment 29 rfl) ?_
    refine g_icmpeq (pc := 50) X g45 (r32_c rfl) (off := 9) (tgt := 59) rfl (dl_at t_X23_comment 30 rfl) (fun _ => ?_) (fun _ => ?_)
    · exact g_at fun Q hQ => hQ r2_11
    exact J53 () trivial
  · rintro x2_59 r2_59
    try dsimp only [sE]
    refine g_iload_n (pc := 59) X (j := 2) (i := 2) (q := 1) (x := x2_59) rfl rfl (dl_at t_X23_comment 33 rfl) ?_
    refine g_aload_n (pc := 60) X (j := 0) (i := 0) (q := 0) (x := a0) rfl rfl (dl_at t_X23_comment 34 rfl) ?_
    have k61 := kx E4 (by decide) hk
    refine r_geti (pc := 61) X fX23_1 k61 q3520 (dl_at t_X23_comment 35 rfl) fun g61 => ?_
    refine g_icmplt (pc := 64) X r2_59 g61 (off := 15) (tgt := 79) rfl (dl_at t_X23_comment 36 rfl) (fun _ => ?_) (fun _ => ?_)
    · refine g_aload_n (pc := 79) X (j := 0) (i := 0) (q := 0) (x := a0) rfl rfl (dl_at t_X23_comment 43 rfl) ?_
      refine g_iload_n (pc := 80) X (j := 2) (i := 2) (q := 1) (x := x2_59) rfl rfl (dl_at t_X23_comment 44 rfl) ?_
      refine g_iconst (pc := 81) X (n := 3) (dl_at t_X23_comment 45 rfl) ?_
      refine g_iadd (pc := 82) X r2_59 (r32_c rfl) (dl_at t_X23_comment 46 rfl) ?_
      refine r_puti (pc := 83) X fX23_25 k61 q3574 rfl (dl_at t_X23_comment 47 rfl) (r32_w _) (fun h83 E83 => ?_)
      exact g_vret (pc := 86) X (v := 0) rfl rfl (dl_at t_X23_comment 48 rfl)
    refine r_new (pc := 67) X kX27 q4580 (dl_at t_X23_comment 37 rfl) fun a67 h67 p67 k67 E67 => ?_
    refine g_dup (pc := 70) X rv_cat (dl_at t_X23_comment 38 rfl) ?_
    refine g_aload_n (pc := 71) X (j := 0) (i := 0) (q := 0) (x := a0) rfl rfl (dl_at t_X23_comment 39 rfl) ?_
    have k72 := kx E67 (by decide) k61
    refine r_geti (pc := 72) X fX23_1 k72 q3520 (dl_at t_X23_comment 40 rfl) fun g72 => ?_
    refine r_callV (pc := 75) X (fun _ hv => sx_ScholarsPressModel_Broken_init_I_V k67 g72 hv) cw_code q4398 q392 (in_I X (As := [iv (h67 a0 1)]) (Int.ne_of_gt p67) rfl (Or.inl q4581) q4397 q4398 ⟨by decide, by decide⟩ rfl (dl_at t_X23_comment 41 rfl)) (dl_at t_X23_comment 41 rfl) (cat24 (st := [rv D a67]) (Nat.le_of_ble_eq_true rfl)) (Nat.le_of_ble_eq_true rfl) (Nat.le_of_ble_eq_true rfl) fun h75 E75 => ?_
    refine g_athrow (pc := 78) X (Int.ne_of_gt p67) (dl_at t_X23_comment 42 rfl) ?_
    exact gt_at fun Q hQ => gt_out (Q := Q) X rfl p67 (hno _) _ Q rfl hQ
def k_X23_skip : List (Nat × Instr × Nat) := [(0, .iload_n 1, 1), (1, .istore_n 2, 1), (2, .iload_n 2, 1), (3, .aload_n 0, 1), (4, .getfield 73, 3), (7, .if_icmp .ge 20, 3), (10, .aload_n 0, 1), (11, .iload_n 2, 1), (12, .invokevirtual 90, 3), (15, .invokestatic 94, 3), (18, .ifCond .eq 9, 3), (21, .iinc 2 1, 3), (24, .goto (-22), 3), (27, .iload_n 2, 1), (28, .ireturn, 1)]
theorem t_X23_skip : ∀ q ∈ k_X23_skip, decode cX23_skip q.1 = .ok q.2 := dl_all (by decide +kernel)
noncomputable def m_X23_skip_l2 (a0 x2_2 : Int) (h : Hp) : Option ((Int) ⊕ ((Int))) :=
  if (h a0 1) ≤ x2_2 then (some (.inr x2_2))
  else ((m_X23_byteAt a0 x2_2 h).bind fun v12 =>
  (m_X18_isBlank v12).bind fun v15 =>
  if v15 = 0 then (some (.inr x2_2))
  else (lt_ (w32 (x2_2 + 1)) fun x2_21 =>
  some (.inl x2_21)))
noncomputable def m_X23_skip (a0 a1 : Int) (h : Hp) : Option (Int) :=
  (lp (fun (q : Int) => m_X23_skip_l2 a0 q h) a1).bind (fun (x : Int) => some x)
theorem s_X23_skip {l : Launch} [NoTr l] {D : SD} {a0 a1 : Int} {h : Hp} (hk : h a0 (-2) = 384) (r1 : r32 a1) {r : Int} (hm : m_X23_skip a0 a1 h = some r) : Sim l D yX23_skip (Cond.code yX23_skip cX23_skip 3 (Option.some Jvm.ClassFile.FieldType.int)) 1 37 [rv D a0, iv a1] h 1 ((0, r), h) := by
  refine Sim.of (fin := fun (v : Int) => ((0, v), h)) (lsE := [(0, rv D a0), (1, iv a1)]) hm rfl cwS_code (la_r (la_i la_n)) (ll_r (ll_i ll_n)) ?_
  intro p e s m below meth c X hcw hmm hcc hnm hname
  unfold m_X23_skip
  refine g_iload_n (pc := 0) X (j := 1) (i := 1) (q := 1) (x := a1) rfl rfl (dl_at t_X23_skip 0 rfl) ?_
  refine g_istore_n (pc := 1) X (j := 2) (i := 2) (x := a1) (rest := [(0, rv D a0)]) rfl (Nat.le_of_ble_eq_true rfl) [0] rfl rfl (dl_at t_X23_skip 1 rfl) ?_
  refine g_ls (ls2 := [(0, rv D a0), (2, iv a1)]) [1, 0] rfl ?_
  refine g_loop0F (fun (q : Int) => [(0, rv D a0), (2, iv q)]) (fun (q : Int) => h) (fun (q : Int) => r32 q) a1 r1 ?_ (fun _ => rfl)
  · rintro x2_2 r2_2
    try dsimp only
    unfold m_X23_skip_l2
    refine g_iload_n (pc := 2) X (j := 2) (i := 2) (q := 1) (x := x2_2) rfl rfl (dl_at t_X23_skip 2 rfl) ?_
    refine g_aload_n (pc := 3) X (j := 0) (i := 0) (q := 0) (x := a0) rfl rfl (dl_at t_X23_skip 3 rfl) ?_
    refine r_geti (pc := 4) X fX23_1 hk q3520 (dl_at t_X23_skip 4 rfl) fun g4 => ?_
    refine g_icmpge (pc := 7) X r2_2 g4 (off := 20) (tgt := 27) rfl (dl_at t_X23_skip 5 rfl) (fun _ => ?_) (fun _ => ?_)
    · refine g_iload_n (pc := 27) X (j := 2) (i := 2) (q := 1) (x := x2_2) rfl rfl (dl_at t_X23_skip 13 rfl) ?_
      exact g_at fun Q hQ => (g_iret (pc := 28) X r2_2 rfl rfl (dl_at t_X23_skip 14 rfl)) _ Q rfl hQ
    refine g_aload_n (pc := 10) X (j := 0) (i := 0) (q := 0) (x := a0) rfl rfl (dl_at t_X23_skip 6 rfl) ?_
    refine g_iload_n (pc := 11) X (j := 2) (i := 2) (q := 1) (x := x2_2) rfl rfl (dl_at t_X23_skip 7 rfl) ?_
    refine r_callRi (pc := 12) X (fun _ hv => s_X23_byteAt hk r2_2 hv) cw_code q4570 q377 (in_Vk X (As := [iv x2_2]) kX23 hk (Or.inl q4567) q4569 qs256 cw_code q4570 ⟨by decide, by decide⟩ rfl (dl_at t_X23_skip 8 rfl)) (dl_at t_X23_skip 8 rfl) (cat24 (st := []) (Nat.le_of_ble_eq_true rfl)) (Nat.le_of_ble_eq_true rfl) (Nat.le_of_ble_eq_true rfl) fun v12 g12 => ?_
    refine r_callRz (pc := 15) X (fun _ hv => s_X18_isBlank g12 hv) cw_code q4349 q372 (in_Sc X (As := [iv v12]) (Or.inr ⟨_, nw_in q4615 rfl⟩) q4348 q372 q4349 ⟨by decide, by decide⟩ rfl (dl_at t_X23_skip 9 rfl)) (dl_at t_X23_skip 9 rfl) (cat24 (st := []) (Nat.le_of_ble_eq_true rfl)) (Nat.le_of_ble_eq_true rfl) (Nat.le_of_ble_eq_true rfl) fun v15 g15 => ?_
    refine g_ifeq (pc := 18) X (r32_z g15) (off := 9) (tgt := 27) rfl (dl_at t_X23_skip 10 rfl) (fun _ => ?_) (fun _ => ?_)
    · refine g_iload_n (pc := 27) X (j := 2) (i := 2) (q := 1) (x := x2_2) rfl rfl (dl_at t_X23_skip 13 rfl) ?_
      exact g_at fun Q hQ => (g_iret (pc := 28) X r2_2 rfl rfl (dl_at t_X23_skip 14 rfl)) _ Q rfl hQ
    refine r_iinc (pc := 21) X (i := 2) (q := 1) (n := 1) (x := x2_2) (rest := [(0, rv D a0)]) rfl r2_2 (r32_c rfl) (Nat.le_of_ble_eq_true rfl) [0] rfl rfl (dl_at t_X23_skip 11 rfl) fun x2_21 r2_21 => ?_
    refine g_goto (pc := 24) X (off := (-22)) (tgt := 2) rfl (dl_at t_X23_skip 12 rfl) ?_
    refine g_ls (ls2 := [(0, rv D a0), (2, iv x2_21)]) [1, 0] rfl ?_
    exact g_at fun Q hQ => hQ r2_21
def k_X23_stringAt : List (Nat × Instr × Nat) := [(0, .aload_n 0, 1), (1, .iload_n 1, 1), (2, .invokevirtual 90, 3), (5, .bipush 34, 2), (7, .if_icmp .eq 12, 3), (10, .new 101, 3), (13, .dup, 1), (14, .iload_n 1, 1), (15, .invokespecial 103, 3), (18, .athrow, 1), (19, .iload_n 1, 1), (20, .iconst 1, 1), (21, .iadd, 1), (22, .istore_n 2, 1), (23, .aload_n 0, 1), (24, .iload_n 2, 1), (25, .invokevirtual 90, 3), (28, .bipush 32, 2), (30, .if_icmp .lt 29, 3), (33, .aload_n 0, 1), (34, .iload_n 2, 1), (35, .invokevirtual 90, 3), (38, .bipush 126, 2), (40, .if_icmp .gt 19, 3), (43, .aload_n 0, 1), (44, .iload_n 2, 1), (45, .invokevirtual 90, 3), (48, .bipush 34, 2), (50, .if_icmp .eq 9, 3), (53, .iinc 2 1, 3), (56, .goto (-33), 3), (59, .aload_n 0, 1), (60, .iload_n 2, 1), (61, .invokevirtual 90, 3), (64, .bipush 34, 2), (66, .if_icmp .eq 12, 3), (69, .new 101, 3), (72, .dup, 1), (73, .iload_n 1, 1), (74, .invokespecial 103, 3), (77, .athrow, 1), (78, .iload_n 2, 1), (79, .iconst 1, 1), (80, .iadd, 1), (81, .ireturn, 1)]
theorem t_X23_stringAt : ∀ q ∈ k_X23_stringAt, decode cX23_stringAt q.1 = .ok q.2 := dl_all (by decide +kernel)
noncomputable def m_X23_stringAt_l23 (a0 x2_23 : Int) (h : Hp) : Option ((Int) ⊕ ((Int))) :=
  (m_X23_byteAt a0 x2_23 h).bind fun v25 =>
  if v25 < 32 then (some (.inr x2_23))
  else ((m_X23_byteAt a0 x2_23 h).bind fun v35 =>
  if 126 < v35 then (some (.inr x2_23))
  else ((m_X23_byteAt a0 x2_23 h).bind fun v45 =>
  if v45 = 34 then (some (.inr x2_23))
  else (lt_ (w32 (x2_23 + 1)) fun x2_53 =>
  some (.inl x2_53))))
noncomputable def m_X23_stringAt (a0 a1 : Int) (h : Hp) : Option ((Int × Int) × Hp) :=
  (m_X23_byteAt a0 a1 h).bind fun v2 =>
  if v2 = 34 then (lt_ (w32 (a1 + 1)) fun x2_22 =>
  (lp (fun (q : Int) => m_X23_stringAt_l23 a0 q h) x2_22).bind (fun (y59 : Int) => (m_X23_byteAt a0 y59 h).bind fun v61 =>
  if v61 = 34 then (some ((0, (w32 (y59 + 1))), h))
  else (al h 448 7 fun a69 h69 =>
  (x_broken a69 a1 h69).bind fun h74 =>
  some ((1, a69), h74))))
  else (al h 448 7 fun a10 h10 =>
  (x_broken a10 a1 h10).bind fun h15 =>
  some ((1, a10), h15))
theorem s_X23_stringAt {l : Launch} [NoTr l] {D : SD} {a0 a1 : Int} {h : Hp} (hk : h a0 (-2) = 384) (r1 : r32 a1) {r : (Int × Int) × Hp} (hm : m_X23_stringAt a0 a1 h = some r) : Sim l D yX23_stringAt (Cond.code yX23_stringAt cX23_stringAt 3 (Option.some Jvm.ClassFile.FieldType.int)) 9 337 [rv D a0, iv a1] h 1 r := by
  refine Sim.of (fin := fun (v : (Int × Int) × Hp) => v) (lsE := [(0, rv D a0), (1, iv a1)]) hm rfl cwS_code (la_r (la_i la_n)) (ll_r (ll_i ll_n)) ?_
  intro p e s m below meth c X hcw hmm hcc hnm hname
  have hno := noh hcw hnm hmm hcc
  unfold m_X23_stringAt
  refine g_aload_n (pc := 0) X (j := 0) (i := 0) (q := 0) (x := a0) rfl rfl (dl_at t_X23_stringAt 0 rfl) ?_
  refine g_iload_n (pc := 1) X (j := 1) (i := 1) (q := 1) (x := a1) rfl rfl (dl_at t_X23_stringAt 1 rfl) ?_
  refine r_callRi (pc := 2) X (fun _ hv => s_X23_byteAt hk r1 hv) cw_code q4570 q377 (in_Vk X (As := [iv a1]) kX23 hk (Or.inl q4567) q4569 qs256 cw_code q4570 ⟨by decide, by decide⟩ rfl (dl_at t_X23_stringAt 2 rfl)) (dl_at t_X23_stringAt 2 rfl) (cat24 (st := []) (Nat.le_of_ble_eq_true rfl)) (Nat.le_of_ble_eq_true rfl) (Nat.le_of_ble_eq_true rfl) fun v2 g2 => ?_
  refine g_bipush (pc := 5) X (n := 34) rfl (dl_at t_X23_stringAt 3 rfl) ?_
  refine g_icmpeq (pc := 7) X g2 (r32_c rfl) (off := 12) (tgt := 19) rfl (dl_at t_X23_stringAt 4 rfl) (fun _ => ?_) (fun _ => ?_)
  · refine g_iload_n (pc := 19) X (j := 1) (i := 1) (q := 1) (x := a1) rfl rfl (dl_at t_X23_stringAt 10 rfl) ?_
    refine g_iconst (pc := 20) X (n := 1) (dl_at t_X23_stringAt 11 rfl) ?_
    refine g_iadd (pc := 21) X r1 (r32_c rfl) (dl_at t_X23_stringAt 12 rfl) ?_
    refine g_lti (r32_w _) fun x2_22 r2_22 => ?_
    refine g_istore_nN (pc := 22) X (j := 2) (i := 2) (x := x2_22) (b := 1) (w := iv a1) (rest := [(0, rv D a0)]) rfl (Nat.le_of_ble_eq_true rfl) [1, 0] rfl (by decide) rfl rfl (dl_at t_X23_stringAt 13 rfl) ?_
    refine g_ls (ls2 := [(0, rv D a0), (1, iv a1), (2, iv x2_22)]) [2, 1, 0] rfl ?_
    refine g_loop1 (fun (q : Int) => [(0, rv D a0), (1, iv a1), (2, iv q)]) (fun (q : Int) => h) (fun (q : Int) => r32 q) 59 (fun (y59 : Int) => [(0, rv D a0), (1, iv a1), (2, iv y59)]) (fun (y59 : Int) => h) (fun (y59 : Int) => r32 y59) x2_22 r2_22 ?_ ?_
    · rintro x2_23 r2_23
      try dsimp only
      unfold m_X23_stringAt_l23
      refine g_aload_n (pc := 23) X (j := 0) (i := 0) (q := 0) (x := a0) rfl rfl (dl_at t_X23_stringAt 14 rfl) ?_
      refine g_iload_n (pc := 24) X (j := 2) (i := 2) (q := 2) (x := x2_23) rfl rfl (dl_at t_X23_stringAt 15 rfl) ?_
      refine r_callRi (pc := 25) X (fun _ hv => s_X23_byteAt hk r2_23 hv) cw_code q4570 q377 (in_Vk X (As := [iv x2_23]) kX23 hk (Or.inl q4567) q4569 qs256 cw_code q4570 ⟨by decide, by decide⟩ rfl (dl_at t_X23_stringAt 16 rfl)) (dl_at t_X23_stringAt 16 rfl) (cat24 (st := []) (Nat.le_of_ble_eq_true rfl)) (Nat.le_of_ble_eq_true rfl) (Nat.le_of_ble_eq_true rfl) fun v25 g25 => ?_
      refine g_bipush (pc := 28) X (n := 32) rfl (dl_at t_X23_stringAt 17 rfl) ?_
      refine g_icmplt (pc := 30) X g25 (r32_c rfl) (off := 29) (tgt := 59) rfl (dl_at t_X23_stringAt 18 rfl) (fun _ => ?_) (fun _ => ?_)
      · exact g_at fun Q hQ => hQ r2_23
      refine g_aload_n (pc := 33) X (j := 0) (i := 0) (q := 0) (x := a0) rfl rfl (dl_at t_X23_stringAt 19 rfl) ?_
      refine g_iload_n (pc := 34) X (j := 2) (i := 2) (q := 2) (x := x2_23) rfl rfl (dl_at t_X23_stringAt 20 rfl) ?_
      refine r_callRi (pc := 35) X (fun _ hv => s_X23_byteAt hk r2_23 hv) cw_code q4570 q377 (in_Vk X (As := [iv x2_23]) kX23 hk (Or.inl q4567) q4569 qs256 cw_code q4570 ⟨by decide, by decide⟩ rfl (dl_at t_X23_stringAt 21 rfl)) (dl_at t_X23_stringAt 21 rfl) (cat24 (st := []) (Nat.le_of_ble_eq_true rfl)) (Nat.le_of_ble_eq_true rfl) (Nat.le_of_ble_eq_true rfl) fun v35 g35 => ?_
      refine g_bipush (pc := 38) X (n := 126) rfl (dl_at t_X23_stringAt 22 rfl) ?_
      refine g_icmpgt (pc := 40) X g35 (r32_c rfl) (off := 19) (tgt := 59) rfl (dl_at t_X23_stringAt 23 rfl) (fun _ => ?_) (fun _ => ?_)
      · exact g_at fun Q hQ => hQ r2_23
      refine g_aload_n (pc := 43) X (j := 0) (i := 0) (q := 0) (x := a0) rfl rfl (dl_at t_X23_stringAt 24 rfl) ?_
      refine g_iload_n (pc := 44) X (j := 2) (i := 2) (q := 2) (x := x2_23) rfl rfl (dl_at t_X23_stringAt 25 rfl) ?_
      refine r_callRi (pc := 45) X (fun _ hv => s_X23_byteAt hk r2_23 hv) cw_code q4570 q377 (in_Vk X (As := [iv x2_23]) kX23 hk (Or.inl q4567) q4569 qs256 cw_code q4570 ⟨by decide, by decide⟩ rfl (dl_at t_X23_stringAt 26 rfl)) (dl_at t_X23_stringAt 26 rfl) (cat24 (st := []) (Nat.le_of_ble_eq_true rfl)) (Nat.le_of_ble_eq_true rfl) (Nat.le_of_ble_eq_true rfl) fun v45 g45 => ?_
      refine g_bipush (pc := 48) X (n := 34) rfl (dl_at t_X23_stringAt 27 rfl) ?_
      refine g_icmpeq (pc := 50) X g45 (r32_c rfl) (off := 9) (tgt := 59) rfl (dl_at t_X23_stringAt 28 rfl) (fun _ => ?_) (fun _ => ?_)
      · exact g_at fun Q hQ => hQ r2_23
      refine r_iincN (pc := 53) X (i := 2) (q := 2) (n := 1) (x := x2_23) (b := 1) (w := iv a1) (rest := [(0, rv D a0)]) rfl r2_23 (r32_c rfl) (Nat.le_of_ble_eq_true rfl) [1, 0] rfl (by decide) rfl rfl (dl_at t_X23_stringAt 29 rfl) fun x2_53 r2_53 => ?_
      refine g_goto (pc := 56) X (off := (-33)) (tgt := 23) rfl (dl_at t_X23_stringAt 30 rfl) ?_
      refine g_ls (ls2 := [(0, rv D a0), (1, iv a1), (2, iv x2_53)]) [2, 1, 0] rfl ?_
      exact g_at fun Q hQ => hQ r2_53
    · rintro x2_59 r2_59
      try dsimp only [sE]
      refine g_aload_n (pc := 59) X (j := 0) (i := 0) (q := 0) (x := a0) rfl rfl (dl_at t_X23_stringAt 31 rfl) ?_
      refine g_iload_n (pc := 60) X (j := 2) (i := 2) (q := 2) (x := x2_59) rfl rfl (dl_at t_X23_stringAt 32 rfl) ?_
      refine r_callRi (pc := 61) X (fun _ hv => s_X23_byteAt hk r2_59 hv) cw_code q4570 q377 (in_Vk X (As := [iv x2_59]) kX23 hk (Or.inl q4567) q4569 qs256 cw_code q4570 ⟨by decide, by decide⟩ rfl (dl_at t_X23_stringAt 33 rfl)) (dl_at t_X23_stringAt 33 rfl) (cat24 (st := []) (Nat.le_of_ble_eq_true rfl)) (Nat.le_of_ble_eq_true rfl) (Nat.le_of_ble_eq_true rfl) fun v61 g61 => ?_
      refine g_bipush (pc := 64) X (n := 34) rfl (dl_at t_X23_stringAt 34 rfl) ?_
      refine g_icmpeq (pc := 66) X g61 (r32_c rfl) (off := 12) (tgt := 78) rfl (dl_at t_X23_stringAt 35 rfl) (fun _ => ?_) (fun _ => ?_)
      · refine g_iload_n (pc := 78) X (j := 2) (i := 2) (q := 2) (x := x2_59) rfl rfl (dl_at t_X23_stringAt 41 rfl) ?_
        refine g_iconst (pc := 79) X (n := 1) (dl_at t_X23_stringAt 42 rfl) ?_
        refine g_iadd (pc := 80) X r2_59 (r32_c rfl) (dl_at t_X23_stringAt 43 rfl) ?_
        exact g_iret (pc := 81) X (r32_w _) rfl rfl (dl_at t_X23_stringAt 44 rfl)
      refine r_new (pc := 69) X kX27 q4580 (dl_at t_X23_stringAt 36 rfl) fun a69 h69 p69 k69 E69 => ?_
      refine g_dup (pc := 72) X rv_cat (dl_at t_X23_stringAt 37 rfl) ?_
      refine g_iload_n (pc := 73) X (j := 1) (i := 1) (q := 1) (x := a1) rfl rfl (dl_at t_X23_stringAt 38 rfl) ?_
      refine r_callV (pc := 74) X (fun _ hv => sx_ScholarsPressModel_Broken_init_I_V k69 r1 hv) cw_code q4398 q392 (in_I X (As := [iv a1]) (Int.ne_of_gt p69) rfl (Or.inl q4581) q4397 q4398 ⟨by decide, by decide⟩ rfl (dl_at t_X23_stringAt 39 rfl)) (dl_at t_X23_stringAt 39 rfl) (cat24 (st := [rv D a69]) (Nat.le_of_ble_eq_true rfl)) (Nat.le_of_ble_eq_true rfl) (Nat.le_of_ble_eq_true rfl) fun h74 E74 => ?_
      refine g_athrow (pc := 77) X (Int.ne_of_gt p69) (dl_at t_X23_stringAt 40 rfl) ?_
      exact gt_at fun Q hQ => gt_out (Q := Q) X rfl p69 (hno _) _ Q rfl hQ
  refine r_new (pc := 10) X kX27 q4580 (dl_at t_X23_stringAt 5 rfl) fun a10 h10 p10 k10 E10 => ?_
  refine g_dup (pc := 13) X rv_cat (dl_at t_X23_stringAt 6 rfl) ?_
  refine g_iload_n (pc := 14) X (j := 1) (i := 1) (q := 1) (x := a1) rfl rfl (dl_at t_X23_stringAt 7 rfl) ?_
  refine r_callV (pc := 15) X (fun _ hv => sx_ScholarsPressModel_Broken_init_I_V k10 r1 hv) cw_code q4398 q392 (in_I X (As := [iv a1]) (Int.ne_of_gt p10) rfl (Or.inl q4581) q4397 q4398 ⟨by decide, by decide⟩ rfl (dl_at t_X23_stringAt 8 rfl)) (dl_at t_X23_stringAt 8 rfl) (cat24 (st := [rv D a10]) (Nat.le_of_ble_eq_true rfl)) (Nat.le_of_ble_eq_true rfl) (Nat.le_of_ble_eq_true rfl) fun h15 E15 => ?_
  refine g_athrow (pc := 18) X (Int.ne_of_gt p10) (dl_at t_X23_stringAt 9 rfl) ?_
  exact gt_at fun Q hQ => gt_out (Q := Q) X rfl p10 (hno _) _ Q rfl hQ
def k_X23_tell : List (Nat × Instr × Nat) := [(0, .aload_n 0, 1), (1, .iload_n 1, 1), (2, .invokevirtual 135, 3), (5, .istore_n 2, 1), (6, .aload_n 0, 1), (7, .getfield 9, 3), (10, .iload_n 1, 1), (11, .iload_n 2, 1), (12, .ldc 138, 2), (14, .invokestatic 140, 3), (17, .ifCond .ne 35, 3), (20, .aload_n 0, 1), (21, .getfield 9, 3), (24, .iload_n 1, 1), (25, .iload_n 2, 1), (26, .ldc 144, 2), (28, .invokestatic 140, 3), (31, .ifCond .ne 21, 3), (34, .aload_n 0, 1), (35, .iload_n 1, 1), (36, .iload_n 2, 1), (37, .invokevirtual 146, 3), (40, .ifCond .ge 12, 3), (43, .aload_n 0, 1), (44, .getfield 83, 3), (47, .bipush 40, 2), (49, .if_icmp .ne 12, 3), (52, .new 101, 3), (55, .dup, 1), (56, .iload_n 1, 1), (57, .invokespecial 103, 3), (60, .athrow, 1), (61, .aload_n 0, 1), (62, .iload_n 2, 1), (63, .invokevirtual 165, 3), (66, .istore_n 3, 1), (67, .aload_n 0, 1), (68, .iload_n 3, 1), (69, .invokevirtual 168, 3), (72, .istore 4, 2), (74, .iload_n 3, 1), (75, .iconst 1, 1), (76, .iadd, 1), (77, .istore 5, 2), (79, .iload 5, 2), (81, .iload 4, 2), (83, .iconst 1, 1), (84, .isub, 1), (85, .if_icmp .ge 42, 3), (88, .aload_n 0, 1), (89, .getfield 9, 3), (92, .iload 5, 2), (94, .baload, 1), (95, .bipush 60, 2), (97, .if_icmp .eq 15, 3), (100, .aload_n 0, 1), (101, .getfield 9, 3), (104, .iload 5, 2), (106, .baload, 1), (107, .bipush 38, 2), (109, .if_icmp .ne 12, 3), (112, .new 101, 3), (115, .dup, 1), (116, .iload_n 3, 1), (117, .invokespecial 103, 3), (120, .athrow, 1), (121, .iinc 5 1, 3), (124, .goto (-45), 3), (127, .aload_n 0, 1), (128, .iload 4, 2), (130, .invokevirtual 165, 3), (133, .istore 5, 2), (135, .aload_n 0, 1), (136, .iload 5, 2), (138, .bipush 62, 2), (140, .invokevirtual 150, 3), (143, .aload_n 0, 1), (144, .getfield 61, 3), (147, .aload_n 0, 1), (148, .getfield 83, 3), (151, .iload_n 1, 1), (152, .iastore, 1), (153, .aload_n 0, 1), (154, .getfield 64, 3), (157, .aload_n 0, 1), (158, .getfield 83, 3), (161, .iload_n 2, 1), (162, .iastore, 1), (163, .aload_n 0, 1), (164, .getfield 67, 3), (167, .aload_n 0, 1), (168, .getfield 83, 3), (171, .iload_n 3, 1), (172, .iconst 1, 1), (173, .iadd, 1), (174, .iastore, 1), (175, .aload_n 0, 1), (176, .getfield 70, 3), (179, .aload_n 0, 1), (180, .getfield 83, 3), (183, .iload 4, 2), (185, .iconst 1, 1), (186, .isub, 1), (187, .iastore, 1), (188, .aload_n 0, 1), (189, .dup, 1), (190, .getfield 83, 3), (193, .iconst 1, 1), (194, .iadd, 1), (195, .putfield 83, 3), (198, .aload_n 0, 1), (199, .iload 5, 2), (201, .iconst 1, 1), (202, .iadd, 1), (203, .putfield 109, 3), (206, .return_, 1)]
theorem t_X23_tell : ∀ q ∈ k_X23_tell, decode cX23_tell q.1 = .ok q.2 := dl_all (by decide +kernel)
noncomputable def m_X23_tell_l79 (a0 v63 v69 x5_79 : Int) (h69 : Hp) : Option ((Int) ⊕ ((Unit) ⊕ (((Int × Int) × Hp)))) :=
  if (w32 (v69 - 1)) ≤ x5_79 then (some (.inr (.inl ())))
  else (gd (h69 (h69 a0 0) (-2) % 16 = 2 ∧ (0 : Int) ≤ x5_79 ∧ x5_79 < h69 (h69 a0 0) (-1)) (if (h69 (h69 a0 0) x5_79) = 60 then (al h69 448 7 fun a112 h112 =>
  (x_broken a112 v63 h112).bind fun h117 =>
  some (.inr (.inr ((1, a112), h117))))
  else (if (h69 (h69 a0 0) x5_79) ≠ 38 then (lt_ (w32 (x5_79 + 1)) fun x5_121 =>
  some (.inl x5_121))
  else (al h69 448 7 fun a112_1 h112_1 =>
  (x_broken a112_1 v63 h112_1).bind fun h117_1 =>
  some (.inr (.inr ((1, a112_1), h117_1)))))))
noncomputable def m_X23_tell (a0 a1 : Int) (h : Hp) : Option ((Int × Int) × Hp) :=
  bT (m_X23_nameAt a0 a1 h) (fun v2 h2 =>
  (m_X18_is (h2 a0 0) a1 v2 (-86) h2).bind fun v14 =>
  if v14 ≠ 0 then (al h2 448 7 fun a52 h52 =>
  (x_broken a52 a1 h52).bind fun h57 =>
  some ((1, a52), h57))
  else ((m_X18_is (h2 a0 0) a1 v2 (-87) h2).bind fun v28 =>
  if v28 ≠ 0 then (al h2 448 7 fun a52_1 h52_1 =>
  (x_broken a52_1 a1 h52_1).bind fun h57_1 =>
  some ((1, a52_1), h57_1))
  else ((m_X23_find a0 a1 v2 h2).bind fun v37 =>
  if 0 ≤ v37 then (al h2 448 7 fun a52_2 h52_2 =>
  (x_broken a52_2 a1 h52_2).bind fun h57_2 =>
  some ((1, a52_2), h57_2))
  else (if (h2 a0 4) ≠ 40 then ((m_X23_skip a0 v2 h2).bind fun v63 =>
  bT (m_X23_stringAt a0 v63 h2) (fun v69 h69 =>
  lt_ (w32 (v63 + 1)) fun x5_77 =>
  (lp (fun (q : Int) => m_X23_tell_l79 a0 v63 v69 q h69) x5_77).bind (sE (fun (_ : Unit) => (m_X23_skip a0 v69 h69).bind fun v130 =>
  bT (m_X23_need a0 v130 62 h69) (fun _ h140 =>
  gd (h140 (h140 a0 21) (-2) % 16 = 1 ∧ (0 : Int) ≤ (h140 a0 4) ∧ (h140 a0 4) < h140 (h140 a0 21) (-1)) (pt h140 (h140 a0 21) (h140 a0 4) a1 fun h152 =>
  gd (h152 (h152 a0 22) (-2) % 16 = 1 ∧ (0 : Int) ≤ (h152 a0 4) ∧ (h152 a0 4) < h152 (h152 a0 22) (-1)) (pt h152 (h152 a0 22) (h152 a0 4) v2 fun h162 =>
  gd (h162 (h162 a0 23) (-2) % 16 = 1 ∧ (0 : Int) ≤ (h162 a0 4) ∧ (h162 a0 4) < h162 (h162 a0 23) (-1)) (pt h162 (h162 a0 23) (h162 a0 4) (w32 (v63 + 1)) fun h174 =>
  gd (h174 (h174 a0 24) (-2) % 16 = 1 ∧ (0 : Int) ≤ (h174 a0 4) ∧ (h174 a0 4) < h174 (h174 a0 24) (-1)) (pt h174 (h174 a0 24) (h174 a0 4) (w32 (v69 - 1)) fun h187 =>
  pt h187 a0 4 (w32 ((h187 a0 4) + 1)) fun h195 =>
  pt h195 a0 25 (w32 (v130 + 1)) fun h203 =>
  some ((0, 0), h203)))))) (fun a_ h_ => some ((1, a_), h_))) (fun (x : (Int × Int) × Hp) => some x))) (fun a_ h_ => some ((1, a_), h_)))
  else (al h2 448 7 fun a52_3 h52_3 =>
  (x_broken a52_3 a1 h52_3).bind fun h57_3 =>
  some ((1, a52_3), h57_3)))))) (fun a_ h_ => some ((1, a_), h_))
theorem s_X23_tell {l : Launch} [NoTr l] {D : SD} {a0 a1 : Int} {h : Hp} (hk : h a0 (-2) = 384) (r1 : r32 a1) {r : (Int × Int) × Hp} (hm : m_X23_tell a0 a1 h = some r) : Sim l D yX23_tell (Cond.code yX23_tell cX23_tell 6 (Option.none : Option Jvm.ClassFile.FieldType)) 10 375 [rv D a0, iv a1] h 0 r := by
  refine Sim.of (fin := fun (v : (Int × Int) × Hp) => v) (lsE := [(0, rv D a0), (1, iv a1)]) hm rfl cwS_code (la_r (la_i la_n)) (ll_r (ll_i ll_n)) ?_
  intro p e s m below meth c X hcw hmm hcc hnm hname
  have hno := noh hcw hnm hmm hcc
  unfold m_X23_tell
  refine g_aload_n (pc := 0) X (j := 0) (i := 0) (q := 0) (x := a0) rfl rfl (dl_at t_X23_tell 0 rfl) ?_
  refine g_iload_n (pc := 1) X (j := 1) (i := 1) (q := 1) (x := a1) rfl rfl (dl_at t_X23_tell 1 rfl) ?_
  refine r_callTi (pc := 2) X (fun _ hv => s_X23_nameAt hk r1 hv) cw_code q4578 q377 (in_Vk X (As := [iv a1]) kX23 hk (Or.inl q4575) q4577 qs258 cw_code q4578 ⟨by decide, by decide⟩ rfl (dl_at t_X23_tell 2 rfl)) (dl_at t_X23_tell 2 rfl) (cat24 (st := []) (Nat.le_of_ble_eq_true rfl)) (Nat.le_of_ble_eq_true rfl) (Nat.le_of_ble_eq_true rfl) (fun v2 h2 g2 E2 => ?_) (fun _ _ ha _ => gt_at fun Q hQ => gt_out (Q := Q) X rfl ha (hno _) _ Q rfl hQ)
  refine g_istore_nN (pc := 5) X (j := 2) (i := 2) (x := v2) (b := 1) (w := iv a1) (rest := [(0, rv D a0)]) rfl (Nat.le_of_ble_eq_true rfl) [1, 0] rfl (by decide) rfl rfl (dl_at t_X23_tell 3 rfl) ?_
  refine g_aload_n (pc := 6) X (j := 0) (i := 0) (q := 2) (x := a0) rfl rfl (dl_at t_X23_tell 4 rfl) ?_
  have k7 := kx E2 (by decide) hk
  refine r_getr (pc := 7) X fX23_0 k7 q3516 (dl_at t_X23_tell 5 rfl) ?_
  refine g_iload_n (pc := 10) X (j := 1) (i := 1) (q := 1) (x := a1) rfl rfl (dl_at t_X23_tell 6 rfl) ?_
  refine g_iload_n (pc := 11) X (j := 2) (i := 2) (q := 0) (x := v2) rfl rfl (dl_at t_X23_tell 7 rfl) ?_
  refine g_ldcS (pc := 12) X (index := 138) (id := (-86)) 84 rfl rfl (dl_at t_X23_tell 8 rfl) ?_
  refine r_callRz (pc := 14) X (fun _ hv => s_X18_is r1 g2 hv) cw_code q4367 q372 (in_Sc X (As := [rv D (h2 a0 0), iv a1, iv v2, rv D (-86)]) (Or.inr ⟨_, nw_in q4584 rfl⟩) q4366 q372 q4367 ⟨by decide, by decide⟩ rfl (dl_at t_X23_tell 9 rfl)) (dl_at t_X23_tell 9 rfl) (cat24 (st := []) (Nat.le_of_ble_eq_true rfl)) (Nat.le_of_ble_eq_true rfl) (Nat.le_of_ble_eq_true rfl) fun v14 g14 => ?_
  refine g_ifne (pc := 17) X (r32_z g14) (off := 35) (tgt := 52) rfl (dl_at t_X23_tell 10 rfl) (fun _ => ?_) (fun _ => ?_)
  · refine r_new (pc := 52) X kX27 q4580 (dl_at t_X23_tell 27 rfl) fun a52 h52 p52 k52 E52 => ?_
    refine g_dup (pc := 55) X rv_cat (dl_at t_X23_tell 28 rfl) ?_
    refine g_iload_n (pc := 56) X (j := 1) (i := 1) (q := 1) (x := a1) rfl rfl (dl_at t_X23_tell 29 rfl) ?_
    refine r_callV (pc := 57) X (fun _ hv => sx_ScholarsPressModel_Broken_init_I_V k52 r1 hv) cw_code q4398 q392 (in_I X (As := [iv a1]) (Int.ne_of_gt p52) rfl (Or.inl q4581) q4397 q4398 ⟨by decide, by decide⟩ rfl (dl_at t_X23_tell 30 rfl)) (dl_at t_X23_tell 30 rfl) (cat24 (st := [rv D a52]) (Nat.le_of_ble_eq_true rfl)) (Nat.le_of_ble_eq_true rfl) (Nat.le_of_ble_eq_true rfl) fun h57 E57 => ?_
    refine g_athrow (pc := 60) X (Int.ne_of_gt p52) (dl_at t_X23_tell 31 rfl) ?_
    exact gt_at fun Q hQ => gt_out (Q := Q) X rfl p52 (hno _) _ Q rfl hQ
  refine g_aload_n (pc := 20) X (j := 0) (i := 0) (q := 2) (x := a0) rfl rfl (dl_at t_X23_tell 11 rfl) ?_
  refine r_getr (pc := 21) X fX23_0 k7 q3516 (dl_at t_X23_tell 12 rfl) ?_
  refine g_iload_n (pc := 24) X (j := 1) (i := 1) (q := 1) (x := a1) rfl rfl (dl_at t_X23_tell 13 rfl) ?_
  refine g_iload_n (pc := 25) X (j := 2) (i := 2) (q := 0) (x := v2) rfl rfl (dl_at t_X23_tell 14 rfl) ?_
  refine g_ldcS (pc := 26) X (index := 144) (id := (-87)) 85 rfl rfl (dl_at t_X23_tell 15 rfl) ?_
  refine r_callRz (pc := 28) X (fun _ hv => s_X18_is r1 g2 hv) cw_code q4367 q372 (in_Sc X (As := [rv D (h2 a0 0), iv a1, iv v2, rv D (-87)]) (Or.inr ⟨_, nw_in q4584 rfl⟩) q4366 q372 q4367 ⟨by decide, by decide⟩ rfl (dl_at t_X23_tell 16 rfl)) (dl_at t_X23_tell 16 rfl) (cat24 (st := []) (Nat.le_of_ble_eq_true rfl)) (Nat.le_of_ble_eq_true rfl) (Nat.le_of_ble_eq_true rfl) fun v28 g28 => ?_
  refine g_ifne (pc := 31) X (r32_z g28) (off := 21) (tgt := 52) rfl (dl_at t_X23_tell 17 rfl) (fun _ => ?_) (fun _ => ?_)
  · refine r_new (pc := 52) X kX27 q4580 (dl_at t_X23_tell 27 rfl) fun a52_1 h52_1 p52_1 k52_1 E52_1 => ?_
    refine g_dup (pc := 55) X rv_cat (dl_at t_X23_tell 28 rfl) ?_
    refine g_iload_n (pc := 56) X (j := 1) (i := 1) (q := 1) (x := a1) rfl rfl (dl_at t_X23_tell 29 rfl) ?_
    refine r_callV (pc := 57) X (fun _ hv => sx_ScholarsPressModel_Broken_init_I_V k52_1 r1 hv) cw_code q4398 q392 (in_I X (As := [iv a1]) (Int.ne_of_gt p52_1) rfl (Or.inl q4581) q4397 q4398 ⟨by decide, by decide⟩ rfl (dl_at t_X23_tell 30 rfl)) (dl_at t_X23_tell 30 rfl) (cat24 (st := [rv D a52_1]) (Nat.le_of_ble_eq_true rfl)) (Nat.le_of_ble_eq_true rfl) (Nat.le_of_ble_eq_true rfl) fun h57_1 E57_1 => ?_
    refine g_athrow (pc := 60) X (Int.ne_of_gt p52_1) (dl_at t_X23_tell 31 rfl) ?_
    exact gt_at fun Q hQ => gt_out (Q := Q) X rfl p52_1 (hno _) _ Q rfl hQ
  refine g_aload_n (pc := 34) X (j := 0) (i := 0) (q := 2) (x := a0) rfl rfl (dl_at t_X23_tell 18 rfl) ?_
  refine g_iload_n (pc := 35) X (j := 1) (i := 1) (q := 1) (x := a1) rfl rfl (dl_at t_X23_tell 19 rfl) ?_
  refine g_iload_n (pc := 36) X (j := 2) (i := 2) (q := 0) (x := v2) rfl rfl (dl_at t_X23_tell 20 rfl) ?_
  refine r_callRi (pc := 37) X (fun _ hv => s_X23_find k7 r1 g2 hv) cw_code q4589 q377 (in_Vk X (As := [iv a1, iv v2]) kX23 k7 (Or.inl q4586) q4588 qs259 cw_code q4589 ⟨by decide, by decide⟩ rfl (dl_at t_X23_tell 21 rfl)) (dl_at t_X23_tell 21 rfl) (cat24 (st := []) (Nat.le_of_ble_eq_true rfl)) (Nat.le_of_ble_eq_true rfl) (Nat.le_of_ble_eq_true rfl) fun v37 g37 => ?_
  refine g_ifge (pc := 40) X g37 (off := 12) (tgt := 52) rfl (dl_at t_X23_tell 22 rfl) (fun _ => ?_) (fun _ => ?_)
  · refine r_new (pc := 52) X kX27 q4580 (dl_at t_X23_tell 27 rfl) fun a52_2 h52_2 p52_2 k52_2 E52_2 => ?_
    refine g_dup (pc := 55) X rv_cat (dl_at t_X23_tell 28 rfl) ?_
    refine g_iload_n (pc := 56) X (j := 1) (i := 1) (q := 1) (x := a1) rfl rfl (dl_at t_X23_tell 29 rfl) ?_
    refine r_callV (pc := 57) X (fun _ hv => sx_ScholarsPressModel_Broken_init_I_V k52_2 r1 hv) cw_code q4398 q392 (in_I X (As := [iv a1]) (Int.ne_of_gt p52_2) rfl (Or.inl q4581) q4397 q4398 ⟨by decide, by decide⟩ rfl (dl_at t_X23_tell 30 rfl)) (dl_at t_X23_tell 30 rfl) (cat24 (st := [rv D a52_2]) (Nat.le_of_ble_eq_true rfl)) (Nat.le_of_ble_eq_true rfl) (Nat.le_of_ble_eq_true rfl) fun h57_2 E57_2 => ?_
    refine g_athrow (pc := 60) X (Int.ne_of_gt p52_2) (dl_at t_X23_tell 31 rfl) ?_
    exact gt_at fun Q hQ => gt_out (Q := Q) X rfl p52_2 (hno _) _ Q rfl hQ
  refine g_aload_n (pc := 43) X (j := 0) (i := 0) (q := 2) (x := a0) rfl rfl (dl_at t_X23_tell 23 rfl) ?_
  refine r_geti (pc := 44) X fX23_4 k7 q3529 (dl_at t_X23_tell 24 rfl) fun g44 => ?_
  refine g_bipush (pc := 47) X (n := 40) rfl (dl_at t_X23_tell 25 rfl) ?_
  refine g_icmpne (pc := 49) X g44 (r32_c rfl) (off := 12) (tgt := 61) rfl (dl_at t_X23_tell 26 rfl) (fun _ => ?_) (fun _ => ?_)
  · refine g_aload_n (pc := 61) X (j := 0) (i := 0) (q := 2) (x := a0) rfl rfl (dl_at t_X23_tell 32 rfl) ?_
    refine g_iload_n (pc := 62) X (j := 2) (i := 2) (q := 0) (x := v2) rfl rfl (dl_at t_X23_tell 33 rfl) ?_
    refine r_callRi (pc := 63) X (fun _ hv => s_X23_skip k7 g2 hv) cw_code q4614 q377 (in_Vk X (As := [iv v2]) kX23 k7 (Or.inl q4611) q4613 qs265 cw_code q4614 ⟨by decide, by decide⟩ rfl (dl_at t_X23_tell 34 rfl)) (dl_at t_X23_tell 34 rfl) (cat24 (st := []) (Nat.le_of_ble_eq_true rfl)) (Nat.le_of_ble_eq_true rfl) (Nat.le_of_ble_eq_true rfl) fun v63 g63 => ?_
    refine g_istore_nN (pc := 66) X (j := 3) (i := 3) (x := v63) (b := 2) (w := iv v2) (rest := [(1, iv a1), (0, rv D a0)]) rfl (Nat.le_of_ble_eq_true rfl) [0, 1, 2] rfl (by decide) rfl rfl (dl_at t_X23_tell 35 rfl) ?_
    refine g_aload_n (pc := 67) X (j := 0) (i := 0) (q := 3) (x := a0) rfl rfl (dl_at t_X23_tell 36 rfl) ?_
    refine g_iload_n (pc := 68) X (j := 3) (i := 3) (q := 0) (x := v63) rfl rfl (dl_at t_X23_tell 37 rfl) ?_
    refine r_callTi (pc := 69) X (fun _ hv => s_X23_stringAt k7 g63 hv) cw_code q4619 q377 (in_Vk X (As := [iv v63]) kX23 k7 (Or.inl q4616) q4618 qs266 cw_code q4619 ⟨by decide, by decide⟩ rfl (dl_at t_X23_tell 38 rfl)) (dl_at t_X23_tell 38 rfl) (cat24 (st := []) (Nat.le_of_ble_eq_true rfl)) (Nat.le_of_ble_eq_true rfl) (Nat.le_of_ble_eq_true rfl) (fun v69 h69 g69 E69 => ?_) (fun _ _ ha _ => gt_at fun Q hQ => gt_out (Q := Q) X rfl ha (hno _) _ Q rfl hQ)
    refine g_istoreN (pc := 72) X (i := 4) (x := v69) (b := 3) (w := iv v63) (rest := [(2, iv v2), (1, iv a1), (0, rv D a0)]) (Nat.le_of_ble_eq_true rfl) [0, 1, 2, 3] rfl (by decide) rfl rfl (dl_at t_X23_tell 39 rfl) ?_
    refine g_iload_n (pc := 74) X (j := 3) (i := 3) (q := 1) (x := v63) rfl rfl (dl_at t_X23_tell 40 rfl) ?_
    refine g_iconst (pc := 75) X (n := 1) (dl_at t_X23_tell 41 rfl) ?_
    refine g_iadd (pc := 76) X g63 (r32_c rfl) (dl_at t_X23_tell 42 rfl) ?_
    refine g_lti (r32_w _) fun x5_77 r5_77 => ?_
    refine g_istoreN (pc := 77) X (i := 5) (x := x5_77) (b := 4) (w := iv v69) (rest := [(3, iv v63), (2, iv v2), (1, iv a1), (0, rv D a0)]) (Nat.le_of_ble_eq_true rfl) [0, 1, 2, 3, 4] rfl (by decide) rfl rfl (dl_at t_X23_tell 43 rfl) ?_
    refine g_ls (ls2 := [(0, rv D a0), (1, iv a1), (2, iv v2), (3, iv v63), (4, iv v69), (5, iv x5_77)]) [5, 4, 3, 2, 1, 0] rfl ?_
    refine g_loop1F (fun (q : Int) => [(0, rv D a0), (1, iv a1), (2, iv v2), (3, iv v63), (4, iv v69), (5, iv q)]) (fun (q : Int) => h69) (fun (q : Int) => r32 q) 127 (fun (y127 : Unit) => [(0, rv D a0), (1, iv a1), (2, iv v2), (3, iv v63), (4, iv v69)]) (fun (y127 : Unit) => h69) (fun (y127 : Unit) => True) x5_77 r5_77 ?_ ?_ (fun _ => rfl)
    · rintro x5_79 r5_79
      try dsimp only
      unfold m_X23_tell_l79
      refine g_iload (pc := 79) X (i := 5) (q := 5) (x := x5_79) rfl (dl_at t_X23_tell 44 rfl) ?_
      refine g_iload (pc := 81) X (i := 4) (q := 4) (x := v69) rfl (dl_at t_X23_tell 45 rfl) ?_
      refine g_iconst (pc := 83) X (n := 1) (dl_at t_X23_tell 46 rfl) ?_
      refine g_isub (pc := 84) X g69 (r32_c rfl) (dl_at t_X23_tell 47 rfl) ?_
      refine g_icmpge (pc := 85) X r5_79 (r32_w _) (off := 42) (tgt := 127) rfl (dl_at t_X23_tell 48 rfl) (fun _ => ?_) (fun _ => ?_)
      · refine g_ls (ls2 := [(0, rv D a0), (1, iv a1), (2, iv v2), (3, iv v63), (4, iv v69)]) [0, 1, 2, 3, 4] rfl ?_
        exact g_at fun Q hQ => hQ trivial
      refine g_aload_n (pc := 88) X (j := 0) (i := 0) (q := 0) (x := a0) rfl rfl (dl_at t_X23_tell 49 rfl) ?_
      have k89 := kx E69 (by decide) k7
      refine r_getr (pc := 89) X fX23_0 k89 q3516 (dl_at t_X23_tell 50 rfl) ?_
      refine g_iload (pc := 92) X (i := 5) (q := 5) (x := x5_79) rfl (dl_at t_X23_tell 51 rfl) ?_
      refine g_gd fun k94 => ?_
      refine g_bald (pc := 94) X r5_79 k94 (dl_at t_X23_tell 52 rfl) fun g94 => ?_
      refine g_bipush (pc := 95) X (n := 60) rfl (dl_at t_X23_tell 53 rfl) ?_
      refine g_icmpeq (pc := 97) X (r32_b g94) (r32_c rfl) (off := 15) (tgt := 112) rfl (dl_at t_X23_tell 54 rfl) (fun _ => ?_) (fun _ => ?_)
      · refine r_new (pc := 112) X kX27 q4580 (dl_at t_X23_tell 61 rfl) fun a112 h112 p112 k112 E112 => ?_
        refine g_dup (pc := 115) X rv_cat (dl_at t_X23_tell 62 rfl) ?_
        refine g_iload_n (pc := 116) X (j := 3) (i := 3) (q := 3) (x := v63) rfl rfl (dl_at t_X23_tell 63 rfl) ?_
        refine r_callV (pc := 117) X (fun _ hv => sx_ScholarsPressModel_Broken_init_I_V k112 g63 hv) cw_code q4398 q392 (in_I X (As := [iv v63]) (Int.ne_of_gt p112) rfl (Or.inl q4581) q4397 q4398 ⟨by decide, by decide⟩ rfl (dl_at t_X23_tell 64 rfl)) (dl_at t_X23_tell 64 rfl) (cat24 (st := [rv D a112]) (Nat.le_of_ble_eq_true rfl)) (Nat.le_of_ble_eq_true rfl) (Nat.le_of_ble_eq_true rfl) fun h117 E117 => ?_
        refine g_athrow (pc := 120) X (Int.ne_of_gt p112) (dl_at t_X23_tell 65 rfl) ?_
        exact gt_at fun Q hQ => gt_out (Q := Q) X rfl p112 (hno _) _ Q rfl hQ
      refine g_aload_n (pc := 100) X (j := 0) (i := 0) (q := 0) (x := a0) rfl rfl (dl_at t_X23_tell 55 rfl) ?_
      refine r_getr (pc := 101) X fX23_0 k89 q3516 (dl_at t_X23_tell 56 rfl) ?_
      refine g_iload (pc := 104) X (i := 5) (q := 5) (x := x5_79) rfl (dl_at t_X23_tell 57 rfl) ?_
      refine g_bald (pc := 106) X r5_79 k94 (dl_at t_X23_tell 58 rfl) fun g106 => ?_
      refine g_bipush (pc := 107) X (n := 38) rfl (dl_at t_X23_tell 59 rfl) ?_
      refine g_icmpne (pc := 109) X (r32_b g106) (r32_c rfl) (off := 12) (tgt := 121) rfl (dl_at t_X23_tell 60 rfl) (fun _ => ?_) (fun _ => ?_)
      · refine r_iincN (pc := 121) X (i := 5) (q := 5) (n := 1) (x := x5_79) (b := 4) (w := iv v69) (rest := [(0, rv D a0), (1, iv a1), (2, iv v2), (3, iv v63)]) rfl r5_79 (r32_c rfl) (Nat.le_of_ble_eq_true rfl) [4, 0, 1, 2, 3] rfl (by decide) rfl rfl (dl_at t_X23_tell 66 rfl) fun x5_121 r5_121 => ?_
        refine g_goto (pc := 124) X (off := (-45)) (tgt := 79) rfl (dl_at t_X23_tell 67 rfl) ?_
        refine g_ls (ls2 := [(0, rv D a0), (1, iv a1), (2, iv v2), (3, iv v63), (4, iv v69), (5, iv x5_121)]) [2, 3, 4, 5, 1, 0] rfl ?_
        exact g_at fun Q hQ => hQ r5_121
      refine r_new (pc := 112) X kX27 q4580 (dl_at t_X23_tell 61 rfl) fun a112_1 h112_1 p112_1 k112_1 E112_1 => ?_
      refine g_dup (pc := 115) X rv_cat (dl_at t_X23_tell 62 rfl) ?_
      refine g_iload_n (pc := 116) X (j := 3) (i := 3) (q := 3) (x := v63) rfl rfl (dl_at t_X23_tell 63 rfl) ?_
      refine r_callV (pc := 117) X (fun _ hv => sx_ScholarsPressModel_Broken_init_I_V k112_1 g63 hv) cw_code q4398 q392 (in_I X (As := [iv v63]) (Int.ne_of_gt p112_1) rfl (Or.inl q4581) q4397 q4398 ⟨by decide, by decide⟩ rfl (dl_at t_X23_tell 64 rfl)) (dl_at t_X23_tell 64 rfl) (cat24 (st := [rv D a112_1]) (Nat.le_of_ble_eq_true rfl)) (Nat.le_of_ble_eq_true rfl) (Nat.le_of_ble_eq_true rfl) fun h117_1 E117_1 => ?_
      refine g_athrow (pc := 120) X (Int.ne_of_gt p112_1) (dl_at t_X23_tell 65 rfl) ?_
      exact gt_at fun Q hQ => gt_out (Q := Q) X rfl p112_1 (hno _) _ Q rfl hQ
    · rintro _ _
      try dsimp only [sE]
      refine g_aload_n (pc := 127) X (j := 0) (i := 0) (q := 0) (x := a0) rfl rfl (dl_at t_X23_tell 68 rfl) ?_
      refine g_iload (pc := 128) X (i := 4) (q := 4) (x := v69) rfl (dl_at t_X23_tell 69 rfl) ?_
      have k130 := kx E69 (by decide) k7
      refine r_callRi (pc := 130) X (fun _ hv => s_X23_skip k130 g69 hv) cw_code q4614 q377 (in_Vk X (As := [iv v69]) kX23 k130 (Or.inl q4611) q4613 qs265 cw_code q4614 ⟨by decide, by decide⟩ rfl (dl_at t_X23_tell 70 rfl)) (dl_at t_X23_tell 70 rfl) (cat24 (st := []) (Nat.le_of_ble_eq_true rfl)) (Nat.le_of_ble_eq_true rfl) (Nat.le_of_ble_eq_true rfl) fun v130 g130 => ?_
      refine g_istoreN (pc := 133) X (i := 5) (x := v130) (b := 4) (w := iv v69) (rest := [(0, rv D a0), (1, iv a1), (2, iv v2), (3, iv v63)]) (Nat.le_of_ble_eq_true rfl) [4, 0, 1, 2, 3] rfl (by decide) rfl rfl (dl_at t_X23_tell 71 rfl) ?_
      refine g_aload_n (pc := 135) X (j := 0) (i := 0) (q := 2) (x := a0) rfl rfl (dl_at t_X23_tell 72 rfl) ?_
      refine g_iload (pc := 136) X (i := 5) (q := 0) (x := v130) rfl (dl_at t_X23_tell 73 rfl) ?_
      refine g_bipush (pc := 138) X (n := 62) rfl (dl_at t_X23_tell 74 rfl) ?_
      refine r_callTv (pc := 140) X (fun _ hv => s_X23_need k130 g130 (r32_c rfl) hv) cw_code q4594 q377 (in_Vk X (As := [iv v130, iv 62]) kX23 k130 (Or.inl q4591) q4593 qs260 cw_code q4594 ⟨by decide, by decide⟩ rfl (dl_at t_X23_tell 75 rfl)) (dl_at t_X23_tell 75 rfl) (cat24 (st := []) (Nat.le_of_ble_eq_true rfl)) (Nat.le_of_ble_eq_true rfl) (Nat.le_of_ble_eq_true rfl) (fun v140 h140 E140 => ?_) (fun _ _ ha _ => gt_at fun Q hQ => gt_out (Q := Q) X rfl ha (hno _) _ Q rfl hQ)
      refine g_aload_n (pc := 143) X (j := 0) (i := 0) (q := 2) (x := a0) rfl rfl (dl_at t_X23_tell 76 rfl) ?_
      have k144 := kx E140 (by decide) k130
      refine r_getr (pc := 144) X fX23_21 k144 q3570 (dl_at t_X23_tell 77 rfl) ?_
      refine g_aload_n (pc := 147) X (j := 0) (i := 0) (q := 2) (x := a0) rfl rfl (dl_at t_X23_tell 78 rfl) ?_
      refine r_geti (pc := 148) X fX23_4 k144 q3529 (dl_at t_X23_tell 79 rfl) fun g148 => ?_
      refine g_iload_n (pc := 151) X (j := 1) (i := 1) (q := 3) (x := a1) rfl rfl (dl_at t_X23_tell 80 rfl) ?_
      refine g_gd fun k152 => ?_
      refine r_iast (pc := 152) X g148 r1 k152 (dl_at t_X23_tell 81 rfl) (fun h152 E152 => ?_)
      refine g_aload_n (pc := 153) X (j := 0) (i := 0) (q := 2) (x := a0) rfl rfl (dl_at t_X23_tell 82 rfl) ?_
      have k154 := kx E152 (by decide) k144
      refine r_getr (pc := 154) X fX23_22 k154 q3571 (dl_at t_X23_tell 83 rfl) ?_
      refine g_aload_n (pc := 157) X (j := 0) (i := 0) (q := 2) (x := a0) rfl rfl (dl_at t_X23_tell 84 rfl) ?_
      refine r_geti (pc := 158) X fX23_4 k154 q3529 (dl_at t_X23_tell 85 rfl) fun g158 => ?_
      refine g_iload_n (pc := 161) X (j := 2) (i := 2) (q := 4) (x := v2) rfl rfl (dl_at t_X23_tell 86 rfl) ?_
      refine g_gd fun k162 => ?_
      refine r_iast (pc := 162) X g158 g2 k162 (dl_at t_X23_tell 87 rfl) (fun h162 E162 => ?_)
      refine g_aload_n (pc := 163) X (j := 0) (i := 0) (q := 2) (x := a0) rfl rfl (dl_at t_X23_tell 88 rfl) ?_
      have k164 := kx E162 (by decide) k154
      refine r_getr (pc := 164) X fX23_23 k164 q3572 (dl_at t_X23_tell 89 rfl) ?_
      refine g_aload_n (pc := 167) X (j := 0) (i := 0) (q := 2) (x := a0) rfl rfl (dl_at t_X23_tell 90 rfl) ?_
      refine r_geti (pc := 168) X fX23_4 k164 q3529 (dl_at t_X23_tell 91 rfl) fun g168 => ?_
      refine g_iload_n (pc := 171) X (j := 3) (i := 3) (q := 5) (x := v63) rfl rfl (dl_at t_X23_tell 92 rfl) ?_
      refine g_iconst (pc := 172) X (n := 1) (dl_at t_X23_tell 93 rfl) ?_
      refine g_iadd (pc := 173) X g63 (r32_c rfl) (dl_at t_X23_tell 94 rfl) ?_
      refine g_gd fun k174 => ?_
      refine r_iast (pc := 174) X g168 (r32_w _) k174 (dl_at t_X23_tell 95 rfl) (fun h174 E174 => ?_)
      refine g_aload_n (pc := 175) X (j := 0) (i := 0) (q := 2) (x := a0) rfl rfl (dl_at t_X23_tell 96 rfl) ?_
      have k176 := kx E174 (by decide) k164
      refine r_getr (pc := 176) X fX23_24 k176 q3573 (dl_at t_X23_tell 97 rfl) ?_
      refine g_aload_n (pc := 179) X (j := 0) (i := 0) (q := 2) (x := a0) rfl rfl (dl_at t_X23_tell 98 rfl) ?_
      refine r_geti (pc := 180) X fX23_4 k176 q3529 (dl_at t_X23_tell 99 rfl) fun g180 => ?_
      refine g_iload (pc := 183) X (i := 4) (q := 1) (x := v69) rfl (dl_at t_X23_tell 100 rfl) ?_
      refine g_iconst (pc := 185) X (n := 1) (dl_at t_X23_tell 101 rfl) ?_
      refine g_isub (pc := 186) X g69 (r32_c rfl) (dl_at t_X23_tell 102 rfl) ?_
      refine g_gd fun k187 => ?_
      refine r_iast (pc := 187) X g180 (r32_w _) k187 (dl_at t_X23_tell 103 rfl) (fun h187 E187 => ?_)
      refine g_aload_n (pc := 188) X (j := 0) (i := 0) (q := 2) (x := a0) rfl rfl (dl_at t_X23_tell 104 rfl) ?_
      refine g_dup (pc := 189) X rv_cat (dl_at t_X23_tell 105 rfl) ?_
      have k190 := kx E187 (by decide) k176
      refine r_geti (pc := 190) X fX23_4 k190 q3529 (dl_at t_X23_tell 106 rfl) fun g190 => ?_
      refine g_iconst (pc := 193) X (n := 1) (dl_at t_X23_tell 107 rfl) ?_
      refine g_iadd (pc := 194) X g190 (r32_c rfl) (dl_at t_X23_tell 108 rfl) ?_
      refine r_puti (pc := 195) X fX23_4 k190 q3529 rfl (dl_at t_X23_tell 109 rfl) (r32_w _) (fun h195 E195 => ?_)
      refine g_aload_n (pc := 198) X (j := 0) (i := 0) (q := 2) (x := a0) rfl rfl (dl_at t_X23_tell 110 rfl) ?_
      refine g_iload (pc := 199) X (i := 5) (q := 0) (x := v130) rfl (dl_at t_X23_tell 111 rfl) ?_
      refine g_iconst (pc := 201) X (n := 1) (dl_at t_X23_tell 112 rfl) ?_
      refine g_iadd (pc := 202) X g130 (r32_c rfl) (dl_at t_X23_tell 113 rfl) ?_
      have k203 := kx E195 (by decide) k190
      refine r_puti (pc := 203) X fX23_25 k203 q3574 rfl (dl_at t_X23_tell 114 rfl) (r32_w _) (fun h203 E203 => ?_)
      exact g_vret (pc := 206) X (v := 0) rfl rfl (dl_at t_X23_tell 115 rfl)
  refine r_new (pc := 52) X kX27 q4580 (dl_at t_X23_tell 27 rfl) fun a52_3 h52_3 p52_3 k52_3 E52_3 => ?_
  refine g_dup (pc := 55) X rv_cat (dl_at t_X23_tell 28 rfl) ?_
  refine g_iload_n (pc := 56) X (j := 1) (i := 1) (q := 1) (x := a1) rfl rfl (dl_at t_X23_tell 29 rfl) ?_
  refine r_callV (pc := 57) X (fun _ hv => sx_ScholarsPressModel_Broken_init_I_V k52_3 r1 hv) cw_code q4398 q392 (in_I X (As := [iv a1]) (Int.ne_of_gt p52_3) rfl (Or.inl q4581) q4397 q4398 ⟨by decide, by decide⟩ rfl (dl_at t_X23_tell 30 rfl)) (dl_at t_X23_tell 30 rfl) (cat24 (st := [rv D a52_3]) (Nat.le_of_ble_eq_true rfl)) (Nat.le_of_ble_eq_true rfl) (Nat.le_of_ble_eq_true rfl) fun h57_3 E57_3 => ?_
  refine g_athrow (pc := 60) X (Int.ne_of_gt p52_3) (dl_at t_X23_tell 31 rfl) ?_
  exact gt_at fun Q hQ => gt_out (Q := Q) X rfl p52_3 (hno _) _ Q rfl hQ
def k_X23_ended : List (Nat × Instr × Nat) := [(0, .aload_n 0, 1), (1, .getfield 28, 3), (4, .iload_n 1, 1), (5, .aload_n 0, 1), (6, .getfield 109, 3), (9, .iastore, 1), (10, .aload_n 0, 1), (11, .getfield 46, 3), (14, .iload_n 1, 1), (15, .aload_n 0, 1), (16, .getfield 77, 3), (19, .iastore, 1), (20, .aload_n 0, 1), (21, .iconst 2, 1), (22, .iload_n 1, 1), (23, .iconst 0, 1), (24, .invokevirtual 127, 3), (27, .return_, 1)]
theorem t_X23_ended : ∀ q ∈ k_X23_ended, decode cX23_ended q.1 = .ok q.2 := dl_all (by decide +kernel)
noncomputable def m_X23_ended (a0 a1 : Int) (h : Hp) : Option (Hp) :=
  gd (h (h a0 10) (-2) % 16 = 1 ∧ (0 : Int) ≤ a1 ∧ a1 < h (h a0 10) (-1)) (pt h (h a0 10) a1 (h a0 25) fun h9 =>
  gd (h9 (h9 a0 16) (-2) % 16 = 1 ∧ (0 : Int) ≤ a1 ∧ a1 < h9 (h9 a0 16) (-1)) (pt h9 (h9 a0 16) a1 (h9 a0 2) fun h19 =>
  (m_X23_add a0 2 a1 0 h19).bind fun h24 =>
  some h24))
theorem s_X23_ended {l : Launch} [NoTr l] {D : SD} {a0 a1 : Int} {h : Hp} (hk : h a0 (-2) = 384) (r1 : r32 a1) {r : Hp} (hm : m_X23_ended a0 a1 h = some r) : Sim l D yX23_ended (Cond.code yX23_ended cX23_ended 2 (Option.none : Option Jvm.ClassFile.FieldType)) 1 39 [rv D a0, iv a1] h 0 ((0, 0), r) := by
  refine Sim.of (fin := fun (v : Hp) => ((0, 0), v)) (lsE := [(0, rv D a0), (1, iv a1)]) hm rfl cwS_code (la_r (la_i la_n)) (ll_r (ll_i ll_n)) ?_
  intro p e s m below meth c X hcw hmm hcc hnm hname
  unfold m_X23_ended
  refine g_aload_n (pc := 0) X (j := 0) (i := 0) (q := 0) (x := a0) rfl rfl (dl_at t_X23_ended 0 rfl) ?_
  refine r_getr (pc := 1) X fX23_10 hk q3544 (dl_at t_X23_ended 1 rfl) ?_
  refine g_iload_n (pc := 4) X (j := 1) (i := 1) (q := 1) (x := a1) rfl rfl (dl_at t_X23_ended 2 rfl) ?_
  refine g_aload_n (pc := 5) X (j := 0) (i := 0) (q := 0) (x := a0) rfl rfl (dl_at t_X23_ended 3 rfl) ?_
  refine r_geti (pc := 6) X fX23_25 hk q3574 (dl_at t_X23_ended 4 rfl) fun g6 => ?_
  refine g_gd fun k9 => ?_
  refine r_iast (pc := 9) X r1 g6 k9 (dl_at t_X23_ended 5 rfl) (fun h9 E9 => ?_)
  refine g_aload_n (pc := 10) X (j := 0) (i := 0) (q := 0) (x := a0) rfl rfl (dl_at t_X23_ended 6 rfl) ?_
  have k11 := kx E9 (by decide) hk
  refine r_getr (pc := 11) X fX23_16 k11 q3559 (dl_at t_X23_ended 7 rfl) ?_
  refine g_iload_n (pc := 14) X (j := 1) (i := 1) (q := 1) (x := a1) rfl rfl (dl_at t_X23_ended 8 rfl) ?_
  refine g_aload_n (pc := 15) X (j := 0) (i := 0) (q := 0) (x := a0) rfl rfl (dl_at t_X23_ended 9 rfl) ?_
  refine r_geti (pc := 16) X fX23_2 k11 q3522 (dl_at t_X23_ended 10 rfl) fun g16 => ?_
  refine g_gd fun k19 => ?_
  refine r_iast (pc := 19) X r1 g16 k19 (dl_at t_X23_ended 11 rfl) (fun h19 E19 => ?_)
  refine g_aload_n (pc := 20) X (j := 0) (i := 0) (q := 0) (x := a0) rfl rfl (dl_at t_X23_ended 12 rfl) ?_
  refine g_iconst (pc := 21) X (n := 2) (dl_at t_X23_ended 13 rfl) ?_
  refine g_iload_n (pc := 22) X (j := 1) (i := 1) (q := 1) (x := a1) rfl rfl (dl_at t_X23_ended 14 rfl) ?_
  refine g_iconst (pc := 23) X (n := 0) (dl_at t_X23_ended 15 rfl) ?_
  have k24 := kx E19 (by decide) k11
  refine r_callV (pc := 24) X (fun _ hv => s_X23_add k24 (r32_c rfl) r1 (r32_c rfl) hv) cw_code q4598 q377 (in_Vk X (As := [iv 2, iv a1, iv 0]) kX23 k24 (Or.inl q4595) q4597 qs261 cw_code q4598 ⟨by decide, by decide⟩ rfl (dl_at t_X23_ended 16 rfl)) (dl_at t_X23_ended 16 rfl) (cat24 (st := []) (Nat.le_of_ble_eq_true rfl)) (Nat.le_of_ble_eq_true rfl) (Nat.le_of_ble_eq_true rfl) fun h24 E24 => ?_
  exact g_vret (pc := 27) X (v := 0) rfl rfl (dl_at t_X23_ended 17 rfl)
def k_X23_close : List (Nat × Instr × Nat) := [(0, .aload_n 0, 1), (1, .getfield 112, 3), (4, .ifCond .ge 12, 3), (7, .new 101, 3), (10, .dup, 1), (11, .iload_n 1, 1), (12, .invokespecial 103, 3), (15, .athrow, 1), (16, .aload_n 0, 1), (17, .iload_n 1, 1), (18, .iconst 1, 1), (19, .iadd, 1), (20, .invokevirtual 135, 3), (23, .istore_n 2, 1), (24, .aload_n 0, 1), (25, .getfield 9, 3), (28, .iload_n 1, 1), (29, .iconst 1, 1), (30, .iadd, 1), (31, .iload_n 2, 1), (32, .aload_n 0, 1), (33, .getfield 9, 3), (36, .aload_n 0, 1), (37, .getfield 34, 3), (40, .aload_n 0, 1), (41, .getfield 112, 3), (44, .iaload, 1), (45, .aload_n 0, 1), (46, .getfield 37, 3), (49, .aload_n 0, 1), (50, .getfield 112, 3), (53, .iaload, 1), (54, .invokestatic 131, 3), (57, .ifCond .ne 14, 3), (60, .new 101, 3), (63, .dup, 1), (64, .iload_n 1, 1), (65, .iconst 1, 1), (66, .iadd, 1), (67, .invokespecial 103, 3), (70, .athrow, 1), (71, .aload_n 0, 1), (72, .iload_n 2, 1), (73, .invokevirtual 165, 3), (76, .istore_n 3, 1), (77, .aload_n 0, 1), (78, .iload_n 3, 1), (79, .bipush 62, 2), (81, .invokevirtual 150, 3), (84, .aload_n 0, 1), (85, .iload_n 3, 1), (86, .iconst 1, 1), (87, .iadd, 1), (88, .putfield 109, 3), (91, .aload_n 0, 1), (92, .aload_n 0, 1), (93, .getfield 112, 3), (96, .invokevirtual 171, 3), (99, .aload_n 0, 1), (100, .aload_n 0, 1), (101, .getfield 31, 3), (104, .aload_n 0, 1), (105, .getfield 112, 3), (108, .iaload, 1), (109, .putfield 112, 3), (112, .aload_n 0, 1), (113, .dup, 1), (114, .getfield 115, 3), (117, .iconst 1, 1), (118, .isub, 1), (119, .putfield 115, 3), (122, .return_, 1)]
theorem t_X23_close : ∀ q ∈ k_X23_close, decode cX23_close q.1 = .ok q.2 := dl_all (by decide +kernel)
noncomputable def m_X23_close (a0 a1 : Int) (h : Hp) : Option ((Int × Int) × Hp) :=
  if 0 ≤ (h a0 26) then (bT (m_X23_nameAt a0 (w32 (a1 + 1)) h) (fun v20 h20 =>
  gd (h20 (h20 a0 12) (-2) % 16 = 1 ∧ (0 : Int) ≤ (h20 a0 26) ∧ (h20 a0 26) < h20 (h20 a0 12) (-1)) (gd (h20 (h20 a0 13) (-2) % 16 = 1 ∧ (0 : Int) ≤ (h20 a0 26) ∧ (h20 a0 26) < h20 (h20 a0 13) (-1)) ((m_X18_same (h20 a0 0) (w32 (a1 + 1)) v20 (h20 a0 0) (h20 (h20 a0 12) (h20 a0 26)) (h20 (h20 a0 13) (h20 a0 26)) h20).bind fun v54 =>
  if v54 ≠ 0 then ((m_X23_skip a0 v20 h20).bind fun v73 =>
  bT (m_X23_need a0 v73 62 h20) (fun _ h81 =>
  pt h81 a0 25 (w32 (v73 + 1)) fun h88 =>
  (m_X23_ended a0 (h88 a0 26) h88).bind fun h96 =>
  gd (h96 (h96 a0 11) (-2) % 16 = 1 ∧ (0 : Int) ≤ (h96 a0 26) ∧ (h96 a0 26) < h96 (h96 a0 11) (-1)) (pt h96 a0 26 (h96 (h96 a0 11) (h96 a0 26)) fun h109 =>
  pt h109 a0 27 (w32 ((h109 a0 27) - 1)) fun h119 =>
  some ((0, 0), h119))) (fun a_ h_ => some ((1, a_), h_)))
  else (al h20 448 7 fun a60 h60 =>
  (x_broken a60 (w32 (a1 + 1)) h60).bind fun h67 =>
  some ((1, a60), h67))))) (fun a_ h_ => some ((1, a_), h_)))
  else (al h 448 7 fun a7 h7 =>
  (x_broken a7 a1 h7).bind fun h12 =>
  some ((1, a7), h12))
theorem s_X23_close {l : Launch} [NoTr l] {D : SD} {a0 a1 : Int} {h : Hp} (hk : h a0 (-2) = 384) (r1 : r32 a1) {r : (Int × Int) × Hp} (hm : m_X23_close a0 a1 h = some r) : Sim l D yX23_close (Cond.code yX23_close cX23_close 4 (Option.none : Option Jvm.ClassFile.FieldType)) 10 375 [rv D a0, iv a1] h 0 r := by
  refine Sim.of (fin := fun (v : (Int × Int) × Hp) => v) (lsE := [(0, rv D a0), (1, iv a1)]) hm rfl cwS_code (la_r (la_i la_n)) (ll_r (ll_i ll_n)) ?_
  intro p e s m below meth c X hcw hmm hcc hnm hname
  have hno := noh hcw hnm hmm hcc
  unfold m_X23_close
  refine g_aload_n (pc := 0) X (j := 0) (i := 0) (q := 0) (x := a0) rfl rfl (dl_at t_X23_close 0 rfl) ?_
  refine r_geti (pc := 1) X fX23_26 hk q3575 (dl_at t_X23_close 1 rfl) fun g1 => ?_
  refine g_ifge (pc := 4) X g1 (off := 12) (tgt := 16) rfl (dl_at t_X23_close 2 rfl) (fun _ => ?_) (fun _ => ?_)
  · refine g_aload_n (pc := 16) X (j := 0) (i := 0) (q := 0) (x := a0) rfl rfl (dl_at t_X23_close 8 rfl) ?_
    refine g_iload_n (pc := 17) X (j := 1) (i := 1) (q := 1) (x := a1) rfl rfl (dl_at t_X23_close 9 rfl) ?_
    refine g_iconst (pc := 18) X (n := 1) (dl_at t_X23_close 10 rfl) ?_
    refine g_iadd (pc := 19) X r1 (r32_c rfl) (dl_at t_X23_close 11 rfl) ?_
    refine r_callTi (pc := 20) X (fun _ hv => s_X23_nameAt hk (r32_w _) hv) cw_code q4578 q377 (in_Vk X (As := [iv (w32 (a1 + 1))]) kX23 hk (Or.inl q4575) q4577 qs258 cw_code q4578 ⟨by decide, by decide⟩ rfl (dl_at t_X23_close 12 rfl)) (dl_at t_X23_close 12 rfl) (cat24 (st := []) (Nat.le_of_ble_eq_true rfl)) (Nat.le_of_ble_eq_true rfl) (Nat.le_of_ble_eq_true rfl) (fun v20 h20 g20 E20 => ?_) (fun _ _ ha _ => gt_at fun Q hQ => gt_out (Q := Q) X rfl ha (hno _) _ Q rfl hQ)
    refine g_istore_nN (pc := 23) X (j := 2) (i := 2) (x := v20) (b := 1) (w := iv a1) (rest := [(0, rv D a0)]) rfl (Nat.le_of_ble_eq_true rfl) [1, 0] rfl (by decide) rfl rfl (dl_at t_X23_close 13 rfl) ?_
    refine g_aload_n (pc := 24) X (j := 0) (i := 0) (q := 2) (x := a0) rfl rfl (dl_at t_X23_close 14 rfl) ?_
    have k25 := kx E20 (by decide) hk
    refine r_getr (pc := 25) X fX23_0 k25 q3516 (dl_at t_X23_close 15 rfl) ?_
    refine g_iload_n (pc := 28) X (j := 1) (i := 1) (q := 1) (x := a1) rfl rfl (dl_at t_X23_close 16 rfl) ?_
    refine g_iconst (pc := 29) X (n := 1) (dl_at t_X23_close 17 rfl) ?_
    refine g_iadd (pc := 30) X r1 (r32_c rfl) (dl_at t_X23_close 18 rfl) ?_
    refine g_iload_n (pc := 31) X (j := 2) (i := 2) (q := 0) (x := v20) rfl rfl (dl_at t_X23_close 19 rfl) ?_
    refine g_aload_n (pc := 32) X (j := 0) (i := 0) (q := 2) (x := a0) rfl rfl (dl_at t_X23_close 20 rfl) ?_
    refine r_getr (pc := 33) X fX23_0 k25 q3516 (dl_at t_X23_close 21 rfl) ?_
    refine g_aload_n (pc := 36) X (j := 0) (i := 0) (q := 2) (x := a0) rfl rfl (dl_at t_X23_close 22 rfl) ?_
    refine r_getr (pc := 37) X fX23_12 k25 q3550 (dl_at t_X23_close 23 rfl) ?_
    refine g_aload_n (pc := 40) X (j := 0) (i := 0) (q := 2) (x := a0) rfl rfl (dl_at t_X23_close 24 rfl) ?_
    refine r_geti (pc := 41) X fX23_26 k25 q3575 (dl_at t_X23_close 25 rfl) fun g41 => ?_
    refine g_gd fun k44 => ?_
    refine g_iald (pc := 44) X g41 k44 (dl_at t_X23_close 26 rfl) fun g44 => ?_
    refine g_aload_n (pc := 45) X (j := 0) (i := 0) (q := 2) (x := a0) rfl rfl (dl_at t_X23_close 27 rfl) ?_
    refine r_getr (pc := 46) X fX23_13 k25 q3552 (dl_at t_X23_close 28 rfl) ?_
    refine g_aload_n (pc := 49) X (j := 0) (i := 0) (q := 2) (x := a0) rfl rfl (dl_at t_X23_close 29 rfl) ?_
    refine r_geti (pc := 50) X fX23_26 k25 q3575 (dl_at t_X23_close 30 rfl) fun g50 => ?_
    refine g_gd fun k53 => ?_
    refine g_iald (pc := 53) X g50 k53 (dl_at t_X23_close 31 rfl) fun g53 => ?_
    refine r_callRz (pc := 54) X (fun _ hv => s_X18_same (r32_w _) g20 g44 g53 hv) cw_code q4464 q372 (in_Sc X (As := [rv D (h20 a0 0), iv (w32 (a1 + 1)), iv v20, rv D (h20 a0 0), iv (h20 (h20 a0 12) (h20 a0 26)), iv (h20 (h20 a0 13) (h20 a0 26))]) (Or.inr ⟨_, nw_in q4590 rfl⟩) q4463 q372 q4464 ⟨by decide, by decide⟩ rfl (dl_at t_X23_close 32 rfl)) (dl_at t_X23_close 32 rfl) (cat24 (st := []) (Nat.le_of_ble_eq_true rfl)) (Nat.le_of_ble_eq_true rfl) (Nat.le_of_ble_eq_true rfl) fun v54 g54 => ?_
    refine g_ifne (pc := 57) X (r32_z g54) (off := 14) (tgt := 71) rfl (dl_at t_X23_close 33 rfl) (fun _ => ?_) (fun _ => ?_)
    · refine g_aload_n (pc := 71) X (j := 0) (i := 0) (q := 2) (x := a0) rfl rfl (dl_at t_X23_close 41 rfl) ?_
      refine g_iload_n (pc := 72) X (j := 2) (i := 2) (q := 0) (x := v20) rfl rfl (dl_at t_X23_close 42 rfl) ?_
      refine r_callRi (pc := 73) X (fun _ hv => s_X23_skip k25 g20 hv) cw_code q4614 q377 (in_Vk X (As := [iv v20]) kX23 k25 (Or.inl q4611) q4613 qs265 cw_code q4614 ⟨by decide, by decide⟩ rfl (dl_at t_X23_close 43 rfl)) (dl_at t_X23_close 43 rfl) (cat24 (st := []) (Nat.le_of_ble_eq_true rfl)) (Nat.le_of_ble_eq_true rfl) (Nat.le_of_ble_eq_true rfl) fun v73 g73 => ?_
      refine g_istore_n (pc := 76) X (j := 3) (i := 3) (x := v73) (rest := [(0, rv D a0)]) rfl (Nat.le_of_ble_eq_true rfl) [2] rfl rfl (dl_at t_X23_close 44 rfl) ?_
      refine g_aload_n (pc := 77) X (j := 0) (i := 0) (q := 1) (x := a0) rfl rfl (dl_at t_X23_close 45 rfl) ?_
      refine g_iload_n (pc := 78) X (j := 3) (i := 3) (q := 0) (x := v73) rfl rfl (dl_at t_X23_close 46 rfl) ?_
      refine g_bipush (pc := 79) X (n := 62) rfl (dl_at t_X23_close 47 rfl) ?_
      refine r_callTv (pc := 81) X (fun _ hv => s_X23_need k25 g73 (r32_c rfl) hv) cw_code q4594 q377 (in_Vk X (As := [iv v73, iv 62]) kX23 k25 (Or.inl q4591) q4593 qs260 cw_code q4594 ⟨by decide, by decide⟩ rfl (dl_at t_X23_close 48 rfl)) (dl_at t_X23_close 48 rfl) (cat24 (st := []) (Nat.le_of_ble_eq_true rfl)) (Nat.le_of_ble_eq_true rfl) (Nat.le_of_ble_eq_true rfl) (fun v81 h81 E81 => ?_) (fun _ _ ha _ => gt_at fun Q hQ => gt_out (Q := Q) X rfl ha (hno _) _ Q rfl hQ)
      refine g_aload_n (pc := 84) X (j := 0) (i := 0) (q := 1) (x := a0) rfl rfl (dl_at t_X23_close 49 rfl) ?_
      refine g_iload_n (pc := 85) X (j := 3) (i := 3) (q := 0) (x := v73) rfl rfl (dl_at t_X23_close 50 rfl) ?_
      refine g_iconst (pc := 86) X (n := 1) (dl_at t_X23_close 51 rfl) ?_
      refine g_iadd (pc := 87) X g73 (r32_c rfl) (dl_at t_X23_close 52 rfl) ?_
      have k88 := kx E81 (by decide) k25
      refine r_puti (pc := 88) X fX23_25 k88 q3574 rfl (dl_at t_X23_close 53 rfl) (r32_w _) (fun h88 E88 => ?_)
      refine g_aload_n (pc := 91) X (j := 0) (i := 0) (q := 1) (x := a0) rfl rfl (dl_at t_X23_close 54 rfl) ?_
      refine g_aload_n (pc := 92) X (j := 0) (i := 0) (q := 1) (x := a0) rfl rfl (dl_at t_X23_close 55 rfl) ?_
      have k93 := kx E88 (by decide) k88
      refine r_geti (pc := 93) X fX23_26 k93 q3575 (dl_at t_X23_close 56 rfl) fun g93 => ?_
      refine r_callV (pc := 96) X (fun _ hv => s_X23_ended k93 g93 hv) cw_code q4627 q377 (in_Vk X (As := [iv (h88 a0 26)]) kX23 k93 (Or.inl q4624) q4626 qs268 cw_code q4627 ⟨by decide, by decide⟩ rfl (dl_at t_X23_close 57 rfl)) (dl_at t_X23_close 57 rfl) (cat24 (st := []) (Nat.le_of_ble_eq_true rfl)) (Nat.le_of_ble_eq_true rfl) (Nat.le_of_ble_eq_true rfl) fun h96 E96 => ?_
      refine g_aload_n (pc := 99) X (j := 0) (i := 0) (q := 1) (x := a0) rfl rfl (dl_at t_X23_close 58 rfl) ?_
      refine g_aload_n (pc := 100) X (j := 0) (i := 0) (q := 1) (x := a0) rfl rfl (dl_at t_X23_close 59 rfl) ?_
      have k101 := kx E96 (by decide) k93
      refine r_getr (pc := 101) X fX23_11 k101 q3546 (dl_at t_X23_close 60 rfl) ?_
      refine g_aload_n (pc := 104) X (j := 0) (i := 0) (q := 1) (x := a0) rfl rfl (dl_at t_X23_close 61 rfl) ?_
      refine r_geti (pc := 105) X fX23_26 k101 q3575 (dl_at t_X23_close 62 rfl) fun g105 => ?_
      refine g_gd fun k108 => ?_
      refine g_iald (pc := 108) X g105 k108 (dl_at t_X23_close 63 rfl) fun g108 => ?_
      refine r_puti (pc := 109) X fX23_26 k101 q3575 rfl (dl_at t_X23_close 64 rfl) g108 (fun h109 E109 => ?_)
      refine g_aload_n (pc := 112) X (j := 0) (i := 0) (q := 1) (x := a0) rfl rfl (dl_at t_X23_close 65 rfl) ?_
      refine g_dup (pc := 113) X rv_cat (dl_at t_X23_close 66 rfl) ?_
      have k114 := kx E109 (by decide) k101
      refine r_geti (pc := 114) X fX23_27 k114 q3576 (dl_at t_X23_close 67 rfl) fun g114 => ?_
      refine g_iconst (pc := 117) X (n := 1) (dl_at t_X23_close 68 rfl) ?_
      refine g_isub (pc := 118) X g114 (r32_c rfl) (dl_at t_X23_close 69 rfl) ?_
      refine r_puti (pc := 119) X fX23_27 k114 q3576 rfl (dl_at t_X23_close 70 rfl) (r32_w _) (fun h119 E119 => ?_)
      exact g_vret (pc := 122) X (v := 0) rfl rfl (dl_at t_X23_close 71 rfl)
    refine r_new (pc := 60) X kX27 q4580 (dl_at t_X23_close 34 rfl) fun a60 h60 p60 k60 E60 => ?_
    refine g_dup (pc := 63) X rv_cat (dl_at t_X23_close 35 rfl) ?_
    refine g_iload_n (pc := 64) X (j := 1) (i := 1) (q := 1) (x := a1) rfl rfl (dl_at t_X23_close 36 rfl) ?_
    refine g_iconst (pc := 65) X (n := 1) (dl_at t_X23_close 37 rfl) ?_
    refine g_iadd (pc := 66) X r1 (r32_c rfl) (dl_at t_X23_close 38 rfl) ?_
    refine r_callV (pc := 67) X (fun _ hv => sx_ScholarsPressModel_Broken_init_I_V k60 (r32_w _) hv) cw_code q4398 q392 (in_I X (As := [iv (w32 (a1 + 1))]) (Int.ne_of_gt p60) rfl (Or.inl q4581) q4397 q4398 ⟨by decide, by decide⟩ rfl (dl_at t_X23_close 39 rfl)) (dl_at t_X23_close 39 rfl) (cat24 (st := [rv D a60]) (Nat.le_of_ble_eq_true rfl)) (Nat.le_of_ble_eq_true rfl) (Nat.le_of_ble_eq_true rfl) fun h67 E67 => ?_
    refine g_athrow (pc := 70) X (Int.ne_of_gt p60) (dl_at t_X23_close 40 rfl) ?_
    exact gt_at fun Q hQ => gt_out (Q := Q) X rfl p60 (hno _) _ Q rfl hQ
  refine r_new (pc := 7) X kX27 q4580 (dl_at t_X23_close 3 rfl) fun a7 h7 p7 k7 E7 => ?_
  refine g_dup (pc := 10) X rv_cat (dl_at t_X23_close 4 rfl) ?_
  refine g_iload_n (pc := 11) X (j := 1) (i := 1) (q := 1) (x := a1) rfl rfl (dl_at t_X23_close 5 rfl) ?_
  refine r_callV (pc := 12) X (fun _ hv => sx_ScholarsPressModel_Broken_init_I_V k7 r1 hv) cw_code q4398 q392 (in_I X (As := [iv a1]) (Int.ne_of_gt p7) rfl (Or.inl q4581) q4397 q4398 ⟨by decide, by decide⟩ rfl (dl_at t_X23_close 6 rfl)) (dl_at t_X23_close 6 rfl) (cat24 (st := [rv D a7]) (Nat.le_of_ble_eq_true rfl)) (Nat.le_of_ble_eq_true rfl) (Nat.le_of_ble_eq_true rfl) fun h12 E12 => ?_
  refine g_athrow (pc := 15) X (Int.ne_of_gt p7) (dl_at t_X23_close 7 rfl) ?_
  exact gt_at fun Q hQ => gt_out (Q := Q) X rfl p7 (hno _) _ Q rfl hQ
def k_X23_field : List (Nat × Instr × Nat) := [(0, .aload_n 0, 1), (1, .iload_n 2, 1), (2, .invokevirtual 135, 3), (5, .istore_n 3, 1), (6, .bipush 6, 2), (8, .iload_n 1, 1), (9, .imul, 1), (10, .istore 4, 2), (12, .iload 4, 2), (14, .bipush 6, 2), (16, .iload_n 1, 1), (17, .imul, 1), (18, .aload_n 0, 1), (19, .getfield 40, 3), (22, .iload_n 1, 1), (23, .iaload, 1), (24, .iadd, 1), (25, .if_icmp .ge 48, 3), (28, .aload_n 0, 1), (29, .getfield 9, 3), (32, .aload_n 0, 1), (33, .getfield 49, 3), (36, .iload 4, 2), (38, .iaload, 1), (39, .aload_n 0, 1), (40, .getfield 52, 3), (43, .iload 4, 2), (45, .iaload, 1), (46, .aload_n 0, 1), (47, .getfield 9, 3), (50, .iload_n 2, 1), (51, .iload_n 3, 1), (52, .invokestatic 131, 3), (55, .ifCond .eq 12, 3), (58, .new 101, 3), (61, .dup, 1), (62, .iload_n 2, 1), (63, .invokespecial 103, 3), (66, .athrow, 1), (67, .iinc 4 1, 3), (70, .goto (-58), 3), (73, .aload_n 0, 1), (74, .getfield 40, 3), (77, .iload_n 1, 1), (78, .iaload, 1), (79, .bipush 6, 2), (81, .if_icmp .ne 12, 3), (84, .new 101, 3), (87, .dup, 1), (88, .iload_n 2, 1), (89, .invokespecial 103, 3), (92, .athrow, 1), (93, .aload_n 0, 1), (94, .iload_n 3, 1), (95, .invokevirtual 165, 3), (98, .istore 4, 2), (100, .aload_n 0, 1), (101, .iload 4, 2), (103, .bipush 61, 2), (105, .invokevirtual 150, 3), (108, .aload_n 0, 1), (109, .iload 4, 2), (111, .iconst 1, 1), (112, .iadd, 1), (113, .invokevirtual 165, 3), (116, .istore 5, 2), (118, .aload_n 0, 1), (119, .iload 5, 2), (121, .invokevirtual 168, 3), (124, .istore 6, 2), (126, .bipush 6, 2), (128, .iload_n 1, 1), (129, .imul, 1), (130, .aload_n 0, 1), (131, .getfield 40, 3), (134, .iload_n 1, 1), (135, .iaload, 1), (136, .iadd, 1), (137, .istore 7, 2), (139, .aload_n 0, 1), (140, .getfield 49, 3), (143, .iload 7, 2), (145, .iload_n 2, 1), (146, .iastore, 1), (147, .aload_n 0, 1), (148, .getfield 52, 3), (151, .iload 7, 2), (153, .iload_n 3, 1), (154, .iastore, 1), (155, .aload_n 0, 1), (156, .getfield 55, 3), (159, .iload 7, 2), (161, .iload 5, 2), (163, .iconst 1, 1), (164, .iadd, 1), (165, .iastore, 1), (166, .aload_n 0, 1), (167, .getfield 58, 3), (170, .iload 7, 2), (172, .iload 6, 2), (174, .iconst 1, 1), (175, .isub, 1), (176, .iastore, 1), (177, .aload_n 0, 1), (178, .getfield 40, 3), (181, .iload_n 1, 1), (182, .dup2, 1), (183, .iaload, 1), (184, .iconst 1, 1), (185, .iadd, 1), (186, .iastore, 1), (187, .iload 6, 2), (189, .ireturn, 1)]
theorem t_X23_field : ∀ q ∈ k_X23_field, decode cX23_field q.1 = .ok q.2 := dl_all (by decide +kernel)
noncomputable def m_X23_field_l12 (a0 a1 a2 v2 x4_12 : Int) (h2 : Hp) : Option ((Int) ⊕ ((Unit) ⊕ (((Int × Int) × Hp)))) :=
  gd (h2 (h2 a0 14) (-2) % 16 = 1 ∧ (0 : Int) ≤ a1 ∧ a1 < h2 (h2 a0 14) (-1)) (if (w32 ((w32 (6 * a1)) + (h2 (h2 a0 14) a1))) ≤ x4_12 then (some (.inr (.inl ())))
  else (gd (h2 (h2 a0 17) (-2) % 16 = 1 ∧ (0 : Int) ≤ x4_12 ∧ x4_12 < h2 (h2 a0 17) (-1)) (gd (h2 (h2 a0 18) (-2) % 16 = 1 ∧ (0 : Int) ≤ x4_12 ∧ x4_12 < h2 (h2 a0 18) (-1)) ((m_X18_same (h2 a0 0) (h2 (h2 a0 17) x4_12) (h2 (h2 a0 18) x4_12) (h2 a0 0) a2 v2 h2).bind fun v52 =>
  if v52 = 0 then (lt_ (w32 (x4_12 + 1)) fun x4_67 =>
  some (.inl x4_67))
  else (al h2 448 7 fun a58 h58 =>
  (x_broken a58 a2 h58).bind fun h63 =>
  some (.inr (.inr ((1, a58), h63))))))))
noncomputable def m_X23_field (a0 a1 a2 : Int) (h : Hp) : Option ((Int × Int) × Hp) :=
  bT (m_X23_nameAt a0 a2 h) (fun v2 h2 =>
  lt_ (w32 (6 * a1)) fun x4_10 =>
  (lp (fun (q : Int) => m_X23_field_l12 a0 a1 a2 v2 q h2) x4_10).bind (sE (fun (_ : Unit) => gd (h2 (h2 a0 14) (-2) % 16 = 1 ∧ (0 : Int) ≤ a1 ∧ a1 < h2 (h2 a0 14) (-1)) (if (h2 (h2 a0 14) a1) ≠ 6 then ((m_X23_skip a0 v2 h2).bind fun v95 =>
  bT (m_X23_need a0 v95 61 h2) (fun _ h105 =>
  (m_X23_skip a0 (w32 (v95 + 1)) h105).bind fun v113 =>
  bT (m_X23_stringAt a0 v113 h105) (fun v121 h121 =>
  gd (h121 (h121 a0 14) (-2) % 16 = 1 ∧ (0 : Int) ≤ a1 ∧ a1 < h121 (h121 a0 14) (-1)) (lt_ (w32 ((w32 (6 * a1)) + (h121 (h121 a0 14) a1))) fun x7_137 =>
  gd (h121 (h121 a0 17) (-2) % 16 = 1 ∧ (0 : Int) ≤ x7_137 ∧ x7_137 < h121 (h121 a0 17) (-1)) (pt h121 (h121 a0 17) x7_137 a2 fun h146 =>
  gd (h146 (h146 a0 18) (-2) % 16 = 1 ∧ (0 : Int) ≤ x7_137 ∧ x7_137 < h146 (h146 a0 18) (-1)) (pt h146 (h146 a0 18) x7_137 v2 fun h154 =>
  gd (h154 (h154 a0 19) (-2) % 16 = 1 ∧ (0 : Int) ≤ x7_137 ∧ x7_137 < h154 (h154 a0 19) (-1)) (pt h154 (h154 a0 19) x7_137 (w32 (v113 + 1)) fun h165 =>
  gd (h165 (h165 a0 20) (-2) % 16 = 1 ∧ (0 : Int) ≤ x7_137 ∧ x7_137 < h165 (h165 a0 20) (-1)) (pt h165 (h165 a0 20) x7_137 (w32 (v121 - 1)) fun h176 =>
  gd (h176 (h176 a0 14) (-2) % 16 = 1 ∧ (0 : Int) ≤ a1 ∧ a1 < h176 (h176 a0 14) (-1)) (pt h176 (h176 a0 14) a1 (w32 ((h176 (h176 a0 14) a1) + 1)) fun h186 =>
  some ((0, v121), h186)))))))) (fun a_ h_ => some ((1, a_), h_))) (fun a_ h_ => some ((1, a_), h_)))
  else (al h2 448 7 fun a84 h84 =>
  (x_broken a84 a2 h84).bind fun h89 =>
  some ((1, a84), h89)))) (fun (x : (Int × Int) × Hp) => some x))) (fun a_ h_ => some ((1, a_), h_))
theorem s_X23_field {l : Launch} [NoTr l] {D : SD} {a0 a1 a2 : Int} {h : Hp} (hk : h a0 (-2) = 384) (r1 : r32 a1) (r2 : r32 a2) {r : (Int × Int) × Hp} (hm : m_X23_field a0 a1 a2 h = some r) : Sim l D yX23_field (Cond.code yX23_field cX23_field 8 (Option.some Jvm.ClassFile.FieldType.int)) 10 375 [rv D a0, iv a1, iv a2] h 1 r := by
  refine Sim.of (fin := fun (v : (Int × Int) × Hp) => v) (lsE := [(0, rv D a0), (1, iv a1), (2, iv a2)]) hm rfl cwS_code (la_r (la_i (la_i la_n))) (ll_r (ll_i (ll_i ll_n))) ?_
  intro p e s m below meth c X hcw hmm hcc hnm hname
  have hno := noh hcw hnm hmm hcc
  unfold m_X23_field
  refine g_aload_n (pc := 0) X (j := 0) (i := 0) (q := 0) (x := a0) rfl rfl (dl_at t_X23_field 0 rfl) ?_
  refine g_iload_n (pc := 1) X (j := 2) (i := 2) (q := 2) (x := a2) rfl rfl (dl_at t_X23_field 1 rfl) ?_
  refine r_callTi (pc := 2) X (fun _ hv => s_X23_nameAt hk r2 hv) cw_code q4578 q377 (in_Vk X (As := [iv a2]) kX23 hk (Or.inl q4575) q4577 qs258 cw_code q4578 ⟨by decide, by decide⟩ rfl (dl_at t_X23_field 2 rfl)) (dl_at t_X23_field 2 rfl) (cat24 (st := []) (Nat.le_of_ble_eq_true rfl)) (Nat.le_of_ble_eq_true rfl) (Nat.le_of_ble_eq_true rfl) (fun v2 h2 g2 E2 => ?_) (fun _ _ ha _ => gt_at fun Q hQ => gt_out (Q := Q) X rfl ha (hno _) _ Q rfl hQ)
  refine g_istore_nN (pc := 5) X (j := 3) (i := 3) (x := v2) (b := 2) (w := iv a2) (rest := [(0, rv D a0), (1, iv a1)]) rfl (Nat.le_of_ble_eq_true rfl) [2, 0, 1] rfl (by decide) rfl rfl (dl_at t_X23_field 3 rfl) ?_
  refine g_bipush (pc := 6) X (n := 6) rfl (dl_at t_X23_field 4 rfl) ?_
  refine g_iload_n (pc := 8) X (j := 1) (i := 1) (q := 3) (x := a1) rfl rfl (dl_at t_X23_field 5 rfl) ?_
  refine g_imul (pc := 9) X (r32_c rfl) r1 (dl_at t_X23_field 6 rfl) ?_
  refine g_lti (r32_w _) fun x4_10 r4_10 => ?_
  refine g_istoreN (pc := 10) X (i := 4) (x := x4_10) (b := 3) (w := iv v2) (rest := [(2, iv a2), (0, rv D a0), (1, iv a1)]) (Nat.le_of_ble_eq_true rfl) [0, 1, 2, 3] rfl (by decide) rfl rfl (dl_at t_X23_field 7 rfl) ?_
  refine g_ls (ls2 := [(0, rv D a0), (1, iv a1), (2, iv a2), (3, iv v2), (4, iv x4_10)]) [3, 4, 2, 1, 0] rfl ?_
  refine g_loop1F (fun (q : Int) => [(0, rv D a0), (1, iv a1), (2, iv a2), (3, iv v2), (4, iv q)]) (fun (q : Int) => h2) (fun (q : Int) => r32 q) 73 (fun (y73 : Unit) => [(0, rv D a0), (1, iv a1), (2, iv a2), (3, iv v2)]) (fun (y73 : Unit) => h2) (fun (y73 : Unit) => True) x4_10 r4_10 ?_ ?_ (fun _ => rfl)
  · rintro x4_12 r4_12
    try dsimp only
    unfold m_X23_field_l12
    refine g_iload (pc := 12) X (i := 4) (q := 4) (x := x4_12) rfl (dl_at t_X23_field 8 rfl) ?_
    refine g_bipush (pc := 14) X (n := 6) rfl (dl_at t_X23_field 9 rfl) ?_
    refine g_iload_n (pc := 16) X (j := 1) (i := 1) (q := 1) (x := a1) rfl rfl (dl_at t_X23_field 10 rfl) ?_
    refine g_imul (pc := 17) X (r32_c rfl) r1 (dl_at t_X23_field 11 rfl) ?_
    refine g_aload_n (pc := 18) X (j := 0) (i := 0) (q := 0) (x := a0) rfl rfl (dl_at t_X23_field 12 rfl) ?_
    have k19 := kx E2 (by decide) hk
    refine r_getr (pc := 19) X fX23_14 k19 q3554 (dl_at t_X23_field 13 rfl) ?_
    refine g_iload_n (pc := 22) X (j := 1) (i := 1) (q := 1) (x := a1) rfl rfl (dl_at t_X23_field 14 rfl) ?_
    refine g_gd fun k23 => ?_
    refine g_iald (pc := 23) X r1 k23 (dl_at t_X23_field 15 rfl) fun g23 => ?_
    refine g_iadd (pc := 24) X (r32_w _) g23 (dl_at t_X23_field 16 rfl) ?_
    refine g_icmpge (pc := 25) X r4_12 (r32_w _) (off := 48) (tgt := 73) rfl (dl_at t_X23_field 17 rfl) (fun _ => ?_) (fun _ => ?_)
    · refine g_ls (ls2 := [(0, rv D a0), (1, iv a1), (2, iv a2), (3, iv v2)]) [0, 1, 2, 3] rfl ?_
      exact g_at fun Q hQ => hQ trivial
    refine g_aload_n (pc := 28) X (j := 0) (i := 0) (q := 0) (x := a0) rfl rfl (dl_at t_X23_field 18 rfl) ?_
    refine r_getr (pc := 29) X fX23_0 k19 q3516 (dl_at t_X23_field 19 rfl) ?_
    refine g_aload_n (pc := 32) X (j := 0) (i := 0) (q := 0) (x := a0) rfl rfl (dl_at t_X23_field 20 rfl) ?_
    refine r_getr (pc := 33) X fX23_17 k19 q3562 (dl_at t_X23_field 21 rfl) ?_
    refine g_iload (pc := 36) X (i := 4) (q := 4) (x := x4_12) rfl (dl_at t_X23_field 22 rfl) ?_
    refine g_gd fun k38 => ?_
    refine g_iald (pc := 38) X r4_12 k38 (dl_at t_X23_field 23 rfl) fun g38 => ?_
    refine g_aload_n (pc := 39) X (j := 0) (i := 0) (q := 0) (x := a0) rfl rfl (dl_at t_X23_field 24 rfl) ?_
    refine r_getr (pc := 40) X fX23_18 k19 q3563 (dl_at t_X23_field 25 rfl) ?_
    refine g_iload (pc := 43) X (i := 4) (q := 4) (x := x4_12) rfl (dl_at t_X23_field 26 rfl) ?_
    refine g_gd fun k45 => ?_
    refine g_iald (pc := 45) X r4_12 k45 (dl_at t_X23_field 27 rfl) fun g45 => ?_
    refine g_aload_n (pc := 46) X (j := 0) (i := 0) (q := 0) (x := a0) rfl rfl (dl_at t_X23_field 28 rfl) ?_
    refine r_getr (pc := 47) X fX23_0 k19 q3516 (dl_at t_X23_field 29 rfl) ?_
    refine g_iload_n (pc := 50) X (j := 2) (i := 2) (q := 2) (x := a2) rfl rfl (dl_at t_X23_field 30 rfl) ?_
    refine g_iload_n (pc := 51) X (j := 3) (i := 3) (q := 3) (x := v2) rfl rfl (dl_at t_X23_field 31 rfl) ?_
    refine r_callRz (pc := 52) X (fun _ hv => s_X18_same g38 g45 r2 g2 hv) cw_code q4464 q372 (in_Sc X (As := [rv D (h2 a0 0), iv (h2 (h2 a0 17) x4_12), iv (h2 (h2 a0 18) x4_12), rv D (h2 a0 0), iv a2, iv v2]) (Or.inr ⟨_, nw_in q4590 rfl⟩) q4463 q372 q4464 ⟨by decide, by decide⟩ rfl (dl_at t_X23_field 32 rfl)) (dl_at t_X23_field 32 rfl) (cat24 (st := []) (Nat.le_of_ble_eq_true rfl)) (Nat.le_of_ble_eq_true rfl) (Nat.le_of_ble_eq_true rfl) fun v52 g52 => ?_
    refine g_ifeq (pc := 55) X (r32_z g52) (off := 12) (tgt := 67) rfl (dl_at t_X23_field 33 rfl) (fun _ => ?_) (fun _ => ?_)
    · refine r_iincN (pc := 67) X (i := 4) (q := 4) (n := 1) (x := x4_12) (b := 3) (w := iv v2) (rest := [(0, rv D a0), (1, iv a1), (2, iv a2)]) rfl r4_12 (r32_c rfl) (Nat.le_of_ble_eq_true rfl) [3, 0, 1, 2] rfl (by decide) rfl rfl (dl_at t_X23_field 39 rfl) fun x4_67 r4_67 => ?_
      refine g_goto (pc := 70) X (off := (-58)) (tgt := 12) rfl (dl_at t_X23_field 40 rfl) ?_
      refine g_ls (ls2 := [(0, rv D a0), (1, iv a1), (2, iv a2), (3, iv v2), (4, iv x4_67)]) [2, 3, 4, 1, 0] rfl ?_
      exact g_at fun Q hQ => hQ r4_67
    refine r_new (pc := 58) X kX27 q4580 (dl_at t_X23_field 34 rfl) fun a58 h58 p58 k58 E58 => ?_
    refine g_dup (pc := 61) X rv_cat (dl_at t_X23_field 35 rfl) ?_
    refine g_iload_n (pc := 62) X (j := 2) (i := 2) (q := 2) (x := a2) rfl rfl (dl_at t_X23_field 36 rfl) ?_
    refine r_callV (pc := 63) X (fun _ hv => sx_ScholarsPressModel_Broken_init_I_V k58 r2 hv) cw_code q4398 q392 (in_I X (As := [iv a2]) (Int.ne_of_gt p58) rfl (Or.inl q4581) q4397 q4398 ⟨by decide, by decide⟩ rfl (dl_at t_X23_field 37 rfl)) (dl_at t_X23_field 37 rfl) (cat24 (st := [rv D a58]) (Nat.le_of_ble_eq_true rfl)) (Nat.le_of_ble_eq_true rfl) (Nat.le_of_ble_eq_true rfl) fun h63 E63 => ?_
    refine g_athrow (pc := 66) X (Int.ne_of_gt p58) (dl_at t_X23_field 38 rfl) ?_
    exact gt_at fun Q hQ => gt_out (Q := Q) X rfl p58 (hno _) _ Q rfl hQ
  · rintro _ _
    try dsimp only [sE]
    refine g_aload_n (pc := 73) X (j := 0) (i := 0) (q := 0) (x := a0) rfl rfl (dl_at t_X23_field 41 rfl) ?_
    have k74 := kx E2 (by decide) hk
    refine r_getr (pc := 74) X fX23_14 k74 q3554 (dl_at t_X23_field 42 rfl) ?_
    refine g_iload_n (pc := 77) X (j := 1) (i := 1) (q := 1) (x := a1) rfl rfl (dl_at t_X23_field 43 rfl) ?_
    refine g_gd fun k78 => ?_
    refine g_iald (pc := 78) X r1 k78 (dl_at t_X23_field 44 rfl) fun g78 => ?_
    refine g_bipush (pc := 79) X (n := 6) rfl (dl_at t_X23_field 45 rfl) ?_
    refine g_icmpne (pc := 81) X g78 (r32_c rfl) (off := 12) (tgt := 93) rfl (dl_at t_X23_field 46 rfl) (fun _ => ?_) (fun _ => ?_)
    · refine g_aload_n (pc := 93) X (j := 0) (i := 0) (q := 0) (x := a0) rfl rfl (dl_at t_X23_field 52 rfl) ?_
      refine g_iload_n (pc := 94) X (j := 3) (i := 3) (q := 3) (x := v2) rfl rfl (dl_at t_X23_field 53 rfl) ?_
      refine r_callRi (pc := 95) X (fun _ hv => s_X23_skip k74 g2 hv) cw_code q4614 q377 (in_Vk X (As := [iv v2]) kX23 k74 (Or.inl q4611) q4613 qs265 cw_code q4614 ⟨by decide, by decide⟩ rfl (dl_at t_X23_field 54 rfl)) (dl_at t_X23_field 54 rfl) (cat24 (st := []) (Nat.le_of_ble_eq_true rfl)) (Nat.le_of_ble_eq_true rfl) (Nat.le_of_ble_eq_true rfl) fun v95 g95 => ?_
      refine g_istoreN (pc := 98) X (i := 4) (x := v95) (b := 3) (w := iv v2) (rest := [(0, rv D a0), (1, iv a1), (2, iv a2)]) (Nat.le_of_ble_eq_true rfl) [3, 0, 1, 2] rfl (by decide) rfl rfl (dl_at t_X23_field 55 rfl) ?_
      refine g_aload_n (pc := 100) X (j := 0) (i := 0) (q := 2) (x := a0) rfl rfl (dl_at t_X23_field 56 rfl) ?_
      refine g_iload (pc := 101) X (i := 4) (q := 0) (x := v95) rfl (dl_at t_X23_field 57 rfl) ?_
      refine g_bipush (pc := 103) X (n := 61) rfl (dl_at t_X23_field 58 rfl) ?_
      refine r_callTv (pc := 105) X (fun _ hv => s_X23_need k74 g95 (r32_c rfl) hv) cw_code q4594 q377 (in_Vk X (As := [iv v95, iv 61]) kX23 k74 (Or.inl q4591) q4593 qs260 cw_code q4594 ⟨by decide, by decide⟩ rfl (dl_at t_X23_field 59 rfl)) (dl_at t_X23_field 59 rfl) (cat24 (st := []) (Nat.le_of_ble_eq_true rfl)) (Nat.le_of_ble_eq_true rfl) (Nat.le_of_ble_eq_true rfl) (fun v105 h105 E105 => ?_) (fun _ _ ha _ => gt_at fun Q hQ => gt_out (Q := Q) X rfl ha (hno _) _ Q rfl hQ)
      refine g_aload_n (pc := 108) X (j := 0) (i := 0) (q := 2) (x := a0) rfl rfl (dl_at t_X23_field 60 rfl) ?_
      refine g_iload (pc := 109) X (i := 4) (q := 0) (x := v95) rfl (dl_at t_X23_field 61 rfl) ?_
      refine g_iconst (pc := 111) X (n := 1) (dl_at t_X23_field 62 rfl) ?_
      refine g_iadd (pc := 112) X g95 (r32_c rfl) (dl_at t_X23_field 63 rfl) ?_
      have k113 := kx E105 (by decide) k74
      refine r_callRi (pc := 113) X (fun _ hv => s_X23_skip k113 (r32_w _) hv) cw_code q4614 q377 (in_Vk X (As := [iv (w32 (v95 + 1))]) kX23 k113 (Or.inl q4611) q4613 qs265 cw_code q4614 ⟨by decide, by decide⟩ rfl (dl_at t_X23_field 64 rfl)) (dl_at t_X23_field 64 rfl) (cat24 (st := []) (Nat.le_of_ble_eq_true rfl)) (Nat.le_of_ble_eq_true rfl) (Nat.le_of_ble_eq_true rfl) fun v113 g113 => ?_
      refine g_istore (pc := 116) X (i := 5) (x := v113) (rest := [(3, iv v2), (0, rv D a0), (1, iv a1), (2, iv a2)]) (Nat.le_of_ble_eq_true rfl) [1, 2, 3, 4] rfl rfl (dl_at t_X23_field 65 rfl) ?_
      refine g_aload_n (pc := 118) X (j := 0) (i := 0) (q := 2) (x := a0) rfl rfl (dl_at t_X23_field 66 rfl) ?_
      refine g_iload (pc := 119) X (i := 5) (q := 0) (x := v113) rfl (dl_at t_X23_field 67 rfl) ?_
      refine r_callTi (pc := 121) X (fun _ hv => s_X23_stringAt k113 g113 hv) cw_code q4619 q377 (in_Vk X (As := [iv v113]) kX23 k113 (Or.inl q4616) q4618 qs266 cw_code q4619 ⟨by decide, by decide⟩ rfl (dl_at t_X23_field 68 rfl)) (dl_at t_X23_field 68 rfl) (cat24 (st := []) (Nat.le_of_ble_eq_true rfl)) (Nat.le_of_ble_eq_true rfl) (Nat.le_of_ble_eq_true rfl) (fun v121 h121 g121 E121 => ?_) (fun _ _ ha _ => gt_at fun Q hQ => gt_out (Q := Q) X rfl ha (hno _) _ Q rfl hQ)
      refine g_istoreN (pc := 124) X (i := 6) (x := v121) (b := 5) (w := iv v113) (rest := [(3, iv v2), (0, rv D a0), (1, iv a1), (2, iv a2)]) (Nat.le_of_ble_eq_true rfl) [0, 1, 2, 3, 4] rfl (by decide) rfl rfl (dl_at t_X23_field 69 rfl) ?_
      refine g_bipush (pc := 126) X (n := 6) rfl (dl_at t_X23_field 70 rfl) ?_
      refine g_iload_n (pc := 128) X (j := 1) (i := 1) (q := 4) (x := a1) rfl rfl (dl_at t_X23_field 71 rfl) ?_
      refine g_imul (pc := 129) X (r32_c rfl) r1 (dl_at t_X23_field 72 rfl) ?_
      refine g_aload_n (pc := 130) X (j := 0) (i := 0) (q := 3) (x := a0) rfl rfl (dl_at t_X23_field 73 rfl) ?_
      have k131 := kx E121 (by decide) k113
      refine r_getr (pc := 131) X fX23_14 k131 q3554 (dl_at t_X23_field 74 rfl) ?_
      refine g_iload_n (pc := 134) X (j := 1) (i := 1) (q := 4) (x := a1) rfl rfl (dl_at t_X23_field 75 rfl) ?_
      refine g_gd fun k135 => ?_
      refine g_iald (pc := 135) X r1 k135 (dl_at t_X23_field 76 rfl) fun g135 => ?_
      refine g_iadd (pc := 136) X (r32_w _) g135 (dl_at t_X23_field 77 rfl) ?_
      refine g_lti (r32_w _) fun x7_137 r7_137 => ?_
      refine g_istoreN (pc := 137) X (i := 7) (x := x7_137) (b := 6) (w := iv v121) (rest := [(5, iv v113), (3, iv v2), (0, rv D a0), (1, iv a1), (2, iv a2)]) (Nat.le_of_ble_eq_true rfl) [0, 1, 2, 3, 4, 5] rfl (by decide) rfl rfl (dl_at t_X23_field 78 rfl) ?_
      refine g_aload_n (pc := 139) X (j := 0) (i := 0) (q := 4) (x := a0) rfl rfl (dl_at t_X23_field 79 rfl) ?_
      refine r_getr (pc := 140) X fX23_17 k131 q3562 (dl_at t_X23_field 80 rfl) ?_
      refine g_iload (pc := 143) X (i := 7) (q := 0) (x := x7_137) rfl (dl_at t_X23_field 81 rfl) ?_
      refine g_iload_n (pc := 145) X (j := 2) (i := 2) (q := 6) (x := a2) rfl rfl (dl_at t_X23_field 82 rfl) ?_
      refine g_gd fun k146 => ?_
      refine r_iast (pc := 146) X r7_137 r2 k146 (dl_at t_X23_field 83 rfl) (fun h146 E146 => ?_)
      refine g_aload_n (pc := 147) X (j := 0) (i := 0) (q := 4) (x := a0) rfl rfl (dl_at t_X23_field 84 rfl) ?_
      have k148 := kx E146 (by decide) k131
      refine r_getr (pc := 148) X fX23_18 k148 q3563 (dl_at t_X23_field 85 rfl) ?_
      refine g_iload (pc := 151) X (i := 7) (q := 0) (x := x7_137) rfl (dl_at t_X23_field 86 rfl) ?_
      refine g_iload_n (pc := 153) X (j := 3) (i := 3) (q := 3) (x := v2) rfl rfl (dl_at t_X23_field 87 rfl) ?_
      refine g_gd fun k154 => ?_
      refine r_iast (pc := 154) X r7_137 g2 k154 (dl_at t_X23_field 88 rfl) (fun h154 E154 => ?_)
      refine g_aload_n (pc := 155) X (j := 0) (i := 0) (q := 4) (x := a0) rfl rfl (dl_at t_X23_field 89 rfl) ?_
      have k156 := kx E154 (by decide) k148
      refine r_getr (pc := 156) X fX23_19 k156 q3564 (dl_at t_X23_field 90 rfl) ?_
      refine g_iload (pc := 159) X (i := 7) (q := 0) (x := x7_137) rfl (dl_at t_X23_field 91 rfl) ?_
      refine g_iload (pc := 161) X (i := 5) (q := 2) (x := v113) rfl (dl_at t_X23_field 92 rfl) ?_
      refine g_iconst (pc := 163) X (n := 1) (dl_at t_X23_field 93 rfl) ?_
      refine g_iadd (pc := 164) X g113 (r32_c rfl) (dl_at t_X23_field 94 rfl) ?_
      refine g_gd fun k165 => ?_
      refine r_iast (pc := 165) X r7_137 (r32_w _) k165 (dl_at t_X23_field 95 rfl) (fun h165 E165 => ?_)
      refine g_aload_n (pc := 166) X (j := 0) (i := 0) (q := 4) (x := a0) rfl rfl (dl_at t_X23_field 96 rfl) ?_
      have k167 := kx E165 (by decide) k156
      refine r_getr (pc := 167) X fX23_20 k167 q3567 (dl_at t_X23_field 97 rfl) ?_
      refine g_iload (pc := 170) X (i := 7) (q := 0) (x := x7_137) rfl (dl_at t_X23_field 98 rfl) ?_
      refine g_iload (pc := 172) X (i := 6) (q := 1) (x := v121) rfl (dl_at t_X23_field 99 rfl) ?_
      refine g_iconst (pc := 174) X (n := 1) (dl_at t_X23_field 100 rfl) ?_
      refine g_isub (pc := 175) X g121 (r32_c rfl) (dl_at t_X23_field 101 rfl) ?_
      refine g_gd fun k176 => ?_
      refine r_iast (pc := 176) X r7_137 (r32_w _) k176 (dl_at t_X23_field 102 rfl) (fun h176 E176 => ?_)
      refine g_aload_n (pc := 177) X (j := 0) (i := 0) (q := 4) (x := a0) rfl rfl (dl_at t_X23_field 103 rfl) ?_
      have k178 := kx E176 (by decide) k167
      refine r_getr (pc := 178) X fX23_14 k178 q3554 (dl_at t_X23_field 104 rfl) ?_
      refine g_iload_n (pc := 181) X (j := 1) (i := 1) (q := 5) (x := a1) rfl rfl (dl_at t_X23_field 105 rfl) ?_
      refine g_dup2 (pc := 182) X rfl rv_cat (dl_at t_X23_field 106 rfl) ?_
      refine g_gd fun k183 => ?_
      refine g_iald (pc := 183) X r1 k183 (dl_at t_X23_field 107 rfl) fun g183 => ?_
      refine g_iconst (pc := 184) X (n := 1) (dl_at t_X23_field 108 rfl) ?_
      refine g_iadd (pc := 185) X g183 (r32_c rfl) (dl_at t_X23_field 109 rfl) ?_
      refine r_iast (pc := 186) X r1 (r32_w _) k183 (dl_at t_X23_field 110 rfl) (fun h186 E186 => ?_)
      refine g_iload (pc := 187) X (i := 6) (q := 1) (x := v121) rfl (dl_at t_X23_field 111 rfl) ?_
      exact g_iret (pc := 189) X g121 rfl rfl (dl_at t_X23_field 112 rfl)
    refine r_new (pc := 84) X kX27 q4580 (dl_at t_X23_field 47 rfl) fun a84 h84 p84 k84 E84 => ?_
    refine g_dup (pc := 87) X rv_cat (dl_at t_X23_field 48 rfl) ?_
    refine g_iload_n (pc := 88) X (j := 2) (i := 2) (q := 2) (x := a2) rfl rfl (dl_at t_X23_field 49 rfl) ?_
    refine r_callV (pc := 89) X (fun _ hv => sx_ScholarsPressModel_Broken_init_I_V k84 r2 hv) cw_code q4398 q392 (in_I X (As := [iv a2]) (Int.ne_of_gt p84) rfl (Or.inl q4581) q4397 q4398 ⟨by decide, by decide⟩ rfl (dl_at t_X23_field 50 rfl)) (dl_at t_X23_field 50 rfl) (cat24 (st := [rv D a84]) (Nat.le_of_ble_eq_true rfl)) (Nat.le_of_ble_eq_true rfl) (Nat.le_of_ble_eq_true rfl) fun h89 E89 => ?_
    refine g_athrow (pc := 92) X (Int.ne_of_gt p84) (dl_at t_X23_field 51 rfl) ?_
    exact gt_at fun Q hQ => gt_out (Q := Q) X rfl p84 (hno _) _ Q rfl hQ
def k_X23_begin : List (Nat × Instr × Nat) := [(0, .aload_n 0, 1), (1, .iload_n 1, 1), (2, .invokevirtual 135, 3), (5, .istore_n 2, 1), (6, .aload_n 0, 1), (7, .getfield 80, 3), (10, .sipush 500, 3), (13, .if_icmp .eq 12, 3), (16, .aload_n 0, 1), (17, .getfield 115, 3), (20, .bipush 20, 2), (22, .if_icmp .ne 12, 3), (25, .new 101, 3), (28, .dup, 1), (29, .iload_n 1, 1), (30, .invokespecial 103, 3), (33, .athrow, 1), (34, .aload_n 0, 1), (35, .getfield 80, 3), (38, .istore_n 3, 1), (39, .aload_n 0, 1), (40, .getfield 25, 3), (43, .iload_n 3, 1), (44, .aload_n 0, 1), (45, .getfield 109, 3), (48, .iastore, 1), (49, .aload_n 0, 1), (50, .getfield 31, 3), (53, .iload_n 3, 1), (54, .aload_n 0, 1), (55, .getfield 112, 3), (58, .iastore, 1), (59, .aload_n 0, 1), (60, .getfield 34, 3), (63, .iload_n 3, 1), (64, .iload_n 1, 1), (65, .iastore, 1), (66, .aload_n 0, 1), (67, .getfield 37, 3), (70, .iload_n 3, 1), (71, .iload_n 2, 1), (72, .iastore, 1), (73, .aload_n 0, 1), (74, .getfield 40, 3), (77, .iload_n 3, 1), (78, .iconst 0, 1), (79, .iastore, 1), (80, .iload_n 2, 1), (81, .istore 4, 2), (83, .aload_n 0, 1), (84, .iload 4, 2), (86, .invokevirtual 165, 3), (89, .istore 5, 2), (91, .aload_n 0, 1), (92, .iload 5, 2), (94, .invokevirtual 90, 3), (97, .invokestatic 98, 3), (100, .ifCond .eq 40, 3), (103, .iload 5, 2), (105, .iload 4, 2), (107, .if_icmp .ne 13, 3), (110, .new 101, 3), (113, .dup, 1), (114, .iload 5, 2), (116, .invokespecial 103, 3), (119, .athrow, 1), (120, .aload_n 0, 1), (121, .iload_n 3, 1), (122, .iload 5, 2), (124, .invokevirtual 174, 3), (127, .istore 4, 2), (129, .aload_n 0, 1), (130, .iload 4, 2), (132, .invokevirtual 165, 3), (135, .istore 5, 2), (137, .goto (-46), 3), (140, .aload_n 0, 1), (141, .iload 5, 2), (143, .invokevirtual 90, 3), (146, .bipush 47, 2), (148, .if_icmp .ne 7, 3), (151, .iconst 1, 1), (152, .goto 4, 3), (155, .iconst 0, 1), (156, .istore 6, 2), (158, .iload 6, 2), (160, .ifCond .eq 13, 3), (163, .aload_n 0, 1), (164, .iload 5, 2), (166, .iconst 1, 1), (167, .iadd, 1), (168, .invokevirtual 165, 3), (171, .istore 5, 2), (173, .aload_n 0, 1), (174, .iload 5, 2), (176, .bipush 62, 2), (178, .invokevirtual 150, 3), (181, .aload_n 0, 1), (182, .dup, 1), (183, .getfield 80, 3), (186, .iconst 1, 1), (187, .iadd, 1), (188, .putfield 80, 3), (191, .aload_n 0, 1), (192, .getfield 43, 3), (195, .iload_n 3, 1), (196, .aload_n 0, 1), (197, .getfield 77, 3), (200, .iastore, 1), (201, .aload_n 0, 1), (202, .iconst 1, 1), (203, .iload_n 3, 1), (204, .iconst 0, 1), (205, .invokevirtual 127, 3), (208, .aload_n 0, 1), (209, .iload 5, 2), (211, .iconst 1, 1), (212, .iadd, 1), (213, .putfield 109, 3), (216, .iload 6, 2), (218, .ifCond .eq 11, 3), (221, .aload_n 0, 1), (222, .iload_n 3, 1), (223, .invokevirtual 171, 3), (226, .goto 18, 3), (229, .aload_n 0, 1), (230, .iload_n 3, 1), (231, .putfield 112, 3), (234, .aload_n 0, 1), (235, .dup, 1), (236, .getfield 115, 3), (239, .iconst 1, 1), (240, .iadd, 1), (241, .putfield 115, 3), (244, .return_, 1)]
theorem t_X23_begin : ∀ q ∈ k_X23_begin, decode cX23_begin q.1 = .ok q.2 := dl_all (by decide +kernel)
noncomputable def m_X23_begin_l91 (a0 x3_38 x4_91 x5_91 : Int) (h_91 : Hp) : Option ((Int × Int × Hp) ⊕ ((Int × Hp) ⊕ (((Int × Int) × Hp)))) :=
  (m_X23_byteAt a0 x5_91 h_91).bind fun v94 =>
  (m_X18_isSmall v94).bind fun v97 =>
  if v97 = 0 then (some (.inr (.inl (x5_91, h_91))))
  else (if x5_91 ≠ x4_91 then (bT (m_X23_field a0 x3_38 x5_91 h_91) (fun v124 h124 =>
  (m_X23_skip a0 v124 h124).bind fun v132 =>
  some (.inl (v124, v132, h124))) (fun a_ h_ => some (.inr (.inr ((1, a_), h_)))))
  else (al h_91 448 7 fun a110 h110 =>
  (x_broken a110 x5_91 h110).bind fun h116 =>
  some (.inr (.inr ((1, a110), h116)))))
noncomputable def m_X23_begin_j173 (s0_156 a0 x3_38 x5_173 : Int) (h_140 : Hp) : Option ((Int × Int) × Hp) :=
  bT (m_X23_need a0 x5_173 62 h_140) (fun _ h178 =>
  pt h178 a0 3 (w32 ((h178 a0 3) + 1)) fun h188 =>
  gd (h188 (h188 a0 15) (-2) % 16 = 1 ∧ (0 : Int) ≤ x3_38 ∧ x3_38 < h188 (h188 a0 15) (-1)) (pt h188 (h188 a0 15) x3_38 (h188 a0 2) fun h200 =>
  (m_X23_add a0 1 x3_38 0 h200).bind fun h205 =>
  pt h205 a0 25 (w32 (x5_173 + 1)) fun h213 =>
  if s0_156 = 0 then (pt h213 a0 26 x3_38 fun h231 =>
  pt h231 a0 27 (w32 ((h231 a0 27) + 1)) fun h241 =>
  some ((0, 0), h241))
  else ((m_X23_ended a0 x3_38 h213).bind fun h223 =>
  some ((0, 0), h223)))) (fun a_ h_ => some ((1, a_), h_))
noncomputable def m_X23_begin_j156 (a0 x3_38 x5_140 s0_156 : Int) (h_140 : Hp) : Option ((Int × Int) × Hp) :=
  if s0_156 = 0 then (m_X23_begin_j173 s0_156 a0 x3_38 x5_140 h_140)
  else ((m_X23_skip a0 (w32 (x5_140 + 1)) h_140).bind fun v168 =>
  m_X23_begin_j173 s0_156 a0 x3_38 v168 h_140)
noncomputable def m_X23_begin (a0 a1 : Int) (h : Hp) : Option ((Int × Int) × Hp) :=
  bT (m_X23_nameAt a0 a1 h) (fun v2 h2 =>
  if (h2 a0 3) = 500 then (al h2 448 7 fun a25 h25 =>
  (x_broken a25 a1 h25).bind fun h30 =>
  some ((1, a25), h30))
  else (if (h2 a0 27) ≠ 20 then (lt_ (h2 a0 3) fun x3_38 =>
  gd (h2 (h2 a0 9) (-2) % 16 = 1 ∧ (0 : Int) ≤ x3_38 ∧ x3_38 < h2 (h2 a0 9) (-1)) (pt h2 (h2 a0 9) x3_38 (h2 a0 25) fun h48 =>
  gd (h48 (h48 a0 11) (-2) % 16 = 1 ∧ (0 : Int) ≤ x3_38 ∧ x3_38 < h48 (h48 a0 11) (-1)) (pt h48 (h48 a0 11) x3_38 (h48 a0 26) fun h58 =>
  gd (h58 (h58 a0 12) (-2) % 16 = 1 ∧ (0 : Int) ≤ x3_38 ∧ x3_38 < h58 (h58 a0 12) (-1)) (pt h58 (h58 a0 12) x3_38 a1 fun h65 =>
  gd (h65 (h65 a0 13) (-2) % 16 = 1 ∧ (0 : Int) ≤ x3_38 ∧ x3_38 < h65 (h65 a0 13) (-1)) (pt h65 (h65 a0 13) x3_38 v2 fun h72 =>
  gd (h72 (h72 a0 14) (-2) % 16 = 1 ∧ (0 : Int) ≤ x3_38 ∧ x3_38 < h72 (h72 a0 14) (-1)) (pt h72 (h72 a0 14) x3_38 0 fun h79 =>
  (m_X23_skip a0 v2 h79).bind fun v86 =>
  (lp (fun (q : Int × Int × Hp) => m_X23_begin_l91 a0 x3_38 q.1 q.2.1 q.2.2) (v2, v86, h79)).bind (sE (fun (y140 : Int × Hp) => (m_X23_byteAt a0 y140.1 y140.2).bind fun v143 =>
  if v143 ≠ 47 then (m_X23_begin_j156 a0 x3_38 y140.1 0 y140.2)
  else (m_X23_begin_j156 a0 x3_38 y140.1 1 y140.2)) (fun (x : (Int × Int) × Hp) => some x))))))))
  else (al h2 448 7 fun a25_1 h25_1 =>
  (x_broken a25_1 a1 h25_1).bind fun h30_1 =>
  some ((1, a25_1), h30_1)))) (fun a_ h_ => some ((1, a_), h_))
theorem s_X23_begin {l : Launch} [NoTr l] {D : SD} {a0 a1 : Int} {h : Hp} (hk : h a0 (-2) = 384) (r1 : r32 a1) {r : (Int × Int) × Hp} (hm : m_X23_begin a0 a1 h = some r) : Sim l D yX23_begin (Cond.code yX23_begin cX23_begin 7 (Option.none : Option Jvm.ClassFile.FieldType)) 11 418 [rv D a0, iv a1] h 0 r := by
  refine Sim.of (fin := fun (v : (Int × Int) × Hp) => v) (lsE := [(0, rv D a0), (1, iv a1)]) hm rfl cwS_code (la_r (la_i la_n)) (ll_r (ll_i ll_n)) ?_
  intro p e s m below meth c X hcw hmm hcc hnm hname
  have hno := noh hcw hnm hmm hcc
  unfold m_X23_begin
  refine g_aload_n (pc := 0) X (j := 0) (i := 0) (q := 0) (x := a0) rfl rfl (dl_at t_X23_begin 0 rfl) ?_
  refine g_iload_n (pc := 1) X (j := 1) (i := 1) (q := 1) (x := a1) rfl rfl (dl_at t_X23_begin 1 rfl) ?_
  refine r_callTi (pc := 2) X (fun _ hv => s_X23_nameAt hk r1 hv) cw_code q4578 q377 (in_Vk X (As := [iv a1]) kX23 hk (Or.inl q4575) q4577 qs258 cw_code q4578 ⟨by decide, by decide⟩ rfl (dl_at t_X23_begin 2 rfl)) (dl_at t_X23_begin 2 rfl) (cat24 (st := []) (Nat.le_of_ble_eq_true rfl)) (Nat.le_of_ble_eq_true rfl) (Nat.le_of_ble_eq_true rfl) (fun v2 h2 g2 E2 => ?_) (fun _ _ ha _ => gt_at fun Q hQ => gt_out (Q := Q) X rfl ha (hno _) _ Q rfl hQ)
  refine g_istore_nN (pc := 5) X (j := 2) (i := 2) (x := v2) (b := 1) (w := iv a1) (rest := [(0, rv D a0)]) rfl (Nat.le_of_ble_eq_true rfl) [1, 0] rfl (by decide) rfl rfl (dl_at t_X23_begin 3 rfl) ?_
  refine g_aload_n (pc := 6) X (j := 0) (i := 0) (q := 2) (x := a0) rfl rfl (dl_at t_X23_begin 4 rfl) ?_
  have k7 := kx E2 (by decide) hk
  refine r_geti (pc := 7) X fX23_3 k7 q3525 (dl_at t_X23_begin 5 rfl) fun g7 => ?_
  refine g_sipush (pc := 10) X (n := 500) rfl (dl_at t_X23_begin 6 rfl) ?_
  refine g_icmpeq (pc := 13) X g7 (r32_c rfl) (off := 12) (tgt := 25) rfl (dl_at t_X23_begin 7 rfl) (fun _ => ?_) (fun _ => ?_)
  · refine r_new (pc := 25) X kX27 q4580 (dl_at t_X23_begin 12 rfl) fun a25 h25 p25 k25 E25 => ?_
    refine g_dup (pc := 28) X rv_cat (dl_at t_X23_begin 13 rfl) ?_
    refine g_iload_n (pc := 29) X (j := 1) (i := 1) (q := 1) (x := a1) rfl rfl (dl_at t_X23_begin 14 rfl) ?_
    refine r_callV (pc := 30) X (fun _ hv => sx_ScholarsPressModel_Broken_init_I_V k25 r1 hv) cw_code q4398 q392 (in_I X (As := [iv a1]) (Int.ne_of_gt p25) rfl (Or.inl q4581) q4397 q4398 ⟨by decide, by decide⟩ rfl (dl_at t_X23_begin 15 rfl)) (dl_at t_X23_begin 15 rfl) (cat24 (st := [rv D a25]) (Nat.le_of_ble_eq_true rfl)) (Nat.le_of_ble_eq_true rfl) (Nat.le_of_ble_eq_true rfl) fun h30 E30 => ?_
    refine g_athrow (pc := 33) X (Int.ne_of_gt p25) (dl_at t_X23_begin 16 rfl) ?_
    exact gt_at fun Q hQ => gt_out (Q := Q) X rfl p25 (hno _) _ Q rfl hQ
  refine g_aload_n (pc := 16) X (j := 0) (i := 0) (q := 2) (x := a0) rfl rfl (dl_at t_X23_begin 8 rfl) ?_
  refine r_geti (pc := 17) X fX23_27 k7 q3576 (dl_at t_X23_begin 9 rfl) fun g17 => ?_
  refine g_bipush (pc := 20) X (n := 20) rfl (dl_at t_X23_begin 10 rfl) ?_
  refine g_icmpne (pc := 22) X g17 (r32_c rfl) (off := 12) (tgt := 34) rfl (dl_at t_X23_begin 11 rfl) (fun _ => ?_) (fun _ => ?_)
  · refine g_aload_n (pc := 34) X (j := 0) (i := 0) (q := 2) (x := a0) rfl rfl (dl_at t_X23_begin 17 rfl) ?_
    refine r_geti (pc := 35) X fX23_3 k7 q3525 (dl_at t_X23_begin 18 rfl) fun g35 => ?_
    refine g_lti g35 fun x3_38 r3_38 => ?_
    refine g_istore_nN (pc := 38) X (j := 3) (i := 3) (x := x3_38) (b := 2) (w := iv v2) (rest := [(1, iv a1), (0, rv D a0)]) rfl (Nat.le_of_ble_eq_true rfl) [0, 1, 2] rfl (by decide) rfl rfl (dl_at t_X23_begin 19 rfl) ?_
    refine g_aload_n (pc := 39) X (j := 0) (i := 0) (q := 3) (x := a0) rfl rfl (dl_at t_X23_begin 20 rfl) ?_
    refine r_getr (pc := 40) X fX23_9 k7 q3542 (dl_at t_X23_begin 21 rfl) ?_
    refine g_iload_n (pc := 43) X (j := 3) (i := 3) (q := 0) (x := x3_38) rfl rfl (dl_at t_X23_begin 22 rfl) ?_
    refine g_aload_n (pc := 44) X (j := 0) (i := 0) (q := 3) (x := a0) rfl rfl (dl_at t_X23_begin 23 rfl) ?_
    refine r_geti (pc := 45) X fX23_25 k7 q3574 (dl_at t_X23_begin 24 rfl) fun g45 => ?_
    refine g_gd fun k48 => ?_
    refine r_iast (pc := 48) X r3_38 g45 k48 (dl_at t_X23_begin 25 rfl) (fun h48 E48 => ?_)
    refine g_aload_n (pc := 49) X (j := 0) (i := 0) (q := 3) (x := a0) rfl rfl (dl_at t_X23_begin 26 rfl) ?_
    have k50 := kx E48 (by decide) k7
    refine r_getr (pc := 50) X fX23_11 k50 q3546 (dl_at t_X23_begin 27 rfl) ?_
    refine g_iload_n (pc := 53) X (j := 3) (i := 3) (q := 0) (x := x3_38) rfl rfl (dl_at t_X23_begin 28 rfl) ?_
    refine g_aload_n (pc := 54) X (j := 0) (i := 0) (q := 3) (x := a0) rfl rfl (dl_at t_X23_begin 29 rfl) ?_
    refine r_geti (pc := 55) X fX23_26 k50 q3575 (dl_at t_X23_begin 30 rfl) fun g55 => ?_
    refine g_gd fun k58 => ?_
    refine r_iast (pc := 58) X r3_38 g55 k58 (dl_at t_X23_begin 31 rfl) (fun h58 E58 => ?_)
    refine g_aload_n (pc := 59) X (j := 0) (i := 0) (q := 3) (x := a0) rfl rfl (dl_at t_X23_begin 32 rfl) ?_
    have k60 := kx E58 (by decide) k50
    refine r_getr (pc := 60) X fX23_12 k60 q3550 (dl_at t_X23_begin 33 rfl) ?_
    refine g_iload_n (pc := 63) X (j := 3) (i := 3) (q := 0) (x := x3_38) rfl rfl (dl_at t_X23_begin 34 rfl) ?_
    refine g_iload_n (pc := 64) X (j := 1) (i := 1) (q := 2) (x := a1) rfl rfl (dl_at t_X23_begin 35 rfl) ?_
    refine g_gd fun k65 => ?_
    refine r_iast (pc := 65) X r3_38 r1 k65 (dl_at t_X23_begin 36 rfl) (fun h65 E65 => ?_)
    refine g_aload_n (pc := 66) X (j := 0) (i := 0) (q := 3) (x := a0) rfl rfl (dl_at t_X23_begin 37 rfl) ?_
    have k67 := kx E65 (by decide) k60
    refine r_getr (pc := 67) X fX23_13 k67 q3552 (dl_at t_X23_begin 38 rfl) ?_
    refine g_iload_n (pc := 70) X (j := 3) (i := 3) (q := 0) (x := x3_38) rfl rfl (dl_at t_X23_begin 39 rfl) ?_
    refine g_iload_n (pc := 71) X (j := 2) (i := 2) (q := 1) (x := v2) rfl rfl (dl_at t_X23_begin 40 rfl) ?_
    refine g_gd fun k72 => ?_
    refine r_iast (pc := 72) X r3_38 g2 k72 (dl_at t_X23_begin 41 rfl) (fun h72 E72 => ?_)
    refine g_aload_n (pc := 73) X (j := 0) (i := 0) (q := 3) (x := a0) rfl rfl (dl_at t_X23_begin 42 rfl) ?_
    have k74 := kx E72 (by decide) k67
    refine r_getr (pc := 74) X fX23_14 k74 q3554 (dl_at t_X23_begin 43 rfl) ?_
    refine g_iload_n (pc := 77) X (j := 3) (i := 3) (q := 0) (x := x3_38) rfl rfl (dl_at t_X23_begin 44 rfl) ?_
    refine g_iconst (pc := 78) X (n := 0) (dl_at t_X23_begin 45 rfl) ?_
    refine g_gd fun k79 => ?_
    refine r_iast (pc := 79) X r3_38 (r32_c rfl) k79 (dl_at t_X23_begin 46 rfl) (fun h79 E79 => ?_)
    refine g_iload_n (pc := 80) X (j := 2) (i := 2) (q := 1) (x := v2) rfl rfl (dl_at t_X23_begin 47 rfl) ?_
    refine g_istoreN (pc := 81) X (i := 4) (x := v2) (b := 3) (w := iv x3_38) (rest := [(0, rv D a0)]) (Nat.le_of_ble_eq_true rfl) [0, 3] rfl (by decide) rfl rfl (dl_at t_X23_begin 48 rfl) ?_
    refine g_aload_n (pc := 83) X (j := 0) (i := 0) (q := 2) (x := a0) rfl rfl (dl_at t_X23_begin 49 rfl) ?_
    refine g_iload (pc := 84) X (i := 4) (q := 0) (x := v2) rfl (dl_at t_X23_begin 50 rfl) ?_
    have k86 := kx E79 (by decide) k74
    refine r_callRi (pc := 86) X (fun _ hv => s_X23_skip k86 g2 hv) cw_code q4614 q377 (in_Vk X (As := [iv v2]) kX23 k86 (Or.inl q4611) q4613 qs265 cw_code q4614 ⟨by decide, by decide⟩ rfl (dl_at t_X23_begin 51 rfl)) (dl_at t_X23_begin 51 rfl) (cat24 (st := []) (Nat.le_of_ble_eq_true rfl)) (Nat.le_of_ble_eq_true rfl) (Nat.le_of_ble_eq_true rfl) fun v86 g86 => ?_
    refine g_istoreN (pc := 89) X (i := 5) (x := v86) (b := 4) (w := iv v2) (rest := [(3, iv x3_38), (0, rv D a0)]) (Nat.le_of_ble_eq_true rfl) [0, 1, 2] rfl (by decide) rfl rfl (dl_at t_X23_begin 52 rfl) ?_
    refine g_ls (ls2 := [(0, rv D a0), (3, iv x3_38), (4, iv v2), (5, iv v86)]) [3, 2, 1, 0] rfl ?_
    refine g_loop1F (fun (q : Int × Int × Hp) => [(0, rv D a0), (3, iv x3_38), (4, iv q.1), (5, iv q.2.1)]) (fun (q : Int × Int × Hp) => q.2.2) (fun (q : Int × Int × Hp) => r32 q.1 ∧ r32 q.2.1 ∧ Ext h79 q.2.2) 140 (fun (y140 : Int × Hp) => [(0, rv D a0), (3, iv x3_38), (5, iv y140.1)]) (fun (y140 : Int × Hp) => y140.2) (fun (y140 : Int × Hp) => r32 y140.1 ∧ Ext h79 y140.2) (v2, v86, h79) ⟨g2, g86, (Ext.refl _)⟩ ?_ ?_ (fun _ => rfl)
    · rintro ⟨x4_91, x5_91, h_91⟩ ⟨r4_91, r5_91, E_91⟩
      try dsimp only
      unfold m_X23_begin_l91
      refine g_aload_n (pc := 91) X (j := 0) (i := 0) (q := 0) (x := a0) rfl rfl (dl_at t_X23_begin 53 rfl) ?_
      refine g_iload (pc := 92) X (i := 5) (q := 3) (x := x5_91) rfl (dl_at t_X23_begin 54 rfl) ?_
      have k94 := kx E_91 (by decide) k86
      refine r_callRi (pc := 94) X (fun _ hv => s_X23_byteAt k94 r5_91 hv) cw_code q4570 q377 (in_Vk X (As := [iv x5_91]) kX23 k94 (Or.inl q4567) q4569 qs256 cw_code q4570 ⟨by decide, by decide⟩ rfl (dl_at t_X23_begin 55 rfl)) (dl_at t_X23_begin 55 rfl) (cat24 (st := []) (Nat.le_of_ble_eq_true rfl)) (Nat.le_of_ble_eq_true rfl) (Nat.le_of_ble_eq_true rfl) fun v94 g94 => ?_
      refine r_callRz (pc := 97) X (fun _ hv => s_X18_isSmall g94 hv) cw_code q4352 q372 (in_Sc X (As := [iv v94]) (Or.inr ⟨_, nw_in q4579 rfl⟩) q4351 q372 q4352 ⟨by decide, by decide⟩ rfl (dl_at t_X23_begin 56 rfl)) (dl_at t_X23_begin 56 rfl) (cat24 (st := []) (Nat.le_of_ble_eq_true rfl)) (Nat.le_of_ble_eq_true rfl) (Nat.le_of_ble_eq_true rfl) fun v97 g97 => ?_
      refine g_ifeq (pc := 100) X (r32_z g97) (off := 40) (tgt := 140) rfl (dl_at t_X23_begin 57 rfl) (fun _ => ?_) (fun _ => ?_)
      · refine g_ls (ls2 := [(0, rv D a0), (3, iv x3_38), (5, iv x5_91)]) [0, 1, 3] rfl ?_
        exact g_at fun Q hQ => hQ ⟨r5_91, E_91⟩
      refine g_iload (pc := 103) X (i := 5) (q := 3) (x := x5_91) rfl (dl_at t_X23_begin 58 rfl) ?_
      refine g_iload (pc := 105) X (i := 4) (q := 2) (x := x4_91) rfl (dl_at t_X23_begin 59 rfl) ?_
      refine g_icmpne (pc := 107) X r5_91 r4_91 (off := 13) (tgt := 120) rfl (dl_at t_X23_begin 60 rfl) (fun _ => ?_) (fun _ => ?_)
      · refine g_aload_n (pc := 120) X (j := 0) (i := 0) (q := 0) (x := a0) rfl rfl (dl_at t_X23_begin 66 rfl) ?_
        refine g_iload_n (pc := 121) X (j := 3) (i := 3) (q := 1) (x := x3_38) rfl rfl (dl_at t_X23_begin 67 rfl) ?_
        refine g_iload (pc := 122) X (i := 5) (q := 3) (x := x5_91) rfl (dl_at t_X23_begin 68 rfl) ?_
        refine r_callTi (pc := 124) X (fun _ hv => s_X23_field k94 r3_38 r5_91 hv) cw_code q4635 q377 (in_Vk X (As := [iv x3_38, iv x5_91]) kX23 k94 (Or.inl q4632) q4634 qs270 cw_code q4635 ⟨by decide, by decide⟩ rfl (dl_at t_X23_begin 69 rfl)) (dl_at t_X23_begin 69 rfl) (cat24 (st := []) (Nat.le_of_ble_eq_true rfl)) (Nat.le_of_ble_eq_true rfl) (Nat.le_of_ble_eq_true rfl) (fun v124 h124 g124 E124 => ?_) (fun _ _ ha _ => gt_at fun Q hQ => gt_out (Q := Q) X rfl ha (hno _) _ Q rfl hQ)
        refine g_istoreN (pc := 127) X (i := 4) (x := v124) (b := 3) (w := iv x3_38) (rest := [(0, rv D a0)]) (Nat.le_of_ble_eq_true rfl) [1, 0] rfl (by decide) rfl rfl (dl_at t_X23_begin 70 rfl) ?_
        refine g_aload_n (pc := 129) X (j := 0) (i := 0) (q := 2) (x := a0) rfl rfl (dl_at t_X23_begin 71 rfl) ?_
        refine g_iload (pc := 130) X (i := 4) (q := 0) (x := v124) rfl (dl_at t_X23_begin 72 rfl) ?_
        have k132 := kx E124 (by decide) k94
        refine r_callRi (pc := 132) X (fun _ hv => s_X23_skip k132 g124 hv) cw_code q4614 q377 (in_Vk X (As := [iv v124]) kX23 k132 (Or.inl q4611) q4613 qs265 cw_code q4614 ⟨by decide, by decide⟩ rfl (dl_at t_X23_begin 73 rfl)) (dl_at t_X23_begin 73 rfl) (cat24 (st := []) (Nat.le_of_ble_eq_true rfl)) (Nat.le_of_ble_eq_true rfl) (Nat.le_of_ble_eq_true rfl) fun v132 g132 => ?_
        refine g_istoreN (pc := 135) X (i := 5) (x := v132) (b := 4) (w := iv v124) (rest := [(3, iv x3_38), (0, rv D a0)]) (Nat.le_of_ble_eq_true rfl) [0, 1, 2] rfl (by decide) rfl rfl (dl_at t_X23_begin 74 rfl) ?_
        refine g_goto (pc := 137) X (off := (-46)) (tgt := 91) rfl (dl_at t_X23_begin 75 rfl) ?_
        refine g_ls (ls2 := [(0, rv D a0), (3, iv x3_38), (4, iv v124), (5, iv v132)]) [3, 2, 1, 0] rfl ?_
        exact g_at fun Q hQ => hQ ⟨g124, g132, (E_91.trans E124)⟩
      refine r_new (pc := 110) X kX27 q4580 (dl_at t_X23_begin 61 rfl) fun a110 h110 p110 k110 E110 => ?_
      refine g_dup (pc := 113) X rv_cat (dl_at t_X23_begin 62 rfl) ?_
      refine g_iload (pc := 114) X (i := 5) (q := 3) (x := x5_91) rfl (dl_at t_X23_begin 63 rfl) ?_
      refine r_callV (pc := 116) X (fun _ hv => sx_ScholarsPressModel_Broken_init_I_V k110 r5_91 hv) cw_code q4398 q392 (in_I X (As := [iv x5_91]) (Int.ne_of_gt p110) rfl (Or.inl q4581) q4397 q4398 ⟨by decide, by decide⟩ rfl (dl_at t_X23_begin 64 rfl)) (dl_at t_X23_begin 64 rfl) (cat24 (st := [rv D a110]) (Nat.le_of_ble_eq_true rfl)) (Nat.le_of_ble_eq_true rfl) (Nat.le_of_ble_eq_true rfl) fun h116 E116 => ?_
      refine g_athrow (pc := 119) X (Int.ne_of_gt p110) (dl_at t_X23_begin 65 rfl) ?_
      exact gt_at fun Q hQ => gt_out (Q := Q) X rfl p110 (hno _) _ Q rfl hQ
    · rintro ⟨x5_140, h_140⟩ ⟨r5_140, E_140⟩
      try dsimp only [sE]
      refine g_aload_n (pc := 140) X (j := 0) (i := 0) (q := 0) (x := a0) rfl rfl (dl_at t_X23_begin 76 rfl) ?_
      refine g_iload (pc := 141) X (i := 5) (q := 2) (x := x5_140) rfl (dl_at t_X23_begin 77 rfl) ?_
      have k143 := kx E_140 (by decide) k86
      refine r_callRi (pc := 143) X (fun _ hv => s_X23_byteAt k143 r5_140 hv) cw_code q4570 q377 (in_Vk X (As := [iv x5_140]) kX23 k143 (Or.inl q4567) q4569 qs256 cw_code q4570 ⟨by decide, by decide⟩ rfl (dl_at t_X23_begin 78 rfl)) (dl_at t_X23_begin 78 rfl) (cat24 (st := []) (Nat.le_of_ble_eq_true rfl)) (Nat.le_of_ble_eq_true rfl) (Nat.le_of_ble_eq_true rfl) fun v143 g143 => ?_
      refine g_bipush (pc := 146) X (n := 47) rfl (dl_at t_X23_begin 79 rfl) ?_
      refine g_join (γ := Int) (fun q => (q = 0 ∨ q = 1)) 156 (fun q => [(0, rv D a0), (3, iv x3_38), (5, iv x5_140)]) (fun q => [iv q]) (fun q => h_140) (fun q => m_X23_begin_j156 a0 x3_38 x5_140 q h_140) ?_ ?_
      · rintro s0_156 rs0_156
        try dsimp only
        unfold m_X23_begin_j156
        refine g_istoreN (pc := 156) X (i := 6) (x := s0_156) (b := 5) (w := iv x5_140) (rest := [(0, rv D a0), (3, iv x3_38)]) (Nat.le_of_ble_eq_true rfl) [2, 0, 1] rfl (by decide) rfl rfl (dl_at t_X23_begin 84 rfl) ?_
        refine g_iload (pc := 158) X (i := 6) (q := 0) (x := s0_156) rfl (dl_at t_X23_begin 85 rfl) ?_
        refine g_join (γ := Int) (fun q => r32 q) 173 (fun q => [(0, rv D a0), (3, iv x3_38), (5, iv q), (6, iv s0_156)]) (fun q => []) (fun q => h_140) (fun q => m_X23_begin_j173 s0_156 a0 x3_38 q h_140) ?_ ?_
        · rintro x5_173 r5_173
          try dsimp only
          unfold m_X23_begin_j173
          refine g_aload_n (pc := 173) X (j := 0) (i := 0) (q := 0) (x := a0) rfl rfl (dl_at t_X23_begin 93 rfl) ?_
          refine g_iload (pc := 174) X (i := 5) (q := 2) (x := x5_173) rfl (dl_at t_X23_begin 94 rfl) ?_
          refine g_bipush (pc := 176) X (n := 62) rfl (dl_at t_X23_begin 95 rfl) ?_
          refine r_callTv (pc := 178) X (fun _ hv => s_X23_need k143 r5_173 (r32_c rfl) hv) cw_code q4594 q377 (in_Vk X (As := [iv x5_173, iv 62]) kX23 k143 (Or.inl q4591) q4593 qs260 cw_code q4594 ⟨by decide, by decide⟩ rfl (dl_at t_X23_begin 96 rfl)) (dl_at t_X23_begin 96 rfl) (cat24 (st := []) (Nat.le_of_ble_eq_true rfl)) (Nat.le_of_ble_eq_true rfl) (Nat.le_of_ble_eq_true rfl) (fun v178 h178 E178 => ?_) (fun _ _ ha _ => gt_at fun Q hQ => gt_out (Q := Q) X rfl ha (hno _) _ Q rfl hQ)
          refine g_aload_n (pc := 181) X (j := 0) (i := 0) (q := 0) (x := a0) rfl rfl (dl_at t_X23_begin 97 rfl) ?_
          refine g_dup (pc := 182) X rv_cat (dl_at t_X23_begin 98 rfl) ?_
          have k183 := kx E178 (by decide) k143
          refine r_geti (pc := 183) X fX23_3 k183 q3525 (dl_at t_X23_begin 99 rfl) fun g183 => ?_
          refine g_iconst (pc := 186) X (n := 1) (dl_at t_X23_begin 100 rfl) ?_
          refine g_iadd (pc := 187) X g183 (r32_c rfl) (dl_at t_X23_begin 101 rfl) ?_
          refine r_puti (pc := 188) X fX23_3 k183 q3525 rfl (dl_at t_X23_begin 102 rfl) (r32_w _) (fun h188 E188 => ?_)
          refine g_aload_n (pc := 191) X (j := 0) (i := 0) (q := 0) (x := a0) rfl rfl (dl_at t_X23_begin 103 rfl) ?_
          have k192 := kx E188 (by decide) k183
          refine r_getr (pc := 192) X fX23_15 k192 q3556 (dl_at t_X23_begin 104 rfl) ?_
          refine g_iload_n (pc := 195) X (j := 3) (i := 3) (q := 1) (x := x3_38) rfl rfl (dl_at t_X23_begin 105 rfl) ?_
          refine g_aload_n (pc := 196) X (j := 0) (i := 0) (q := 0) (x := a0) rfl rfl (dl_at t_X23_begin 106 rfl) ?_
          refine r_geti (pc := 197) X fX23_2 k192 q3522 (dl_at t_X23_begin 107 rfl) fun g197 => ?_
          refine g_gd fun k200 => ?_
          refine r_iast (pc := 200) X r3_38 g197 k200 (dl_at t_X23_begin 108 rfl) (fun h200 E200 => ?_)
          refine g_aload_n (pc := 201) X (j := 0) (i := 0) (q := 0) (x := a0) rfl rfl (dl_at t_X23_begin 109 rfl) ?_
          refine g_iconst (pc := 202) X (n := 1) (dl_at t_X23_begin 110 rfl) ?_
          refine g_iload_n (pc := 203) X (j := 3) (i := 3) (q := 1) (x := x3_38) rfl rfl (dl_at t_X23_begin 111 rfl) ?_
          refine g_iconst (pc := 204) X (n := 0) (dl_at t_X23_begin 112 rfl) ?_
          have k205 := kx E200 (by decide) k192
          refine r_callV (pc := 205) X (fun _ hv => s_X23_add k205 (r32_c rfl) r3_38 (r32_c rfl) hv) cw_code q4598 q377 (in_Vk X (As := [iv 1, iv x3_38, iv 0]) kX23 k205 (Or.inl q4595) q4597 qs261 cw_code q4598 ⟨by decide, by decide⟩ rfl (dl_at t_X23_begin 113 rfl)) (dl_at t_X23_begin 113 rfl) (cat24 (st := []) (Nat.le_of_ble_eq_true rfl)) (Nat.le_of_ble_eq_true rfl) (Nat.le_of_ble_eq_true rfl) fun h205 E205 => ?_
          refine g_aload_n (pc := 208) X (j := 0) (i := 0) (q := 0) (x := a0) rfl rfl (dl_at t_X23_begin 114 rfl) ?_
          refine g_iload (pc := 209) X (i := 5) (q := 2) (x := x5_173) rfl (dl_at t_X23_begin 115 rfl) ?_
          refine g_iconst (pc := 211) X (n := 1) (dl_at t_X23_begin 116 rfl) ?_
          refine g_iadd (pc := 212) X r5_173 (r32_c rfl) (dl_at t_X23_begin 117 rfl) ?_
          have k213 := kx E205 (by decide) k205
          refine r_puti (pc := 213) X fX23_25 k213 q3574 rfl (dl_at t_X23_begin 118 rfl) (r32_w _) (fun h213 E213 => ?_)
          refine g_iload (pc := 216) X (i := 6) (q := 3) (x := s0_156) rfl (dl_at t_X23_begin 119 rfl) ?_
          refine g_ifeq (pc := 218) X (r32_z rs0_156) (off := 11) (tgt := 229) rfl (dl_at t_X23_begin 120 rfl) (fun _ => ?_) (fun _ => ?_)
          · refine g_aload_n (pc := 229) X (j := 0) (i := 0) (q := 0) (x := a0) rfl rfl (dl_at t_X23_begin 125 rfl) ?_
            refine g_iload_n (pc := 230) X (j := 3) (i := 3) (q := 1) (x := x3_38) rfl rfl (dl_at t_X23_begin 126 rfl) ?_
            have k231 := kx E213 (by decide) k213
            refine r_puti (pc := 231) X fX23_26 k231 q3575 rfl (dl_at t_X23_begin 127 rfl) r3_38 (fun h231 E231 => ?_)
            refine g_aload_n (pc := 234) X (j := 0) (i := 0) (q := 0) (x := a0) rfl rfl (dl_at t_X23_begin 128 rfl) ?_
            refine g_dup (pc := 235) X rv_cat (dl_at t_X23_begin 129 rfl) ?_
            have k236 := kx E231 (by decide) k231
            refine r_geti (pc := 236) X fX23_27 k236 q3576 (dl_at t_X23_begin 130 rfl) fun g236 => ?_
            refine g_iconst (pc := 239) X (n := 1) (dl_at t_X23_begin 131 rfl) ?_
            refine g_iadd (pc := 240) X g236 (r32_c rfl) (dl_at t_X23_begin 132 rfl) ?_
            refine r_puti (pc := 241) X fX23_27 k236 q3576 rfl (dl_at t_X23_begin 133 rfl) (r32_w _) (fun h241 E241 => ?_)
            exact g_vret (pc := 244) X (v := 0) rfl rfl (dl_at t_X23_begin 134 rfl)
          refine g_aload_n (pc := 221) X (j := 0) (i := 0) (q := 0) (x := a0) rfl rfl (dl_at t_X23_begin 121 rfl) ?_
          refine g_iload_n (pc := 222) X (j := 3) (i := 3) (q := 1) (x := x3_38) rfl rfl (dl_at t_X23_begin 122 rfl) ?_
          have k223 := kx E213 (by decide) k213
          refine r_callV (pc := 223) X (fun _ hv => s_X23_ended k223 r3_38 hv) cw_code q4627 q377 (in_Vk X (As := [iv x3_38]) kX23 k223 (Or.inl q4624) q4626 qs268 cw_code q4627 ⟨by decide, by decide⟩ rfl (dl_at t_X23_begin 123 rfl)) (dl_at t_X23_begin 123 rfl) (cat24 (st := []) (Nat.le_of_ble_eq_true rfl)) (Nat.le_of_ble_eq_true rfl) (Nat.le_of_ble_eq_true rfl) fun h223 E223 => ?_
          refine g_goto (pc := 226) X (off := 18) (tgt := 244) rfl (dl_at t_X23_begin 124 rfl) ?_
          exact g_vret (pc := 244) X (v := 0) rfl rfl (dl_at t_X23_begin 134 rfl)
        intro J173
        refine g_ifeq (pc := 160) X (r32_z rs0_156) (off := 13) (tgt := 173) rfl (dl_at t_X23_begin 86 rfl) (fun _ => ?_) (fun _ => ?_)
        · refine g_ls (ls2 := [(0, rv D a0), (3, iv x3_38), (5, iv x5_140), (6, iv s0_156)]) [2, 3, 1, 0] rfl ?_
          exact J173 x5_140 r5_140
        refine g_aload_n (pc := 163) X (j := 0) (i := 0) (q := 2) (x := a0) rfl rfl (dl_at t_X23_begin 87 rfl) ?_
        refine g_iload (pc := 164) X (i := 5) (q := 1) (x := x5_140) rfl (dl_at t_X23_begin 88 rfl) ?_
        refine g_iconst (pc := 166) X (n := 1) (dl_at t_X23_begin 89 rfl) ?_
        refine g_iadd (pc := 167) X r5_140 (r32_c rfl) (dl_at t_X23_begin 90 rfl) ?_
        refine r_callRi (pc := 168) X (fun _ hv => s_X23_skip k143 (r32_w _) hv) cw_code q4614 q377 (in_Vk X (As := [iv (w32 (x5_140 + 1))]) kX23 k143 (Or.inl q4611) q4613 qs265 cw_code q4614 ⟨by decide, by decide⟩ rfl (dl_at t_X23_begin 91 rfl)) (dl_at t_X23_begin 91 rfl) (cat24 (st := []) (Nat.le_of_ble_eq_true rfl)) (Nat.le_of_ble_eq_true rfl) (Nat.le_of_ble_eq_true rfl) fun v168 g168 => ?_
        refine g_istore (pc := 171) X (i := 5) (x := v168) (rest := [(6, iv s0_156), (0, rv D a0), (3, iv x3_38)]) (Nat.le_of_ble_eq_true rfl) [0, 2, 3] rfl rfl (dl_at t_X23_begin 92 rfl) ?_
        refine g_ls (ls2 := [(0, rv D a0), (3, iv x3_38), (5, iv v168), (6, iv s0_156)]) [2, 3, 0, 1] rfl ?_
        exact J173 v168 g168
      intro J156
      refine g_icmpne (pc := 148) X g143 (r32_c rfl) (off := 7) (tgt := 155) rfl (dl_at t_X23_begin 80 rfl) (fun _ => ?_) (fun _ => ?_)
      · refine g_iconst (pc := 155) X (n := 0) (dl_at t_X23_begin 83 rfl) ?_
        exact J156 0 (Or.inl rfl)
      refine g_iconst (pc := 151) X (n := 1) (dl_at t_X23_begin 81 rfl) ?_
      refine g_goto (pc := 152) X (off := 4) (tgt := 156) rfl (dl_at t_X23_begin 82 rfl) ?_
      exact J156 1 (Or.inr rfl)
  refine r_new (pc := 25) X kX27 q4580 (dl_at t_X23_begin 12 rfl) fun a25_1 h25_1 p25_1 k25_1 E25_1 => ?_
  refine g_dup (pc := 28) X rv_cat (dl_at t_X23_begin 13 rfl) ?_
  refine g_iload_n (pc := 29) X (j := 1) (i := 1) (q := 1) (x := a1) rfl rfl (dl_at t_X23_begin 14 rfl) ?_
  refine r_callV (pc := 30) X (fun _ hv => sx_ScholarsPressModel_Broken_init_I_V k25_1 r1 hv) cw_code q4398 q392 (in_I X (As := [iv a1]) (Int.ne_of_gt p25_1) rfl (Or.inl q4581) q4397 q4398 ⟨by decide, by decide⟩ rfl (dl_at t_X23_begin 15 rfl)) (dl_at t_X23_begin 15 rfl) (cat24 (st := [rv D a25_1]) (Nat.le_of_ble_eq_true rfl)) (Nat.le_of_ble_eq_true rfl) (Nat.le_of_ble_eq_true rfl) fun h30_1 E30_1 => ?_
  refine g_athrow (pc := 33) X (Int.ne_of_gt p25_1) (dl_at t_X23_begin 16 rfl) ?_
  exact gt_at fun Q hQ => gt_out (Q := Q) X rfl p25_1 (hno _) _ Q rfl hQ
def k_X23_tag : List (Nat × Instr × Nat) := [(0, .aload_n 0, 1), (1, .getfield 109, 3), (4, .iconst 1, 1), (5, .iadd, 1), (6, .istore_n 1, 1), (7, .aload_n 0, 1), (8, .iload_n 1, 1), (9, .invokevirtual 90, 3), (12, .bipush 33, 2), (14, .if_icmp .ne 35, 3), (17, .aload_n 0, 1), (18, .iload_n 1, 1), (19, .iconst 1, 1), (20, .iadd, 1), (21, .invokevirtual 90, 3), (24, .bipush 45, 2), (26, .if_icmp .ne 13, 3), (29, .aload_n 0, 1), (30, .iload_n 1, 1), (31, .iconst 2, 1), (32, .iadd, 1), (33, .invokevirtual 154, 3), (36, .goto 36, 3), (39, .aload_n 0, 1), (40, .iload_n 1, 1), (41, .iconst 1, 1), (42, .iadd, 1), (43, .invokevirtual 157, 3), (46, .goto 26, 3), (49, .aload_n 0, 1), (50, .iload_n 1, 1), (51, .invokevirtual 90, 3), (54, .bipush 47, 2), (56, .if_icmp .ne 11, 3), (59, .aload_n 0, 1), (60, .iload_n 1, 1), (61, .invokevirtual 160, 3), (64, .goto 8, 3), (67, .aload_n 0, 1), (68, .iload_n 1, 1), (69, .invokevirtual 163, 3), (72, .return_, 1)]
theorem t_X23_tag : ∀ q ∈ k_X23_tag, decode cX23_tag q.1 = .ok q.2 := dl_all (by decide +kernel)
noncomputable def m_X23_tag (a0 : Int) (h : Hp) : Option ((Int × Int) × Hp) :=
  lt_ (w32 ((h a0 25) + 1)) fun x1_6 =>
  (m_X23_byteAt a0 x1_6 h).bind fun v9 =>
  if v9 ≠ 33 then ((m_X23_byteAt a0 x1_6 h).bind fun v51 =>
  if v51 ≠ 47 then (bT (m_X23_begin a0 x1_6 h) (fun _ h69 =>
  some ((0, 0), h69)) (fun a_ h_ => some ((1, a_), h_)))
  else (bT (m_X23_close a0 x1_6 h) (fun _ h61 =>
  some ((0, 0), h61)) (fun a_ h_ => some ((1, a_), h_))))
  else ((m_X23_byteAt a0 (w32 (x1_6 + 1)) h).bind fun v21 =>
  if v21 ≠ 45 then (bT (m_X23_tell a0 (w32 (x1_6 + 1)) h) (fun _ h43 =>
  some ((0, 0), h43)) (fun a_ h_ => some ((1, a_), h_)))
  else (bT (m_X23_comment a0 (w32 (x1_6 + 2)) h) (fun _ h33 =>
  some ((0, 0), h33)) (fun a_ h_ => some ((1, a_), h_))))
theorem s_X23_tag {l : Launch} [NoTr l] {D : SD} {a0 : Int} {h : Hp} (hk : h a0 (-2) = 384) {r : (Int × Int) × Hp} (hm : m_X23_tag a0 h = some r) : Sim l D yX23_tag (Cond.code yX23_tag cX23_tag 2 (Option.none : Option Jvm.ClassFile.FieldType)) 12 460 [rv D a0] h 0 r := by
  refine Sim.of (fin := fun (v : (Int × Int) × Hp) => v) (lsE := [(0, rv D a0)]) hm rfl cwS_code (la_r la_n) (ll_r ll_n) ?_
  intro p e s m below meth c X hcw hmm hcc hnm hname
  have hno := noh hcw hnm hmm hcc
  unfold m_X23_tag
  refine g_aload_n (pc := 0) X (j := 0) (i := 0) (q := 0) (x := a0) rfl rfl (dl_at t_X23_tag 0 rfl) ?_
  refine r_geti (pc := 1) X fX23_25 hk q3574 (dl_at t_X23_tag 1 rfl) fun g1 => ?_
  refine g_iconst (pc := 4) X (n := 1) (dl_at t_X23_tag 2 rfl) ?_
  refine g_iadd (pc := 5) X g1 (r32_c rfl) (dl_at t_X23_tag 3 rfl) ?_
  refine g_lti (r32_w _) fun x1_6 r1_6 => ?_
  refine g_istore_nN (pc := 6) X (j := 1) (i := 1) (x := x1_6) (b := 0) (w := rv D a0) (rest := []) rfl (Nat.le_of_ble_eq_true rfl) [0] rfl (by decide) rv_cat rfl (dl_at t_X23_tag 4 rfl) ?_
  refine g_aload_n (pc := 7) X (j := 0) (i := 0) (q := 1) (x := a0) rfl rfl (dl_at t_X23_tag 5 rfl) ?_
  refine g_iload_n (pc := 8) X (j := 1) (i := 1) (q := 0) (x := x1_6) rfl rfl (dl_at t_X23_tag 6 rfl) ?_
  refine r_callRi (pc := 9) X (fun _ hv => s_X23_byteAt hk r1_6 hv) cw_code q4570 q377 (in_Vk X (As := [iv x1_6]) kX23 hk (Or.inl q4567) q4569 qs256 cw_code q4570 ⟨by decide, by decide⟩ rfl (dl_at t_X23_tag 7 rfl)) (dl_at t_X23_tag 7 rfl) (cat24 (st := []) (Nat.le_of_ble_eq_true rfl)) (Nat.le_of_ble_eq_true rfl) (Nat.le_of_ble_eq_true rfl) fun v9 g9 => ?_
  refine g_bipush (pc := 12) X (n := 33) rfl (dl_at t_X23_tag 8 rfl) ?_
  refine g_icmpne (pc := 14) X g9 (r32_c rfl) (off := 35) (tgt := 49) rfl (dl_at t_X23_tag 9 rfl) (fun _ => ?_) (fun _ => ?_)
  · refine g_aload_n (pc := 49) X (j := 0) (i := 0) (q := 1) (x := a0) rfl rfl (dl_at t_X23_tag 29 rfl) ?_
    refine g_iload_n (pc := 50) X (j := 1) (i := 1) (q := 0) (x := x1_6) rfl rfl (dl_at t_X23_tag 30 rfl) ?_
    refine r_callRi (pc := 51) X (fun _ hv => s_X23_byteAt hk r1_6 hv) cw_code q4570 q377 (in_Vk X (As := [iv x1_6]) kX23 hk (Or.inl q4567) q4569 qs256 cw_code q4570 ⟨by decide, by decide⟩ rfl (dl_at t_X23_tag 31 rfl)) (dl_at t_X23_tag 31 rfl) (cat24 (st := []) (Nat.le_of_ble_eq_true rfl)) (Nat.le_of_ble_eq_true rfl) (Nat.le_of_ble_eq_true rfl) fun v51 g51 => ?_
    refine g_bipush (pc := 54) X (n := 47) rfl (dl_at t_X23_tag 32 rfl) ?_
    refine g_icmpne (pc := 56) X g51 (r32_c rfl) (off := 11) (tgt := 67) rfl (dl_at t_X23_tag 33 rfl) (fun _ => ?_) (fun _ => ?_)
    · refine g_aload_n (pc := 67) X (j := 0) (i := 0) (q := 1) (x := a0) rfl rfl (dl_at t_X23_tag 38 rfl) ?_
      refine g_iload_n (pc := 68) X (j := 1) (i := 1) (q := 0) (x := x1_6) rfl rfl (dl_at t_X23_tag 39 rfl) ?_
      refine r_callTv (pc := 69) X (fun _ hv => s_X23_begin hk r1_6 hv) cw_code q4631 q377 (in_Vk X (As := [iv x1_6]) kX23 hk (Or.inl q4628) q4630 qs269 cw_code q4631 ⟨by decide, by decide⟩ rfl (dl_at t_X23_tag 40 rfl)) (dl_at t_X23_tag 40 rfl) (cat24 (st := []) (Nat.le_of_ble_eq_true rfl)) (Nat.le_of_ble_eq_true rfl) (Nat.le_of_ble_eq_true rfl) (fun v69 h69 E69 => ?_) (fun _ _ ha _ => gt_at fun Q hQ => gt_out (Q := Q) X rfl ha (hno _) _ Q rfl hQ)
      exact g_vret (pc := 72) X (v := 0) rfl rfl (dl_at t_X23_tag 41 rfl)
    refine g_aload_n (pc := 59) X (j := 0) (i := 0) (q := 1) (x := a0) rfl rfl (dl_at t_X23_tag 34 rfl) ?_
    refine g_iload_n (pc := 60) X (j := 1) (i := 1) (q := 0) (x := x1_6) rfl rfl (dl_at t_X23_tag 35 rfl) ?_
    refine r_callTv (pc := 61) X (fun _ hv => s_X23_close hk r1_6 hv) cw_code q4623 q377 (in_Vk X (As := [iv x1_6]) kX23 hk (Or.inl q4620) q4622 qs267 cw_code q4623 ⟨by decide, by decide⟩ rfl (dl_at t_X23_tag 36 rfl)) (dl_at t_X23_tag 36 rfl) (cat24 (st := []) (Nat.le_of_ble_eq_true rfl)) (Nat.le_of_ble_eq_true rfl) (Nat.le_of_ble_eq_true rfl) (fun v61 h61 E61 => ?_) (fun _ _ ha _ => gt_at fun Q hQ => gt_out (Q := Q) X rfl ha (hno _) _ Q rfl hQ)
    refine g_goto (pc := 64) X (off := 8) (tgt := 72) rfl (dl_at t_X23_tag 37 rfl) ?_
    exact g_vret (pc := 72) X (v := 0) rfl rfl (dl_at t_X23_tag 41 rfl)
  refine g_aload_n (pc := 17) X (j := 0) (i := 0) (q := 1) (x := a0) rfl rfl (dl_at t_X23_tag 10 rfl) ?_
  refine g_iload_n (pc := 18) X (j := 1) (i := 1) (q := 0) (x := x1_6) rfl rfl (dl_at t_X23_tag 11 rfl) ?_
  refine g_iconst (pc := 19) X (n := 1) (dl_at t_X23_tag 12 rfl) ?_
  refine g_iadd (pc := 20) X r1_6 (r32_c rfl) (dl_at t_X23_tag 13 rfl) ?_
  refine r_callRi (pc := 21) X (fun _ hv => s_X23_byteAt hk (r32_w _) hv) cw_code q4570 q377 (in_Vk X (As := [iv (w32 (x1_6 + 1))]) kX23 hk (Or.inl q4567) q4569 qs256 cw_code q4570 ⟨by decide, by decide⟩ rfl (dl_at t_X23_tag 14 rfl)) (dl_at t_X23_tag 14 rfl) (cat24 (st := []) (Nat.le_of_ble_eq_true rfl)) (Nat.le_of_ble_eq_true rfl) (Nat.le_of_ble_eq_true rfl) fun v21 g21 => ?_
  refine g_bipush (pc := 24) X (n := 45) rfl (dl_at t_X23_tag 15 rfl) ?_
  refine g_icmpne (pc := 26) X g21 (r32_c rfl) (off := 13) (tgt := 39) rfl (dl_at t_X23_tag 16 rfl) (fun _ => ?_) (fun _ => ?_)
  · refine g_aload_n (pc := 39) X (j := 0) (i := 0) (q := 1) (x := a0) rfl rfl (dl_at t_X23_tag 23 rfl) ?_
    refine g_iload_n (pc := 40) X (j := 1) (i := 1) (q := 0) (x := x1_6) rfl rfl (dl_at t_X23_tag 24 rfl) ?_
    refine g_iconst (pc := 41) X (n := 1) (dl_at t_X23_tag 25 rfl) ?_
    refine g_iadd (pc := 42) X r1_6 (r32_c rfl) (dl_at t_X23_tag 26 rfl) ?_
    refine r_callTv (pc := 43) X (fun _ hv => s_X23_tell hk (r32_w _) hv) cw_code q4610 q377 (in_Vk X (As := [iv (w32 (x1_6 + 1))]) kX23 hk (Or.inl q4607) q4609 qs264 cw_code q4610 ⟨by decide, by decide⟩ rfl (dl_at t_X23_tag 27 rfl)) (dl_at t_X23_tag 27 rfl) (cat24 (st := []) (Nat.le_of_ble_eq_true rfl)) (Nat.le_of_ble_eq_true rfl) (Nat.le_of_ble_eq_true rfl) (fun v43 h43 E43 => ?_) (fun _ _ ha _ => gt_at fun Q hQ => gt_out (Q := Q) X rfl ha (hno _) _ Q rfl hQ)
    refine g_goto (pc := 46) X (off := 26) (tgt := 72) rfl (dl_at t_X23_tag 28 rfl) ?_
    exact g_vret (pc := 72) X (v := 0) rfl rfl (dl_at t_X23_tag 41 rfl)
  refine g_aload_n (pc := 29) X (j := 0) (i := 0) (q := 1) (x := a0) rfl rfl (dl_at t_X23_tag 17 rfl) ?_
  refine g_iload_n (pc := 30) X (j := 1) (i := 1) (q := 0) (x := x1_6) rfl rfl (dl_at t_X23_tag 18 rfl) ?_
  refine g_iconst (pc := 31) X (n := 2) (dl_at t_X23_tag 19 rfl) ?_
  refine g_iadd (pc := 32) X r1_6 (r32_c rfl) (dl_at t_X23_tag 20 rfl) ?_
  refine r_callTv (pc := 33) X (fun _ hv => s_X23_comment hk (r32_w _) hv) cw_code q4606 q377 (in_Vk X (As := [iv (w32 (x1_6 + 2))]) kX23 hk (Or.inl q4603) q4605 qs263 cw_code q4606 ⟨by decide, by decide⟩ rfl (dl_at t_X23_tag 21 rfl)) (dl_at t_X23_tag 21 rfl) (cat24 (st := []) (Nat.le_of_ble_eq_true rfl)) (Nat.le_of_ble_eq_true rfl) (Nat.le_of_ble_eq_true rfl) (fun v33 h33 E33 => ?_) (fun _ _ ha _ => gt_at fun Q hQ => gt_out (Q := Q) X rfl ha (hno _) _ Q rfl hQ)
  refine g_goto (pc := 36) X (off := 36) (tgt := 72) rfl (dl_at t_X23_tag 22 rfl) ?_
  exact g_vret (pc := 72) X (v := 0) rfl rfl (dl_at t_X23_tag 41 rfl)
def k_X23_plain : List (Nat × Instr × Nat) := [(0, .aload_n 0, 1), (1, .getfield 77, 3), (4, .ifCond .le 53, 3), (7, .aload_n 0, 1), (8, .getfield 15, 3), (11, .aload_n 0, 1), (12, .getfield 77, 3), (15, .iconst 1, 1), (16, .isub, 1), (17, .iaload, 1), (18, .ifCond .ne 39, 3), (21, .aload_n 0, 1), (22, .getfield 22, 3), (25, .aload_n 0, 1), (26, .getfield 77, 3), (29, .iconst 1, 1), (30, .isub, 1), (31, .iaload, 1), (32, .aload_n 0, 1), (33, .getfield 109, 3), (36, .if_icmp .ne 21, 3), (39, .aload_n 0, 1), (40, .getfield 22, 3), (43, .aload_n 0, 1), (44, .getfield 77, 3), (47, .iconst 1, 1), (48, .isub, 1), (49, .dup2, 1), (50, .iaload, 1), (51, .iconst 1, 1), (52, .iadd, 1), (53, .iastore, 1), (54, .goto 18, 3), (57, .aload_n 0, 1), (58, .iconst 0, 1), (59, .aload_n 0, 1), (60, .getfield 109, 3), (63, .aload_n 0, 1), (64, .getfield 109, 3), (67, .iconst 1, 1), (68, .iadd, 1), (69, .invokevirtual 127, 3), (72, .aload_n 0, 1), (73, .dup, 1), (74, .getfield 109, 3), (77, .iconst 1, 1), (78, .iadd, 1), (79, .putfield 109, 3), (82, .return_, 1)]
theorem t_X23_plain : ∀ q ∈ k_X23_plain, decode cX23_plain q.1 = .ok q.2 := dl_all (by decide +kernel)
noncomputable def m_X23_plain_j57 (a0 : Int) (h : Hp) : Option (Hp) :=
  (m_X23_add a0 0 (h a0 25) (w32 ((h a0 25) + 1)) h).bind fun h69 =>
  pt h69 a0 25 (w32 ((h69 a0 25) + 1)) fun h79 =>
  some h79
noncomputable def m_X23_plain (a0 : Int) (h : Hp) : Option (Hp) :=
  if (h a0 2) ≤ 0 then (m_X23_plain_j57 a0 h)
  else (gd (h (h a0 6) (-2) % 16 = 1 ∧ (0 : Int) ≤ (w32 ((h a0 2) - 1)) ∧ (w32 ((h a0 2) - 1)) < h (h a0 6) (-1)) (if (h (h a0 6) (w32 ((h a0 2) - 1))) ≠ 0 then (m_X23_plain_j57 a0 h)
  else (gd (h (h a0 8) (-2) % 16 = 1 ∧ (0 : Int) ≤ (w32 ((h a0 2) - 1)) ∧ (w32 ((h a0 2) - 1)) < h (h a0 8) (-1)) (if (h (h a0 8) (w32 ((h a0 2) - 1))) ≠ (h a0 25) then (m_X23_plain_j57 a0 h)
  else (pt h (h a0 8) (w32 ((h a0 2) - 1)) (w32 ((h (h a0 8) (w32 ((h a0 2) - 1))) + 1)) fun h53 =>
  pt h53 a0 25 (w32 ((h53 a0 25) + 1)) fun h79_1 =>
  some h79_1)))))
theorem s_X23_plain {l : Launch} [NoTr l] {D : SD} {a0 : Int} {h : Hp} (hk : h a0 (-2) = 384) {r : Hp} (hm : m_X23_plain a0 h = some r) : Sim l D yX23_plain (Cond.code yX23_plain cX23_plain 1 (Option.none : Option Jvm.ClassFile.FieldType)) 1 39 [rv D a0] h 0 ((0, 0), r) := by
  refine Sim.of (fin := fun (v : Hp) => ((0, 0), v)) (lsE := [(0, rv D a0)]) hm rfl cwS_code (la_r la_n) (ll_r ll_n) ?_
  intro p e s m below meth c X hcw hmm hcc hnm hname
  unfold m_X23_plain
  refine g_aload_n (pc := 0) X (j := 0) (i := 0) (q := 0) (x := a0) rfl rfl (dl_at t_X23_plain 0 rfl) ?_
  refine r_geti (pc := 1) X fX23_2 hk q3522 (dl_at t_X23_plain 1 rfl) fun g1 => ?_
  refine g_join (γ := Unit) (fun q => True) 57 (fun q => [(0, rv D a0)]) (fun q => []) (fun q => h) (fun q => m_X23_plain_j57 a0 h) ?_ ?_
  · rintro _ _
    try dsimp only
    unfold m_X23_plain_j57
    refine g_aload_n (pc := 57) X (j := 0) (i := 0) (q := 0) (x := a0) rfl rfl (dl_at t_X23_plain 33 rfl) ?_
    refine g_iconst (pc := 58) X (n := 0) (dl_at t_X23_plain 34 rfl) ?_
    refine g_aload_n (pc := 59) X (j := 0) (i := 0) (q := 0) (x := a0) rfl rfl (dl_at t_X23_plain 35 rfl) ?_
    refine r_geti (pc := 60) X fX23_25 hk q3574 (dl_at t_X23_plain 36 rfl) fun g60 => ?_
    refine g_aload_n (pc := 63) X (j := 0) (i := 0) (q := 0) (x := a0) rfl rfl (dl_at t_X23_plain 37 rfl) ?_
    refine r_geti (pc := 64) X fX23_25 hk q3574 (dl_at t_X23_plain 38 rfl) fun g64 => ?_
    refine g_iconst (pc := 67) X (n := 1) (dl_at t_X23_plain 39 rfl) ?_
    refine g_iadd (pc := 68) X g64 (r32_c rfl) (dl_at t_X23_plain 40 rfl) ?_
    refine r_callV (pc := 69) X (fun _ hv => s_X23_add hk (r32_c rfl) g60 (r32_w _) hv) cw_code q4598 q377 (in_Vk X (As := [iv 0, iv (h a0 25), iv (w32 ((h a0 25) + 1))]) kX23 hk (Or.inl q4595) q4597 qs261 cw_code q4598 ⟨by decide, by decide⟩ rfl (dl_at t_X23_plain 41 rfl)) (dl_at t_X23_plain 41 rfl) (cat24 (st := []) (Nat.le_of_ble_eq_true rfl)) (Nat.le_of_ble_eq_true rfl) (Nat.le_of_ble_eq_true rfl) fun h69 E69 => ?_
    refine g_aload_n (pc := 72) X (j := 0) (i := 0) (q := 0) (x := a0) rfl rfl (dl_at t_X23_plain 42 rfl) ?_
    refine g_dup (pc := 73) X rv_cat (dl_at t_X23_plain 43 rfl) ?_
    have k74 := kx E69 (by decide) hk
    refine r_geti (pc := 74) X fX23_25 k74 q3574 (dl_at t_X23_plain 44 rfl) fun g74 => ?_
    refine g_iconst (pc := 77) X (n := 1) (dl_at t_X23_plain 45 rfl) ?_
    refine g_iadd (pc := 78) X g74 (r32_c rfl) (dl_at t_X23_plain 46 rfl) ?_
    refine r_puti (pc := 79) X fX23_25 k74 q3574 rfl (dl_at t_X23_plain 47 rfl) (r32_w _) (fun h79 E79 => ?_)
    exact g_vret (pc := 82) X (v := 0) rfl rfl (dl_at t_X23_plain 48 rfl)
  intro J57
  refine g_ifle (pc := 4) X g1 (off := 53) (tgt := 57) rfl (dl_at t_X23_plain 2 rfl) (fun _ => ?_) (fun _ => ?_)
  · exact J57 () trivial
  refine g_aload_n (pc := 7) X (j := 0) (i := 0) (q := 0) (x := a0) rfl rfl (dl_at t_X23_plain 3 rfl) ?_
  refine r_getr (pc := 8) X fX23_6 hk q3533 (dl_at t_X23_plain 4 rfl) ?_
  refine g_aload_n (pc := 11) X (j := 0) (i := 0) (q := 0) (x := a0) rfl rfl (dl_at t_X23_plain 5 rfl) ?_
  refine r_geti (pc := 12) X fX23_2 hk q3522 (dl_at t_X23_plain 6 rfl) fun g12 => ?_
  refine g_iconst (pc := 15) X (n := 1) (dl_at t_X23_plain 7 rfl) ?_
  refine g_isub (pc := 16) X g12 (r32_c rfl) (dl_at t_X23_plain 8 rfl) ?_
  refine g_gd fun k17 => ?_
  refine g_iald (pc := 17) X (r32_w _) k17 (dl_at t_X23_plain 9 rfl) fun g17 => ?_
  refine g_ifne (pc := 18) X g17 (off := 39) (tgt := 57) rfl (dl_at t_X23_plain 10 rfl) (fun _ => ?_) (fun _ => ?_)
  · exact J57 () trivial
  refine g_aload_n (pc := 21) X (j := 0) (i := 0) (q := 0) (x := a0) rfl rfl (dl_at t_X23_plain 11 rfl) ?_
  refine r_getr (pc := 22) X fX23_8 hk q3539 (dl_at t_X23_plain 12 rfl) ?_
  refine g_aload_n (pc := 25) X (j := 0) (i := 0) (q := 0) (x := a0) rfl rfl (dl_at t_X23_plain 13 rfl) ?_
  refine r_geti (pc := 26) X fX23_2 hk q3522 (dl_at t_X23_plain 14 rfl) fun g26 => ?_
  refine g_iconst (pc := 29) X (n := 1) (dl_at t_X23_plain 15 rfl) ?_
  refine g_isub (pc := 30) X g26 (r32_c rfl) (dl_at t_X23_plain 16 rfl) ?_
  refine g_gd fun k31 => ?_
  refine g_iald (pc := 31) X (r32_w _) k31 (dl_at t_X23_plain 17 rfl) fun g31 => ?_
  refine g_aload_n (pc := 32) X (j := 0) (i := 0) (q := 0) (x := a0) rfl rfl (dl_at t_X23_plain 18 rfl) ?_
  refine r_geti (pc := 33) X fX23_25 hk q3574 (dl_at t_X23_plain 19 rfl) fun g33 => ?_
  refine g_icmpne (pc := 36) X g31 g33 (off := 21) (tgt := 57) rfl (dl_at t_X23_plain 20 rfl) (fun _ => ?_) (fun _ => ?_)
  · exact J57 () trivial
  refine g_aload_n (pc := 39) X (j := 0) (i := 0) (q := 0) (x := a0) rfl rfl (dl_at t_X23_plain 21 rfl) ?_
  refine r_getr (pc := 40) X fX23_8 hk q3539 (dl_at t_X23_plain 22 rfl) ?_
  refine g_aload_n (pc := 43) X (j := 0) (i := 0) (q := 0) (x := a0) rfl rfl (dl_at t_X23_plain 23 rfl) ?_
  refine r_geti (pc := 44) X fX23_2 hk q3522 (dl_at t_X23_plain 24 rfl) fun g44 => ?_
  refine g_iconst (pc := 47) X (n := 1) (dl_at t_X23_plain 25 rfl) ?_
  refine g_isub (pc := 48) X g44 (r32_c rfl) (dl_at t_X23_plain 26 rfl) ?_
  refine g_dup2 (pc := 49) X rfl rv_cat (dl_at t_X23_plain 27 rfl) ?_
  refine g_iald (pc := 50) X (r32_w _) k31 (dl_at t_X23_plain 28 rfl) fun g50 => ?_
  refine g_iconst (pc := 51) X (n := 1) (dl_at t_X23_plain 29 rfl) ?_
  refine g_iadd (pc := 52) X g50 (r32_c rfl) (dl_at t_X23_plain 30 rfl) ?_
  refine r_iast (pc := 53) X (r32_w _) (r32_w _) k31 (dl_at t_X23_plain 31 rfl) (fun h53 E53 => ?_)
  refine g_goto (pc := 54) X (off := 18) (tgt := 72) rfl (dl_at t_X23_plain 32 rfl) ?_
  refine g_aload_n (pc := 72) X (j := 0) (i := 0) (q := 0) (x := a0) rfl rfl (dl_at t_X23_plain 42 rfl) ?_
  refine g_dup (pc := 73) X rv_cat (dl_at t_X23_plain 43 rfl) ?_
  have k74_1 := kx E53 (by decide) hk
  refine r_geti (pc := 74) X fX23_25 k74_1 q3574 (dl_at t_X23_plain 44 rfl) fun g74_1 => ?_
  refine g_iconst (pc := 77) X (n := 1) (dl_at t_X23_plain 45 rfl) ?_
  refine g_iadd (pc := 78) X g74_1 (r32_c rfl) (dl_at t_X23_plain 46 rfl) ?_
  refine r_puti (pc := 79) X fX23_25 k74_1 q3574 rfl (dl_at t_X23_plain 47 rfl) (r32_w _) (fun h79_1 E79_1 => ?_)
  exact g_vret (pc := 82) X (v := 0) rfl rfl (dl_at t_X23_plain 48 rfl)
def k_X23_read : List (Nat × Instr × Nat) := [(0, .aload_n 0, 1), (1, .iconst 1, 1), (2, .putfield 86, 3), (5, .aload_n 0, 1), (6, .iload_n 2, 1), (7, .putfield 73, 3), (10, .iconst 0, 1), (11, .istore_n 3, 1), (12, .iload_n 3, 1), (13, .iload_n 2, 1), (14, .if_icmp .ge 18, 3), (17, .aload_n 0, 1), (18, .getfield 9, 3), (21, .iload_n 3, 1), (22, .aload_n 1, 1), (23, .iload_n 3, 1), (24, .baload, 1), (25, .bastore, 1), (26, .iinc 3 1, 3), (29, .goto (-17), 3), (32, .aload_n 0, 1), (33, .iconst 0, 1), (34, .putfield 77, 3), (37, .aload_n 0, 1), (38, .iconst 0, 1), (39, .putfield 80, 3), (42, .aload_n 0, 1), (43, .iconst 0, 1), (44, .putfield 83, 3), (47, .aload_n 0, 1), (48, .iconst 0, 1), (49, .putfield 109, 3), (52, .aload_n 0, 1), (53, .iconst (-1), 1), (54, .putfield 112, 3), (57, .aload_n 0, 1), (58, .iconst 0, 1), (59, .putfield 115, 3), (62, .aload_n 0, 1), (63, .getfield 109, 3), (66, .iload_n 2, 1), (67, .if_icmp .ge 78, 3), (70, .aload_n 0, 1), (71, .aload_n 0, 1), (72, .getfield 109, 3), (75, .invokevirtual 90, 3), (78, .istore_n 3, 1), (79, .iload_n 3, 1), (80, .bipush 38, 2), (82, .if_icmp .ne 10, 3), (85, .aload_n 0, 1), (86, .invokevirtual 118, 3), (89, .goto 53, 3), (92, .iload_n 3, 1), (93, .bipush 60, 2), (95, .if_icmp .ne 10, 3), (98, .aload_n 0, 1), (99, .invokevirtual 121, 3), (102, .goto 40, 3), (105, .iload_n 3, 1), (106, .bipush 10, 2), (108, .if_icmp .eq 15, 3), (111, .iload_n 3, 1), (112, .bipush 32, 2), (114, .if_icmp .lt 16, 3), (117, .iload_n 3, 1), (118, .bipush 126, 2), (120, .if_icmp .gt 10, 3), (123, .aload_n 0, 1), (124, .invokevirtual 124, 3), (127, .goto 15, 3), (130, .new 101, 3), (133, .dup, 1), (134, .aload_n 0, 1), (135, .getfield 109, 3), (138, .invokespecial 103, 3), (141, .athrow, 1), (142, .goto (-80), 3), (145, .aload_n 0, 1), (146, .getfield 112, 3), (149, .ifCond .lt 12, 3), (152, .new 101, 3), (155, .dup, 1), (156, .iload_n 2, 1), (157, .invokespecial 103, 3), (160, .athrow, 1), (161, .return_, 1)]
theorem t_X23_read : ∀ q ∈ k_X23_read, decode cX23_read q.1 = .ok q.2 := dl_all (by decide +kernel)
noncomputable def m_X23_read_l12 (a0 a1 a2 x3_12 : Int) (h_12 : Hp) : Option ((Int × Hp) ⊕ ((Hp))) :=
  if a2 ≤ x3_12 then (some (.inr h_12))
  else (gd (h_12 a1 (-2) % 16 = 2 ∧ (0 : Int) ≤ x3_12 ∧ x3_12 < h_12 a1 (-1)) (gd (h_12 (h_12 a0 0) (-2) % 16 = 2 ∧ (0 : Int) ≤ x3_12 ∧ x3_12 < h_12 (h_12 a0 0) (-1)) (pt h_12 (h_12 a0 0) x3_12 (h_12 a1 x3_12) fun h25 =>
  lt_ (w32 (x3_12 + 1)) fun x3_26 =>
  some (.inl (x3_26, h25)))))
noncomputable def m_X23_read_j123 (a0 : Int) (h_62 : Hp) : Option ((Hp) ⊕ ((Hp) ⊕ (((Int × Int) × Hp)))) :=
  (m_X23_plain a0 h_62).bind fun h124 =>
  some (.inl h124)
noncomputable def m_X23_read_l62 (a0 a2 : Int) (h_62 : Hp) : Option ((Hp) ⊕ ((Hp) ⊕ (((Int × Int) × Hp)))) :=
  if a2 ≤ (h_62 a0 25) then (some (.inr (.inl h_62)))
  else ((m_X23_byteAt a0 (h_62 a0 25) h_62).bind fun v75 =>
  if v75 ≠ 38 then (if v75 ≠ 60 then (if v75 = 10 then (m_X23_read_j123 a0 h_62)
  else (if v75 < 32 then (al h_62 448 7 fun a130 h130 =>
  (x_broken a130 (h130 a0 25) h130).bind fun h138 =>
  some (.inr (.inr ((1, a130), h138))))
  else (if 126 < v75 then (al h_62 448 7 fun a130_1 h130_1 =>
  (x_broken a130_1 (h130_1 a0 25) h130_1).bind fun h138_1 =>
  some (.inr (.inr ((1, a130_1), h138_1))))
  else (m_X23_read_j123 a0 h_62))))
  else (bT (m_X23_tag a0 h_62) (fun _ h99 =>
  some (.inl h99)) (fun a_ h_ => some (.inr (.inr ((1, a_), h_))))))
  else (bT (m_X23_reference a0 h_62) (fun _ h86 =>
  some (.inl h86)) (fun a_ h_ => some (.inr (.inr ((1, a_), h_))))))
noncomputable def m_X23_read (a0 a1 a2 : Int) (h : Hp) : Option ((Int × Int) × Hp) :=
  pt h a0 5 1 fun h2 =>
  pt h2 a0 1 a2 fun h7 =>
  lt_ 0 fun x3_11 =>
  (lp (fun (q : Int × Hp) => m_X23_read_l12 a0 a1 a2 q.1 q.2) (x3_11, h7)).bind (fun (y32 : Hp) => pt y32 a0 2 0 fun h34 =>
  pt h34 a0 3 0 fun h39 =>
  pt h39 a0 4 0 fun h44 =>
  pt h44 a0 25 0 fun h49 =>
  pt h49 a0 26 (-1) fun h54 =>
  pt h54 a0 27 0 fun h59 =>
  (lp (fun (q : Hp) => m_X23_read_l62 a0 a2 q) h59).bind (sE (fun (y145 : Hp) => if (y145 a0 26) < 0 then (some ((0, 0), y145))
  else (al y145 448 7 fun a152 h152 =>
  (x_broken a152 a2 h152).bind fun h157 =>
  some ((1, a152), h157))) (fun (x : (Int × Int) × Hp) => some x)))
theorem s_X23_read {l : Launch} [NoTr l] {D : SD} {a0 a1 a2 : Int} {h : Hp} (hk : h a0 (-2) = 384) (r2 : r32 a2) {r : (Int × Int) × Hp} (hm : m_X23_read a0 a1 a2 h = some r) : Sim l D yX23_read (Cond.code yX23_read cX23_read 4 (Option.none : Option Jvm.ClassFile.FieldType)) 13 497 [rv D a0, rv D a1, iv a2] h 0 r := by
  refine Sim.of (fin := fun (v : (Int × Int) × Hp) => v) (lsE := [(0, rv D a0), (1, rv D a1), (2, iv a2)]) hm rfl cwS_code (la_r (la_r (la_i la_n))) (ll_r (ll_r (ll_i ll_n))) ?_
  intro p e s m below meth c X hcw hmm hcc hnm hname
  have hno := noh hcw hnm hmm hcc
  unfold m_X23_read
  refine g_aload_n (pc := 0) X (j := 0) (i := 0) (q := 0) (x := a0) rfl rfl (dl_at t_X23_read 0 rfl) ?_
  refine g_iconst (pc := 1) X (n := 1) (dl_at t_X23_read 1 rfl) ?_
  refine r_putz (pc := 2) X fX23_5 hk q3531 rfl (dl_at t_X23_read 2 rfl) (Or.inr rfl) (fun h2 E2 => ?_)
  refine g_aload_n (pc := 5) X (j := 0) (i := 0) (q := 0) (x := a0) rfl rfl (dl_at t_X23_read 3 rfl) ?_
  refine g_iload_n (pc := 6) X (j := 2) (i := 2) (q := 2) (x := a2) rfl rfl (dl_at t_X23_read 4 rfl) ?_
  have k7 := kx E2 (by decide) hk
  refine r_puti (pc := 7) X fX23_1 k7 q3520 rfl (dl_at t_X23_read 5 rfl) r2 (fun h7 E7 => ?_)
  refine g_iconst (pc := 10) X (n := 0) (dl_at t_X23_read 6 rfl) ?_
  refine g_ltz (Or.inl rfl) fun x3_11 r3_11 => ?_
  refine g_istore_nN (pc := 11) X (j := 3) (i := 3) (x := x3_11) (b := 2) (w := iv a2) (rest := [(0, rv D a0), (1, rv D a1)]) rfl (Nat.le_of_ble_eq_true rfl) [2, 0, 1] rfl (by decide) rfl rfl (dl_at t_X23_read 7 rfl) ?_
  refine g_ls (ls2 := [(0, rv D a0), (1, rv D a1), (2, iv a2), (3, iv x3_11)]) [2, 3, 1, 0] rfl ?_
  refine g_loop1 (fun (q : Int × Hp) => [(0, rv D a0), (1, rv D a1), (2, iv a2), (3, iv q.1)]) (fun (q : Int × Hp) => q.2) (fun (q : Int × Hp) => r32 q.1 ∧ Ext h7 q.2) 32 (fun (y32 : Hp) => [(0, rv D a0), (2, iv a2)]) (fun (y32 : Hp) => y32) (fun (y32 : Hp) => Ext h7 y32) (x3_11, h7) ⟨(r32_z r3_11), (Ext.refl _)⟩ ?_ ?_
  · rintro ⟨x3_12, h_12⟩ ⟨r3_12, E_12⟩
    try dsimp only
    unfold m_X23_read_l12
    refine g_iload_n (pc := 12) X (j := 3) (i := 3) (q := 3) (x := x3_12) rfl rfl (dl_at t_X23_read 8 rfl) ?_
    refine g_iload_n (pc := 13) X (j := 2) (i := 2) (q := 2) (x := a2) rfl rfl (dl_at t_X23_read 9 rfl) ?_
    refine g_icmpge (pc := 14) X r3_12 r2 (off := 18) (tgt := 32) rfl (dl_at t_X23_read 10 rfl) (fun _ => ?_) (fun _ => ?_)
    · refine g_ls (ls2 := [(0, rv D a0), (2, iv a2)]) [0, 2] rfl ?_
      exact g_at fun Q hQ => hQ E_12
    refine g_aload_n (pc := 17) X (j := 0) (i := 0) (q := 0) (x := a0) rfl rfl (dl_at t_X23_read 11 rfl) ?_
    have k18 := kx (E7.trans E_12) (by decide) k7
    refine r_getr (pc := 18) X fX23_0 k18 q3516 (dl_at t_X23_read 12 rfl) ?_
    refine g_iload_n (pc := 21) X (j := 3) (i := 3) (q := 3) (x := x3_12) rfl rfl (dl_at t_X23_read 13 rfl) ?_
    refine g_aload_n (pc := 22) X (j := 1) (i := 1) (q := 1) (x := a1) rfl rfl (dl_at t_X23_read 14 rfl) ?_
    refine g_iload_n (pc := 23) X (j := 3) (i := 3) (q := 3) (x := x3_12) rfl rfl (dl_at t_X23_read 15 rfl) ?_
    refine g_gd fun k24 => ?_
    refine g_bald (pc := 24) X r3_12 k24 (dl_at t_X23_read 16 rfl) fun g24 => ?_
    refine g_gd fun k25 => ?_
    refine r_bastB (pc := 25) X r3_12 g24 k25 (dl_at t_X23_read 17 rfl) (fun h25 E25 => ?_)
    refine r_iincN (pc := 26) X (i := 3) (q := 3) (n := 1) (x := x3_12) (b := 2) (w := iv a2) (rest := [(0, rv D a0), (1, rv D a1)]) rfl r3_12 (r32_c rfl) (Nat.le_of_ble_eq_true rfl) [2, 0, 1] rfl (by decide) rfl rfl (dl_at t_X23_read 18 rfl) fun x3_26 r3_26 => ?_
    refine g_goto (pc := 29) X (off := (-17)) (tgt := 12) rfl (dl_at t_X23_read 19 rfl) ?_
    refine g_ls (ls2 := [(0, rv D a0), (1, rv D a1), (2, iv a2), (3, iv x3_26)]) [2, 3, 1, 0] rfl ?_
    exact g_at fun Q hQ => hQ ⟨r3_26, (E_12.trans E25)⟩
  · rintro h_32 E_32
    try dsimp only [sE]
    refine g_aload_n (pc := 32) X (j := 0) (i := 0) (q := 0) (x := a0) rfl rfl (dl_at t_X23_read 20 rfl) ?_
    refine g_iconst (pc := 33) X (n := 0) (dl_at t_X23_read 21 rfl) ?_
    have k34 := kx (E7.trans E_32) (by decide) k7
    refine r_puti (pc := 34) X fX23_2 k34 q3522 rfl (dl_at t_X23_read 22 rfl) (r32_c rfl) (fun h34 E34 => ?_)
    refine g_aload_n (pc := 37) X (j := 0) (i := 0) (q := 0) (x := a0) rfl rfl (dl_at t_X23_read 23 rfl) ?_
    refine g_iconst (pc := 38) X (n := 0) (dl_at t_X23_read 24 rfl) ?_
    have k39 := kx E34 (by decide) k34
    refine r_puti (pc := 39) X fX23_3 k39 q3525 rfl (dl_at t_X23_read 25 rfl) (r32_c rfl) (fun h39 E39 => ?_)
    refine g_aload_n (pc := 42) X (j := 0) (i := 0) (q := 0) (x := a0) rfl rfl (dl_at t_X23_read 26 rfl) ?_
    refine g_iconst (pc := 43) X (n := 0) (dl_at t_X23_read 27 rfl) ?_
    have k44 := kx E39 (by decide) k39
    refine r_puti (pc := 44) X fX23_4 k44 q3529 rfl (dl_at t_X23_read 28 rfl) (r32_c rfl) (fun h44 E44 => ?_)
    refine g_aload_n (pc := 47) X (j := 0) (i := 0) (q := 0) (x := a0) rfl rfl (dl_at t_X23_read 29 rfl) ?_
    refine g_iconst (pc := 48) X (n := 0) (dl_at t_X23_read 30 rfl) ?_
    have k49 := kx E44 (by decide) k44
    refine r_puti (pc := 49) X fX23_25 k49 q3574 rfl (dl_at t_X23_read 31 rfl) (r32_c rfl) (fun h49 E49 => ?_)
    refine g_aload_n (pc := 52) X (j := 0) (i := 0) (q := 0) (x := a0) rfl rfl (dl_at t_X23_read 32 rfl) ?_
    refine g_iconst (pc := 53) X (n := (-1)) (dl_at t_X23_read 33 rfl) ?_
    have k54 := kx E49 (by decide) k49
    refine r_puti (pc := 54) X fX23_26 k54 q3575 rfl (dl_at t_X23_read 34 rfl) (r32_c rfl) (fun h54 E54 => ?_)
    refine g_aload_n (pc := 57) X (j := 0) (i := 0) (q := 0) (x := a0) rfl rfl (dl_at t_X23_read 35 rfl) ?_
    refine g_iconst (pc := 58) X (n := 0) (dl_at t_X23_read 36 rfl) ?_
    have k59 := kx E54 (by decide) k54
    refine r_puti (pc := 59) X fX23_27 k59 q3576 rfl (dl_at t_X23_read 37 rfl) (r32_c rfl) (fun h59 E59 => ?_)
    refine g_loop1F (fun (q : Hp) => [(0, rv D a0), (2, iv a2)]) (fun (q : Hp) => q) (fun (q : Hp) => Ext h59 q) 145 (fun (y145 : Hp) => [(0, rv D a0), (2, iv a2)]) (fun (y145 : Hp) => y145) (fun (y145 : Hp) => Ext h59 y145) h59 (Ext.refl _) ?_ ?_ (fun _ => rfl)
    · rintro h_62 E_62
      try dsimp only
      unfold m_X23_read_l62
      refine g_aload_n (pc := 62) X (j := 0) (i := 0) (q := 0) (x := a0) rfl rfl (dl_at t_X23_read 38 rfl) ?_
      have k63 := kx (E59.trans E_62) (by decide) k59
      refine r_geti (pc := 63) X fX23_25 k63 q3574 (dl_at t_X23_read 39 rfl) fun g63 => ?_
      refine g_iload_n (pc := 66) X (j := 2) (i := 2) (q := 1) (x := a2) rfl rfl (dl_at t_X23_read 40 rfl) ?_
      refine g_icmpge (pc := 67) X g63 r2 (off := 78) (tgt := 145) rfl (dl_at t_X23_read 41 rfl) (fun _ => ?_) (fun _ => ?_)
      · exact g_at fun Q hQ => hQ E_62
      refine g_aload_n (pc := 70) X (j := 0) (i := 0) (q := 0) (x := a0) rfl rfl (dl_at t_X23_read 42 rfl) ?_
      refine g_aload_n (pc := 71) X (j := 0) (i := 0) (q := 0) (x := a0) rfl rfl (dl_at t_X23_read 43 rfl) ?_
      refine r_geti (pc := 72) X fX23_25 k63 q3574 (dl_at t_X23_read 44 rfl) fun g72 => ?_
      refine r_callRi (pc := 75) X (fun _ hv => s_X23_byteAt k63 g72 hv) cw_code q4570 q377 (in_Vk X (As := [iv (h_62 a0 25)]) kX23 k63 (Or.inl q4567) q4569 qs256 cw_code q4570 ⟨by decide, by decide⟩ rfl (dl_at t_X23_read 45 rfl)) (dl_at t_X23_read 45 rfl) (cat24 (st := []) (Nat.le_of_ble_eq_true rfl)) (Nat.le_of_ble_eq_true rfl) (Nat.le_of_ble_eq_true rfl) fun v75 g75 => ?_
      refine g_istore_nN (pc := 78) X (j := 3) (i := 3) (x := v75) (b := 2) (w := iv a2) (rest := [(0, rv D a0)]) rfl (Nat.le_of_ble_eq_true rfl) [1, 0] rfl (by decide) rfl rfl (dl_at t_X23_read 46 rfl) ?_
      refine g_iload_n (pc := 79) X (j := 3) (i := 3) (q := 0) (x := v75) rfl rfl (dl_at t_X23_read 47 rfl) ?_
      refine g_bipush (pc := 80) X (n := 38) rfl (dl_at t_X23_read 48 rfl) ?_
      refine g_icmpne (pc := 82) X g75 (r32_c rfl) (off := 10) (tgt := 92) rfl (dl_at t_X23_read 49 rfl) (fun _ => ?_) (fun _ => ?_)
      · refine g_iload_n (pc := 92) X (j := 3) (i := 3) (q := 0) (x := v75) rfl rfl (dl_at t_X23_read 53 rfl) ?_
        refine g_bipush (pc := 93) X (n := 60) rfl (dl_at t_X23_read 54 rfl) ?_
        refine g_icmpne (pc := 95) X g75 (r32_c rfl) (off := 10) (tgt := 105) rfl (dl_at t_X23_read 55 rfl) (fun _ => ?_) (fun _ => ?_)
        · refine g_iload_n (pc := 105) X (j := 3) (i := 3) (q := 0) (x := v75) rfl rfl (dl_at t_X23_read 59 rfl) ?_
          refine g_bipush (pc := 106) X (n := 10) rfl (dl_at t_X23_read 60 rfl) ?_
          refine g_join (γ := Unit) (fun q => True) 123 (fun q => [(0, rv D a0), (2, iv a2)]) (fun q => []) (fun q => h_62) (fun q => m_X23_read_j123 a0 h_62) ?_ ?_
          · rintro _ _
            try dsimp only
            unfold m_X23_read_j123
            refine g_aload_n (pc := 123) X (j := 0) (i := 0) (q := 0) (x := a0) rfl rfl (dl_at t_X23_read 68 rfl) ?_
            refine r_callV (pc := 124) X (fun _ hv => s_X23_plain k63 hv) cw_code q4639 q377 (in_Vk X (As := []) kX23 k63 (Or.inl q4636) q4638 qs271 cw_code q4639 ⟨by decide, by decide⟩ rfl (dl_at t_X23_read 69 rfl)) (dl_at t_X23_read 69 rfl) (cat24 (st := []) (Nat.le_of_ble_eq_true rfl)) (Nat.le_of_ble_eq_true rfl) (Nat.le_of_ble_eq_true rfl) fun h124 E124 => ?_
            refine g_goto (pc := 127) X (off := 15) (tgt := 142) rfl (dl_at t_X23_read 70 rfl) ?_
            refine g_goto (pc := 142) X (off := (-80)) (tgt := 62) rfl (dl_at t_X23_read 77 rfl) ?_
            exact g_at fun Q hQ => hQ (E_62.trans E124)
          intro J123
          refine g_icmpeq (pc := 108) X g75 (r32_c rfl) (off := 15) (tgt := 123) rfl (dl_at t_X23_read 61 rfl) (fun _ => ?_) (fun _ => ?_)
          · refine g_ls (ls2 := [(0, rv D a0), (2, iv a2)]) [2, 1] rfl ?_
            exact J123 () trivial
          refine g_iload_n (pc := 111) X (j := 3) (i := 3) (q := 0) (x := v75) rfl rfl (dl_at t_X23_read 62 rfl) ?_
          refine g_bipush (pc := 112) X (n := 32) rfl (dl_at t_X23_read 63 rfl) ?_
          refine g_icmplt (pc := 114) X g75 (r32_c rfl) (off := 16) (tgt := 130) rfl (dl_at t_X23_read 64 rfl) (fun _ => ?_) (fun _ => ?_)
          · refine r_new (pc := 130) X kX27 q4580 (dl_at t_X23_read 71 rfl) fun a130 h130 p130 k130 E130 => ?_
            refine g_dup (pc := 133) X rv_cat (dl_at t_X23_read 72 rfl) ?_
            refine g_aload_n (pc := 134) X (j := 0) (i := 0) (q := 2) (x := a0) rfl rfl (dl_at t_X23_read 73 rfl) ?_
            have k135 := kx E130 (by decide) k63
            refine r_geti (pc := 135) X fX23_25 k135 q3574 (dl_at t_X23_read 74 rfl) fun g135 => ?_
            refine r_callV (pc := 138) X (fun _ hv => sx_ScholarsPressModel_Broken_init_I_V k130 g135 hv) cw_code q4398 q392 (in_I X (As := [iv (h130 a0 25)]) (Int.ne_of_gt p130) rfl (Or.inl q4581) q4397 q4398 ⟨by decide, by decide⟩ rfl (dl_at t_X23_read 75 rfl)) (dl_at t_X23_read 75 rfl) (cat24 (st := [rv D a130]) (Nat.le_of_ble_eq_true rfl)) (Nat.le_of_ble_eq_true rfl) (Nat.le_of_ble_eq_true rfl) fun h138 E138 => ?_
            refine g_athrow (pc := 141) X (Int.ne_of_gt p130) (dl_at t_X23_read 76 rfl) ?_
            exact gt_at fun Q hQ => gt_out (Q := Q) X rfl p130 (hno _) _ Q rfl hQ
          refine g_iload_n (pc := 117) X (j := 3) (i := 3) (q := 0) (x := v75) rfl rfl (dl_at t_X23_read 65 rfl) ?_
          refine g_bipush (pc := 118) X (n := 126) rfl (dl_at t_X23_read 66 rfl) ?_
          refine g_icmpgt (pc := 120) X g75 (r32_c rfl) (off := 10) (tgt := 130) rfl (dl_at t_X23_read 67 rfl) (fun _ => ?_) (fun _ => ?_)
          · refine r_new (pc := 130) X kX27 q4580 (dl_at t_X23_read 71 rfl) fun a130_1 h130_1 p130_1 k130_1 E130_1 => ?_
            refine g_dup (pc := 133) X rv_cat (dl_at t_X23_read 72 rfl) ?_
            refine g_aload_n (pc := 134) X (j := 0) (i := 0) (q := 2) (x := a0) rfl rfl (dl_at t_X23_read 73 rfl) ?_
            have k135_1 := kx E130_1 (by decide) k63
            refine r_geti (pc := 135) X fX23_25 k135_1 q3574 (dl_at t_X23_read 74 rfl) fun g135_1 => ?_
            refine r_callV (pc := 138) X (fun _ hv => sx_ScholarsPressModel_Broken_init_I_V k130_1 g135_1 hv) cw_code q4398 q392 (in_I X (As := [iv (h130_1 a0 25)]) (Int.ne_of_gt p130_1) rfl (Or.inl q4581) q4397 q4398 ⟨by decide, by decide⟩ rfl (dl_at t_X23_read 75 rfl)) (dl_at t_X23_read 75 rfl) (cat24 (st := [rv D a130_1]) (Nat.le_of_ble_eq_true rfl)) (Nat.le_of_ble_eq_true rfl) (Nat.le_of_ble_eq_true rfl) fun h138_1 E138_1 => ?_
            refine g_athrow (pc := 141) X (Int.ne_of_gt p130_1) (dl_at t_X23_read 76 rfl) ?_
            exact gt_at fun Q hQ => gt_out (Q := Q) X rfl p130_1 (hno _) _ Q rfl hQ
          refine g_ls (ls2 := [(0, rv D a0), (2, iv a2)]) [2, 1] rfl ?_
          exact J123 () trivial
        refine g_aload_n (pc := 98) X (j := 0) (i := 0) (q := 2) (x := a0) rfl rfl (dl_at t_X23_read 56 rfl) ?_
        refine r_callTv (pc := 99) X (fun _ hv => s_X23_tag k63 hv) cw_code q4602 q377 (in_Vk X (As := []) kX23 k63 (Or.inl q4599) q4601 qs262 cw_code q4602 ⟨by decide, by decide⟩ rfl (dl_at t_X23_read 57 rfl)) (dl_at t_X23_read 57 rfl) (cat24 (st := []) (Nat.le_of_ble_eq_true rfl)) (Nat.le_of_ble_eq_true rfl) (Nat.le_of_ble_eq_true rfl) (fun v99 h99 E99 => ?_) (fun _ _ ha _ => gt_at fun Q hQ => gt_out (Q := Q) X rfl ha (hno _) _ Q rfl hQ)
        refine g_goto (pc := 102) X (off := 40) (tgt := 142) rfl (dl_at t_X23_read 58 rfl) ?_
        refine g_goto (pc := 142) X (off := (-80)) (tgt := 62) rfl (dl_at t_X23_read 77 rfl) ?_
        refine g_ls (ls2 := [(0, rv D a0), (2, iv a2)]) [2, 1] rfl ?_
        exact g_at fun Q hQ => hQ (E_62.trans E99)
      refine g_aload_n (pc := 85) X (j := 0) (i := 0) (q := 2) (x := a0) rfl rfl (dl_at t_X23_read 50 rfl) ?_
      refine r_callTv (pc := 86) X (fun _ hv => s_X23_reference k63 hv) cw_code q4574 q377 (in_Vk X (As := []) kX23 k63 (Or.inl q4571) q4573 qs257 cw_code q4574 ⟨by decide, by decide⟩ rfl (dl_at t_X23_read 51 rfl)) (dl_at t_X23_read 51 rfl) (cat24 (st := []) (Nat.le_of_ble_eq_true rfl)) (Nat.le_of_ble_eq_true rfl) (Nat.le_of_ble_eq_true rfl) (fun v86 h86 E86 => ?_) (fun _ _ ha _ => gt_at fun Q hQ => gt_out (Q := Q) X rfl ha (hno _) _ Q rfl hQ)
      refine g_goto (pc := 89) X (off := 53) (tgt := 142) rfl (dl_at t_X23_read 52 rfl) ?_
      refine g_goto (pc := 142) X (off := (-80)) (tgt := 62) rfl (dl_at t_X23_read 77 rfl) ?_
      refine g_ls (ls2 := [(0, rv D a0), (2, iv a2)]) [2, 1] rfl ?_
      exact g_at fun Q hQ => hQ (E_62.trans E86)
    · rintro h_145 E_145
      try dsimp only [sE]
      refine g_aload_n (pc := 145) X (j := 0) (i := 0) (q := 0) (x := a0) rfl rfl (dl_at t_X23_read 78 rfl) ?_
      have k146 := kx (E59.trans E_145) (by decide) k59
      refine r_geti (pc := 146) X fX23_26 k146 q3575 (dl_at t_X23_read 79 rfl) fun g146 => ?_
      refine g_iflt (pc := 149) X g146 (off := 12) (tgt := 161) rfl (dl_at t_X23_read 80 rfl) (fun _ => ?_) (fun _ => ?_)
      · exact g_vret (pc := 161) X (v := 0) rfl rfl (dl_at t_X23_read 86 rfl)
      refine r_new (pc := 152) X kX27 q4580 (dl_at t_X23_read 81 rfl) fun a152 h152 p152 k152 E152 => ?_
      refine g_dup (pc := 155) X rv_cat (dl_at t_X23_read 82 rfl) ?_
      refine g_iload_n (pc := 156) X (j := 2) (i := 2) (q := 1) (x := a2) rfl rfl (dl_at t_X23_read 83 rfl) ?_
      refine r_callV (pc := 157) X (fun _ hv => sx_ScholarsPressModel_Broken_init_I_V k152 r2 hv) cw_code q4398 q392 (in_I X (As := [iv a2]) (Int.ne_of_gt p152) rfl (Or.inl q4581) q4397 q4398 ⟨by decide, by decide⟩ rfl (dl_at t_X23_read 84 rfl)) (dl_at t_X23_read 84 rfl) (cat24 (st := [rv D a152]) (Nat.le_of_ble_eq_true rfl)) (Nat.le_of_ble_eq_true rfl) (Nat.le_of_ble_eq_true rfl) fun h157 E157 => ?_
      refine g_athrow (pc := 160) X (Int.ne_of_gt p152) (dl_at t_X23_read 85 rfl) ?_
      exact gt_at fun Q hQ => gt_out (Q := Q) X rfl p152 (hno _) _ Q rfl hQ
def k_X18_taken : List (Nat × Instr × Nat) := [(0, .aload_n 0, 1), (1, .iconst 0, 1), (2, .putfield 87, 3), (5, .aload_n 0, 1), (6, .iconst (-1), 1), (7, .invokevirtual 115, 3), (10, .aload_n 0, 1), (11, .getfield 50, 3), (14, .astore_n 1, 1), (15, .aload_n 0, 1), (16, .aload_n 0, 1), (17, .getfield 54, 3), (20, .putfield 50, 3), (23, .aload_n 0, 1), (24, .aload_n 1, 1), (25, .putfield 54, 3), (28, .aload_n 0, 1), (29, .iconst 0, 1), (30, .putfield 140, 3), (33, .aload_n 0, 1), (34, .getfield 50, 3), (37, .getfield 147, 3), (40, .ireturn, 1)]
theorem t_X18_taken : ∀ q ∈ k_X18_taken, decode cX18_taken q.1 = .ok q.2 := dl_all (by decide +kernel)
noncomputable def m_X18_taken (a0 : Int) (h : Hp) : Option (Int × Hp) :=
  pt h a0 0 0 fun h2 =>
  (m_X18_wasRead a0 (-1) h2).bind fun h7 =>
  lt_ (h7 a0 10) fun x1_14 =>
  pt h7 a0 10 (h7 a0 11) fun h20 =>
  pt h20 a0 11 x1_14 fun h25 =>
  pt h25 a0 14 0 fun h30 =>
  gd (h30 (h30 a0 10) (-2) = 384) (some ((h30 (h30 a0 10) 3), h30))
theorem s_X18_taken {l : Launch} [NoTr l] {D : SD} {a0 : Int} {h : Hp} (hk : h a0 (-2) = 304) {r : Int × Hp} (hm : m_X18_taken a0 h = some r) : Sim l D yX18_taken (Cond.code yX18_taken cX18_taken 2 (Option.some Jvm.ClassFile.FieldType.int)) 1 37 [rv D a0] h 1 ((0, r.1), r.2) := by
  refine Sim.of (fin := fun (v : Int × Hp) => ((0, v.1), v.2)) (lsE := [(0, rv D a0)]) hm rfl cwS_code (la_r la_n) (ll_r ll_n) ?_
  intro p e s m below meth c X hcw hmm hcc hnm hname
  unfold m_X18_taken
  refine g_aload_n (pc := 0) X (j := 0) (i := 0) (q := 0) (x := a0) rfl rfl (dl_at t_X18_taken 0 rfl) ?_
  refine g_iconst (pc := 1) X (n := 0) (dl_at t_X18_taken 1 rfl) ?_
  refine r_puti (pc := 2) X fX18_0 hk q4236 rfl (dl_at t_X18_taken 2 rfl) (r32_c rfl) (fun h2 E2 => ?_)
  refine g_aload_n (pc := 5) X (j := 0) (i := 0) (q := 0) (x := a0) rfl rfl (dl_at t_X18_taken 3 rfl) ?_
  refine g_iconst (pc := 6) X (n := (-1)) (dl_at t_X18_taken 4 rfl) ?_
  have k7 := kx E2 (by decide) hk
  refine r_callV (pc := 7) X (fun _ hv => s_X18_wasRead k7 (r32_c rfl) hv) cw_code q4435 q372 (in_Vk X (As := [iv (-1)]) kX18 k7 (Or.inl q4432) q4434 qs242 cw_code q4435 ⟨by decide, by decide⟩ rfl (dl_at t_X18_taken 5 rfl)) (dl_at t_X18_taken 5 rfl) (cat24 (st := []) (Nat.le_of_ble_eq_true rfl)) (Nat.le_of_ble_eq_true rfl) (Nat.le_of_ble_eq_true rfl) fun h7 E7 => ?_
  refine g_aload_n (pc := 10) X (j := 0) (i := 0) (q := 0) (x := a0) rfl rfl (dl_at t_X18_taken 6 rfl) ?_
  have k11 := kx E7 (by decide) k7
  refine r_getr (pc := 11) X fX18_10 k11 q4246 (dl_at t_X18_taken 7 rfl) ?_
  refine g_ltr fun x1_14 => ?_
  refine g_astore_nN (pc := 14) X (j := 1) (i := 1) (x := x1_14) (b := 0) (w := rv D a0) (rest := []) rfl (Nat.le_of_ble_eq_true rfl) [0] rfl (by decide) rv_cat rfl (dl_at t_X18_taken 8 rfl) ?_
  refine g_aload_n (pc := 15) X (j := 0) (i := 0) (q := 1) (x := a0) rfl rfl (dl_at t_X18_taken 9 rfl) ?_
  refine g_aload_n (pc := 16) X (j := 0) (i := 0) (q := 1) (x := a0) rfl rfl (dl_at t_X18_taken 10 rfl) ?_
  refine r_getr (pc := 17) X fX18_11 k11 q4247 (dl_at t_X18_taken 11 rfl) ?_
  refine r_putr (pc := 20) X fX18_10 k11 q4246 rfl (dl_at t_X18_taken 12 rfl)  (fun h20 E20 => ?_)
  refine g_aload_n (pc := 23) X (j := 0) (i := 0) (q := 1) (x := a0) rfl rfl (dl_at t_X18_taken 13 rfl) ?_
  refine g_aload_n (pc := 24) X (j := 1) (i := 1) (q := 0) (x := x1_14) rfl rfl (dl_at t_X18_taken 14 rfl) ?_
  have k25 := kx E20 (by decide) k11
  refine r_putr (pc := 25) X fX18_11 k25 q4247 rfl (dl_at t_X18_taken 15 rfl)  (fun h25 E25 => ?_)
  refine g_aload_n (pc := 28) X (j := 0) (i := 0) (q := 1) (x := a0) rfl rfl (dl_at t_X18_taken 16 rfl) ?_
  refine g_iconst (pc := 29) X (n := 0) (dl_at t_X18_taken 17 rfl) ?_
  have k30 := kx E25 (by decide) k25
  refine r_putz (pc := 30) X fX18_14 k30 q4250 rfl (dl_at t_X18_taken 18 rfl) (Or.inl rfl) (fun h30 E30 => ?_)
  refine g_aload_n (pc := 33) X (j := 0) (i := 0) (q := 1) (x := a0) rfl rfl (dl_at t_X18_taken 19 rfl) ?_
  have k34 := kx E30 (by decide) k30
  refine r_getr (pc := 34) X fX18_10 k34 q4246 (dl_at t_X18_taken 20 rfl) ?_
  refine g_gd fun k37 => ?_
  refine r_geti (pc := 37) X fX23_3 k37 q3528 (dl_at t_X18_taken 21 rfl) fun g37 => ?_
  exact g_iret (pc := 40) X g37 rfl rfl (dl_at t_X18_taken 22 rfl)
def k_X18_source : List (Nat × Instr × Nat) := [(0, .aload_n 0, 1), (1, .getfield 54, 3), (4, .aload_n 0, 1), (5, .getfield 13, 3), (8, .aload_n 0, 1), (9, .getfield 104, 3), (12, .invokevirtual 150, 3), (15, .goto 14, 3), (18, .astore_n 1, 1), (19, .aload_n 0, 1), (20, .aload_n 1, 1), (21, .getfield 124, 3), (24, .iconst 1, 1), (25, .invokevirtual 125, 3), (28, .ireturn, 1), (29, .aload_n 0, 1), (30, .invokevirtual 151, 3), (33, .ireturn, 1)]
theorem t_X18_source : ∀ q ∈ k_X18_source, decode cX18_source q.1 = .ok q.2 := dl_all (by decide +kernel)
noncomputable def m_X18_source (a0 : Int) (h : Hp) : Option (Int × Hp) :=
  gd (h (h a0 11) (-2) = 384) (bT (m_X23_read (h a0 11) (h a0 2) (h a0 3) h) (fun _ h12_1 =>
  bW (m_X18_taken a0 h12_1) fun v30 h30 =>
  some (v30, h30)) (fun a12 h12 => if h12 a12 (-2) = 448 then (bW (m_X18_broken a0 (h12 a12 0) 1 h12) fun v25 h25 =>
  some (v25, h25))
  else (none)))
theorem s_X18_source {l : Launch} [NoTr l] {D : SD} {a0 : Int} {h : Hp} (hk : h a0 (-2) = 304) {r : Int × Hp} (hm : m_X18_source a0 h = some r) : Sim l D yX18_source (Cond.codeWith yX18_source cX18_source 2 (Option.some Jvm.ClassFile.FieldType.int) [((0 : Nat), (15 : Nat), (18 : Nat), (122 : Nat))]) 14 536 [rv D a0] h 1 ((0, r.1), r.2) := by
  refine Sim.of (fin := fun (v : Int × Hp) => ((0, v.1), v.2)) (lsE := [(0, rv D a0)]) hm rfl cwS_with (la_r la_n) (ll_r ll_n) ?_
  intro p e s m below meth c X hcw hmm hcc hnm hname
  have htb := tabW hcw hnm hmm hcc
  unfold m_X18_source
  refine g_aload_n (pc := 0) X (j := 0) (i := 0) (q := 0) (x := a0) rfl rfl (dl_at t_X18_source 0 rfl) ?_
  refine r_getr (pc := 1) X fX18_11 hk q4247 (dl_at t_X18_source 1 rfl) ?_
  refine g_aload_n (pc := 4) X (j := 0) (i := 0) (q := 0) (x := a0) rfl rfl (dl_at t_X18_source 2 rfl) ?_
  refine r_getr (pc := 5) X fX18_2 hk q4238 (dl_at t_X18_source 3 rfl) ?_
  refine g_aload_n (pc := 8) X (j := 0) (i := 0) (q := 0) (x := a0) rfl rfl (dl_at t_X18_source 4 rfl) ?_
  refine r_geti (pc := 9) X fX18_3 hk q4239 (dl_at t_X18_source 5 rfl) fun g9 => ?_
  refine g_gd fun k12 => ?_
  refine r_callTv (pc := 12) X (fun _ hv => s_X23_read k12 g9 hv) cw_code q4566 q377 (in_Vk X (As := [rv D (h a0 2), iv (h a0 3)]) kX23 k12 (Or.inl q4563) q4564 q4565 cw_code q4566 ⟨by decide, by decide⟩ rfl (dl_at t_X18_source 6 rfl)) (dl_at t_X18_source 6 rfl) (cat24 (st := []) (Nat.le_of_ble_eq_true rfl)) (Nat.le_of_ble_eq_true rfl) (Nat.le_of_ble_eq_true rfl) (fun v12 h12_1 E12_1 => ?_) (fun a12 h12 p12 E12 => ?_)
  · refine g_goto (pc := 15) X (off := 14) (tgt := 29) rfl (dl_at t_X18_source 7 rfl) ?_
    refine g_aload_n (pc := 29) X (j := 0) (i := 0) (q := 0) (x := a0) rfl rfl (dl_at t_X18_source 15 rfl) ?_
    have k30 := kx E12_1 (by decide) hk
    refine r_callWi (pc := 30) X (fun _ hv => s_X18_taken k30 hv) cw_code q4643 q372 (in_Vk X (As := []) kX18 k30 (Or.inl q4640) q4642 qs272 cw_code q4643 ⟨by decide, by decide⟩ rfl (dl_at t_X18_source 16 rfl)) (dl_at t_X18_source 16 rfl) (cat24 (st := []) (Nat.le_of_ble_eq_true rfl)) (Nat.le_of_ble_eq_true rfl) (Nat.le_of_ble_eq_true rfl) fun v30 h30 g30 E30 => ?_
    exact g_iret (pc := 33) X g30 rfl rfl (dl_at t_X18_source 17 rfl)
  refine gt_case (fun k12_1 => ?_) (fun _ => ?_)
  · refine gt_catch (pc := 12) X kX27 k12_1 [((0, 15, 18, 122), "ScholarsPressModel$Broken", true)] (hp := 18) rfl (by decide +kernel) (List.forall_mem_cons.mpr ⟨⟨q4330, by decide⟩, fun _ h => absurd h List.not_mem_nil⟩) htb ?_
    refine g_astore_nN (pc := 18) X (j := 1) (i := 1) (x := a12) (b := 0) (w := rv D a0) (rest := []) rfl (Nat.le_of_ble_eq_true rfl) [0] rfl (by decide) rv_cat rfl (dl_at t_X18_source 8 rfl) ?_
    refine g_aload_n (pc := 19) X (j := 0) (i := 0) (q := 1) (x := a0) rfl rfl (dl_at t_X18_source 9 rfl) ?_
    refine g_aload_n (pc := 20) X (j := 1) (i := 1) (q := 0) (x := a12) rfl rfl (dl_at t_X18_source 10 rfl) ?_
    refine r_geti (pc := 21) X fX27_0 k12_1 q4401 (dl_at t_X18_source 11 rfl) fun g21 => ?_
    refine g_iconst (pc := 24) X (n := 1) (dl_at t_X18_source 12 rfl) ?_
    have k25 := kx E12 (by decide) hk
    refine r_callWi (pc := 25) X (fun _ hv => s_X18_broken k25 g21 (r32_c rfl) hv) cw_code q4431 q372 (in_Vk X (As := [iv (h12 a12 0), iv 1]) kX18 k25 (Or.inl q4428) q4430 qs241 cw_code q4431 ⟨by decide, by decide⟩ rfl (dl_at t_X18_source 13 rfl)) (dl_at t_X18_source 13 rfl) (cat24 (st := []) (Nat.le_of_ble_eq_true rfl)) (Nat.le_of_ble_eq_true rfl) (Nat.le_of_ble_eq_true rfl) fun v25 h25 g25 E25 => ?_
    exact g_iret (pc := 28) X g25 rfl rfl (dl_at t_X18_source 14 rfl)
  exact gt_none
def k_X18_change : List (Nat × Instr × Nat) := [(0, .iload_n 1, 1), (1, .ifCond .lt 29, 3), (4, .iload_n 1, 1), (5, .iload_n 2, 1), (6, .if_icmp .gt 24, 3), (9, .aload_n 0, 1), (10, .getfield 50, 3), (13, .getfield 154, 3), (16, .ifCond .eq 20, 3), (19, .iload_n 2, 1), (20, .aload_n 0, 1), (21, .getfield 50, 3), (24, .getfield 157, 3), (27, .if_icmp .le 9, 3), (30, .aload_n 0, 1), (31, .iconst 1, 1), (32, .invokevirtual 107, 3), (35, .ireturn, 1), (36, .aload_n 0, 1), (37, .getfield 50, 3), (40, .getfield 154, 3), (43, .ifCond .ne 9, 3), (46, .aload_n 0, 1), (47, .iconst 2, 1), (48, .invokevirtual 107, 3), (51, .ireturn, 1), (52, .iload_n 1, 1), (53, .aload_n 0, 1), (54, .getfield 104, 3), (57, .iadd, 1), (58, .aload_n 0, 1), (59, .getfield 50, 3), (62, .getfield 157, 3), (65, .iadd, 1), (66, .iload_n 2, 1), (67, .isub, 1), (68, .istore_n 3, 1), (69, .iload_n 3, 1), (70, .sipush 16384, 3), (73, .if_icmp .le 10, 3), (76, .aload_n 0, 1), (77, .iconst (-1), 1), (78, .iconst 3, 1), (79, .invokevirtual 125, 3), (82, .ireturn, 1), (83, .iconst 0, 1), (84, .istore 4, 2), (86, .iload 4, 2), (88, .iload_n 1, 1), (89, .if_icmp .ge 26, 3), (92, .aload_n 0, 1), (93, .getfield 57, 3), (96, .iload 4, 2), (98, .aload_n 0, 1), (99, .getfield 50, 3), (102, .getfield 159, 3), (105, .iload 4, 2), (107, .baload, 1), (108, .bastore, 1), (109, .iinc 4 1, 3), (112, .goto (-26), 3), (115, .iconst 0, 1), (116, .istore 4, 2), (118, .iload 4, 2), (120, .aload_n 0, 1), (121, .getfield 104, 3), (124, .if_icmp .ge 25, 3), (127, .aload_n 0, 1), (128, .getfield 57, 3), (131, .iload_n 1, 1), (132, .iload 4, 2), (134, .iadd, 1), (135, .aload_n 0, 1), (136, .getfield 13, 3), (139, .iload 4, 2), (141, .baload, 1), (142, .bastore, 1), (143, .iinc 4 1, 3), (146, .goto (-28), 3), (149, .iload_n 2, 1), (150, .istore 4, 2), (152, .iload 4, 2), (154, .aload_n 0, 1), (155, .getfield 50, 3), (158, .getfield 157, 3), (161, .if_icmp .ge 35, 3), (164, .aload_n 0, 1), (165, .getfield 57, 3), (168, .iload_n 1, 1), (169, .aload_n 0, 1), (170, .getfield 104, 3), (173, .iadd, 1), (174, .iload 4, 2), (176, .iadd, 1), (177, .iload_n 2, 1), (178, .isub, 1), (179, .aload_n 0, 1), (180, .getfield 50, 3), (183, .getfield 159, 3), (186, .iload 4, 2), (188, .baload, 1), (189, .bastore, 1), (190, .iinc 4 1, 3), (193, .goto (-41), 3), (196, .aload_n 0, 1), (197, .getfield 54, 3), (200, .aload_n 0, 1), (201, .getfield 57, 3), (204, .iload_n 3, 1), (205, .invokevirtual 150, 3), (208, .goto 16, 3), (211, .astore 4, 2), (213, .aload_n 0, 1), (214, .aload 4, 2), (216, .getfield 124, 3), (219, .iconst 4, 1), (220, .invokevirtual 125, 3), (223, .ireturn, 1), (224, .aload_n 0, 1), (225, .invokevirtual 151, 3), (228, .ireturn, 1)]
theorem t_X18_change : ∀ q ∈ k_X18_change, decode cX18_change q.1 = .ok q.2 := dl_all (by decide +kernel)
noncomputable def m_X18_change_l86 (a0 a1 x4_86 : Int) (h_86 : Hp) : Option ((Int × Hp) ⊕ ((Hp))) :=
  if a1 ≤ x4_86 then (some (.inr h_86))
  else (gd (h_86 (h_86 a0 10) (-2) = 384) (gd (h_86 (h_86 (h_86 a0 10) 0) (-2) % 16 = 2 ∧ (0 : Int) ≤ x4_86 ∧ x4_86 < h_86 (h_86 (h_86 a0 10) 0) (-1)) (gd (h_86 (h_86 a0 12) (-2) % 16 = 2 ∧ (0 : Int) ≤ x4_86 ∧ x4_86 < h_86 (h_86 a0 12) (-1)) (pt h_86 (h_86 a0 12) x4_86 (h_86 (h_86 (h_86 a0 10) 0) x4_86) fun h108 =>
  lt_ (w32 (x4_86 + 1)) fun x4_109 =>
  some (.inl (x4_109, h108))))))
noncomputable def m_X18_change_l118 (a0 a1 x4_118 : Int) (h_118 : Hp) : Option ((Int × Hp) ⊕ ((Hp))) :=
  if (h_118 a0 3) ≤ x4_118 then (some (.inr h_118))
  else (gd (h_118 (h_118 a0 2) (-2) % 16 = 2 ∧ (0 : Int) ≤ x4_118 ∧ x4_118 < h_118 (h_118 a0 2) (-1)) (gd (h_118 (h_118 a0 12) (-2) % 16 = 2 ∧ (0 : Int) ≤ (w32 (a1 + x4_118)) ∧ (w32 (a1 + x4_118)) < h_118 (h_118 a0 12) (-1)) (pt h_118 (h_118 a0 12) (w32 (a1 + x4_118)) (h_118 (h_118 a0 2) x4_118) fun h142 =>
  lt_ (w32 (x4_118 + 1)) fun x4_143 =>
  some (.inl (x4_143, h142)))))
noncomputable def m_X18_change_l152 (a0 a1 a2 x4_152 : Int) (h_152 : Hp) : Option ((Int × Hp) ⊕ ((Hp))) :=
  gd (h_152 (h_152 a0 10) (-2) = 384) (if (h_152 (h_152 a0 10) 1) ≤ x4_152 then (some (.inr h_152))
  else (gd (h_152 (h_152 (h_152 a0 10) 0) (-2) % 16 = 2 ∧ (0 : Int) ≤ x4_152 ∧ x4_152 < h_152 (h_152 (h_152 a0 10) 0) (-1)) (gd (h_152 (h_152 a0 12) (-2) % 16 = 2 ∧ (0 : Int) ≤ (w32 ((w32 ((w32 (a1 + (h_152 a0 3))) + x4_152)) - a2)) ∧ (w32 ((w32 ((w32 (a1 + (h_152 a0 3))) + x4_152)) - a2)) < h_152 (h_152 a0 12) (-1)) (pt h_152 (h_152 a0 12) (w32 ((w32 ((w32 (a1 + (h_152 a0 3))) + x4_152)) - a2)) (h_152 (h_152 (h_152 a0 10) 0) x4_152) fun h189 =>
  lt_ (w32 (x4_152 + 1)) fun x4_190 =>
  some (.inl (x4_190, h189))))))
noncomputable def m_X18_change_j36 (a0 a1 a2 : Int) (h : Hp) : Option (Int × Hp) :=
  if (h (h a0 10) 5) ≠ 0 then (lt_ (w32 ((w32 ((w32 (a1 + (h a0 3))) + (h (h a0 10) 1))) - a2)) fun x3_68 =>
  if x3_68 ≤ 16384 then (lt_ 0 fun x4_84 =>
  (lp (fun (q : Int × Hp) => m_X18_change_l86 a0 a1 q.1 q.2) (x4_84, h)).bind (fun (y115 : Hp) => lt_ 0 fun x4_116 =>
  (lp (fun (q : Int × Hp) => m_X18_change_l118 a0 a1 q.1 q.2) (x4_116, y115)).bind (fun (y149 : Hp) => (lp (fun (q : Int × Hp) => m_X18_change_l152 a0 a1 a2 q.1 q.2) (a2, y149)).bind (fun (y196 : Hp) => gd (y196 (y196 a0 11) (-2) = 384) (bT (m_X23_read (y196 a0 11) (y196 a0 12) x3_68 y196) (fun _ h205_1 =>
  bW (m_X18_taken a0 h205_1) fun v225 h225 =>
  some (v225, h225)) (fun a205 h205 => if h205 a205 (-2) = 448 then (bW (m_X18_broken a0 (h205 a205 0) 4 h205) fun v220 h220 =>
  some (v220, h220))
  else (none)))))))
  else (bW (m_X18_broken a0 (-1) 3 h) fun v79 h79 =>
  some (v79, h79)))
  else (bW (m_X18_refuse a0 2 h) fun v48 h48 =>
  some (v48, h48))
noncomputable def m_X18_change (a0 a1 a2 : Int) (h : Hp) : Option (Int × Hp) :=
  if a1 < 0 then (bW (m_X18_refuse a0 1 h) fun v32 h32 =>
  some (v32, h32))
  else (if a2 < a1 then (bW (m_X18_refuse a0 1 h) fun v32_1 h32_1 =>
  some (v32_1, h32_1))
  else (gd (h (h a0 10) (-2) = 384) (if (h (h a0 10) 5) = 0 then (m_X18_change_j36 a0 a1 a2 h)
  else (if a2 ≤ (h (h a0 10) 1) then (m_X18_change_j36 a0 a1 a2 h)
  else (bW (m_X18_refuse a0 1 h) fun v32_2 h32_2 =>
  some (v32_2, h32_2))))))
theorem s_X18_change {l : Launch} [NoTr l] {D : SD} {a0 a1 a2 : Int} {h : Hp} (hk : h a0 (-2) = 304) (r1 : r32 a1) (r2 : r32 a2) {r : Int × Hp} (hm : m_X18_change a0 a1 a2 h = some r) : Sim l D yX18_change (Cond.codeWith yX18_change cX18_change 5 (Option.some Jvm.ClassFile.FieldType.int) [((196 : Nat), (208 : Nat), (211 : Nat), (122 : Nat))]) 14 536 [rv D a0, iv a1, iv a2] h 1 ((0, r.1), r.2) := by
  refine Sim.of (fin := fun (v : Int × Hp) => ((0, v.1), v.2)) (lsE := [(0, rv D a0), (1, iv a1), (2, iv a2)]) hm rfl cwS_with (la_r (la_i (la_i la_n))) (ll_r (ll_i (ll_i ll_n))) ?_
  intro p e s m below meth c X hcw hmm hcc hnm hname
  have htb := tabW hcw hnm hmm hcc
  unfold m_X18_change
  refine g_iload_n (pc := 0) X (j := 1) (i := 1) (q := 1) (x := a1) rfl rfl (dl_at t_X18_change 0 rfl) ?_
  refine g_iflt (pc := 1) X r1 (off := 29) (tgt := 30) rfl (dl_at t_X18_change 1 rfl) (fun _ => ?_) (fun _ => ?_)
  · refine g_aload_n (pc := 30) X (j := 0) (i := 0) (q := 0) (x := a0) rfl rfl (dl_at t_X18_change 14 rfl) ?_
    refine g_iconst (pc := 31) X (n := 1) (dl_at t_X18_change 15 rfl) ?_
    refine r_callWi (pc := 32) X (fun _ hv => s_X18_refuse hk (r32_c rfl) hv) cw_code q4317 q372 (in_Vk X (As := [iv 1]) kX18 hk (Or.inl q4314) q4316 qs237 cw_code q4317 ⟨by decide, by decide⟩ rfl (dl_at t_X18_change 16 rfl)) (dl_at t_X18_change 16 rfl) (cat24 (st := []) (Nat.le_of_ble_eq_true rfl)) (Nat.le_of_ble_eq_true rfl) (Nat.le_of_ble_eq_true rfl) fun v32 h32 g32 E32 => ?_
    exact g_iret (pc := 35) X g32 rfl rfl (dl_at t_X18_change 17 rfl)
  refine g_iload_n (pc := 4) X (j := 1) (i := 1) (q := 1) (x := a1) rfl rfl (dl_at t_X18_change 2 rfl) ?_
  refine g_iload_n (pc := 5) X (j := 2) (i := 2) (q := 2) (x := a2) rfl rfl (dl_at t_X18_change 3 rfl) ?_
  refine g_icmpgt (pc := 6) X r1 r2 (off := 24) (tgt := 30) rfl (dl_at t_X18_change 4 rfl) (fun _ => ?_) (fun _ => ?_)
  · refine g_aload_n (pc := 30) X (j := 0) (i := 0) (q := 0) (x := a0) rfl rfl (dl_at t_X18_change 14 rfl) ?_
    refine g_iconst (pc := 31) X (n := 1) (dl_at t_X18_change 15 rfl) ?_
    refine r_callWi (pc := 32) X (fun _ hv => s_X18_refuse hk (r32_c rfl) hv) cw_code q4317 q372 (in_Vk X (As := [iv 1]) kX18 hk (Or.inl q4314) q4316 qs237 cw_code q4317 ⟨by decide, by decide⟩ rfl (dl_at t_X18_change 16 rfl)) (dl_at t_X18_change 16 rfl) (cat24 (st := []) (Nat.le_of_ble_eq_true rfl)) (Nat.le_of_ble_eq_true rfl) (Nat.le_of_ble_eq_true rfl) fun v32_1 h32_1 g32_1 E32_1 => ?_
    exact g_iret (pc := 35) X g32_1 rfl rfl (dl_at t_X18_change 17 rfl)
  refine g_aload_n (pc := 9) X (j := 0) (i := 0) (q := 0) (x := a0) rfl rfl (dl_at t_X18_change 5 rfl) ?_
  refine r_getr (pc := 10) X fX18_10 hk q4246 (dl_at t_X18_change 6 rfl) ?_
  refine g_gd fun k13 => ?_
  refine r_getz (pc := 13) X fX23_5 k13 q3532 (dl_at t_X18_change 7 rfl) fun g13 => ?_
  refine g_join (γ := Unit) (fun q => True) 36 (fun q => [(0, rv D a0), (1, iv a1), (2, iv a2)]) (fun q => []) (fun q => h) (fun q => m_X18_change_j36 a0 a1 a2 h) ?_ ?_
  · rintro _ _
    try dsimp only
    unfold m_X18_change_j36
    refine g_aload_n (pc := 36) X (j := 0) (i := 0) (q := 0) (x := a0) rfl rfl (dl_at t_X18_change 18 rfl) ?_
    refine r_getr (pc := 37) X fX18_10 hk q4246 (dl_at t_X18_change 19 rfl) ?_
    refine r_getz (pc := 40) X fX23_5 k13 q3532 (dl_at t_X18_change 20 rfl) fun g40 => ?_
    refine g_ifne (pc := 43) X (r32_z g40) (off := 9) (tgt := 52) rfl (dl_at t_X18_change 21 rfl) (fun _ => ?_) (fun _ => ?_)
    · refine g_iload_n (pc := 52) X (j := 1) (i := 1) (q := 1) (x := a1) rfl rfl (dl_at t_X18_change 26 rfl) ?_
      refine g_aload_n (pc := 53) X (j := 0) (i := 0) (q := 0) (x := a0) rfl rfl (dl_at t_X18_change 27 rfl) ?_
      refine r_geti (pc := 54) X fX18_3 hk q4239 (dl_at t_X18_change 28 rfl) fun g54 => ?_
      refine g_iadd (pc := 57) X r1 g54 (dl_at t_X18_change 29 rfl) ?_
      refine g_aload_n (pc := 58) X (j := 0) (i := 0) (q := 0) (x := a0) rfl rfl (dl_at t_X18_change 30 rfl) ?_
      refine r_getr (pc := 59) X fX18_10 hk q4246 (dl_at t_X18_change 31 rfl) ?_
      refine r_geti (pc := 62) X fX23_1 k13 q3521 (dl_at t_X18_change 32 rfl) fun g62 => ?_
      refine g_iadd (pc := 65) X (r32_w _) g62 (dl_at t_X18_change 33 rfl) ?_
      refine g_iload_n (pc := 66) X (j := 2) (i := 2) (q := 2) (x := a2) rfl rfl (dl_at t_X18_change 34 rfl) ?_
      refine g_isub (pc := 67) X (r32_w _) r2 (dl_at t_X18_change 35 rfl) ?_
      refine g_lti (r32_w _) fun x3_68 r3_68 => ?_
      refine g_istore_nN (pc := 68) X (j := 3) (i := 3) (x := x3_68) (b := 2) (w := iv a2) (rest := [(0, rv D a0), (1, iv a1)]) rfl (Nat.le_of_ble_eq_true rfl) [2, 0, 1] rfl (by decide) rfl rfl (dl_at t_X18_change 36 rfl) ?_
      refine g_iload_n (pc := 69) X (j := 3) (i := 3) (q := 0) (x := x3_68) rfl rfl (dl_at t_X18_change 37 rfl) ?_
      refine g_sipush (pc := 70) X (n := 16384) rfl (dl_at t_X18_change 38 rfl) ?_
      refine g_icmple (pc := 73) X r3_68 (r32_c rfl) (off := 10) (tgt := 83) rfl (dl_at t_X18_change 39 rfl) (fun _ => ?_) (fun _ => ?_)
      · refine g_iconst (pc := 83) X (n := 0) (dl_at t_X18_change 45 rfl) ?_
        refine g_ltz (Or.inl rfl) fun x4_84 r4_84 => ?_
        refine g_istoreN (pc := 84) X (i := 4) (x := x4_84) (b := 3) (w := iv x3_68) (rest := [(2, iv a2), (0, rv D a0), (1, iv a1)]) (Nat.le_of_ble_eq_true rfl) [0, 1, 2, 3] rfl (by decide) rfl rfl (dl_at t_X18_change 46 rfl) ?_
        refine g_ls (ls2 := [(0, rv D a0), (1, iv a1), (2, iv a2), (3, iv x3_68), (4, iv x4_84)]) [3, 4, 2, 1, 0] rfl ?_
        refine g_loop1 (fun (q : Int × Hp) => [(0, rv D a0), (1, iv a1), (2, iv a2), (3, iv x3_68), (4, iv q.1)]) (fun (q : Int × Hp) => q.2) (fun (q : Int × Hp) => r32 q.1 ∧ Ext h q.2) 115 (fun (y115 : Hp) => [(0, rv D a0), (1, iv a1), (2, iv a2), (3, iv x3_68)]) (fun (y115 : Hp) => y115) (fun (y115 : Hp) => Ext h y115) (x4_84, h) ⟨(r32_z r4_84), (Ext.refl _)⟩ ?_ ?_
        · rintro ⟨x4_86, h_86⟩ ⟨r4_86, E_86⟩
          try dsimp only
          unfold m_X18_change_l86
          refine g_iload (pc := 86) X (i := 4) (q := 4) (x := x4_86) rfl (dl_at t_X18_change 47 rfl) ?_
          refine g_iload_n (pc := 88) X (j := 1) (i := 1) (q := 1) (x := a1) rfl rfl (dl_at t_X18_change 48 rfl) ?_
          refine g_icmpge (pc := 89) X r4_86 r1 (off := 26) (tgt := 115) rfl (dl_at t_X18_change 49 rfl) (fun _ => ?_) (fun _ => ?_)
          · refine g_ls (ls2 := [(0, rv D a0), (1, iv a1), (2, iv a2), (3, iv x3_68)]) [0, 1, 2, 3] rfl ?_
            exact g_at fun Q hQ => hQ E_86
          refine g_aload_n (pc := 92) X (j := 0) (i := 0) (q := 0) (x := a0) rfl rfl (dl_at t_X18_change 50 rfl) ?_
          have k93 := kx E_86 (by decide) hk
          refine r_getr (pc := 93) X fX18_12 k93 q4248 (dl_at t_X18_change 51 rfl) ?_
          refine g_iload (pc := 96) X (i := 4) (q := 4) (x := x4_86) rfl (dl_at t_X18_change 52 rfl) ?_
          refine g_aload_n (pc := 98) X (j := 0) (i := 0) (q := 0) (x := a0) rfl rfl (dl_at t_X18_change 53 rfl) ?_
          refine r_getr (pc := 99) X fX18_10 k93 q4246 (dl_at t_X18_change 54 rfl) ?_
          refine g_gd fun k102 => ?_
          refine r_getr (pc := 102) X fX23_0 k102 q3519 (dl_at t_X18_change 55 rfl) ?_
          refine g_iload (pc := 105) X (i := 4) (q := 4) (x := x4_86) rfl (dl_at t_X18_change 56 rfl) ?_
          refine g_gd fun k107 => ?_
          refine g_bald (pc := 107) X r4_86 k107 (dl_at t_X18_change 57 rfl) fun g107 => ?_
          refine g_gd fun k108 => ?_
          refine r_bastB (pc := 108) X r4_86 g107 k108 (dl_at t_X18_change 58 rfl) (fun h108 E108 => ?_)
          refine r_iincN (pc := 109) X (i := 4) (q := 4) (n := 1) (x := x4_86) (b := 3) (w := iv x3_68) (rest := [(0, rv D a0), (1, iv a1), (2, iv a2)]) rfl r4_86 (r32_c rfl) (Nat.le_of_ble_eq_true rfl) [3, 0, 1, 2] rfl (by decide) rfl rfl (dl_at t_X18_change 59 rfl) fun x4_109 r4_109 => ?_
          refine g_goto (pc := 112) X (off := (-26)) (tgt := 86) rfl (dl_at t_X18_change 60 rfl) ?_
          refine g_ls (ls2 := [(0, rv D a0), (1, iv a1), (2, iv a2), (3, iv x3_68), (4, iv x4_109)]) [2, 3, 4, 1, 0] rfl ?_
          exact g_at fun Q hQ => hQ ⟨r4_109, (E_86.trans E108)⟩
        · rintro h_115 E_115
          try dsimp only [sE]
          refine g_iconst (pc := 115) X (n := 0) (dl_at t_X18_change 61 rfl) ?_
          refine g_ltz (Or.inl rfl) fun x4_116 r4_116 => ?_
          refine g_istoreN (pc := 116) X (i := 4) (x := x4_116) (b := 3) (w := iv x3_68) (rest := [(0, rv D a0), (1, iv a1), (2, iv a2)]) (Nat.le_of_ble_eq_true rfl) [3, 0, 1, 2] rfl (by decide) rfl rfl (dl_at t_X18_change 62 rfl) ?_
          refine g_ls (ls2 := [(0, rv D a0), (1, iv a1), (2, iv a2), (3, iv x3_68), (4, iv x4_116)]) [2, 3, 4, 1, 0] rfl ?_
          refine g_loop1 (fun (q : Int × Hp) => [(0, rv D a0), (1, iv a1), (2, iv a2), (3, iv x3_68), (4, iv q.1)]) (fun (q : Int × Hp) => q.2) (fun (q : Int × Hp) => r32 q.1 ∧ Ext h_115 q.2) 149 (fun (y149 : Hp) => [(0, rv D a0), (1, iv a1), (2, iv a2), (3, iv x3_68)]) (fun (y149 : Hp) => y149) (fun (y149 : Hp) => Ext h_115 y149) (x4_116, h_115) ⟨(r32_z r4_116), (Ext.refl _)⟩ ?_ ?_
          · rintro ⟨x4_118, h_118⟩ ⟨r4_118, E_118⟩
            try dsimp only
            unfold m_X18_change_l118
            refine g_iload (pc := 118) X (i := 4) (q := 4) (x := x4_118) rfl (dl_at t_X18_change 63 rfl) ?_
            refine g_aload_n (pc := 120) X (j := 0) (i := 0) (q := 0) (x := a0) rfl rfl (dl_at t_X18_change 64 rfl) ?_
            have k121 := kx (E_115.trans E_118) (by decide) hk
            refine r_geti (pc := 121) X fX18_3 k121 q4239 (dl_at t_X18_change 65 rfl) fun g121 => ?_
            refine g_icmpge (pc := 124) X r4_118 g121 (off := 25) (tgt := 149) rfl (dl_at t_X18_change 66 rfl) (fun _ => ?_) (fun _ => ?_)
            · refine g_ls (ls2 := [(0, rv D a0), (1, iv a1), (2, iv a2), (3, iv x3_68)]) [0, 1, 2, 3] rfl ?_
              exact g_at fun Q hQ => hQ E_118
            refine g_aload_n (pc := 127) X (j := 0) (i := 0) (q := 0) (x := a0) rfl rfl (dl_at t_X18_change 67 rfl) ?_
            refine r_getr (pc := 128) X fX18_12 k121 q4248 (dl_at t_X18_change 68 rfl) ?_
            refine g_iload_n (pc := 131) X (j := 1) (i := 1) (q := 1) (x := a1) rfl rfl (dl_at t_X18_change 69 rfl) ?_
            refine g_iload (pc := 132) X (i := 4) (q := 4) (x := x4_118) rfl (dl_at t_X18_change 70 rfl) ?_
            refine g_iadd (pc := 134) X r1 r4_118 (dl_at t_X18_change 71 rfl) ?_
            refine g_aload_n (pc := 135) X (j := 0) (i := 0) (q := 0) (x := a0) rfl rfl (dl_at t_X18_change 72 rfl) ?_
            refine r_getr (pc := 136) X fX18_2 k121 q4238 (dl_at t_X18_change 73 rfl) ?_
            refine g_iload (pc := 139) X (i := 4) (q := 4) (x := x4_118) rfl (dl_at t_X18_change 74 rfl) ?_
            refine g_gd fun k141 => ?_
            refine g_bald (pc := 141) X r4_118 k141 (dl_at t_X18_change 75 rfl) fun g141 => ?_
            refine g_gd fun k142 => ?_
            refine r_bastB (pc := 142) X (r32_w _) g141 k142 (dl_at t_X18_change 76 rfl) (fun h142 E142 => ?_)
            refine r_iincN (pc := 143) X (i := 4) (q := 4) (n := 1) (x := x4_118) (b := 3) (w := iv x3_68) (rest := [(0, rv D a0), (1, iv a1), (2, iv a2)]) rfl r4_118 (r32_c rfl) (Nat.le_of_ble_eq_true rfl) [3, 0, 1, 2] rfl (by decide) rfl rfl (dl_at t_X18_change 77 rfl) fun x4_143 r4_143 => ?_
            refine g_goto (pc := 146) X (off := (-28)) (tgt := 118) rfl (dl_at t_X18_change 78 rfl) ?_
            refine g_ls (ls2 := [(0, rv D a0), (1, iv a1), (2, iv a2), (3, iv x3_68), (4, iv x4_143)]) [2, 3, 4, 1, 0] rfl ?_
            exact g_at fun Q hQ => hQ ⟨r4_143, (E_118.trans E142)⟩
          · rintro h_149 E_149
            try dsimp only [sE]
            refine g_iload_n (pc := 149) X (j := 2) (i := 2) (q := 2) (x := a2) rfl rfl (dl_at t_X18_change 79 rfl) ?_
            refine g_istoreN (pc := 150) X (i := 4) (x := a2) (b := 3) (w := iv x3_68) (rest := [(0, rv D a0), (1, iv a1), (2, iv a2)]) (Nat.le_of_ble_eq_true rfl) [3, 0, 1, 2] rfl (by decide) rfl rfl (dl_at t_X18_change 80 rfl) ?_
            refine g_ls (ls2 := [(0, rv D a0), (1, iv a1), (2, iv a2), (3, iv x3_68), (4, iv a2)]) [2, 3, 4, 1, 0] rfl ?_
            refine g_loop1 (fun (q : Int × Hp) => [(0, rv D a0), (1, iv a1), (2, iv a2), (3, iv x3_68), (4, iv q.1)]) (fun (q : Int × Hp) => q.2) (fun (q : Int × Hp) => r32 q.1 ∧ Ext h_149 q.2) 196 (fun (y196 : Hp) => [(0, rv D a0), (3, iv x3_68)]) (fun (y196 : Hp) => y196) (fun (y196 : Hp) => Ext h_149 y196) (a2, h_149) ⟨r2, (Ext.refl _)⟩ ?_ ?_
            · rintro ⟨x4_152, h_152⟩ ⟨r4_152, E_152⟩
              try dsimp only
              unfold m_X18_change_l152
              refine g_iload (pc := 152) X (i := 4) (q := 4) (x := x4_152) rfl (dl_at t_X18_change 81 rfl) ?_
              refine g_aload_n (pc := 154) X (j := 0) (i := 0) (q := 0) (x := a0) rfl rfl (dl_at t_X18_change 82 rfl) ?_
              have k155 := kx (E_115.trans (E_149.trans E_152)) (by decide) hk
              refine r_getr (pc := 155) X fX18_10 k155 q4246 (dl_at t_X18_change 83 rfl) ?_
              refine g_gd fun k158 => ?_
              refine r_geti (pc := 158) X fX23_1 k158 q3521 (dl_at t_X18_change 84 rfl) fun g158 => ?_
              refine g_icmpge (pc := 161) X r4_152 g158 (off := 35) (tgt := 196) rfl (dl_at t_X18_change 85 rfl) (fun _ => ?_) (fun _ => ?_)
              · refine g_ls (ls2 := [(0, rv D a0), (3, iv x3_68)]) [0, 3] rfl ?_
                exact g_at fun Q hQ => hQ E_152
              refine g_aload_n (pc := 164) X (j := 0) (i := 0) (q := 0) (x := a0) rfl rfl (dl_at t_X18_change 86 rfl) ?_
              refine r_getr (pc := 165) X fX18_12 k155 q4248 (dl_at t_X18_change 87 rfl) ?_
              refine g_iload_n (pc := 168) X (j := 1) (i := 1) (q := 1) (x := a1) rfl rfl (dl_at t_X18_change 88 rfl) ?_
              refine g_aload_n (pc := 169) X (j := 0) (i := 0) (q := 0) (x := a0) rfl rfl (dl_at t_X18_change 89 rfl) ?_
              refine r_geti (pc := 170) X fX18_3 k155 q4239 (dl_at t_X18_change 90 rfl) fun g170 => ?_
              refine g_iadd (pc := 173) X r1 g170 (dl_at t_X18_change 91 rfl) ?_
              refine g_iload (pc := 174) X (i := 4) (q := 4) (x := x4_152) rfl (dl_at t_X18_change 92 rfl) ?_
              refine g_iadd (pc := 176) X (r32_w _) r4_152 (dl_at t_X18_change 93 rfl) ?_
              refine g_iload_n (pc := 177) X (j := 2) (i := 2) (q := 2) (x := a2) rfl rfl (dl_at t_X18_change 94 rfl) ?_
              refine g_isub (pc := 178) X (r32_w _) r2 (dl_at t_X18_change 95 rfl) ?_
              refine g_aload_n (pc := 179) X (j := 0) (i := 0) (q := 0) (x := a0) rfl rfl (dl_at t_X18_change 96 rfl) ?_
              refine r_getr (pc := 180) X fX18_10 k155 q4246 (dl_at t_X18_change 97 rfl) ?_
              refine r_getr (pc := 183) X fX23_0 k158 q3519 (dl_at t_X18_change 98 rfl) ?_
              refine g_iload (pc := 186) X (i := 4) (q := 4) (x := x4_152) rfl (dl_at t_X18_change 99 rfl) ?_
              refine g_gd fun k188 => ?_
              refine g_bald (pc := 188) X r4_152 k188 (dl_at t_X18_change 100 rfl) fun g188 => ?_
              refine g_gd fun k189 => ?_
              refine r_bastB (pc := 189) X (r32_w _) g188 k189 (dl_at t_X18_change 101 rfl) (fun h189 E189 => ?_)
              refine r_iincN (pc := 190) X (i := 4) (q := 4) (n := 1) (x := x4_152) (b := 3) (w := iv x3_68) (rest := [(0, rv D a0), (1, iv a1), (2, iv a2)]) rfl r4_152 (r32_c rfl) (Nat.le_of_ble_eq_true rfl) [3, 0, 1, 2] rfl (by decide) rfl rfl (dl_at t_X18_change 102 rfl) fun x4_190 r4_190 => ?_
              refine g_goto (pc := 193) X (off := (-41)) (tgt := 152) rfl (dl_at t_X18_change 103 rfl) ?_
              refine g_ls (ls2 := [(0, rv D a0), (1, iv a1), (2, iv a2), (3, iv x3_68), (4, iv x4_190)]) [2, 3, 4, 1, 0] rfl ?_
              exact g_at fun Q hQ => hQ ⟨r4_190, (E_152.trans E189)⟩
            · rintro h_196 E_196
              try dsimp only [sE]
              refine g_aload_n (pc := 196) X (j := 0) (i := 0) (q := 0) (x := a0) rfl rfl (dl_at t_X18_change 104 rfl) ?_
              have k197 := kx (E_115.trans (E_149.trans E_196)) (by decide) hk
              refine r_getr (pc := 197) X fX18_11 k197 q4247 (dl_at t_X18_change 105 rfl) ?_
              refine g_aload_n (pc := 200) X (j := 0) (i := 0) (q := 0) (x := a0) rfl rfl (dl_at t_X18_change 106 rfl) ?_
              refine r_getr (pc := 201) X fX18_12 k197 q4248 (dl_at t_X18_change 107 rfl) ?_
              refine g_iload_n (pc := 204) X (j := 3) (i := 3) (q := 1) (x := x3_68) rfl rfl (dl_at t_X18_change 108 rfl) ?_
              refine g_gd fun k205 => ?_
              refine r_callTv (pc := 205) X (fun _ hv => s_X23_read k205 r3_68 hv) cw_code q4566 q377 (in_Vk X (As := [rv D (h_196 a0 12), iv x3_68]) kX23 k205 (Or.inl q4563) q4564 q4565 cw_code q4566 ⟨by decide, by decide⟩ rfl (dl_at t_X18_change 109 rfl)) (dl_at t_X18_change 109 rfl) (cat24 (st := []) (Nat.le_of_ble_eq_true rfl)) (Nat.le_of_ble_eq_true rfl) (Nat.le_of_ble_eq_true rfl) (fun v205 h205_1 E205_1 => ?_) (fun a205 h205 p205 E205 => ?_)
              · refine g_goto (pc := 208) X (off := 16) (tgt := 224) rfl (dl_at t_X18_change 110 rfl) ?_
                refine g_aload_n (pc := 224) X (j := 0) (i := 0) (q := 0) (x := a0) rfl rfl (dl_at t_X18_change 118 rfl) ?_
                have k225 := kx E205_1 (by decide) k197
                refine r_callWi (pc := 225) X (fun _ hv => s_X18_taken k225 hv) cw_code q4643 q372 (in_Vk X (As := []) kX18 k225 (Or.inl q4640) q4642 qs272 cw_code q4643 ⟨by decide, by decide⟩ rfl (dl_at t_X18_change 119 rfl)) (dl_at t_X18_change 119 rfl) (cat24 (st := []) (Nat.le_of_ble_eq_true rfl)) (Nat.le_of_ble_eq_true rfl) (Nat.le_of_ble_eq_true rfl) fun v225 h225 g225 E225 => ?_
                exact g_iret (pc := 228) X g225 rfl rfl (dl_at t_X18_change 120 rfl)
              refine gt_case (fun k205_1 => ?_) (fun _ => ?_)
              · refine gt_catch (pc := 205) X kX27 k205_1 [((196, 208, 211, 122), "ScholarsPressModel$Broken", true)] (hp := 211) rfl (by decide +kernel) (List.forall_mem_cons.mpr ⟨⟨q4330, by decide⟩, fun _ h => absurd h List.not_mem_nil⟩) htb ?_
                refine g_astore (pc := 211) X (i := 4) (x := a205) (rest := [(0, rv D a0)]) (Nat.le_of_ble_eq_true rfl) [0] rfl rfl (dl_at t_X18_change 111 rfl) ?_
                refine g_aload_n (pc := 213) X (j := 0) (i := 0) (q := 1) (x := a0) rfl rfl (dl_at t_X18_change 112 rfl) ?_
                refine g_aload (pc := 214) X (i := 4) (q := 0) (x := a205) rfl (dl_at t_X18_change 113 rfl) ?_
                refine r_geti (pc := 216) X fX27_0 k205_1 q4401 (dl_at t_X18_change 114 rfl) fun g216 => ?_
                refine g_iconst (pc := 219) X (n := 4) (dl_at t_X18_change 115 rfl) ?_
                have k220 := kx E205 (by decide) k197
                refine r_callWi (pc := 220) X (fun _ hv => s_X18_broken k220 g216 (r32_c rfl) hv) cw_code q4431 q372 (in_Vk X (As := [iv (h205 a205 0), iv 4]) kX18 k220 (Or.inl q4428) q4430 qs241 cw_code q4431 ⟨by decide, by decide⟩ rfl (dl_at t_X18_change 116 rfl)) (dl_at t_X18_change 116 rfl) (cat24 (st := []) (Nat.le_of_ble_eq_true rfl)) (Nat.le_of_ble_eq_true rfl) (Nat.le_of_ble_eq_true rfl) fun v220 h220 g220 E220 => ?_
                exact g_iret (pc := 223) X g220 rfl rfl (dl_at t_X18_change 117 rfl)
              exact gt_none
      refine g_aload_n (pc := 76) X (j := 0) (i := 0) (q := 2) (x := a0) rfl rfl (dl_at t_X18_change 40 rfl) ?_
      refine g_iconst (pc := 77) X (n := (-1)) (dl_at t_X18_change 41 rfl) ?_
      refine g_iconst (pc := 78) X (n := 3) (dl_at t_X18_change 42 rfl) ?_
      refine r_callWi (pc := 79) X (fun _ hv => s_X18_broken hk (r32_c rfl) (r32_c rfl) hv) cw_code q4431 q372 (in_Vk X (As := [iv (-1), iv 3]) kX18 hk (Or.inl q4428) q4430 qs241 cw_code q4431 ⟨by decide, by decide⟩ rfl (dl_at t_X18_change 43 rfl)) (dl_at t_X18_change 43 rfl) (cat24 (st := []) (Nat.le_of_ble_eq_true rfl)) (Nat.le_of_ble_eq_true rfl) (Nat.le_of_ble_eq_true rfl) fun v79 h79 g79 E79 => ?_
      exact g_iret (pc := 82) X g79 rfl rfl (dl_at t_X18_change 44 rfl)
    refine g_aload_n (pc := 46) X (j := 0) (i := 0) (q := 0) (x := a0) rfl rfl (dl_at t_X18_change 22 rfl) ?_
    refine g_iconst (pc := 47) X (n := 2) (dl_at t_X18_change 23 rfl) ?_
    refine r_callWi (pc := 48) X (fun _ hv => s_X18_refuse hk (r32_c rfl) hv) cw_code q4317 q372 (in_Vk X (As := [iv 2]) kX18 hk (Or.inl q4314) q4316 qs237 cw_code q4317 ⟨by decide, by decide⟩ rfl (dl_at t_X18_change 24 rfl)) (dl_at t_X18_change 24 rfl) (cat24 (st := []) (Nat.le_of_ble_eq_true rfl)) (Nat.le_of_ble_eq_true rfl) (Nat.le_of_ble_eq_true rfl) fun v48 h48 g48 E48 => ?_
    exact g_iret (pc := 51) X g48 rfl rfl (dl_at t_X18_change 25 rfl)
  intro J36
  refine g_ifeq (pc := 16) X (r32_z g13) (off := 20) (tgt := 36) rfl (dl_at t_X18_change 8 rfl) (fun _ => ?_) (fun _ => ?_)
  · exact J36 () trivial
  refine g_iload_n (pc := 19) X (j := 2) (i := 2) (q := 2) (x := a2) rfl rfl (dl_at t_X18_change 9 rfl) ?_
  refine g_aload_n (pc := 20) X (j := 0) (i := 0) (q := 0) (x := a0) rfl rfl (dl_at t_X18_change 10 rfl) ?_
  refine r_getr (pc := 21) X fX18_10 hk q4246 (dl_at t_X18_change 11 rfl) ?_
  refine r_geti (pc := 24) X fX23_1 k13 q3521 (dl_at t_X18_change 12 rfl) fun g24 => ?_
  refine g_icmple (pc := 27) X r2 g24 (off := 9) (tgt := 36) rfl (dl_at t_X18_change 13 rfl) (fun _ => ?_) (fun _ => ?_)
  · exact J36 () trivial
  refine g_aload_n (pc := 30) X (j := 0) (i := 0) (q := 0) (x := a0) rfl rfl (dl_at t_X18_change 14 rfl) ?_
  refine g_iconst (pc := 31) X (n := 1) (dl_at t_X18_change 15 rfl) ?_
  refine r_callWi (pc := 32) X (fun _ hv => s_X18_refuse hk (r32_c rfl) hv) cw_code q4317 q372 (in_Vk X (As := [iv 1]) kX18 hk (Or.inl q4314) q4316 qs237 cw_code q4317 ⟨by decide, by decide⟩ rfl (dl_at t_X18_change 16 rfl)) (dl_at t_X18_change 16 rfl) (cat24 (st := []) (Nat.le_of_ble_eq_true rfl)) (Nat.le_of_ble_eq_true rfl) (Nat.le_of_ble_eq_true rfl) fun v32_2 h32_2 g32_2 E32_2 => ?_
  exact g_iret (pc := 35) X g32_2 rfl rfl (dl_at t_X18_change 17 rfl)
def k_X18_place : List (Nat × Instr × Nat) := [(0, .aload_n 0, 1), (1, .iconst 0, 1), (2, .putfield 87, 3), (5, .aload_n 0, 1), (6, .getfield 7, 3), (9, .ireturn, 1)]
theorem t_X18_place : ∀ q ∈ k_X18_place, decode cX18_place q.1 = .ok q.2 := dl_all (by decide +kernel)
noncomputable def m_X18_place (a0 : Int) (h : Hp) : Option (Int × Hp) :=
  pt h a0 0 0 fun h2 =>
  some ((h2 a0 1), h2)
theorem s_X18_place {l : Launch} [NoTr l] {D : SD} {a0 : Int} {h : Hp} (hk : h a0 (-2) = 304) {r : Int × Hp} (hm : m_X18_place a0 h = some r) : Sim l D yX18_place (Cond.code yX18_place cX18_place 1 (Option.some Jvm.ClassFile.FieldType.int)) 0 0 [rv D a0] h 1 ((0, r.1), r.2) := by
  refine Sim.of (fin := fun (v : Int × Hp) => ((0, v.1), v.2)) (lsE := [(0, rv D a0)]) hm rfl cwS_code (la_r la_n) (ll_r ll_n) ?_
  intro p e s m below meth c X hcw hmm hcc hnm hname
  unfold m_X18_place
  refine g_aload_n (pc := 0) X (j := 0) (i := 0) (q := 0) (x := a0) rfl rfl (dl_at t_X18_place 0 rfl) ?_
  refine g_iconst (pc := 1) X (n := 0) (dl_at t_X18_place 1 rfl) ?_
  refine r_puti (pc := 2) X fX18_0 hk q4236 rfl (dl_at t_X18_place 2 rfl) (r32_c rfl) (fun h2 E2 => ?_)
  refine g_aload_n (pc := 5) X (j := 0) (i := 0) (q := 0) (x := a0) rfl rfl (dl_at t_X18_place 3 rfl) ?_
  have k6 := kx E2 (by decide) hk
  refine r_geti (pc := 6) X fX18_1 k6 q4237 (dl_at t_X18_place 4 rfl) fun g6 => ?_
  exact g_iret (pc := 9) X g6 rfl rfl (dl_at t_X18_place 5 rfl)
def k_X18_in : List (Nat × Instr × Nat) := [(0, .iload_n 0, 1), (1, .iload_n 1, 1), (2, .if_icmp .lt 12, 3), (5, .iload_n 0, 1), (6, .iload_n 2, 1), (7, .if_icmp .gt 7, 3), (10, .iconst 1, 1), (11, .goto 4, 3), (14, .iconst 0, 1), (15, .ireturn, 1)]
theorem t_X18_in : ∀ q ∈ k_X18_in, decode cX18_in q.1 = .ok q.2 := dl_all (by decide +kernel)
noncomputable def m_X18_in (a0 a1 a2 : Int) : Option (Int) :=
  if a0 < a1 then (some 0)
  else (if a2 < a0 then (some 0)
  else (some 1))
theorem s_X18_in {l : Launch} [NoTr l] {D : SD} {a0 a1 a2 : Int} {h : Hp} (r0 : r32 a0) (r1 : r32 a1) (r2 : r32 a2) {r : Int} (hm : m_X18_in a0 a1 a2 = some r) : Sim l D yX18_in (Cond.code yX18_in cX18_in 3 (Option.some Jvm.ClassFile.FieldType.boolean)) 0 0 [iv a0, iv a1, iv a2] h 3 ((0, r), h) := by
  refine Sim.of (fin := fun (v : Int) => ((0, v), h)) (lsE := [(0, iv a0), (1, iv a1), (2, iv a2)]) hm rfl cwS_code (la_i (la_i (la_i la_n))) (ll_i (ll_i (ll_i ll_n))) ?_
  intro p e s m below meth c X hcw hmm hcc hnm hname
  unfold m_X18_in
  refine g_iload_n (pc := 0) X (j := 0) (i := 0) (q := 0) (x := a0) rfl rfl (dl_at t_X18_in 0 rfl) ?_
  refine g_iload_n (pc := 1) X (j := 1) (i := 1) (q := 1) (x := a1) rfl rfl (dl_at t_X18_in 1 rfl) ?_
  refine g_icmplt (pc := 2) X r0 r1 (off := 12) (tgt := 14) rfl (dl_at t_X18_in 2 rfl) (fun _ => ?_) (fun _ => ?_)
  · refine g_iconst (pc := 14) X (n := 0) (dl_at t_X18_in 8 rfl) ?_
    exact g_zret (pc := 15) X (Or.inl rfl) rfl rfl (dl_at t_X18_in 9 rfl)
  refine g_iload_n (pc := 5) X (j := 0) (i := 0) (q := 0) (x := a0) rfl rfl (dl_at t_X18_in 3 rfl) ?_
  refine g_iload_n (pc := 6) X (j := 2) (i := 2) (q := 2) (x := a2) rfl rfl (dl_at t_X18_in 4 rfl) ?_
  refine g_icmpgt (pc := 7) X r0 r2 (off := 7) (tgt := 14) rfl (dl_at t_X18_in 5 rfl) (fun _ => ?_) (fun _ => ?_)
  · refine g_iconst (pc := 14) X (n := 0) (dl_at t_X18_in 8 rfl) ?_
    exact g_zret (pc := 15) X (Or.inl rfl) rfl rfl (dl_at t_X18_in 9 rfl)
  refine g_iconst (pc := 10) X (n := 1) (dl_at t_X18_in 6 rfl) ?_
  refine g_goto (pc := 11) X (off := 4) (tgt := 15) rfl (dl_at t_X18_in 7 rfl) ?_
  exact g_zret (pc := 15) X (Or.inr rfl) rfl rfl (dl_at t_X18_in 9 rfl)
def k_X23_copy : List (Nat × Instr × Nat) := [(0, .aload_n 0, 1), (1, .aload_n 1, 1), (2, .getfield 73, 3), (5, .putfield 73, 3), (8, .aload_n 0, 1), (9, .aload_n 1, 1), (10, .getfield 77, 3), (13, .putfield 77, 3), (16, .aload_n 0, 1), (17, .aload_n 1, 1), (18, .getfield 80, 3), (21, .putfield 80, 3), (24, .aload_n 0, 1), (25, .aload_n 1, 1), (26, .getfield 83, 3), (29, .putfield 83, 3), (32, .aload_n 0, 1), (33, .aload_n 1, 1), (34, .getfield 86, 3), (37, .putfield 86, 3), (40, .iconst 0, 1), (41, .istore_n 2, 1), (42, .iload_n 2, 1), (43, .aload_n 0, 1), (44, .getfield 73, 3), (47, .if_icmp .ge 21, 3), (50, .aload_n 0, 1), (51, .getfield 9, 3), (54, .iload_n 2, 1), (55, .aload_n 1, 1), (56, .getfield 9, 3), (59, .iload_n 2, 1), (60, .baload, 1), (61, .bastore, 1), (62, .iinc 2 1, 3), (65, .goto (-23), 3), (68, .iconst 0, 1), (69, .istore_n 2, 1), (70, .iload_n 2, 1), (71, .aload_n 0, 1), (72, .getfield 77, 3), (75, .if_icmp .ge 45, 3), (78, .aload_n 0, 1), (79, .getfield 15, 3), (82, .iload_n 2, 1), (83, .aload_n 1, 1), (84, .getfield 15, 3), (87, .iload_n 2, 1), (88, .iaload, 1), (89, .iastore, 1), (90, .aload_n 0, 1), (91, .getfield 19, 3), (94, .iload_n 2, 1), (95, .aload_n 1, 1), (96, .getfield 19, 3), (99, .iload_n 2, 1), (100, .iaload, 1), (101, .iastore, 1), (102, .aload_n 0, 1), (103, .getfield 22, 3), (106, .iload_n 2, 1), (107, .aload_n 1, 1), (108, .getfield 22, 3), (111, .iload_n 2, 1), (112, .iaload, 1), (113, .iastore, 1), (114, .iinc 2 1, 3), (117, .goto (-47), 3), (120, .iconst 0, 1), (121, .istore_n 2, 1), (122, .iload_n 2, 1), (123, .aload_n 0, 1), (124, .getfield 80, 3), (127, .if_icmp .ge 179, 3), (130, .aload_n 0, 1), (131, .getfield 25, 3), (134, .iload_n 2, 1), (135, .aload_n 1, 1), (136, .getfield 25, 3), (139, .iload_n 2, 1), (140, .iaload, 1), (141, .iastore, 1), (142, .aload_n 0, 1), (143, .getfield 28, 3), (146, .iload_n 2, 1), (147, .aload_n 1, 1), (148, .getfield 28, 3), (151, .iload_n 2, 1), (152, .iaload, 1), (153, .iastore, 1), (154, .aload_n 0, 1), (155, .getfield 31, 3), (158, .iload_n 2, 1), (159, .aload_n 1, 1), (160, .getfield 31, 3), (163, .iload_n 2, 1), (164, .iaload, 1), (165, .iastore, 1), (166, .aload_n 0, 1), (167, .getfield 34, 3), (170, .iload_n 2, 1), (171, .aload_n 1, 1), (172, .getfield 34, 3), (175, .iload_n 2, 1), (176, .iaload, 1), (177, .iastore, 1), (178, .aload_n 0, 1), (179, .getfield 37, 3), (182, .iload_n 2, 1), (183, .aload_n 1, 1), (184, .getfield 37, 3), (187, .iload_n 2, 1), (188, .iaload, 1), (189, .iastore, 1), (190, .aload_n 0, 1), (191, .getfield 40, 3), (194, .iload_n 2, 1), (195, .aload_n 1, 1), (196, .getfield 40, 3), (199, .iload_n 2, 1), (200, .iaload, 1), (201, .iastore, 1), (202, .aload_n 0, 1), (203, .getfield 43, 3), (206, .iload_n 2, 1), (207, .aload_n 1, 1), (208, .getfield 43, 3), (211, .iload_n 2, 1), (212, .iaload, 1), (213, .iastore, 1), (214, .aload_n 0, 1), (215, .getfield 46, 3), (218, .iload_n 2, 1), (219, .aload_n 1, 1), (220, .getfield 46, 3), (223, .iload_n 2, 1), (224, .iaload, 1), (225, .iastore, 1), (226, .bipush 6, 2), (228, .iload_n 2, 1), (229, .imul, 1), (230, .istore_n 3, 1), (231, .iload_n 3, 1), (232, .bipush 6, 2), (234, .iload_n 2, 1), (235, .imul, 1), (236, .aload_n 0, 1), (237, .getfield 40, 3), (240, .iload_n 2, 1), (241, .iaload, 1), (242, .iadd, 1), (243, .if_icmp .ge 57, 3), (246, .aload_n 0, 1), (247, .getfield 49, 3), (250, .iload_n 3, 1), (251, .aload_n 1, 1), (252, .getfield 49, 3), (255, .iload_n 3, 1), (256, .iaload, 1), (257, .iastore, 1), (258, .aload_n 0, 1), (259, .getfield 52, 3), (262, .iload_n 3, 1), (263, .aload_n 1, 1), (264, .getfield 52, 3), (267, .iload_n 3, 1), (268, .iaload, 1), (269, .iastore, 1), (270, .aload_n 0, 1), (271, .getfield 55, 3), (274, .iload_n 3, 1), (275, .aload_n 1, 1), (276, .getfield 55, 3), (279, .iload_n 3, 1), (280, .iaload, 1), (281, .iastore, 1), (282, .aload_n 0, 1), (283, .getfield 58, 3), (286, .iload_n 3, 1), (287, .aload_n 1, 1), (288, .getfield 58, 3), (291, .iload_n 3, 1), (292, .iaload, 1), (293, .iastore, 1), (294, .iinc 3 1, 3), (297, .goto (-66), 3), (300, .iinc 2 1, 3), (303, .goto (-181), 3), (306, .return_, 1)]
theorem t_X23_copy : ∀ q ∈ k_X23_copy, decode cX23_copy q.1 = .ok q.2 := dl_all (by decide +kernel)
noncomputable def m_X23_copy_l42 (a0 a1 x2_42 : Int) (h_42 : Hp) : Option ((Int × Hp) ⊕ ((Hp))) :=
  if (h_42 a0 1) ≤ x2_42 then (some (.inr h_42))
  else (gd (h_42 (h_42 a1 0) (-2) % 16 = 2 ∧ (0 : Int) ≤ x2_42 ∧ x2_42 < h_42 (h_42 a1 0) (-1)) (gd (h_42 (h_42 a0 0) (-2) % 16 = 2 ∧ (0 : Int) ≤ x2_42 ∧ x2_42 < h_42 (h_42 a0 0) (-1)) (pt h_42 (h_42 a0 0) x2_42 (h_42 (h_42 a1 0) x2_42) fun h61 =>
  lt_ (w32 (x2_42 + 1)) fun x2_62 =>
  some (.inl (x2_62, h61)))))
noncomputable def m_X23_copy_l70 (a0 a1 x2_70 : Int) (h_70 : Hp) : Option ((Int × Hp) ⊕ ((Hp))) :=
  if (h_70 a0 2) ≤ x2_70 then (some (.inr h_70))
  else (gd (h_70 (h_70 a1 6) (-2) % 16 = 1 ∧ (0 : Int) ≤ x2_70 ∧ x2_70 < h_70 (h_70 a1 6) (-1)) (gd (h_70 (h_70 a0 6) (-2) % 16 = 1 ∧ (0 : Int) ≤ x2_70 ∧ x2_70 < h_70 (h_70 a0 6) (-1)) (pt h_70 (h_70 a0 6) x2_70 (h_70 (h_70 a1 6) x2_70) fun h89 =>
  gd (h89 (h89 a1 7) (-2) % 16 = 1 ∧ (0 : Int) ≤ x2_70 ∧ x2_70 < h89 (h89 a1 7) (-1)) (gd (h89 (h89 a0 7) (-2) % 16 = 1 ∧ (0 : Int) ≤ x2_70 ∧ x2_70 < h89 (h89 a0 7) (-1)) (pt h89 (h89 a0 7) x2_70 (h89 (h89 a1 7) x2_70) fun h101 =>
  gd (h101 (h101 a1 8) (-2) % 16 = 1 ∧ (0 : Int) ≤ x2_70 ∧ x2_70 < h101 (h101 a1 8) (-1)) (gd (h101 (h101 a0 8) (-2) % 16 = 1 ∧ (0 : Int) ≤ x2_70 ∧ x2_70 < h101 (h101 a0 8) (-1)) (pt h101 (h101 a0 8) x2_70 (h101 (h101 a1 8) x2_70) fun h113 =>
  lt_ (w32 (x2_70 + 1)) fun x2_114 =>
  some (.inl (x2_114, h113)))))))))
noncomputable def m_X23_copy_l231 (a0 a1 x2_122 x3_231 : Int) (h_231 : Hp) : Option ((Int × Hp) ⊕ ((Hp))) :=
  gd (h_231 (h_231 a0 14) (-2) % 16 = 1 ∧ (0 : Int) ≤ x2_122 ∧ x2_122 < h_231 (h_231 a0 14) (-1)) (if (w32 ((w32 (6 * x2_122)) + (h_231 (h_231 a0 14) x2_122))) ≤ x3_231 then (some (.inr h_231))
  else (gd (h_231 (h_231 a1 17) (-2) % 16 = 1 ∧ (0 : Int) ≤ x3_231 ∧ x3_231 < h_231 (h_231 a1 17) (-1)) (gd (h_231 (h_231 a0 17) (-2) % 16 = 1 ∧ (0 : Int) ≤ x3_231 ∧ x3_231 < h_231 (h_231 a0 17) (-1)) (pt h_231 (h_231 a0 17) x3_231 (h_231 (h_231 a1 17) x3_231) fun h257 =>
  gd (h257 (h257 a1 18) (-2) % 16 = 1 ∧ (0 : Int) ≤ x3_231 ∧ x3_231 < h257 (h257 a1 18) (-1)) (gd (h257 (h257 a0 18) (-2) % 16 = 1 ∧ (0 : Int) ≤ x3_231 ∧ x3_231 < h257 (h257 a0 18) (-1)) (pt h257 (h257 a0 18) x3_231 (h257 (h257 a1 18) x3_231) fun h269 =>
  gd (h269 (h269 a1 19) (-2) % 16 = 1 ∧ (0 : Int) ≤ x3_231 ∧ x3_231 < h269 (h269 a1 19) (-1)) (gd (h269 (h269 a0 19) (-2) % 16 = 1 ∧ (0 : Int) ≤ x3_231 ∧ x3_231 < h269 (h269 a0 19) (-1)) (pt h269 (h269 a0 19) x3_231 (h269 (h269 a1 19) x3_231) fun h281 =>
  gd (h281 (h281 a1 20) (-2) % 16 = 1 ∧ (0 : Int) ≤ x3_231 ∧ x3_231 < h281 (h281 a1 20) (-1)) (gd (h281 (h281 a0 20) (-2) % 16 = 1 ∧ (0 : Int) ≤ x3_231 ∧ x3_231 < h281 (h281 a0 20) (-1)) (pt h281 (h281 a0 20) x3_231 (h281 (h281 a1 20) x3_231) fun h293 =>
  lt_ (w32 (x3_231 + 1)) fun x3_294 =>
  some (.inl (x3_294, h293))))))))))))
noncomputable def m_X23_copy_l122 (a0 a1 x2_122 : Int) (h_122 : Hp) : Option ((Int × Hp) ⊕ ((Hp))) :=
  if (h_122 a0 3) ≤ x2_122 then (some (.inr h_122))
  else (gd (h_122 (h_122 a1 9) (-2) % 16 = 1 ∧ (0 : Int) ≤ x2_122 ∧ x2_122 < h_122 (h_122 a1 9) (-1)) (gd (h_122 (h_122 a0 9) (-2) % 16 = 1 ∧ (0 : Int) ≤ x2_122 ∧ x2_122 < h_122 (h_122 a0 9) (-1)) (pt h_122 (h_122 a0 9) x2_122 (h_122 (h_122 a1 9) x2_122) fun h141 =>
  gd (h141 (h141 a1 10) (-2) % 16 = 1 ∧ (0 : Int) ≤ x2_122 ∧ x2_122 < h141 (h141 a1 10) (-1)) (gd (h141 (h141 a0 10) (-2) % 16 = 1 ∧ (0 : Int) ≤ x2_122 ∧ x2_122 < h141 (h141 a0 10) (-1)) (pt h141 (h141 a0 10) x2_122 (h141 (h141 a1 10) x2_122) fun h153 =>
  gd (h153 (h153 a1 11) (-2) % 16 = 1 ∧ (0 : Int) ≤ x2_122 ∧ x2_122 < h153 (h153 a1 11) (-1)) (gd (h153 (h153 a0 11) (-2) % 16 = 1 ∧ (0 : Int) ≤ x2_122 ∧ x2_122 < h153 (h153 a0 11) (-1)) (pt h153 (h153 a0 11) x2_122 (h153 (h153 a1 11) x2_122) fun h165 =>
  gd (h165 (h165 a1 12) (-2) % 16 = 1 ∧ (0 : Int) ≤ x2_122 ∧ x2_122 < h165 (h165 a1 12) (-1)) (gd (h165 (h165 a0 12) (-2) % 16 = 1 ∧ (0 : Int) ≤ x2_122 ∧ x2_122 < h165 (h165 a0 12) (-1)) (pt h165 (h165 a0 12) x2_122 (h165 (h165 a1 12) x2_122) fun h177 =>
  gd (h177 (h177 a1 13) (-2) % 16 = 1 ∧ (0 : Int) ≤ x2_122 ∧ x2_122 < h177 (h177 a1 13) (-1)) (gd (h177 (h177 a0 13) (-2) % 16 = 1 ∧ (0 : Int) ≤ x2_122 ∧ x2_122 < h177 (h177 a0 13) (-1)) (pt h177 (h177 a0 13) x2_122 (h177 (h177 a1 13) x2_122) fun h189 =>
  gd (h189 (h189 a1 14) (-2) % 16 = 1 ∧ (0 : Int) ≤ x2_122 ∧ x2_122 < h189 (h189 a1 14) (-1)) (gd (h189 (h189 a0 14) (-2) % 16 = 1 ∧ (0 : Int) ≤ x2_122 ∧ x2_122 < h189 (h189 a0 14) (-1)) (pt h189 (h189 a0 14) x2_122 (h189 (h189 a1 14) x2_122) fun h201 =>
  gd (h201 (h201 a1 15) (-2) % 16 = 1 ∧ (0 : Int) ≤ x2_122 ∧ x2_122 < h201 (h201 a1 15) (-1)) (gd (h201 (h201 a0 15) (-2) % 16 = 1 ∧ (0 : Int) ≤ x2_122 ∧ x2_122 < h201 (h201 a0 15) (-1)) (pt h201 (h201 a0 15) x2_122 (h201 (h201 a1 15) x2_122) fun h213 =>
  gd (h213 (h213 a1 16) (-2) % 16 = 1 ∧ (0 : Int) ≤ x2_122 ∧ x2_122 < h213 (h213 a1 16) (-1)) (gd (h213 (h213 a0 16) (-2) % 16 = 1 ∧ (0 : Int) ≤ x2_122 ∧ x2_122 < h213 (h213 a0 16) (-1)) (pt h213 (h213 a0 16) x2_122 (h213 (h213 a1 16) x2_122) fun h225 =>
  lt_ (w32 (6 * x2_122)) fun x3_230 =>
  (lp (fun (q : Int × Hp) => m_X23_copy_l231 a0 a1 x2_122 q.1 q.2) (x3_230, h225)).bind (fun (y300 : Hp) => lt_ (w32 (x2_122 + 1)) fun x2_300 =>
  some (.inl (x2_300, y300))))))))))))))))))))
noncomputable def m_X23_copy (a0 a1 : Int) (h : Hp) : Option (Hp) :=
  gd (h a1 (-2) = 384) (pt h a0 1 (h a1 1) fun h5 =>
  pt h5 a0 2 (h5 a1 2) fun h13 =>
  pt h13 a0 3 (h13 a1 3) fun h21 =>
  pt h21 a0 4 (h21 a1 4) fun h29 =>
  pt h29 a0 5 (h29 a1 5) fun h37 =>
  lt_ 0 fun x2_41 =>
  (lp (fun (q : Int × Hp) => m_X23_copy_l42 a0 a1 q.1 q.2) (x2_41, h37)).bind (fun (y68 : Hp) => lt_ 0 fun x2_69 =>
  (lp (fun (q : Int × Hp) => m_X23_copy_l70 a0 a1 q.1 q.2) (x2_69, y68)).bind (fun (y120 : Hp) => lt_ 0 fun x2_121 =>
  (lp (fun (q : Int × Hp) => m_X23_copy_l122 a0 a1 q.1 q.2) (x2_121, y120)).bind (fun (x : Hp) => some x))))
theorem s_X23_copy {l : Launch} [NoTr l] {D : SD} {a0 a1 : Int} {h : Hp} (hk : h a0 (-2) = 384) {r : Hp} (hm : m_X23_copy a0 a1 h = some r) : Sim l D yX23_copy (Cond.code yX23_copy cX23_copy 4 (Option.none : Option Jvm.ClassFile.FieldType)) 0 0 [rv D a0, rv D a1] h 0 ((0, 0), r) := by
  refine Sim.of (fin := fun (v : Hp) => ((0, 0), v)) (lsE := [(0, rv D a0), (1, rv D a1)]) hm rfl cwS_code (la_r (la_r la_n)) (ll_r (ll_r ll_n)) ?_
  intro p e s m below meth c X hcw hmm hcc hnm hname
  unfold m_X23_copy
  refine g_aload_n (pc := 0) X (j := 0) (i := 0) (q := 0) (x := a0) rfl rfl (dl_at t_X23_copy 0 rfl) ?_
  refine g_aload_n (pc := 1) X (j := 1) (i := 1) (q := 1) (x := a1) rfl rfl (dl_at t_X23_copy 1 rfl) ?_
  refine g_gd fun k2 => ?_
  refine r_geti (pc := 2) X fX23_1 k2 q3520 (dl_at t_X23_copy 2 rfl) fun g2 => ?_
  refine r_puti (pc := 5) X fX23_1 hk q3520 rfl (dl_at t_X23_copy 3 rfl) g2 (fun h5 E5 => ?_)
  refine g_aload_n (pc := 8) X (j := 0) (i := 0) (q := 0) (x := a0) rfl rfl (dl_at t_X23_copy 4 rfl) ?_
  refine g_aload_n (pc := 9) X (j := 1) (i := 1) (q := 1) (x := a1) rfl rfl (dl_at t_X23_copy 5 rfl) ?_
  have k10 := kx E5 (by decide) k2
  refine r_geti (pc := 10) X fX23_2 k10 q3522 (dl_at t_X23_copy 6 rfl) fun g10 => ?_
  have k13 := kx E5 (by decide) hk
  refine r_puti (pc := 13) X fX23_2 k13 q3522 rfl (dl_at t_X23_copy 7 rfl) g10 (fun h13 E13 => ?_)
  refine g_aload_n (pc := 16) X (j := 0) (i := 0) (q := 0) (x := a0) rfl rfl (dl_at t_X23_copy 8 rfl) ?_
  refine g_aload_n (pc := 17) X (j := 1) (i := 1) (q := 1) (x := a1) rfl rfl (dl_at t_X23_copy 9 rfl) ?_
  have k18 := kx E13 (by decide) k10
  refine r_geti (pc := 18) X fX23_3 k18 q3525 (dl_at t_X23_copy 10 rfl) fun g18 => ?_
  have k21 := kx E13 (by decide) k13
  refine r_puti (pc := 21) X fX23_3 k21 q3525 rfl (dl_at t_X23_copy 11 rfl) g18 (fun h21 E21 => ?_)
  refine g_aload_n (pc := 24) X (j := 0) (i := 0) (q := 0) (x := a0) rfl rfl (dl_at t_X23_copy 12 rfl) ?_
  refine g_aload_n (pc := 25) X (j := 1) (i := 1) (q := 1) (x := a1) rfl rfl (dl_at t_X23_copy 13 rfl) ?_
  have k26 := kx E21 (by decide) k18
  refine r_geti (pc := 26) X fX23_4 k26 q3529 (dl_at t_X23_copy 14 rfl) fun g26 => ?_
  have k29 := kx E21 (by decide) k21
  refine r_puti (pc := 29) X fX23_4 k29 q3529 rfl (dl_at t_X23_copy 15 rfl) g26 (fun h29 E29 => ?_)
  refine g_aload_n (pc := 32) X (j := 0) (i := 0) (q := 0) (x := a0) rfl rfl (dl_at t_X23_copy 16 rfl) ?_
  refine g_aload_n (pc := 33) X (j := 1) (i := 1) (q := 1) (x := a1) rfl rfl (dl_at t_X23_copy 17 rfl) ?_
  have k34 := kx E29 (by decide) k26
  refine r_getz (pc := 34) X fX23_5 k34 q3531 (dl_at t_X23_copy 18 rfl) fun g34 => ?_
  have k37 := kx E29 (by decide) k29
  refine r_putz (pc := 37) X fX23_5 k37 q3531 rfl (dl_at t_X23_copy 19 rfl) g34 (fun h37 E37 => ?_)
  refine g_iconst (pc := 40) X (n := 0) (dl_at t_X23_copy 20 rfl) ?_
  refine g_ltz (Or.inl rfl) fun x2_41 r2_41 => ?_
  refine g_istore_nN (pc := 41) X (j := 2) (i := 2) (x := x2_41) (b := 1) (w := rv D a1) (rest := [(0, rv D a0)]) rfl (Nat.le_of_ble_eq_true rfl) [1, 0] rfl (by decide) rv_cat rfl (dl_at t_X23_copy 21 rfl) ?_
  refine g_ls (ls2 := [(0, rv D a0), (1, rv D a1), (2, iv x2_41)]) [2, 1, 0] rfl ?_
  refine g_loop1 (fun (q : Int × Hp) => [(0, rv D a0), (1, rv D a1), (2, iv q.1)]) (fun (q : Int × Hp) => q.2) (fun (q : Int × Hp) => r32 q.1 ∧ Ext h37 q.2) 68 (fun (y68 : Hp) => [(0, rv D a0), (1, rv D a1)]) (fun (y68 : Hp) => y68) (fun (y68 : Hp) => Ext h37 y68) (x2_41, h37) ⟨(r32_z r2_41), (Ext.refl _)⟩ ?_ ?_
  · rintro ⟨x2_42, h_42⟩ ⟨r2_42, E_42⟩
    try dsimp only
    unfold m_X23_copy_l42
    refine g_iload_n (pc := 42) X (j := 2) (i := 2) (q := 2) (x := x2_42) rfl rfl (dl_at t_X23_copy 22 rfl) ?_
    refine g_aload_n (pc := 43) X (j := 0) (i := 0) (q := 0) (x := a0) rfl rfl (dl_at t_X23_copy 23 rfl) ?_
    have k44 := kx (E37.trans E_42) (by decide) k37
    refine r_geti (pc := 44) X fX23_1 k44 q3520 (dl_at t_X23_copy 24 rfl) fun g44 => ?_
    refine g_icmpge (pc := 47) X r2_42 g44 (off := 21) (tgt := 68) rfl (dl_at t_X23_copy 25 rfl) (fun _ => ?_) (fun _ => ?_)
    · refine g_ls (ls2 := [(0, rv D a0), (1, rv D a1)]) [0, 1] rfl ?_
      exact g_at fun Q hQ => hQ E_42
    refine g_aload_n (pc := 50) X (j := 0) (i := 0) (q := 0) (x := a0) rfl rfl (dl_at t_X23_copy 26 rfl) ?_
    refine r_getr (pc := 51) X fX23_0 k44 q3516 (dl_at t_X23_copy 27 rfl) ?_
    refine g_iload_n (pc := 54) X (j := 2) (i := 2) (q := 2) (x := x2_42) rfl rfl (dl_at t_X23_copy 28 rfl) ?_
    refine g_aload_n (pc := 55) X (j := 1) (i := 1) (q := 1) (x := a1) rfl rfl (dl_at t_X23_copy 29 rfl) ?_
    have k56 := kx (E37.trans E_42) (by decide) k34
    refine r_getr (pc := 56) X fX23_0 k56 q3516 (dl_at t_X23_copy 30 rfl) ?_
    refine g_iload_n (pc := 59) X (j := 2) (i := 2) (q := 2) (x := x2_42) rfl rfl (dl_at t_X23_copy 31 rfl) ?_
    refine g_gd fun k60 => ?_
    refine g_bald (pc := 60) X r2_42 k60 (dl_at t_X23_copy 32 rfl) fun g60 => ?_
    refine g_gd fun k61 => ?_
    refine r_bastB (pc := 61) X r2_42 g60 k61 (dl_at t_X23_copy 33 rfl) (fun h61 E61 => ?_)
    refine r_iincN (pc := 62) X (i := 2) (q := 2) (n := 1) (x := x2_42) (b := 1) (w := rv D a1) (rest := [(0, rv D a0)]) rfl r2_42 (r32_c rfl) (Nat.le_of_ble_eq_true rfl) [1, 0] rfl (by decide) rv_cat rfl (dl_at t_X23_copy 34 rfl) fun x2_62 r2_62 => ?_
    refine g_goto (pc := 65) X (off := (-23)) (tgt := 42) rfl (dl_at t_X23_copy 35 rfl) ?_
    refine g_ls (ls2 := [(0, rv D a0), (1, rv D a1), (2, iv x2_62)]) [2, 1, 0] rfl ?_
    exact g_at fun Q hQ => hQ ⟨r2_62, (E_42.trans E61)⟩
  · rintro h_68 E_68
    try dsimp only [sE]
    refine g_iconst (pc := 68) X (n := 0) (dl_at t_X23_copy 36 rfl) ?_
    refine g_ltz (Or.inl rfl) fun x2_69 r2_69 => ?_
    refine g_istore_nN (pc := 69) X (j := 2) (i := 2) (x := x2_69) (b := 1) (w := rv D a1) (rest := [(0, rv D a0)]) rfl (Nat.le_of_ble_eq_true rfl) [1, 0] rfl (by decide) rv_cat rfl (dl_at t_X23_copy 37 rfl) ?_
    refine g_ls (ls2 := [(0, rv D a0), (1, rv D a1), (2, iv x2_69)]) [2, 1, 0] rfl ?_
    refine g_loop1 (fun (q : Int × Hp) => [(0, rv D a0), (1, rv D a1), (2, iv q.1)]) (fun (q : Int × Hp) => q.2) (fun (q : Int × Hp) => r32 q.1 ∧ Ext h_68 q.2) 120 (fun (y120 : Hp) => [(0, rv D a0), (1, rv D a1)]) (fun (y120 : Hp) => y120) (fun (y120 : Hp) => Ext h_68 y120) (x2_69, h_68) ⟨(r32_z r2_69), (Ext.refl _)⟩ ?_ ?_
    · rintro ⟨x2_70, h_70⟩ ⟨r2_70, E_70⟩
      try dsimp only
      unfold m_X23_copy_l70
      refine g_iload_n (pc := 70) X (j := 2) (i := 2) (q := 2) (x := x2_70) rfl rfl (dl_at t_X23_copy 38 rfl) ?_
      refine g_aload_n (pc := 71) X (j := 0) (i := 0) (q := 0) (x := a0) rfl rfl (dl_at t_X23_copy 39 rfl) ?_
      have k72 := kx (E37.trans (E_68.trans E_70)) (by decide) k37
      refine r_geti (pc := 72) X fX23_2 k72 q3522 (dl_at t_X23_copy 40 rfl) fun g72 => ?_
      refine g_icmpge (pc := 75) X r2_70 g72 (off := 45) (tgt := 120) rfl (dl_at t_X23_copy 41 rfl) (fun _ => ?_) (fun _ => ?_)
      · refine g_ls (ls2 := [(0, rv D a0), (1, rv D a1)]) [0, 1] rfl ?_
        exact g_at fun Q hQ => hQ E_70
      refine g_aload_n (pc := 78) X (j := 0) (i := 0) (q := 0) (x := a0) rfl rfl (dl_at t_X23_copy 42 rfl) ?_
      refine r_getr (pc := 79) X fX23_6 k72 q3533 (dl_at t_X23_copy 43 rfl) ?_
      refine g_iload_n (pc := 82) X (j := 2) (i := 2) (q := 2) (x := x2_70) rfl rfl (dl_at t_X23_copy 44 rfl) ?_
      refine g_aload_n (pc := 83) X (j := 1) (i := 1) (q := 1) (x := a1) rfl rfl (dl_at t_X23_copy 45 rfl) ?_
      have k84 := kx (E37.trans (E_68.trans E_70)) (by decide) k34
      refine r_getr (pc := 84) X fX23_6 k84 q3533 (dl_at t_X23_copy 46 rfl) ?_
      refine g_iload_n (pc := 87) X (j := 2) (i := 2) (q := 2) (x := x2_70) rfl rfl (dl_at t_X23_copy 47 rfl) ?_
      refine g_gd fun k88 => ?_
      refine g_iald (pc := 88) X r2_70 k88 (dl_at t_X23_copy 48 rfl) fun g88 => ?_
      refine g_gd fun k89 => ?_
      refine r_iast (pc := 89) X r2_70 g88 k89 (dl_at t_X23_copy 49 rfl) (fun h89 E89 => ?_)
      refine g_aload_n (pc := 90) X (j := 0) (i := 0) (q := 0) (x := a0) rfl rfl (dl_at t_X23_copy 50 rfl) ?_
      have k91 := kx E89 (by decide) k72
      refine r_getr (pc := 91) X fX23_7 k91 q3536 (dl_at t_X23_copy 51 rfl) ?_
      refine g_iload_n (pc := 94) X (j := 2) (i := 2) (q := 2) (x := x2_70) rfl rfl (dl_at t_X23_copy 52 rfl) ?_
      refine g_aload_n (pc := 95) X (j := 1) (i := 1) (q := 1) (x := a1) rfl rfl (dl_at t_X23_copy 53 rfl) ?_
      have k96 := kx E89 (by decide) k84
      refine r_getr (pc := 96) X fX23_7 k96 q3536 (dl_at t_X23_copy 54 rfl) ?_
      refine g_iload_n (pc := 99) X (j := 2) (i := 2) (q := 2) (x := x2_70) rfl rfl (dl_at t_X23_copy 55 rfl) ?_
      refine g_gd fun k100 => ?_
      refine g_iald (pc := 100) X r2_70 k100 (dl_at t_X23_copy 56 rfl) fun g100 => ?_
      refine g_gd fun k101 => ?_
      refine r_iast (pc := 101) X r2_70 g100 k101 (dl_at t_X23_copy 57 rfl) (fun h101 E101 => ?_)
      refine g_aload_n (pc := 102) X (j := 0) (i := 0) (q := 0) (x := a0) rfl rfl (dl_at t_X23_copy 58 rfl) ?_
      have k103 := kx E101 (by decide) k91
      refine r_getr (pc := 103) X fX23_8 k103 q3539 (dl_at t_X23_copy 59 rfl) ?_
      refine g_iload_n (pc := 106) X (j := 2) (i := 2) (q := 2) (x := x2_70) rfl rfl (dl_at t_X23_copy 60 rfl) ?_
      refine g_aload_n (pc := 107) X (j := 1) (i := 1) (q := 1) (x := a1) rfl rfl (dl_at t_X23_copy 61 rfl) ?_
      have k108 := kx E101 (by decide) k96
      refine r_getr (pc := 108) X fX23_8 k108 q3539 (dl_at t_X23_copy 62 rfl) ?_
      refine g_iload_n (pc := 111) X (j := 2) (i := 2) (q := 2) (x := x2_70) rfl rfl (dl_at t_X23_copy 63 rfl) ?_
      refine g_gd fun k112 => ?_
      refine g_iald (pc := 112) X r2_70 k112 (dl_at t_X23_copy 64 rfl) fun g112 => ?_
      refine g_gd fun k113 => ?_
      refine r_iast (pc := 113) X r2_70 g112 k113 (dl_at t_X23_copy 65 rfl) (fun h113 E113 => ?_)
      refine r_iincN (pc := 114) X (i := 2) (q := 2) (n := 1) (x := x2_70) (b := 1) (w := rv D a1) (rest := [(0, rv D a0)]) rfl r2_70 (r32_c rfl) (Nat.le_of_ble_eq_true rfl) [1, 0] rfl (by decide) rv_cat rfl (dl_at t_X23_copy 66 rfl) fun x2_114 r2_114 => ?_
      refine g_goto (pc := 117) X (off := (-47)) (tgt := 70) rfl (dl_at t_X23_copy 67 rfl) ?_
      refine g_ls (ls2 := [(0, rv D a0), (1, rv D a1), (2, iv x2_114)]) [2, 1, 0] rfl ?_
      exact g_at fun Q hQ => hQ ⟨r2_114, (E_70.trans (E89.trans (E101.trans E113)))⟩
    · rintro h_120 E_120
      try dsimp only [sE]
      refine g_iconst (pc := 120) X (n := 0) (dl_at t_X23_copy 68 rfl) ?_
      refine g_ltz (Or.inl rfl) fun x2_121 r2_121 => ?_
      refine g_istore_nN (pc := 121) X (j := 2) (i := 2) (x := x2_121) (b := 1) (w := rv D a1) (rest := [(0, rv D a0)]) rfl (Nat.le_of_ble_eq_true rfl) [1, 0] rfl (by decide) rv_cat rfl (dl_at t_X23_copy 69 rfl) ?_
      refine g_ls (ls2 := [(0, rv D a0), (1, rv D a1), (2, iv x2_121)]) [2, 1, 0] rfl ?_
      refine g_loop0F (fun (q : Int × Hp) => [(0, rv D a0), (1, rv D a1), (2, iv q.1)]) (fun (q : Int × Hp) => q.2) (fun (q : Int × Hp) => r32 q.1 ∧ Ext h_120 q.2) (x2_121, h_120) ⟨(r32_z r2_121), (Ext.refl _)⟩ ?_ (fun _ => rfl)
      · rintro ⟨x2_122, h_122⟩ ⟨r2_122, E_122⟩
        try dsimp only
        unfold m_X23_copy_l122
        refine g_iload_n (pc := 122) X (j := 2) (i := 2) (q := 2) (x := x2_122) rfl rfl (dl_at t_X23_copy 70 rfl) ?_
        refine g_aload_n (pc := 123) X (j := 0) (i := 0) (q := 0) (x := a0) rfl rfl (dl_at t_X23_copy 71 rfl) ?_
        have k124 := kx (E37.trans (E_68.trans (E_120.trans E_122))) (by decide) k37
        refine r_geti (pc := 124) X fX23_3 k124 q3525 (dl_at t_X23_copy 72 rfl) fun g124 => ?_
        refine g_icmpge (pc := 127) X r2_122 g124 (off := 179) (tgt := 306) rfl (dl_at t_X23_copy 73 rfl) (fun _ => ?_) (fun _ => ?_)
        · exact g_at fun Q hQ => (g_vret (pc := 306) X (v := 0) rfl rfl (dl_at t_X23_copy 188 rfl)) _ Q rfl hQ
        refine g_aload_n (pc := 130) X (j := 0) (i := 0) (q := 0) (x := a0) rfl rfl (dl_at t_X23_copy 74 rfl) ?_
        refine r_getr (pc := 131) X fX23_9 k124 q3542 (dl_at t_X23_copy 75 rfl) ?_
        refine g_iload_n (pc := 134) X (j := 2) (i := 2) (q := 2) (x := x2_122) rfl rfl (dl_at t_X23_copy 76 rfl) ?_
        refine g_aload_n (pc := 135) X (j := 1) (i := 1) (q := 1) (x := a1) rfl rfl (dl_at t_X23_copy 77 rfl) ?_
        have k136 := kx (E37.trans (E_68.trans (E_120.trans E_122))) (by decide) k34
        refine r_getr (pc := 136) X fX23_9 k136 q3542 (dl_at t_X23_copy 78 rfl) ?_
        refine g_iload_n (pc := 139) X (j := 2) (i := 2) (q := 2) (x := x2_122) rfl rfl (dl_at t_X23_copy 79 rfl) ?_
        refine g_gd fun k140 => ?_
        refine g_iald (pc := 140) X r2_122 k140 (dl_at t_X23_copy 80 rfl) fun g140 => ?_
        refine g_gd fun k141 => ?_
        refine r_iast (pc := 141) X r2_122 g140 k141 (dl_at t_X23_copy 81 rfl) (fun h141 E141 => ?_)
        refine g_aload_n (pc := 142) X (j := 0) (i := 0) (q := 0) (x := a0) rfl rfl (dl_at t_X23_copy 82 rfl) ?_
        have k143 := kx E141 (by decide) k124
        refine r_getr (pc := 143) X fX23_10 k143 q3544 (dl_at t_X23_copy 83 rfl) ?_
        refine g_iload_n (pc := 146) X (j := 2) (i := 2) (q := 2) (x := x2_122) rfl rfl (dl_at t_X23_copy 84 rfl) ?_
        refine g_aload_n (pc := 147) X (j := 1) (i := 1) (q := 1) (x := a1) rfl rfl (dl_at t_X23_copy 85 rfl) ?_
        have k148 := kx E141 (by decide) k136
        refine r_getr (pc := 148) X fX23_10 k148 q3544 (dl_at t_X23_copy 86 rfl) ?_
        refine g_iload_n (pc := 151) X (j := 2) (i := 2) (q := 2) (x := x2_122) rfl rfl (dl_at t_X23_copy 87 rfl) ?_
        refine g_gd fun k152 => ?_
        refine g_iald (pc := 152) X r2_122 k152 (dl_at t_X23_copy 88 rfl) fun g152 => ?_
        refine g_gd fun k153 => ?_
        refine r_iast (pc := 153) X r2_122 g152 k153 (dl_at t_X23_copy 89 rfl) (fun h153 E153 => ?_)
        refine g_aload_n (pc := 154) X (j := 0) (i := 0) (q := 0) (x := a0) rfl rfl (dl_at t_X23_copy 90 rfl) ?_
        have k155 := kx E153 (by decide) k143
        refine r_getr (pc := 155) X fX23_11 k155 q3546 (dl_at t_X23_copy 91 rfl) ?_
        refine g_iload_n (pc := 158) X (j := 2) (i := 2) (q := 2) (x := x2_122) rfl rfl (dl_at t_X23_copy 92 rfl) ?_
        refine g_aload_n (pc := 159) X (j := 1) (i := 1) (q := 1) (x := a1) rfl rfl (dl_at t_X23_copy 93 rfl) ?_
        have k160 := kx E153 (by decide) k148
        refine r_getr (pc := 160) X fX23_11 k160 q3546 (dl_at t_X23_copy 94 rfl) ?_
        refine g_iload_n (pc := 163) X (j := 2) (i := 2) (q := 2) (x := x2_122) rfl rfl (dl_at t_X23_copy 95 rfl) ?_
        refine g_gd fun k164 => ?_
        refine g_iald (pc := 164) X r2_122 k164 (dl_at t_X23_copy 96 rfl) fun g164 => ?_
        refine g_gd fun k165 => ?_
        refine r_iast (pc := 165) X r2_122 g164 k165 (dl_at t_X23_copy 97 rfl) (fun h165 E165 => ?_)
        refine g_aload_n (pc := 166) X (j := 0) (i := 0) (q := 0) (x := a0) rfl rfl (dl_at t_X23_copy 98 rfl) ?_
        have k167 := kx E165 (by decide) k155
        refine r_getr (pc := 167) X fX23_12 k167 q3550 (dl_at t_X23_copy 99 rfl) ?_
        refine g_iload_n (pc := 170) X (j := 2) (i := 2) (q := 2) (x := x2_122) rfl rfl (dl_at t_X23_copy 100 rfl) ?_
        refine g_aload_n (pc := 171) X (j := 1) (i := 1) (q := 1) (x := a1) rfl rfl (dl_at t_X23_copy 101 rfl) ?_
        have k172 := kx E165 (by decide) k160
        refine r_getr (pc := 172) X fX23_12 k172 q3550 (dl_at t_X23_copy 102 rfl) ?_
        refine g_iload_n (pc := 175) X (j := 2) (i := 2) (q := 2) (x := x2_122) rfl rfl (dl_at t_X23_copy 103 rfl) ?_
        refine g_gd fun k176 => ?_
        refine g_iald (pc := 176) X r2_122 k176 (dl_at t_X23_copy 104 rfl) fun g176 => ?_
        refine g_gd fun k177 => ?_
        refine r_iast (pc := 177) X r2_122 g176 k177 (dl_at t_X23_copy 105 rfl) (fun h177 E177 => ?_)
        refine g_aload_n (pc := 178) X (j := 0) (i := 0) (q := 0) (x := a0) rfl rfl (dl_at t_X23_copy 106 rfl) ?_
        have k179 := kx E177 (by decide) k167
        refine r_getr (pc := 179) X fX23_13 k179 q3552 (dl_at t_X23_copy 107 rfl) ?_
        refine g_iload_n (pc := 182) X (j := 2) (i := 2) (q := 2) (x := x2_122) rfl rfl (dl_at t_X23_copy 108 rfl) ?_
        refine g_aload_n (pc := 183) X (j := 1) (i := 1) (q := 1) (x := a1) rfl rfl (dl_at t_X23_copy 109 rfl) ?_
        have k184 := kx E177 (by decide) k172
        refine r_getr (pc := 184) X fX23_13 k184 q3552 (dl_at t_X23_copy 110 rfl) ?_
        refine g_iload_n (pc := 187) X (j := 2) (i := 2) (q := 2) (x := x2_122) rfl rfl (dl_at t_X23_copy 111 rfl) ?_
        refine g_gd fun k188 => ?_
        refine g_iald (pc := 188) X r2_122 k188 (dl_at t_X23_copy 112 rfl) fun g188 => ?_
        refine g_gd fun k189 => ?_
        refine r_iast (pc := 189) X r2_122 g188 k189 (dl_at t_X23_copy 113 rfl) (fun h189 E189 => ?_)
        refine g_aload_n (pc := 190) X (j := 0) (i := 0) (q := 0) (x := a0) rfl rfl (dl_at t_X23_copy 114 rfl) ?_
        have k191 := kx E189 (by decide) k179
        refine r_getr (pc := 191) X fX23_14 k191 q3554 (dl_at t_X23_copy 115 rfl) ?_
        refine g_iload_n (pc := 194) X (j := 2) (i := 2) (q := 2) (x := x2_122) rfl rfl (dl_at t_X23_copy 116 rfl) ?_
        refine g_aload_n (pc := 195) X (j := 1) (i := 1) (q := 1) (x := a1) rfl rfl (dl_at t_X23_copy 117 rfl) ?_
        have k196 := kx E189 (by decide) k184
        refine r_getr (pc := 196) X fX23_14 k196 q3554 (dl_at t_X23_copy 118 rfl) ?_
        refine g_iload_n (pc := 199) X (j := 2) (i := 2) (q := 2) (x := x2_122) rfl rfl (dl_at t_X23_copy 119 rfl) ?_
        refine g_gd fun k200 => ?_
        refine g_iald (pc := 200) X r2_122 k200 (dl_at t_X23_copy 120 rfl) fun g200 => ?_
        refine g_gd fun k201 => ?_
        refine r_iast (pc := 201) X r2_122 g200 k201 (dl_at t_X23_copy 121 rfl) (fun h201 E201 => ?_)
        refine g_aload_n (pc := 202) X (j := 0) (i := 0) (q := 0) (x := a0) rfl rfl (dl_at t_X23_copy 122 rfl) ?_
        have k203 := kx E201 (by decide) k191
        refine r_getr (pc := 203) X fX23_15 k203 q3556 (dl_at t_X23_copy 123 rfl) ?_
        refine g_iload_n (pc := 206) X (j := 2) (i := 2) (q := 2) (x := x2_122) rfl rfl (dl_at t_X23_copy 124 rfl) ?_
        refine g_aload_n (pc := 207) X (j := 1) (i := 1) (q := 1) (x := a1) rfl rfl (dl_at t_X23_copy 125 rfl) ?_
        have k208 := kx E201 (by decide) k196
        refine r_getr (pc := 208) X fX23_15 k208 q3556 (dl_at t_X23_copy 126 rfl) ?_
        refine g_iload_n (pc := 211) X (j := 2) (i := 2) (q := 2) (x := x2_122) rfl rfl (dl_at t_X23_copy 127 rfl) ?_
        refine g_gd fun k212 => ?_
        refine g_iald (pc := 212) X r2_122 k212 (dl_at t_X23_copy 128 rfl) fun g212 => ?_
        refine g_gd fun k213 => ?_
        refine r_iast (pc := 213) X r2_122 g212 k213 (dl_at t_X23_copy 129 rfl) (fun h213 E213 => ?_)
        refine g_aload_n (pc := 214) X (j := 0) (i := 0) (q := 0) (x := a0) rfl rfl (dl_at t_X23_copy 130 rfl) ?_
        have k215 := kx E213 (by decide) k203
        refine r_getr (pc := 215) X fX23_16 k215 q3559 (dl_at t_X23_copy 131 rfl) ?_
        refine g_iload_n (pc := 218) X (j := 2) (i := 2) (q := 2) (x := x2_122) rfl rfl (dl_at t_X23_copy 132 rfl) ?_
        refine g_aload_n (pc := 219) X (j := 1) (i := 1) (q := 1) (x := a1) rfl rfl (dl_at t_X23_copy 133 rfl) ?_
        have k220 := kx E213 (by decide) k208
        refine r_getr (pc := 220) X fX23_16 k220 q3559 (dl_at t_X23_copy 134 rfl) ?_
        refine g_iload_n (pc := 223) X (j := 2) (i := 2) (q := 2) (x := x2_122) rfl rfl (dl_at t_X23_copy 135 rfl) ?_
        refine g_gd fun k224 => ?_
        refine g_iald (pc := 224) X r2_122 k224 (dl_at t_X23_copy 136 rfl) fun g224 => ?_
        refine g_gd fun k225 => ?_
        refine r_iast (pc := 225) X r2_122 g224 k225 (dl_at t_X23_copy 137 rfl) (fun h225 E225 => ?_)
        refine g_bipush (pc := 226) X (n := 6) rfl (dl_at t_X23_copy 138 rfl) ?_
        refine g_iload_n (pc := 228) X (j := 2) (i := 2) (q := 2) (x := x2_122) rfl rfl (dl_at t_X23_copy 139 rfl) ?_
        refine g_imul (pc := 229) X (r32_c rfl) r2_122 (dl_at t_X23_copy 140 rfl) ?_
        refine g_lti (r32_w _) fun x3_230 r3_230 => ?_
        refine g_istore_nN (pc := 230) X (j := 3) (i := 3) (x := x3_230) (b := 2) (w := iv x2_122) (rest := [(0, rv D a0), (1, rv D a1)]) rfl (Nat.le_of_ble_eq_true rfl) [2, 0, 1] rfl (by decide) rfl rfl (dl_at t_X23_copy 141 rfl) ?_
        refine g_ls (ls2 := [(0, rv D a0), (1, rv D a1), (2, iv x2_122), (3, iv x3_230)]) [2, 3, 1, 0] rfl ?_
        refine g_loop1 (fun (q : Int × Hp) => [(0, rv D a0), (1, rv D a1), (2, iv x2_122), (3, iv q.1)]) (fun (q : Int × Hp) => q.2) (fun (q : Int × Hp) => r32 q.1 ∧ Ext h225 q.2) 300 (fun (y300 : Hp) => [(0, rv D a0), (1, rv D a1), (2, iv x2_122)]) (fun (y300 : Hp) => y300) (fun (y300 : Hp) => Ext h225 y300) (x3_230, h225) ⟨r3_230, (Ext.refl _)⟩ ?_ ?_
        · rintro ⟨x3_231, h_231⟩ ⟨r3_231, E_231⟩
          try dsimp only
          unfold m_X23_copy_l231
          refine g_iload_n (pc := 231) X (j := 3) (i := 3) (q := 3) (x := x3_231) rfl rfl (dl_at t_X23_copy 142 rfl) ?_
          refine g_bipush (pc := 232) X (n := 6) rfl (dl_at t_X23_copy 143 rfl) ?_
          refine g_iload_n (pc := 234) X (j := 2) (i := 2) (q := 2) (x := x2_122) rfl rfl (dl_at t_X23_copy 144 rfl) ?_
          refine g_imul (pc := 235) X (r32_c rfl) r2_122 (dl_at t_X23_copy 145 rfl) ?_
          refine g_aload_n (pc := 236) X (j := 0) (i := 0) (q := 0) (x := a0) rfl rfl (dl_at t_X23_copy 146 rfl) ?_
          have k237 := kx (E225.trans E_231) (by decide) k215
          refine r_getr (pc := 237) X fX23_14 k237 q3554 (dl_at t_X23_copy 147 rfl) ?_
          refine g_iload_n (pc := 240) X (j := 2) (i := 2) (q := 2) (x := x2_122) rfl rfl (dl_at t_X23_copy 148 rfl) ?_
          refine g_gd fun k241 => ?_
          refine g_iald (pc := 241) X r2_122 k241 (dl_at t_X23_copy 149 rfl) fun g241 => ?_
          refine g_iadd (pc := 242) X (r32_w _) g241 (dl_at t_X23_copy 150 rfl) ?_
          refine g_icmpge (pc := 243) X r3_231 (r32_w _) (off := 57) (tgt := 300) rfl (dl_at t_X23_copy 151 rfl) (fun _ => ?_) (fun _ => ?_)
          · refine g_ls (ls2 := [(0, rv D a0), (1, rv D a1), (2, iv x2_122)]) [0, 1, 2] rfl ?_
            exact g_at fun Q hQ => hQ E_231
          refine g_aload_n (pc := 246) X (j := 0) (i := 0) (q := 0) (x := a0) rfl rfl (dl_at t_X23_copy 152 rfl) ?_
          refine r_getr (pc := 247) X fX23_17 k237 q3562 (dl_at t_X23_copy 153 rfl) ?_
          refine g_iload_n (pc := 250) X (j := 3) (i := 3) (q := 3) (x := x3_231) rfl rfl (dl_at t_X23_copy 154 rfl) ?_
          refine g_aload_n (pc := 251) X (j := 1) (i := 1) (q := 1) (x := a1) rfl rfl (dl_at t_X23_copy 155 rfl) ?_
          have k252 := kx (E225.trans E_231) (by decide) k220
          refine r_getr (pc := 252) X fX23_17 k252 q3562 (dl_at t_X23_copy 156 rfl) ?_
          refine g_iload_n (pc := 255) X (j := 3) (i := 3) (q := 3) (x := x3_231) rfl rfl (dl_at t_X23_copy 157 rfl) ?_
          refine g_gd fun k256 => ?_
          refine g_iald (pc := 256) X r3_231 k256 (dl_at t_X23_copy 158 rfl) fun g256 => ?_
          refine g_gd fun k257 => ?_
          refine r_iast (pc := 257) X r3_231 g256 k257 (dl_at t_X23_copy 159 rfl) (fun h257 E257 => ?_)
          refine g_aload_n (pc := 258) X (j := 0) (i := 0) (q := 0) (x := a0) rfl rfl (dl_at t_X23_copy 160 rfl) ?_
          have k259 := kx E257 (by decide) k237
          refine r_getr (pc := 259) X fX23_18 k259 q3563 (dl_at t_X23_copy 161 rfl) ?_
          refine g_iload_n (pc := 262) X (j := 3) (i := 3) (q := 3) (x := x3_231) rfl rfl (dl_at t_X23_copy 162 rfl) ?_
          refine g_aload_n (pc := 263) X (j := 1) (i := 1) (q := 1) (x := a1) rfl rfl (dl_at t_X23_copy 163 rfl) ?_
          have k264 := kx E257 (by decide) k252
          refine r_getr (pc := 264) X fX23_18 k264 q3563 (dl_at t_X23_copy 164 rfl) ?_
          refine g_iload_n (pc := 267) X (j := 3) (i := 3) (q := 3) (x := x3_231) rfl rfl (dl_at t_X23_copy 165 rfl) ?_
          refine g_gd fun k268 => ?_
          refine g_iald (pc := 268) X r3_231 k268 (dl_at t_X23_copy 166 rfl) fun g268 => ?_
          refine g_gd fun k269 => ?_
          refine r_iast (pc := 269) X r3_231 g268 k269 (dl_at t_X23_copy 167 rfl) (fun h269 E269 => ?_)
          refine g_aload_n (pc := 270) X (j := 0) (i := 0) (q := 0) (x := a0) rfl rfl (dl_at t_X23_copy 168 rfl) ?_
          have k271 := kx E269 (by decide) k259
          refine r_getr (pc := 271) X fX23_19 k271 q3564 (dl_at t_X23_copy 169 rfl) ?_
          refine g_iload_n (pc := 274) X (j := 3) (i := 3) (q := 3) (x := x3_231) rfl rfl (dl_at t_X23_copy 170 rfl) ?_
          refine g_aload_n (pc := 275) X (j := 1) (i := 1) (q := 1) (x := a1) rfl rfl (dl_at t_X23_copy 171 rfl) ?_
          have k276 := kx E269 (by decide) k264
          refine r_getr (pc := 276) X fX23_19 k276 q3564 (dl_at t_X23_copy 172 rfl) ?_
          refine g_iload_n (pc := 279) X (j := 3) (i := 3) (q := 3) (x := x3_231) rfl rfl (dl_at t_X23_copy 173 rfl) ?_
          refine g_gd fun k280 => ?_
          refine g_iald (pc := 280) X r3_231 k280 (dl_at t_X23_copy 174 rfl) fun g280 => ?_
          refine g_gd fun k281 => ?_
          refine r_iast (pc := 281) X r3_231 g280 k281 (dl_at t_X23_copy 175 rfl) (fun h281 E281 => ?_)
          refine g_aload_n (pc := 282) X (j := 0) (i := 0) (q := 0) (x := a0) rfl rfl (dl_at t_X23_copy 176 rfl) ?_
          have k283 := kx E281 (by decide) k271
          refine r_getr (pc := 283) X fX23_20 k283 q3567 (dl_at t_X23_copy 177 rfl) ?_
          refine g_iload_n (pc := 286) X (j := 3) (i := 3) (q := 3) (x := x3_231) rfl rfl (dl_at t_X23_copy 178 rfl) ?_
          refine g_aload_n (pc := 287) X (j := 1) (i := 1) (q := 1) (x := a1) rfl rfl (dl_at t_X23_copy 179 rfl) ?_
          have k288 := kx E281 (by decide) k276
          refine r_getr (pc := 288) X fX23_20 k288 q3567 (dl_at t_X23_copy 180 rfl) ?_
          refine g_iload_n (pc := 291) X (j := 3) (i := 3) (q := 3) (x := x3_231) rfl rfl (dl_at t_X23_copy 181 rfl) ?_
          refine g_gd fun k292 => ?_
          refine g_iald (pc := 292) X r3_231 k292 (dl_at t_X23_copy 182 rfl) fun g292 => ?_
          refine g_gd fun k293 => ?_
          refine r_iast (pc := 293) X r3_231 g292 k293 (dl_at t_X23_copy 183 rfl) (fun h293 E293 => ?_)
          refine r_iincN (pc := 294) X (i := 3) (q := 3) (n := 1) (x := x3_231) (b := 2) (w := iv x2_122) (rest := [(0, rv D a0), (1, rv D a1)]) rfl r3_231 (r32_c rfl) (Nat.le_of_ble_eq_true rfl) [2, 0, 1] rfl (by decide) rfl rfl (dl_at t_X23_copy 184 rfl) fun x3_294 r3_294 => ?_
          refine g_goto (pc := 297) X (off := (-66)) (tgt := 231) rfl (dl_at t_X23_copy 185 rfl) ?_
          refine g_ls (ls2 := [(0, rv D a0), (1, rv D a1), (2, iv x2_122), (3, iv x3_294)]) [2, 3, 1, 0] rfl ?_
          exact g_at fun Q hQ => hQ ⟨r3_294, (E_231.trans (E257.trans (E269.trans (E281.trans E293))))⟩
        · rintro h_300 E_300
          try dsimp only [sE]
          refine r_iincN (pc := 300) X (i := 2) (q := 2) (n := 1) (x := x2_122) (b := 1) (w := rv D a1) (rest := [(0, rv D a0)]) rfl r2_122 (r32_c rfl) (Nat.le_of_ble_eq_true rfl) [1, 0] rfl (by decide) rv_cat rfl (dl_at t_X23_copy 186 rfl) fun x2_300 r2_300 => ?_
          refine g_goto (pc := 303) X (off := (-181)) (tgt := 122) rfl (dl_at t_X23_copy 187 rfl) ?_
          refine g_ls (ls2 := [(0, rv D a0), (1, rv D a1), (2, iv x2_300)]) [2, 1, 0] rfl ?_
          exact g_at fun Q hQ => hQ ⟨r2_300, (E_122.trans (E141.trans (E153.trans (E165.trans (E177.trans (E189.trans (E201.trans (E213.trans (E225.trans E_300)))))))))⟩
def k_X24_relations : List (Nat × Instr × Nat) := [(0, .iconst 0, 1), (1, .istore_n 1, 1), (2, .iload_n 1, 1), (3, .aload_n 0, 1), (4, .getfield 12, 3), (7, .getfield 119, 3), (10, .if_icmp .gt 23, 3), (13, .aload_n 0, 1), (14, .getfield 81, 3), (17, .iload_n 1, 1), (18, .iconst 0, 1), (19, .iastore, 1), (20, .aload_n 0, 1), (21, .getfield 84, 3), (24, .iload_n 1, 1), (25, .iconst (-1), 1), (26, .iastore, 1), (27, .iinc 1 1, 3), (30, .goto (-28), 3), (33, .iconst 0, 1), (34, .istore_n 1, 1), (35, .iload_n 1, 1), (36, .aload_n 0, 1), (37, .getfield 12, 3), (40, .getfield 119, 3), (43, .if_icmp .ge 69, 3), (46, .aload_n 0, 1), (47, .getfield 12, 3), (50, .getfield 139, 3), (53, .iload_n 1, 1), (54, .iaload, 1), (55, .iconst 1, 1), (56, .iadd, 1), (57, .istore_n 2, 1), (58, .aload_n 0, 1), (59, .getfield 75, 3), (62, .iload_n 1, 1), (63, .aload_n 0, 1), (64, .getfield 84, 3), (67, .iload_n 2, 1), (68, .iaload, 1), (69, .iastore, 1), (70, .aload_n 0, 1), (71, .getfield 84, 3), (74, .iload_n 2, 1), (75, .iload_n 1, 1), (76, .iastore, 1), (77, .aload_n 0, 1), (78, .getfield 81, 3), (81, .iload_n 2, 1), (82, .dup2, 1), (83, .iaload, 1), (84, .iconst 1, 1), (85, .iadd, 1), (86, .iastore, 1), (87, .aload_n 0, 1), (88, .getfield 78, 3), (91, .iload_n 1, 1), (92, .aload_n 0, 1), (93, .getfield 81, 3), (96, .iload_n 2, 1), (97, .iaload, 1), (98, .iastore, 1), (99, .aload_n 0, 1), (100, .getfield 87, 3), (103, .iload_n 1, 1), (104, .iconst 0, 1), (105, .bastore, 1), (106, .iinc 1 1, 3), (109, .goto (-74), 3), (112, .iconst (-1), 1), (113, .istore_n 1, 1), (114, .iconst 0, 1), (115, .istore_n 2, 1), (116, .iload_n 2, 1), (117, .aload_n 0, 1), (118, .getfield 12, 3), (121, .getfield 142, 3), (124, .if_icmp .ge 83, 3), (127, .aload_n 0, 1), (128, .getfield 12, 3), (131, .getfield 145, 3), (134, .iload_n 2, 1), (135, .iaload, 1), (136, .iconst 1, 1), (137, .if_icmp .ne 27, 3), (140, .iload_n 1, 1), (141, .ifCond .lt 10, 3), (144, .aload_n 0, 1), (145, .getfield 87, 3), (148, .iload_n 1, 1), (149, .iconst 1, 1), (150, .bastore, 1), (151, .aload_n 0, 1), (152, .getfield 12, 3), (155, .getfield 148, 3), (158, .iload_n 2, 1), (159, .iaload, 1), (160, .istore_n 1, 1), (161, .goto 40, 3), (164, .aload_n 0, 1), (165, .getfield 12, 3), (168, .getfield 145, 3), (171, .iload_n 2, 1), (172, .iaload, 1), (173, .iconst 2, 1), (174, .if_icmp .ne 16, 3), (177, .aload_n 0, 1), (178, .getfield 12, 3), (181, .getfield 139, 3), (184, .iload_n 1, 1), (185, .iaload, 1), (186, .istore_n 1, 1), (187, .goto 14, 3), (190, .iload_n 1, 1), (191, .ifCond .lt 10, 3), (194, .aload_n 0, 1), (195, .getfield 87, 3), (198, .iload_n 1, 1), (199, .iconst 1, 1), (200, .bastore, 1), (201, .iinc 2 1, 3), (204, .goto (-88), 3), (207, .return_, 1)]
theorem t_X24_relations : ∀ q ∈ k_X24_relations, decode cX24_relations q.1 = .ok q.2 := dl_all (by decide +kernel)
noncomputable def m_X24_relations_l2 (a0 x1_2 : Int) (h_2 : Hp) : Option ((Int × Hp) ⊕ ((Hp))) :=
  gd (h_2 (h_2 a0 0) (-2) = 384) (if (h_2 (h_2 a0 0) 3) < x1_2 then (some (.inr h_2))
  else (gd (h_2 (h_2 a0 21) (-2) % 16 = 1 ∧ (0 : Int) ≤ x1_2 ∧ x1_2 < h_2 (h_2 a0 21) (-1)) (pt h_2 (h_2 a0 21) x1_2 0 fun h19 =>
  gd (h19 (h19 a0 22) (-2) % 16 = 1 ∧ (0 : Int) ≤ x1_2 ∧ x1_2 < h19 (h19 a0 22) (-1)) (pt h19 (h19 a0 22) x1_2 (-1) fun h26 =>
  lt_ (w32 (x1_2 + 1)) fun x1_27 =>
  some (.inl (x1_27, h26))))))
noncomputable def m_X24_relations_l35 (a0 x1_35 : Int) (h_35 : Hp) : Option ((Int × Hp) ⊕ ((Hp))) :=
  gd (h_35 (h_35 a0 0) (-2) = 384) (if (h_35 (h_35 a0 0) 3) ≤ x1_35 then (some (.inr h_35))
  else (gd (h_35 (h_35 (h_35 a0 0) 11) (-2) % 16 = 1 ∧ (0 : Int) ≤ x1_35 ∧ x1_35 < h_35 (h_35 (h_35 a0 0) 11) (-1)) (lt_ (w32 ((h_35 (h_35 (h_35 a0 0) 11) x1_35) + 1)) fun x2_57 =>
  gd (h_35 (h_35 a0 22) (-2) % 16 = 1 ∧ (0 : Int) ≤ x2_57 ∧ x2_57 < h_35 (h_35 a0 22) (-1)) (gd (h_35 (h_35 a0 19) (-2) % 16 = 1 ∧ (0 : Int) ≤ x1_35 ∧ x1_35 < h_35 (h_35 a0 19) (-1)) (pt h_35 (h_35 a0 19) x1_35 (h_35 (h_35 a0 22) x2_57) fun h69 =>
  gd (h69 (h69 a0 22) (-2) % 16 = 1 ∧ (0 : Int) ≤ x2_57 ∧ x2_57 < h69 (h69 a0 22) (-1)) (pt h69 (h69 a0 22) x2_57 x1_35 fun h76 =>
  gd (h76 (h76 a0 21) (-2) % 16 = 1 ∧ (0 : Int) ≤ x2_57 ∧ x2_57 < h76 (h76 a0 21) (-1)) (pt h76 (h76 a0 21) x2_57 (w32 ((h76 (h76 a0 21) x2_57) + 1)) fun h86 =>
  gd (h86 (h86 a0 21) (-2) % 16 = 1 ∧ (0 : Int) ≤ x2_57 ∧ x2_57 < h86 (h86 a0 21) (-1)) (gd (h86 (h86 a0 20) (-2) % 16 = 1 ∧ (0 : Int) ≤ x1_35 ∧ x1_35 < h86 (h86 a0 20) (-1)) (pt h86 (h86 a0 20) x1_35 (h86 (h86 a0 21) x2_57) fun h98 =>
  gd (h98 (h98 a0 23) (-2) % 16 = 3 ∧ (0 : Int) ≤ x1_35 ∧ x1_35 < h98 (h98 a0 23) (-1)) (pt h98 (h98 a0 23) x1_35 0 fun h105 =>
  lt_ (w32 (x1_35 + 1)) fun x1_106 =>
  some (.inl (x1_106, h105))))))))))))
noncomputable def m_X24_relations_j201 (x2_116 x1_201 : Int) (h_201 : Hp) : Option ((Int × Int × Hp) ⊕ ((Hp))) :=
  lt_ (w32 (x2_116 + 1)) fun x2_201 =>
  some (.inl (x1_201, x2_201, h_201))
noncomputable def m_X24_relations_j151 (a0 x2_116 : Int) (h_151 : Hp) : Option ((Int × Int × Hp) ⊕ ((Hp))) :=
  gd (h_151 (h_151 a0 0) (-2) = 384) (gd (h_151 (h_151 (h_151 a0 0) 7) (-2) % 16 = 1 ∧ (0 : Int) ≤ x2_116 ∧ x2_116 < h_151 (h_151 (h_151 a0 0) 7) (-1)) (lt_ (h_151 (h_151 (h_151 a0 0) 7) x2_116) fun x1_160 =>
  m_X24_relations_j201 x2_116 x1_160 h_151))
noncomputable def m_X24_relations_l116 (a0 x1_116 x2_116 : Int) (h_116 : Hp) : Option ((Int × Int × Hp) ⊕ ((Hp))) :=
  gd (h_116 (h_116 a0 0) (-2) = 384) (if (h_116 (h_116 a0 0) 2) ≤ x2_116 then (some (.inr h_116))
  else (gd (h_116 (h_116 (h_116 a0 0) 6) (-2) % 16 = 1 ∧ (0 : Int) ≤ x2_116 ∧ x2_116 < h_116 (h_116 (h_116 a0 0) 6) (-1)) (if (h_116 (h_116 (h_116 a0 0) 6) x2_116) ≠ 1 then (if (h_116 (h_116 (h_116 a0 0) 6) x2_116) ≠ 2 then (if x1_116 < 0 then (m_X24_relations_j201 x2_116 x1_116 h_116)
  else (gd (h_116 (h_116 a0 23) (-2) % 16 = 3 ∧ (0 : Int) ≤ x1_116 ∧ x1_116 < h_116 (h_116 a0 23) (-1)) (pt h_116 (h_116 a0 23) x1_116 1 fun h200 =>
  m_X24_relations_j201 x2_116 x1_116 h200)))
  else (gd (h_116 (h_116 (h_116 a0 0) 11) (-2) % 16 = 1 ∧ (0 : Int) ≤ x1_116 ∧ x1_116 < h_116 (h_116 (h_116 a0 0) 11) (-1)) (lt_ (h_116 (h_116 (h_116 a0 0) 11) x1_116) fun x1_186 =>
  m_X24_relations_j201 x2_116 x1_186 h_116)))
  else (if x1_116 < 0 then (m_X24_relations_j151 a0 x2_116 h_116)
  else (gd (h_116 (h_116 a0 23) (-2) % 16 = 3 ∧ (0 : Int) ≤ x1_116 ∧ x1_116 < h_116 (h_116 a0 23) (-1)) (pt h_116 (h_116 a0 23) x1_116 1 fun h150 =>
  m_X24_relations_j151 a0 x2_116 h150))))))
noncomputable def m_X24_relations (a0 : Int) (h : Hp) : Option (Hp) :=
  lt_ 0 fun x1_1 =>
  (lp (fun (q : Int × Hp) => m_X24_relations_l2 a0 q.1 q.2) (x1_1, h)).bind (fun (y33 : Hp) => lt_ 0 fun x1_34 =>
  (lp (fun (q : Int × Hp) => m_X24_relations_l35 a0 q.1 q.2) (x1_34, y33)).bind (fun (y112 : Hp) => lt_ (-1) fun x1_113 =>
  lt_ 0 fun x2_115 =>
  (lp (fun (q : Int × Int × Hp) => m_X24_relations_l116 a0 q.1 q.2.1 q.2.2) (x1_113, x2_115, y112)).bind (fun (x : Hp) => some x)))
theorem s_X24_relations {l : Launch} [NoTr l] {D : SD} {a0 : Int} {h : Hp} (hk : h a0 (-2) = 400) {r : Hp} (hm : m_X24_relations a0 h = some r) : Sim l D yX24_relations (Cond.code yX24_relations cX24_relations 3 (Option.none : Option Jvm.ClassFile.FieldType)) 0 0 [rv D a0] h 0 ((0, 0), r) := by
  refine Sim.of (fin := fun (v : Hp) => ((0, 0), v)) (lsE := [(0, rv D a0)]) hm rfl cwS_code (la_r la_n) (ll_r ll_n) ?_
  intro p e s m below meth c X hcw hmm hcc hnm hname
  unfold m_X24_relations
  refine g_iconst (pc := 0) X (n := 0) (dl_at t_X24_relations 0 rfl) ?_
  refine g_ltz (Or.inl rfl) fun x1_1 r1_1 => ?_
  refine g_istore_nN (pc := 1) X (j := 1) (i := 1) (x := x1_1) (b := 0) (w := rv D a0) (rest := []) rfl (Nat.le_of_ble_eq_true rfl) [0] rfl (by decide) rv_cat rfl (dl_at t_X24_relations 1 rfl) ?_
  refine g_ls (ls2 := [(0, rv D a0), (1, iv x1_1)]) [1, 0] rfl ?_
  refine g_loop1 (fun (q : Int × Hp) => [(0, rv D a0), (1, iv q.1)]) (fun (q : Int × Hp) => q.2) (fun (q : Int × Hp) => r32 q.1 ∧ Ext h q.2) 33 (fun (y33 : Hp) => [(0, rv D a0)]) (fun (y33 : Hp) => y33) (fun (y33 : Hp) => Ext h y33) (x1_1, h) ⟨(r32_z r1_1), (Ext.refl _)⟩ ?_ ?_
  · rintro ⟨x1_2, h_2⟩ ⟨r1_2, E_2⟩
    try dsimp only
    unfold m_X24_relations_l2
    refine g_iload_n (pc := 2) X (j := 1) (i := 1) (q := 1) (x := x1_2) rfl rfl (dl_at t_X24_relations 2 rfl) ?_
    refine g_aload_n (pc := 3) X (j := 0) (i := 0) (q := 0) (x := a0) rfl rfl (dl_at t_X24_relations 3 rfl) ?_
    have k4 := kx E_2 (by decide) hk
    refine r_getr (pc := 4) X fX24_0 k4 q3642 (dl_at t_X24_relations 4 rfl) ?_
    refine g_gd fun k7 => ?_
    refine r_geti (pc := 7) X fX23_3 k7 q3527 (dl_at t_X24_relations 5 rfl) fun g7 => ?_
    refine g_icmpgt (pc := 10) X r1_2 g7 (off := 23) (tgt := 33) rfl (dl_at t_X24_relations 6 rfl) (fun _ => ?_) (fun _ => ?_)
    · refine g_ls (ls2 := [(0, rv D a0)]) [0] rfl ?_
      exact g_at fun Q hQ => hQ E_2
    refine g_aload_n (pc := 13) X (j := 0) (i := 0) (q := 0) (x := a0) rfl rfl (dl_at t_X24_relations 7 rfl) ?_
    refine r_getr (pc := 14) X fX24_21 k4 q3683 (dl_at t_X24_relations 8 rfl) ?_
    refine g_iload_n (pc := 17) X (j := 1) (i := 1) (q := 1) (x := x1_2) rfl rfl (dl_at t_X24_relations 9 rfl) ?_
    refine g_iconst (pc := 18) X (n := 0) (dl_at t_X24_relations 10 rfl) ?_
    refine g_gd fun k19 => ?_
    refine r_iast (pc := 19) X r1_2 (r32_c rfl) k19 (dl_at t_X24_relations 11 rfl) (fun h19 E19 => ?_)
    refine g_aload_n (pc := 20) X (j := 0) (i := 0) (q := 0) (x := a0) rfl rfl (dl_at t_X24_relations 12 rfl) ?_
    have k21 := kx E19 (by decide) k4
    refine r_getr (pc := 21) X fX24_22 k21 q3684 (dl_at t_X24_relations 13 rfl) ?_
    refine g_iload_n (pc := 24) X (j := 1) (i := 1) (q := 1) (x := x1_2) rfl rfl (dl_at t_X24_relations 14 rfl) ?_
    refine g_iconst (pc := 25) X (n := (-1)) (dl_at t_X24_relations 15 rfl) ?_
    refine g_gd fun k26 => ?_
    refine r_iast (pc := 26) X r1_2 (r32_c rfl) k26 (dl_at t_X24_relations 16 rfl) (fun h26 E26 => ?_)
    refine r_iincN (pc := 27) X (i := 1) (q := 1) (n := 1) (x := x1_2) (b := 0) (w := rv D a0) (rest := []) rfl r1_2 (r32_c rfl) (Nat.le_of_ble_eq_true rfl) [0] rfl (by decide) rv_cat rfl (dl_at t_X24_relations 17 rfl) fun x1_27 r1_27 => ?_
    refine g_goto (pc := 30) X (off := (-28)) (tgt := 2) rfl (dl_at t_X24_relations 18 rfl) ?_
    refine g_ls (ls2 := [(0, rv D a0), (1, iv x1_27)]) [1, 0] rfl ?_
    exact g_at fun Q hQ => hQ ⟨r1_27, (E_2.trans (E19.trans E26))⟩
  · rintro h_33 E_33
    try dsimp only [sE]
    refine g_iconst (pc := 33) X (n := 0) (dl_at t_X24_relations 19 rfl) ?_
    refine g_ltz (Or.inl rfl) fun x1_34 r1_34 => ?_
    refine g_istore_nN (pc := 34) X (j := 1) (i := 1) (x := x1_34) (b := 0) (w := rv D a0) (rest := []) rfl (Nat.le_of_ble_eq_true rfl) [0] rfl (by decide) rv_cat rfl (dl_at t_X24_relations 20 rfl) ?_
    refine g_ls (ls2 := [(0, rv D a0), (1, iv x1_34)]) [1, 0] rfl ?_
    refine g_loop1 (fun (q : Int × Hp) => [(0, rv D a0), (1, iv q.1)]) (fun (q : Int × Hp) => q.2) (fun (q : Int × Hp) => r32 q.1 ∧ Ext h_33 q.2) 112 (fun (y112 : Hp) => [(0, rv D a0)]) (fun (y112 : Hp) => y112) (fun (y112 : Hp) => Ext h_33 y112) (x1_34, h_33) ⟨(r32_z r1_34), (Ext.refl _)⟩ ?_ ?_
    · rintro ⟨x1_35, h_35⟩ ⟨r1_35, E_35⟩
      try dsimp only
      unfold m_X24_relations_l35
      refine g_iload_n (pc := 35) X (j := 1) (i := 1) (q := 1) (x := x1_35) rfl rfl (dl_at t_X24_relations 21 rfl) ?_
      refine g_aload_n (pc := 36) X (j := 0) (i := 0) (q := 0) (x := a0) rfl rfl (dl_at t_X24_relations 22 rfl) ?_
      have k37 := kx (E_33.trans E_35) (by decide) hk
      refine r_getr (pc := 37) X fX24_0 k37 q3642 (dl_at t_X24_relations 23 rfl) ?_
      refine g_gd fun k40 => ?_
      refine r_geti (pc := 40) X fX23_3 k40 q3527 (dl_at t_X24_relations 24 rfl) fun g40 => ?_
      refine g_icmpge (pc := 43) X r1_35 g40 (off := 69) (tgt := 112) rfl (dl_at t_X24_relations 25 rfl) (fun _ => ?_) (fun _ => ?_)
      · refine g_ls (ls2 := [(0, rv D a0)]) [0] rfl ?_
        exact g_at fun Q hQ => hQ E_35
      refine g_aload_n (pc := 46) X (j := 0) (i := 0) (q := 0) (x := a0) rfl rfl (dl_at t_X24_relations 26 rfl) ?_
      refine r_getr (pc := 47) X fX24_0 k37 q3642 (dl_at t_X24_relations 27 rfl) ?_
      refine r_getr (pc := 50) X fX23_11 k40 q3547 (dl_at t_X24_relations 28 rfl) ?_
      refine g_iload_n (pc := 53) X (j := 1) (i := 1) (q := 1) (x := x1_35) rfl rfl (dl_at t_X24_relations 29 rfl) ?_
      refine g_gd fun k54 => ?_
      refine g_iald (pc := 54) X r1_35 k54 (dl_at t_X24_relations 30 rfl) fun g54 => ?_
      refine g_iconst (pc := 55) X (n := 1) (dl_at t_X24_relations 31 rfl) ?_
      refine g_iadd (pc := 56) X g54 (r32_c rfl) (dl_at t_X24_relations 32 rfl) ?_
      refine g_lti (r32_w _) fun x2_57 r2_57 => ?_
      refine g_istore_nN (pc := 57) X (j := 2) (i := 2) (x := x2_57) (b := 1) (w := iv x1_35) (rest := [(0, rv D a0)]) rfl (Nat.le_of_ble_eq_true rfl) [1, 0] rfl (by decide) rfl rfl (dl_at t_X24_relations 33 rfl) ?_
      refine g_aload_n (pc := 58) X (j := 0) (i := 0) (q := 2) (x := a0) rfl rfl (dl_at t_X24_relations 34 rfl) ?_
      refine r_getr (pc := 59) X fX24_19 k37 q3681 (dl_at t_X24_relations 35 rfl) ?_
      refine g_iload_n (pc := 62) X (j := 1) (i := 1) (q := 1) (x := x1_35) rfl rfl (dl_at t_X24_relations 36 rfl) ?_
      refine g_aload_n (pc := 63) X (j := 0) (i := 0) (q := 2) (x := a0) rfl rfl (dl_at t_X24_relations 37 rfl) ?_
      refine r_getr (pc := 64) X fX24_22 k37 q3684 (dl_at t_X24_relations 38 rfl) ?_
      refine g_iload_n (pc := 67) X (j := 2) (i := 2) (q := 0) (x := x2_57) rfl rfl (dl_at t_X24_relations 39 rfl) ?_
      refine g_gd fun k68 => ?_
      refine g_iald (pc := 68) X r2_57 k68 (dl_at t_X24_relations 40 rfl) fun g68 => ?_
      refine g_gd fun k69 => ?_
      refine r_iast (pc := 69) X r1_35 g68 k69 (dl_at t_X24_relations 41 rfl) (fun h69 E69 => ?_)
      refine g_aload_n (pc := 70) X (j := 0) (i := 0) (q := 2) (x := a0) rfl rfl (dl_at t_X24_relations 42 rfl) ?_
      have k71 := kx E69 (by decide) k37
      refine r_getr (pc := 71) X fX24_22 k71 q3684 (dl_at t_X24_relations 43 rfl) ?_
      refine g_iload_n (pc := 74) X (j := 2) (i := 2) (q := 0) (x := x2_57) rfl rfl (dl_at t_X24_relations 44 rfl) ?_
      refine g_iload_n (pc := 75) X (j := 1) (i := 1) (q := 1) (x := x1_35) rfl rfl (dl_at t_X24_relations 45 rfl) ?_
      refine g_gd fun k76 => ?_
      refine r_iast (pc := 76) X r2_57 r1_35 k76 (dl_at t_X24_relations 46 rfl) (fun h76 E76 => ?_)
      refine g_aload_n (pc := 77) X (j := 0) (i := 0) (q := 2) (x := a0) rfl rfl (dl_at t_X24_relations 47 rfl) ?_
      have k78 := kx E76 (by decide) k71
      refine r_getr (pc := 78) X fX24_21 k78 q3683 (dl_at t_X24_relations 48 rfl) ?_
      refine g_iload_n (pc := 81) X (j := 2) (i := 2) (q := 0) (x := x2_57) rfl rfl (dl_at t_X24_relations 49 rfl) ?_
      refine g_dup2 (pc := 82) X rfl rv_cat (dl_at t_X24_relations 50 rfl) ?_
      refine g_gd fun k83 => ?_
      refine g_iald (pc := 83) X r2_57 k83 (dl_at t_X24_relations 51 rfl) fun g83 => ?_
      refine g_iconst (pc := 84) X (n := 1) (dl_at t_X24_relations 52 rfl) ?_
      refine g_iadd (pc := 85) X g83 (r32_c rfl) (dl_at t_X24_relations 53 rfl) ?_
      refine r_iast (pc := 86) X r2_57 (r32_w _) k83 (dl_at t_X24_relations 54 rfl) (fun h86 E86 => ?_)
      refine g_aload_n (pc := 87) X (j := 0) (i := 0) (q := 2) (x := a0) rfl rfl (dl_at t_X24_relations 55 rfl) ?_
      have k88 := kx E86 (by decide) k78
      refine r_getr (pc := 88) X fX24_20 k88 q3682 (dl_at t_X24_relations 56 rfl) ?_
      refine g_iload_n (pc := 91) X (j := 1) (i := 1) (q := 1) (x := x1_35) rfl rfl (dl_at t_X24_relations 57 rfl) ?_
      refine g_aload_n (pc := 92) X (j := 0) (i := 0) (q := 2) (x := a0) rfl rfl (dl_at t_X24_relations 58 rfl) ?_
      refine r_getr (pc := 93) X fX24_21 k88 q3683 (dl_at t_X24_relations 59 rfl) ?_
      refine g_iload_n (pc := 96) X (j := 2) (i := 2) (q := 0) (x := x2_57) rfl rfl (dl_at t_X24_relations 60 rfl) ?_
      refine g_gd fun k97 => ?_
      refine g_iald (pc := 97) X r2_57 k97 (dl_at t_X24_relations 61 rfl) fun g97 => ?_
      refine g_gd fun k98 => ?_
      refine r_iast (pc := 98) X r1_35 g97 k98 (dl_at t_X24_relations 62 rfl) (fun h98 E98 => ?_)
      refine g_aload_n (pc := 99) X (j := 0) (i := 0) (q := 2) (x := a0) rfl rfl (dl_at t_X24_relations 63 rfl) ?_
      have k100 := kx E98 (by decide) k88
      refine r_getr (pc := 100) X fX24_23 k100 q3685 (dl_at t_X24_relations 64 rfl) ?_
      refine g_iload_n (pc := 103) X (j := 1) (i := 1) (q := 1) (x := x1_35) rfl rfl (dl_at t_X24_relations 65 rfl) ?_
      refine g_iconst (pc := 104) X (n := 0) (dl_at t_X24_relations 66 rfl) ?_
      refine g_gd fun k105 => ?_
      refine r_zast (pc := 105) X r1_35 (Or.inl rfl) k105 (dl_at t_X24_relations 67 rfl) (fun h105 E105 => ?_)
      refine r_iincN (pc := 106) X (i := 1) (q := 1) (n := 1) (x := x1_35) (b := 0) (w := rv D a0) (rest := []) rfl r1_35 (r32_c rfl) (Nat.le_of_ble_eq_true rfl) [2] rfl (by decide) rv_cat rfl (dl_at t_X24_relations 68 rfl) fun x1_106 r1_106 => ?_
      refine g_goto (pc := 109) X (off := (-74)) (tgt := 35) rfl (dl_at t_X24_relations 69 rfl) ?_
      refine g_ls (ls2 := [(0, rv D a0), (1, iv x1_106)]) [1, 0] rfl ?_
      exact g_at fun Q hQ => hQ ⟨r1_106, (E_35.trans (E69.trans (E76.trans (E86.trans (E98.trans E105)))))⟩
    · rintro h_112 E_112
      try dsimp only [sE]
      refine g_iconst (pc := 112) X (n := (-1)) (dl_at t_X24_relations 70 rfl) ?_
      refine g_lti (r32_c rfl) fun x1_113 r1_113 => ?_
      refine g_istore_nN (pc := 113) X (j := 1) (i := 1) (x := x1_113) (b := 0) (w := rv D a0) (rest := []) rfl (Nat.le_of_ble_eq_true rfl) [0] rfl (by decide) rv_cat rfl (dl_at t_X24_relations 71 rfl) ?_
      refine g_iconst (pc := 114) X (n := 0) (dl_at t_X24_relations 72 rfl) ?_
      refine g_ltz (Or.inl rfl) fun x2_115 r2_115 => ?_
      refine g_istore_nN (pc := 115) X (j := 2) (i := 2) (x := x2_115) (b := 1) (w := iv x1_113) (rest := [(0, rv D a0)]) rfl (Nat.le_of_ble_eq_true rfl) [0, 1] rfl (by decide) rfl rfl (dl_at t_X24_relations 73 rfl) ?_
      refine g_ls (ls2 := [(0, rv D a0), (1, iv x1_113), (2, iv x2_115)]) [2, 1, 0] rfl ?_
      refine g_loop0F (fun (q : Int × Int × Hp) => [(0, rv D a0), (1, iv q.1), (2, iv q.2.1)]) (fun (q : Int × Int × Hp) => q.2.2) (fun (q : Int × Int × Hp) => r32 q.1 ∧ r32 q.2.1 ∧ Ext h_112 q.2.2) (x1_113, x2_115, h_112) ⟨r1_113, (r32_z r2_115), (Ext.refl _)⟩ ?_ (fun _ => rfl)
      · rintro ⟨x1_116, x2_116, h_116⟩ ⟨r1_116, r2_116, E_116⟩
        try dsimp only
        unfold m_X24_relations_l116
        refine g_iload_n (pc := 116) X (j := 2) (i := 2) (q := 2) (x := x2_116) rfl rfl (dl_at t_X24_relations 74 rfl) ?_
        refine g_aload_n (pc := 117) X (j := 0) (i := 0) (q := 0) (x := a0) rfl rfl (dl_at t_X24_relations 75 rfl) ?_
        have k118 := kx (E_33.trans (E_112.trans E_116)) (by decide) hk
        refine r_getr (pc := 118) X fX24_0 k118 q3642 (dl_at t_X24_relations 76 rfl) ?_
        refine g_gd fun k121 => ?_
        refine r_geti (pc := 121) X fX23_2 k121 q3523 (dl_at t_X24_relations 77 rfl) fun g121 => ?_
        refine g_icmpge (pc := 124) X r2_116 g121 (off := 83) (tgt := 207) rfl (dl_at t_X24_relations 78 rfl) (fun _ => ?_) (fun _ => ?_)
        · exact g_at fun Q hQ => (g_vret (pc := 207) X (v := 0) rfl rfl (dl_at t_X24_relations 123 rfl)) _ Q rfl hQ
        refine g_aload_n (pc := 127) X (j := 0) (i := 0) (q := 0) (x := a0) rfl rfl (dl_at t_X24_relations 79 rfl) ?_
        refine r_getr (pc := 128) X fX24_0 k118 q3642 (dl_at t_X24_relations 80 rfl) ?_
        refine r_getr (pc := 131) X fX23_6 k121 q3534 (dl_at t_X24_relations 81 rfl) ?_
        refine g_iload_n (pc := 134) X (j := 2) (i := 2) (q := 2) (x := x2_116) rfl rfl (dl_at t_X24_relations 82 rfl) ?_
        refine g_gd fun k135 => ?_
        refine g_iald (pc := 135) X r2_116 k135 (dl_at t_X24_relations 83 rfl) fun g135 => ?_
        refine g_iconst (pc := 136) X (n := 1) (dl_at t_X24_relations 84 rfl) ?_
        refine g_join (γ := Int × Hp) (fun q => r32 q.1 ∧ Ext h_116 q.2) 201 (fun q => [(0, rv D a0), (1, iv q.1), (2, iv x2_116)]) (fun q => []) (fun q => q.2) (fun q => m_X24_relations_j201 x2_116 q.1 q.2) ?_ ?_
        · rintro ⟨x1_201, h_201⟩ ⟨r1_201, E_201⟩
          try dsimp only
          unfold m_X24_relations_j201
          refine r_iincN (pc := 201) X (i := 2) (q := 2) (n := 1) (x := x2_116) (b := 1) (w := iv x1_201) (rest := [(0, rv D a0)]) rfl r2_116 (r32_c rfl) (Nat.le_of_ble_eq_true rfl) [1, 0] rfl (by decide) rfl rfl (dl_at t_X24_relations 121 rfl) fun x2_201 r2_201 => ?_
          refine g_goto (pc := 204) X (off := (-88)) (tgt := 116) rfl (dl_at t_X24_relations 122 rfl) ?_
          refine g_ls (ls2 := [(0, rv D a0), (1, iv x1_201), (2, iv x2_201)]) [2, 1, 0] rfl ?_
          exact g_at fun Q hQ => hQ ⟨r1_201, r2_201, (E_116.trans E_201)⟩
        intro J201
        refine g_icmpne (pc := 137) X g135 (r32_c rfl) (off := 27) (tgt := 164) rfl (dl_at t_X24_relations 85 rfl) (fun _ => ?_) (fun _ => ?_)
        · refine g_aload_n (pc := 164) X (j := 0) (i := 0) (q := 0) (x := a0) rfl rfl (dl_at t_X24_relations 100 rfl) ?_
          refine r_getr (pc := 165) X fX24_0 k118 q3642 (dl_at t_X24_relations 101 rfl) ?_
          refine r_getr (pc := 168) X fX23_6 k121 q3534 (dl_at t_X24_relations 102 rfl) ?_
          refine g_iload_n (pc := 171) X (j := 2) (i := 2) (q := 2) (x := x2_116) rfl rfl (dl_at t_X24_relations 103 rfl) ?_
          refine g_iald (pc := 172) X r2_116 k135 (dl_at t_X24_relations 104 rfl) fun g172 => ?_
          refine g_iconst (pc := 173) X (n := 2) (dl_at t_X24_relations 105 rfl) ?_
          refine g_icmpne (pc := 174) X g172 (r32_c rfl) (off := 16) (tgt := 190) rfl (dl_at t_X24_relations 106 rfl) (fun _ => ?_) (fun _ => ?_)
          · refine g_iload_n (pc := 190) X (j := 1) (i := 1) (q := 1) (x := x1_116) rfl rfl (dl_at t_X24_relations 114 rfl) ?_
            refine g_iflt (pc := 191) X r1_116 (off := 10) (tgt := 201) rfl (dl_at t_X24_relations 115 rfl) (fun _ => ?_) (fun _ => ?_)
            · exact J201 (x1_116, h_116) ⟨r1_116, (Ext.refl _)⟩
            refine g_aload_n (pc := 194) X (j := 0) (i := 0) (q := 0) (x := a0) rfl rfl (dl_at t_X24_relations 116 rfl) ?_
            refine r_getr (pc := 195) X fX24_23 k118 q3685 (dl_at t_X24_relations 117 rfl) ?_
            refine g_iload_n (pc := 198) X (j := 1) (i := 1) (q := 1) (x := x1_116) rfl rfl (dl_at t_X24_relations 118 rfl) ?_
            refine g_iconst (pc := 199) X (n := 1) (dl_at t_X24_relations 119 rfl) ?_
            refine g_gd fun k200 => ?_
            refine r_zast (pc := 200) X r1_116 (Or.inr rfl) k200 (dl_at t_X24_relations 120 rfl) (fun h200 E200 => ?_)
            exact J201 (x1_116, h200) ⟨r1_116, E200⟩
          refine g_aload_n (pc := 177) X (j := 0) (i := 0) (q := 0) (x := a0) rfl rfl (dl_at t_X24_relations 107 rfl) ?_
          refine r_getr (pc := 178) X fX24_0 k118 q3642 (dl_at t_X24_relations 108 rfl) ?_
          refine r_getr (pc := 181) X fX23_11 k121 q3547 (dl_at t_X24_relations 109 rfl) ?_
          refine g_iload_n (pc := 184) X (j := 1) (i := 1) (q := 1) (x := x1_116) rfl rfl (dl_at t_X24_relations 110 rfl) ?_
          refine g_gd fun k185 => ?_
          refine g_iald (pc := 185) X r1_116 k185 (dl_at t_X24_relations 111 rfl) fun g185 => ?_
          refine g_lti g185 fun x1_186 r1_186 => ?_
          refine g_istore_nN (pc := 186) X (j := 1) (i := 1) (x := x1_186) (b := 0) (w := rv D a0) (rest := [(2, iv x2_116)]) rfl (Nat.le_of_ble_eq_true rfl) [0, 2] rfl (by decide) rv_cat rfl (dl_at t_X24_relations 112 rfl) ?_
          refine g_goto (pc := 187) X (off := 14) (tgt := 201) rfl (dl_at t_X24_relations 113 rfl) ?_
          refine g_ls (ls2 := [(0, rv D a0), (1, iv x1_186), (2, iv x2_116)]) [1, 0, 2] rfl ?_
          exact J201 (x1_186, h_116) ⟨r1_186, (Ext.refl _)⟩
        refine g_iload_n (pc := 140) X (j := 1) (i := 1) (q := 1) (x := x1_116) rfl rfl (dl_at t_X24_relations 86 rfl) ?_
        refine g_join (γ := Hp) (fun q => Ext h_116 q) 151 (fun q => [(0, rv D a0), (2, iv x2_116)]) (fun q => []) (fun q => q) (fun q => m_X24_relations_j151 a0 x2_116 q) ?_ ?_
        · rintro h_151 E_151
          try dsimp only
          unfold m_X24_relations_j151
          refine g_aload_n (pc := 151) X (j := 0) (i := 0) (q := 0) (x := a0) rfl rfl (dl_at t_X24_relations 93 rfl) ?_
          have k152 := kx E_151 (by decide) k118
          refine r_getr (pc := 152) X fX24_0 k152 q3642 (dl_at t_X24_relations 94 rfl) ?_
          refine g_gd fun k155 => ?_
          refine r_getr (pc := 155) X fX23_7 k155 q3537 (dl_at t_X24_relations 95 rfl) ?_
          refine g_iload_n (pc := 158) X (j := 2) (i := 2) (q := 1) (x := x2_116) rfl rfl (dl_at t_X24_relations 96 rfl) ?_
          refine g_gd fun k159 => ?_
          refine g_iald (pc := 159) X r2_116 k159 (dl_at t_X24_relations 97 rfl) fun g159 => ?_
          refine g_lti g159 fun x1_160 r1_160 => ?_
          refine g_istore_nN (pc := 160) X (j := 1) (i := 1) (x := x1_160) (b := 0) (w := rv D a0) (rest := [(2, iv x2_116)]) rfl (Nat.le_of_ble_eq_true rfl) [0, 1] rfl (by decide) rv_cat rfl (dl_at t_X24_relations 98 rfl) ?_
          refine g_goto (pc := 161) X (off := 40) (tgt := 201) rfl (dl_at t_X24_relations 99 rfl) ?_
          refine g_ls (ls2 := [(0, rv D a0), (1, iv x1_160), (2, iv x2_116)]) [1, 0, 2] rfl ?_
          exact J201 (x1_160, h_151) ⟨r1_160, E_151⟩
        intro J151
        refine g_iflt (pc := 141) X r1_116 (off := 10) (tgt := 151) rfl (dl_at t_X24_relations 87 rfl) (fun _ => ?_) (fun _ => ?_)
        · refine g_ls (ls2 := [(0, rv D a0), (2, iv x2_116)]) [0, 2] rfl ?_
          exact J151 h_116 (Ext.refl _)
        refine g_aload_n (pc := 144) X (j := 0) (i := 0) (q := 0) (x := a0) rfl rfl (dl_at t_X24_relations 88 rfl) ?_
        refine r_getr (pc := 145) X fX24_23 k118 q3685 (dl_at t_X24_relations 89 rfl) ?_
        refine g_iload_n (pc := 148) X (j := 1) (i := 1) (q := 1) (x := x1_116) rfl rfl (dl_at t_X24_relations 90 rfl) ?_
        refine g_iconst (pc := 149) X (n := 1) (dl_at t_X24_relations 91 rfl) ?_
        refine g_gd fun k150 => ?_
        refine r_zast (pc := 150) X r1_116 (Or.inr rfl) k150 (dl_at t_X24_relations 92 rfl) (fun h150 E150 => ?_)
        refine g_ls (ls2 := [(0, rv D a0), (2, iv x2_116)]) [0, 2] rfl ?_
        exact J151 h150 E150
def k_X24_linked : List (Nat × Instr × Nat) := [(0, .iload 4, 2), (2, .ifCond .eq 5, 3), (5, .iconst 1, 1), (6, .ireturn, 1), (7, .aload_n 1, 1), (8, .getfield 220, 3), (11, .iload_n 2, 1), (12, .iaload, 1), (13, .istore 5, 2), (15, .iload 5, 2), (17, .bipush 62, 2), (19, .if_icmp .ne 38, 3), (22, .aload_n 0, 1), (23, .getfield 12, 3), (26, .getfield 139, 3), (29, .iload_n 3, 1), (30, .iaload, 1), (31, .ifCond .lt 24, 3), (34, .aload_n 0, 1), (35, .getfield 72, 3), (38, .aload_n 0, 1), (39, .getfield 12, 3), (42, .getfield 139, 3), (45, .iload_n 3, 1), (46, .iaload, 1), (47, .baload, 1), (48, .ifCond .eq 7, 3), (51, .iconst 1, 1), (52, .goto 4, 3), (55, .iconst 0, 1), (56, .ireturn, 1), (57, .iload 5, 2), (59, .bipush 43, 2), (61, .if_icmp .ne 32, 3), (64, .aload_n 0, 1), (65, .getfield 75, 3), (68, .iload_n 3, 1), (69, .iaload, 1), (70, .ifCond .lt 21, 3), (73, .aload_n 0, 1), (74, .getfield 72, 3), (77, .aload_n 0, 1), (78, .getfield 75, 3), (81, .iload_n 3, 1), (82, .iaload, 1), (83, .baload, 1), (84, .ifCond .eq 7, 3), (87, .iconst 1, 1), (88, .goto 4, 3), (91, .iconst 0, 1), (92, .ireturn, 1), (93, .aload_n 0, 1), (94, .getfield 12, 3), (97, .getfield 139, 3), (100, .iload_n 3, 1), (101, .iaload, 1), (102, .istore 6, 2), (104, .iload 6, 2), (106, .ifCond .lt 30, 3), (109, .aload_n 0, 1), (110, .getfield 72, 3), (113, .iload 6, 2), (115, .baload, 1), (116, .ifCond .eq 5, 3), (119, .iconst 1, 1), (120, .ireturn, 1), (121, .aload_n 0, 1), (122, .getfield 12, 3), (125, .getfield 139, 3), (128, .iload 6, 2), (130, .iaload, 1), (131, .istore 6, 2), (133, .goto (-29), 3), (136, .iconst 0, 1), (137, .ireturn, 1)]
theorem t_X24_linked : ∀ q ∈ k_X24_linked, decode cX24_linked q.1 = .ok q.2 := dl_all (by decide +kernel)
noncomputable def m_X24_linked_l104 (a0 x6_104 : Int) (h : Hp) : Option ((Int) ⊕ ((Int))) :=
  if x6_104 < 0 then (some (.inr 0))
  else (gd (h (h a0 18) (-2) % 16 = 3 ∧ (0 : Int) ≤ x6_104 ∧ x6_104 < h (h a0 18) (-1)) (if (h (h a0 18) x6_104) = 0 then (gd (h (h (h a0 0) 11) (-2) % 16 = 1 ∧ (0 : Int) ≤ x6_104 ∧ x6_104 < h (h (h a0 0) 11) (-1)) (lt_ (h (h (h a0 0) 11) x6_104) fun x6_131 =>
  some (.inl x6_131)))
  else (some (.inr 1))))
noncomputable def m_X24_linked (a0 a1 a2 a3 a4 : Int) (h : Hp) : Option (Int) :=
  if a4 = 0 then (gd (h a1 (-2) = 368) (gd (h (h a1 13) (-2) % 16 = 1 ∧ (0 : Int) ≤ a2 ∧ a2 < h (h a1 13) (-1)) (lt_ (h (h a1 13) a2) fun x5_13 =>
  if x5_13 ≠ 62 then (if x5_13 ≠ 43 then (gd (h (h a0 0) (-2) = 384) (gd (h (h (h a0 0) 11) (-2) % 16 = 1 ∧ (0 : Int) ≤ a3 ∧ a3 < h (h (h a0 0) 11) (-1)) (lt_ (h (h (h a0 0) 11) a3) fun x6_102 =>
  (lp (fun (q : Int) => m_X24_linked_l104 a0 q h) x6_102).bind (fun (x : Int) => some x))))
  else (gd (h (h a0 19) (-2) % 16 = 1 ∧ (0 : Int) ≤ a3 ∧ a3 < h (h a0 19) (-1)) (if (h (h a0 19) a3) < 0 then (some 0)
  else (gd (h (h a0 18) (-2) % 16 = 3 ∧ (0 : Int) ≤ (h (h a0 19) a3) ∧ (h (h a0 19) a3) < h (h a0 18) (-1)) (if (h (h a0 18) (h (h a0 19) a3)) = 0 then (some 0)
  else (some 1))))))
  else (gd (h (h a0 0) (-2) = 384) (gd (h (h (h a0 0) 11) (-2) % 16 = 1 ∧ (0 : Int) ≤ a3 ∧ a3 < h (h (h a0 0) 11) (-1)) (if (h (h (h a0 0) 11) a3) < 0 then (some 0)
  else (gd (h (h a0 18) (-2) % 16 = 3 ∧ (0 : Int) ≤ (h (h (h a0 0) 11) a3) ∧ (h (h (h a0 0) 11) a3) < h (h a0 18) (-1)) (if (h (h a0 18) (h (h (h a0 0) 11) a3)) = 0 then (some 0)
  else (some 1)))))))))
  else (some 1)
theorem s_X24_linked {l : Launch} [NoTr l] {D : SD} {a0 a1 a2 a3 a4 : Int} {h : Hp} (hk : h a0 (-2) = 400) (r2 : r32 a2) (r3 : r32 a3) (r4 : (a4 = 0 ∨ a4 = 1)) {r : Int} (hm : m_X24_linked a0 a1 a2 a3 a4 h = some r) : Sim l D yX24_linked (Cond.code yX24_linked cX24_linked 7 (Option.some Jvm.ClassFile.FieldType.boolean)) 0 0 [rv D a0, rv D a1, iv a2, iv a3, iv a4] h 3 ((0, r), h) := by
  refine Sim.of (fin := fun (v : Int) => ((0, v), h)) (lsE := [(0, rv D a0), (1, rv D a1), (2, iv a2), (3, iv a3), (4, iv a4)]) hm rfl cwS_code (la_r (la_r (la_i (la_i (la_i la_n))))) (ll_r (ll_r (ll_i (ll_i (ll_i ll_n))))) ?_
  intro p e s m below meth c X hcw hmm hcc hnm hname
  unfold m_X24_linked
  refine g_iload (pc := 0) X (i := 4) (q := 4) (x := a4) rfl (dl_at t_X24_linked 0 rfl) ?_
  refine g_ifeq (pc := 2) X (r32_z r4) (off := 5) (tgt := 7) rfl (dl_at t_X24_linked 1 rfl) (fun _ => ?_) (fun _ => ?_)
  · refine g_aload_n (pc := 7) X (j := 1) (i := 1) (q := 1) (x := a1) rfl rfl (dl_at t_X24_linked 4 rfl) ?_
    refine g_gd fun k8 => ?_
    refine r_getr (pc := 8) X fX22_13 k8 q3426 (dl_at t_X24_linked 5 rfl) ?_
    refine g_iload_n (pc := 11) X (j := 2) (i := 2) (q := 2) (x := a2) rfl rfl (dl_at t_X24_linked 6 rfl) ?_
    refine g_gd fun k12 => ?_
    refine g_iald (pc := 12) X r2 k12 (dl_at t_X24_linked 7 rfl) fun g12 => ?_
    refine g_lti g12 fun x5_13 r5_13 => ?_
    refine g_istore (pc := 13) X (i := 5) (x := x5_13) (rest := [(0, rv D a0), (3, iv a3)]) (Nat.le_of_ble_eq_true rfl) [0, 3] rfl rfl (dl_at t_X24_linked 8 rfl) ?_
    refine g_iload (pc := 15) X (i := 5) (q := 0) (x := x5_13) rfl (dl_at t_X24_linked 9 rfl) ?_
    refine g_bipush (pc := 17) X (n := 62) rfl (dl_at t_X24_linked 10 rfl) ?_
    refine g_icmpne (pc := 19) X r5_13 (r32_c rfl) (off := 38) (tgt := 57) rfl (dl_at t_X24_linked 11 rfl) (fun _ => ?_) (fun _ => ?_)
    · refine g_iload (pc := 57) X (i := 5) (q := 0) (x := x5_13) rfl (dl_at t_X24_linked 31 rfl) ?_
      refine g_bipush (pc := 59) X (n := 43) rfl (dl_at t_X24_linked 32 rfl) ?_
      refine g_icmpne (pc := 61) X r5_13 (r32_c rfl) (off := 32) (tgt := 93) rfl (dl_at t_X24_linked 33 rfl) (fun _ => ?_) (fun _ => ?_)
      · refine g_aload_n (pc := 93) X (j := 0) (i := 0) (q := 1) (x := a0) rfl rfl (dl_at t_X24_linked 51 rfl) ?_
        refine r_getr (pc := 94) X fX24_0 hk q3642 (dl_at t_X24_linked 52 rfl) ?_
        refine g_gd fun k97 => ?_
        refine r_getr (pc := 97) X fX23_11 k97 q3547 (dl_at t_X24_linked 53 rfl) ?_
        refine g_iload_n (pc := 100) X (j := 3) (i := 3) (q := 2) (x := a3) rfl rfl (dl_at t_X24_linked 54 rfl) ?_
        refine g_gd fun k101 => ?_
        refine g_iald (pc := 101) X r3 k101 (dl_at t_X24_linked 55 rfl) fun g101 => ?_
        refine g_lti g101 fun x6_102 r6_102 => ?_
        refine g_istore (pc := 102) X (i := 6) (x := x6_102) (rest := [(0, rv D a0)]) (Nat.le_of_ble_eq_true rfl) [1] rfl rfl (dl_at t_X24_linked 56 rfl) ?_
        refine g_ls (ls2 := [(0, rv D a0), (6, iv x6_102)]) [1, 0] rfl ?_
        refine g_loop0F (fun (q : Int) => [(0, rv D a0), (6, iv q)]) (fun (q : Int) => h) (fun (q : Int) => r32 q) x6_102 r6_102 ?_ (fun _ => rfl)
        · rintro x6_104 r6_104
          try dsimp only
          unfold m_X24_linked_l104
          refine g_iload (pc := 104) X (i := 6) (q := 1) (x := x6_104) rfl (dl_at t_X24_linked 57 rfl) ?_
          refine g_iflt (pc := 106) X r6_104 (off := 30) (tgt := 136) rfl (dl_at t_X24_linked 58 rfl) (fun _ => ?_) (fun _ => ?_)
          · refine g_iconst (pc := 136) X (n := 0) (dl_at t_X24_linked 73 rfl) ?_
            exact g_at fun Q hQ => (g_zret (pc := 137) X (Or.inl rfl) rfl rfl (dl_at t_X24_linked 74 rfl)) _ Q rfl hQ
          refine g_aload_n (pc := 109) X (j := 0) (i := 0) (q := 0) (x := a0) rfl rfl (dl_at t_X24_linked 59 rfl) ?_
          refine r_getr (pc := 110) X fX24_18 hk q3680 (dl_at t_X24_linked 60 rfl) ?_
          refine g_iload (pc := 113) X (i := 6) (q := 1) (x := x6_104) rfl (dl_at t_X24_linked 61 rfl) ?_
          refine g_gd fun k115 => ?_
          refine g_zald (pc := 115) X r6_104 k115 (dl_at t_X24_linked 62 rfl) fun g115 => ?_
          refine g_ifeq (pc := 116) X (r32_z g115) (off := 5) (tgt := 121) rfl (dl_at t_X24_linked 63 rfl) (fun _ => ?_) (fun _ => ?_)
          · refine g_aload_n (pc := 121) X (j := 0) (i := 0) (q := 0) (x := a0) rfl rfl (dl_at t_X24_linked 66 rfl) ?_
            refine r_getr (pc := 122) X fX24_0 hk q3642 (dl_at t_X24_linked 67 rfl) ?_
            refine r_getr (pc := 125) X fX23_11 k97 q3547 (dl_at t_X24_linked 68 rfl) ?_
            refine g_iload (pc := 128) X (i := 6) (q := 1) (x := x6_104) rfl (dl_at t_X24_linked 69 rfl) ?_
            refine g_gd fun k130 => ?_
            refine g_iald (pc := 130) X r6_104 k130 (dl_at t_X24_linked 70 rfl) fun g130 => ?_
            refine g_lti g130 fun x6_131 r6_131 => ?_
            refine g_istore (pc := 131) X (i := 6) (x := x6_131) (rest := [(0, rv D a0)]) (Nat.le_of_ble_eq_true rfl) [0] rfl rfl (dl_at t_X24_linked 71 rfl) ?_
            refine g_goto (pc := 133) X (off := (-29)) (tgt := 104) rfl (dl_at t_X24_linked 72 rfl) ?_
            refine g_ls (ls2 := [(0, rv D a0), (6, iv x6_131)]) [1, 0] rfl ?_
            exact g_at fun Q hQ => hQ r6_131
          refine g_iconst (pc := 119) X (n := 1) (dl_at t_X24_linked 64 rfl) ?_
          exact g_at fun Q hQ => (g_zret (pc := 120) X (Or.inr rfl) rfl rfl (dl_at t_X24_linked 65 rfl)) _ Q rfl hQ
      refine g_aload_n (pc := 64) X (j := 0) (i := 0) (q := 1) (x := a0) rfl rfl (dl_at t_X24_linked 34 rfl) ?_
      refine r_getr (pc := 65) X fX24_19 hk q3681 (dl_at t_X24_linked 35 rfl) ?_
      refine g_iload_n (pc := 68) X (j := 3) (i := 3) (q := 2) (x := a3) rfl rfl (dl_at t_X24_linked 36 rfl) ?_
      refine g_gd fun k69 => ?_
      refine g_iald (pc := 69) X r3 k69 (dl_at t_X24_linked 37 rfl) fun g69 => ?_
      refine g_iflt (pc := 70) X g69 (off := 21) (tgt := 91) rfl (dl_at t_X24_linked 38 rfl) (fun _ => ?_) (fun _ => ?_)
      · refine g_iconst (pc := 91) X (n := 0) (dl_at t_X24_linked 49 rfl) ?_
        exact g_zret (pc := 92) X (Or.inl rfl) rfl rfl (dl_at t_X24_linked 50 rfl)
      refine g_aload_n (pc := 73) X (j := 0) (i := 0) (q := 1) (x := a0) rfl rfl (dl_at t_X24_linked 39 rfl) ?_
      refine r_getr (pc := 74) X fX24_18 hk q3680 (dl_at t_X24_linked 40 rfl) ?_
      refine g_aload_n (pc := 77) X (j := 0) (i := 0) (q := 1) (x := a0) rfl rfl (dl_at t_X24_linked 41 rfl) ?_
      refine r_getr (pc := 78) X fX24_19 hk q3681 (dl_at t_X24_linked 42 rfl) ?_
      refine g_iload_n (pc := 81) X (j := 3) (i := 3) (q := 2) (x := a3) rfl rfl (dl_at t_X24_linked 43 rfl) ?_
      refine g_iald (pc := 82) X r3 k69 (dl_at t_X24_linked 44 rfl) fun g82 => ?_
      refine g_gd fun k83 => ?_
      refine g_zald (pc := 83) X g82 k83 (dl_at t_X24_linked 45 rfl) fun g83 => ?_
      refine g_ifeq (pc := 84) X (r32_z g83) (off := 7) (tgt := 91) rfl (dl_at t_X24_linked 46 rfl) (fun _ => ?_) (fun _ => ?_)
      · refine g_iconst (pc := 91) X (n := 0) (dl_at t_X24_linked 49 rfl) ?_
        exact g_zret (pc := 92) X (Or.inl rfl) rfl rfl (dl_at t_X24_linked 50 rfl)
      refine g_iconst (pc := 87) X (n := 1) (dl_at t_X24_linked 47 rfl) ?_
      refine g_goto (pc := 88) X (off := 4) (tgt := 92) rfl (dl_at t_X24_linked 48 rfl) ?_
      exact g_zret (pc := 92) X (Or.inr rfl) rfl rfl (dl_at t_X24_linked 50 rfl)
    refine g_aload_n (pc := 22) X (j := 0) (i := 0) (q := 1) (x := a0) rfl rfl (dl_at t_X24_linked 12 rfl) ?_
    refine r_getr (pc := 23) X fX24_0 hk q3642 (dl_at t_X24_linked 13 rfl) ?_
    refine g_gd fun k26 => ?_
    refine r_getr (pc := 26) X fX23_11 k26 q3547 (dl_at t_X24_linked 14 rfl) ?_
    refine g_iload_n (pc := 29) X (j := 3) (i := 3) (q := 2) (x := a3) rfl rfl (dl_at t_X24_linked 15 rfl) ?_
    refine g_gd fun k30 => ?_
    refine g_iald (pc := 30) X r3 k30 (dl_at t_X24_linked 16 rfl) fun g30 => ?_
    refine g_iflt (pc := 31) X g30 (off := 24) (tgt := 55) rfl (dl_at t_X24_linked 17 rfl) (fun _ => ?_) (fun _ => ?_)
    · refine g_iconst (pc := 55) X (n := 0) (dl_at t_X24_linked 29 rfl) ?_
      exact g_zret (pc := 56) X (Or.inl rfl) rfl rfl (dl_at t_X24_linked 30 rfl)
    refine g_aload_n (pc := 34) X (j := 0) (i := 0) (q := 1) (x := a0) rfl rfl (dl_at t_X24_linked 18 rfl) ?_
    refine r_getr (pc := 35) X fX24_18 hk q3680 (dl_at t_X24_linked 19 rfl) ?_
    refine g_aload_n (pc := 38) X (j := 0) (i := 0) (q := 1) (x := a0) rfl rfl (dl_at t_X24_linked 20 rfl) ?_
    refine r_getr (pc := 39) X fX24_0 hk q3642 (dl_at t_X24_linked 21 rfl) ?_
    refine r_getr (pc := 42) X fX23_11 k26 q3547 (dl_at t_X24_linked 22 rfl) ?_
    refine g_iload_n (pc := 45) X (j := 3) (i := 3) (q := 2) (x := a3) rfl rfl (dl_at t_X24_linked 23 rfl) ?_
    refine g_iald (pc := 46) X r3 k30 (dl_at t_X24_linked 24 rfl) fun g46 => ?_
    refine g_gd fun k47 => ?_
    refine g_zald (pc := 47) X g46 k47 (dl_at t_X24_linked 25 rfl) fun g47 => ?_
    refine g_ifeq (pc := 48) X (r32_z g47) (off := 7) (tgt := 55) rfl (dl_at t_X24_linked 26 rfl) (fun _ => ?_) (fun _ => ?_)
    · refine g_iconst (pc := 55) X (n := 0) (dl_at t_X24_linked 29 rfl) ?_
      exact g_zret (pc := 56) X (Or.inl rfl) rfl rfl (dl_at t_X24_linked 30 rfl)
    refine g_iconst (pc := 51) X (n := 1) (dl_at t_X24_linked 27 rfl) ?_
    refine g_goto (pc := 52) X (off := 4) (tgt := 56) rfl (dl_at t_X24_linked 28 rfl) ?_
    exact g_zret (pc := 56) X (Or.inr rfl) rfl rfl (dl_at t_X24_linked 30 rfl)
  refine g_iconst (pc := 5) X (n := 1) (dl_at t_X24_linked 2 rfl) ?_
  exact g_zret (pc := 6) X (Or.inr rfl) rfl rfl (dl_at t_X24_linked 3 rfl)
def k_X23_fieldOf : List (Nat × Instr × Nat) := [(0, .bipush 6, 2), (2, .iload_n 1, 1), (3, .imul, 1), (4, .istore 5, 2), (6, .iload 5, 2), (8, .bipush 6, 2), (10, .iload_n 1, 1), (11, .imul, 1), (12, .aload_n 0, 1), (13, .getfield 40, 3), (16, .iload_n 1, 1), (17, .iaload, 1), (18, .iadd, 1), (19, .if_icmp .ge 40, 3), (22, .aload_n 0, 1), (23, .getfield 9, 3), (26, .aload_n 0, 1), (27, .getfield 49, 3), (30, .iload 5, 2), (32, .iaload, 1), (33, .aload_n 0, 1), (34, .getfield 52, 3), (37, .iload 5, 2), (39, .iaload, 1), (40, .aload_n 2, 1), (41, .iload_n 3, 1), (42, .iload 4, 2), (44, .invokestatic 131, 3), (47, .ifCond .eq 6, 3), (50, .iload 5, 2), (52, .ireturn, 1), (53, .iinc 5 1, 3), (56, .goto (-50), 3), (59, .iconst (-1), 1), (60, .ireturn, 1)]
theorem t_X23_fieldOf : ∀ q ∈ k_X23_fieldOf, decode cX23_fieldOf q.1 = .ok q.2 := dl_all (by decide +kernel)
noncomputable def m_X23_fieldOf_l6 (a0 a1 a2 a3 a4 x5_6 : Int) (h : Hp) : Option ((Int) ⊕ ((Int))) :=
  gd (h (h a0 14) (-2) % 16 = 1 ∧ (0 : Int) ≤ a1 ∧ a1 < h (h a0 14) (-1)) (if (w32 ((w32 (6 * a1)) + (h (h a0 14) a1))) ≤ x5_6 then (some (.inr (-1)))
  else (gd (h (h a0 17) (-2) % 16 = 1 ∧ (0 : Int) ≤ x5_6 ∧ x5_6 < h (h a0 17) (-1)) (gd (h (h a0 18) (-2) % 16 = 1 ∧ (0 : Int) ≤ x5_6 ∧ x5_6 < h (h a0 18) (-1)) ((m_X18_same (h a0 0) (h (h a0 17) x5_6) (h (h a0 18) x5_6) a2 a3 a4 h).bind fun v44 =>
  if v44 = 0 then (lt_ (w32 (x5_6 + 1)) fun x5_53 =>
  some (.inl x5_53))
  else (some (.inr x5_6))))))
noncomputable def m_X23_fieldOf (a0 a1 a2 a3 a4 : Int) (h : Hp) : Option (Int) :=
  lt_ (w32 (6 * a1)) fun x5_4 =>
  (lp (fun (q : Int) => m_X23_fieldOf_l6 a0 a1 a2 a3 a4 q h) x5_4).bind (fun (x : Int) => some x)
theorem s_X23_fieldOf {l : Launch} [NoTr l] {D : SD} {a0 a1 a2 a3 a4 : Int} {h : Hp} (hk : h a0 (-2) = 384) (r1 : r32 a1) (r3 : r32 a3) (r4 : r32 a4) {r : Int} (hm : m_X23_fieldOf a0 a1 a2 a3 a4 h = some r) : Sim l D yX23_fieldOf (Cond.code yX23_fieldOf cX23_fieldOf 6 (Option.some Jvm.ClassFile.FieldType.int)) 1 42 [rv D a0, iv a1, rv D a2, iv a3, iv a4] h 1 ((0, r), h) := by
  refine Sim.of (fin := fun (v : Int) => ((0, v), h)) (lsE := [(0, rv D a0), (1, iv a1), (2, rv D a2), (3, iv a3), (4, iv a4)]) hm rfl cwS_code (la_r (la_i (la_r (la_i (la_i la_n))))) (ll_r (ll_i (ll_r (ll_i (ll_i ll_n))))) ?_
  intro p e s m below meth c X hcw hmm hcc hnm hname
  unfold m_X23_fieldOf
  refine g_bipush (pc := 0) X (n := 6) rfl (dl_at t_X23_fieldOf 0 rfl) ?_
  refine g_iload_n (pc := 2) X (j := 1) (i := 1) (q := 1) (x := a1) rfl rfl (dl_at t_X23_fieldOf 1 rfl) ?_
  refine g_imul (pc := 3) X (r32_c rfl) r1 (dl_at t_X23_fieldOf 2 rfl) ?_
  refine g_lti (r32_w _) fun x5_4 r5_4 => ?_
  refine g_istoreN (pc := 4) X (i := 5) (x := x5_4) (b := 4) (w := iv a4) (rest := [(0, rv D a0), (1, iv a1), (2, rv D a2), (3, iv a3)]) (Nat.le_of_ble_eq_true rfl) [4, 0, 1, 2, 3] rfl (by decide) rfl rfl (dl_at t_X23_fieldOf 3 rfl) ?_
  refine g_ls (ls2 := [(0, rv D a0), (1, iv a1), (2, rv D a2), (3, iv a3), (4, iv a4), (5, iv x5_4)]) [2, 3, 4, 5, 1, 0] rfl ?_
  refine g_loop0F (fun (q : Int) => [(0, rv D a0), (1, iv a1), (2, rv D a2), (3, iv a3), (4, iv a4), (5, iv q)]) (fun (q : Int) => h) (fun (q : Int) => r32 q) x5_4 r5_4 ?_ (fun _ => rfl)
  · rintro x5_6 r5_6
    try dsimp only
    unfold m_X23_fieldOf_l6
    refine g_iload (pc := 6) X (i := 5) (q := 5) (x := x5_6) rfl (dl_at t_X23_fieldOf 4 rfl) ?_
    refine g_bipush (pc := 8) X (n := 6) rfl (dl_at t_X23_fieldOf 5 rfl) ?_
    refine g_iload_n (pc := 10) X (j := 1) (i := 1) (q := 1) (x := a1) rfl rfl (dl_at t_X23_fieldOf 6 rfl) ?_
    refine g_imul (pc := 11) X (r32_c rfl) r1 (dl_at t_X23_fieldOf 7 rfl) ?_
    refine g_aload_n (pc := 12) X (j := 0) (i := 0) (q := 0) (x := a0) rfl rfl (dl_at t_X23_fieldOf 8 rfl) ?_
    refine r_getr (pc := 13) X fX23_14 hk q3554 (dl_at t_X23_fieldOf 9 rfl) ?_
    refine g_iload_n (pc := 16) X (j := 1) (i := 1) (q := 1) (x := a1) rfl rfl (dl_at t_X23_fieldOf 10 rfl) ?_
    refine g_gd fun k17 => ?_
    refine g_iald (pc := 17) X r1 k17 (dl_at t_X23_fieldOf 11 rfl) fun g17 => ?_
    refine g_iadd (pc := 18) X (r32_w _) g17 (dl_at t_X23_fieldOf 12 rfl) ?_
    refine g_icmpge (pc := 19) X r5_6 (r32_w _) (off := 40) (tgt := 59) rfl (dl_at t_X23_fieldOf 13 rfl) (fun _ => ?_) (fun _ => ?_)
    · refine g_iconst (pc := 59) X (n := (-1)) (dl_at t_X23_fieldOf 33 rfl) ?_
      exact g_at fun Q hQ => (g_iret (pc := 60) X (r32_c rfl) rfl rfl (dl_at t_X23_fieldOf 34 rfl)) _ Q rfl hQ
    refine g_aload_n (pc := 22) X (j := 0) (i := 0) (q := 0) (x := a0) rfl rfl (dl_at t_X23_fieldOf 14 rfl) ?_
    refine r_getr (pc := 23) X fX23_0 hk q3516 (dl_at t_X23_fieldOf 15 rfl) ?_
    refine g_aload_n (pc := 26) X (j := 0) (i := 0) (q := 0) (x := a0) rfl rfl (dl_at t_X23_fieldOf 16 rfl) ?_
    refine r_getr (pc := 27) X fX23_17 hk q3562 (dl_at t_X23_fieldOf 17 rfl) ?_
    refine g_iload (pc := 30) X (i := 5) (q := 5) (x := x5_6) rfl (dl_at t_X23_fieldOf 18 rfl) ?_
    refine g_gd fun k32 => ?_
    refine g_iald (pc := 32) X r5_6 k32 (dl_at t_X23_fieldOf 19 rfl) fun g32 => ?_
    refine g_aload_n (pc := 33) X (j := 0) (i := 0) (q := 0) (x := a0) rfl rfl (dl_at t_X23_fieldOf 20 rfl) ?_
    refine r_getr (pc := 34) X fX23_18 hk q3563 (dl_at t_X23_fieldOf 21 rfl) ?_
    refine g_iload (pc := 37) X (i := 5) (q := 5) (x := x5_6) rfl (dl_at t_X23_fieldOf 22 rfl) ?_
    refine g_gd fun k39 => ?_
    refine g_iald (pc := 39) X r5_6 k39 (dl_at t_X23_fieldOf 23 rfl) fun g39 => ?_
    refine g_aload_n (pc := 40) X (j := 2) (i := 2) (q := 2) (x := a2) rfl rfl (dl_at t_X23_fieldOf 24 rfl) ?_
    refine g_iload_n (pc := 41) X (j := 3) (i := 3) (q := 3) (x := a3) rfl rfl (dl_at t_X23_fieldOf 25 rfl) ?_
    refine g_iload (pc := 42) X (i := 4) (q := 4) (x := a4) rfl (dl_at t_X23_fieldOf 26 rfl) ?_
    refine r_callRz (pc := 44) X (fun _ hv => s_X18_same g32 g39 r3 r4 hv) cw_code q4464 q372 (in_Sc X (As := [rv D (h a0 0), iv (h (h a0 17) x5_6), iv (h (h a0 18) x5_6), rv D a2, iv a3, iv a4]) (Or.inr ⟨_, nw_in q4590 rfl⟩) q4463 q372 q4464 ⟨by decide, by decide⟩ rfl (dl_at t_X23_fieldOf 27 rfl)) (dl_at t_X23_fieldOf 27 rfl) (cat24 (st := []) (Nat.le_of_ble_eq_true rfl)) (Nat.le_of_ble_eq_true rfl) (Nat.le_of_ble_eq_true rfl) fun v44 g44 => ?_
    refine g_ifeq (pc := 47) X (r32_z g44) (off := 6) (tgt := 53) rfl (dl_at t_X23_fieldOf 28 rfl) (fun _ => ?_) (fun _ => ?_)
    · refine r_iincN (pc := 53) X (i := 5) (q := 5) (n := 1) (x := x5_6) (b := 4) (w := iv a4) (rest := [(0, rv D a0), (1, iv a1), (2, rv D a2), (3, iv a3)]) rfl r5_6 (r32_c rfl) (Nat.le_of_ble_eq_true rfl) [4, 0, 1, 2, 3] rfl (by decide) rfl rfl (dl_at t_X23_fieldOf 31 rfl) fun x5_53 r5_53 => ?_
      refine g_goto (pc := 56) X (off := (-50)) (tgt := 6) rfl (dl_at t_X23_fieldOf 32 rfl) ?_
      refine g_ls (ls2 := [(0, rv D a0), (1, iv a1), (2, rv D a2), (3, iv a3), (4, iv a4), (5, iv x5_53)]) [2, 3, 4, 5, 1, 0] rfl ?_
      exact g_at fun Q hQ => hQ r5_53
    refine g_iload (pc := 50) X (i := 5) (q := 5) (x := x5_6) rfl (dl_at t_X23_fieldOf 29 rfl) ?_
    exact g_at fun Q hQ => (g_iret (pc := 52) X r5_6 rfl rfl (dl_at t_X23_fieldOf 30 rfl)) _ Q rfl hQ
def k_X24_fitsStep : List (Nat × Instr × Nat) := [(0, .aload_n 1, 1), (1, .getfield 151, 3), (4, .iload_n 2, 1), (5, .iaload, 1), (6, .ifCond .lt 52, 3), (9, .aload_n 1, 1), (10, .getfield 110, 3), (13, .aload_n 1, 1), (14, .getfield 151, 3), (17, .iload_n 2, 1), (18, .iaload, 1), (19, .aload_n 1, 1), (20, .getfield 154, 3), (23, .iload_n 2, 1), (24, .iaload, 1), (25, .aload_n 0, 1), (26, .getfield 12, 3), (29, .getfield 157, 3), (32, .aload_n 0, 1), (33, .getfield 12, 3), (36, .getfield 158, 3), (39, .iload_n 3, 1), (40, .iaload, 1), (41, .aload_n 0, 1), (42, .getfield 12, 3), (45, .getfield 161, 3), (48, .iload_n 3, 1), (49, .iaload, 1), (50, .invokestatic 164, 3), (53, .ifCond .ne 5, 3), (56, .iconst 0, 1), (57, .ireturn, 1), (58, .aload_n 1, 1), (59, .getfield 168, 3), (62, .iload_n 2, 1), (63, .iaload, 1), (64, .istore 4, 2), (66, .iload 4, 2), (68, .aload_n 1, 1), (69, .getfield 168, 3), (72, .iload_n 2, 1), (73, .iconst 1, 1), (74, .iadd, 1), (75, .iaload, 1), (76, .if_icmp .ge 350, 3), (79, .aload_n 1, 1), (80, .getfield 171, 3), (83, .iload 4, 2), (85, .iaload, 1), (124, .aload_n 0, 1), (125, .getfield 12, 3), (128, .iload_n 3, 1), (129, .aload_n 1, 1), (130, .getfield 110, 3), (133, .aload_n 1, 1), (134, .getfield 174, 3), (137, .iload 4, 2), (139, .iaload, 1), (140, .aload_n 1, 1), (141, .getfield 177, 3), (144, .iload 4, 2), (146, .iaload, 1), (147, .invokevirtual 180, 3), (150, .ifCond .lt 7, 3), (153, .iconst 1, 1), (154, .goto 4, 3), (157, .iconst 0, 1), (158, .istore 5, 2), (160, .goto 253, 3), (163, .aload_n 0, 1), (164, .getfield 12, 3), (167, .iload_n 3, 1), (168, .aload_n 1, 1), (169, .getfield 110, 3), (172, .aload_n 1, 1), (173, .getfield 174, 3), (176, .iload 4, 2), (178, .iaload, 1), (179, .aload_n 1, 1), (180, .getfield 177, 3), (183, .iload 4, 2), (185, .iaload, 1), (186, .invokevirtual 180, 3), (189, .istore 6, 2), (191, .iload 6, 2), (193, .ifCond .lt 58, 3), (196, .aload_n 0, 1), (197, .getfield 12, 3), (200, .getfield 157, 3), (203, .aload_n 0, 1), (204, .getfield 12, 3), (207, .getfield 184, 3), (210, .iload 6, 2), (212, .iaload, 1), (213, .aload_n 0, 1), (214, .getfield 12, 3), (217, .getfield 187, 3), (220, .iload 6, 2), (222, .iaload, 1), (223, .aload_n 1, 1), (224, .getfield 110, 3), (227, .aload_n 1, 1), (228, .getfield 190, 3), (231, .iload 4, 2), (233, .iaload, 1), (234, .aload_n 1, 1), (235, .getfield 193, 3), (238, .iload 4, 2), (240, .iaload, 1), (241, .invokestatic 164, 3), (244, .ifCond .eq 7, 3), (247, .iconst 1, 1), (248, .goto 4, 3), (251, .iconst 0, 1), (252, .istore 5, 2), (254, .goto 159, 3), (257, .aload_n 0, 1), (258, .getfield 78, 3), (261, .iload_n 3, 1), (262, .iaload, 1), (263, .iconst 1, 1), (264, .if_icmp .ne 7, 3), (267, .iconst 1, 1), (268, .goto 4, 3), (271, .iconst 0, 1), (272, .istore 5, 2), (274, .goto 139, 3), (277, .aload_n 0, 1), (278, .getfield 78, 3), (281, .iload_n 3, 1), (282, .iaload, 1), (283, .aload_n 0, 1), (284, .getfield 81, 3), (287, .aload_n 0, 1), (288, .getfield 12, 3), (291, .getfield 139, 3), (294, .iload_n 3, 1), (295, .iaload, 1), (296, .iconst 1, 1), (297, .iadd, 1), (298, .iaload, 1), (299, .if_icmp .ne 7, 3), (302, .iconst 1, 1), (303, .goto 4, 3), (306, .iconst 0, 1), (307, .istore 5, 2), (309, .goto 104, 3), (312, .aload_n 0, 1), (313, .getfield 87, 3), (316, .iload_n 3, 1), (317, .baload, 1), (318, .ifCond .ne 7, 3), (321, .iconst 1, 1), (322, .goto 4, 3), (325, .iconst 0, 1), (326, .istore 5, 2), (328, .goto 85, 3), (331, .aload_n 0, 1), (332, .getfield 78, 3), (335, .iload_n 3, 1), (336, .iaload, 1), (337, .aload_n 1, 1), (338, .getfield 196, 3), (341, .iload 4, 2), (343, .iaload, 1), (344, .if_icmp .ne 7, 3), (347, .iconst 1, 1), (348, .goto 4, 3), (351, .iconst 0, 1), (352, .istore 5, 2), (354, .goto 59, 3), (357, .aload_n 1, 1), (358, .getfield 110, 3), (361, .aload_n 1, 1), (362, .getfield 174, 3), (365, .iload 4, 2), (367, .iaload, 1), (368, .aload_n 1, 1), (369, .getfield 177, 3), (372, .iload 4, 2), (374, .iaload, 1), (375, .aload_n 0, 1), (376, .getfield 12, 3), (379, .getfield 157, 3), (382, .aload_n 0, 1), (383, .getfield 12, 3), (386, .getfield 158, 3), (389, .iload_n 3, 1), (390, .iaload, 1), (391, .aload_n 0, 1), (392, .getfield 12, 3), (395, .getfield 161, 3), (398, .iload_n 3, 1), (399, .iaload, 1), (400, .invokestatic 164, 3), (403, .ifCond .ne 7, 3), (406, .iconst 1, 1), (407, .goto 4, 3), (410, .iconst 0, 1), (411, .istore 5, 2), (413, .iload 5, 2), (415, .ifCond .ne 5, 3), (418, .iconst 0, 1), (419, .ireturn, 1), (420, .iinc 4 1, 3), (423, .goto (-357), 3), (426, .iconst 1, 1), (427, .ireturn, 1)]
theorem t_X24_fitsStep : ∀ q ∈ k_X24_fitsStep, decode cX24_fitsStep q.1 = .ok q.2 := dl_all (by decide +kernel)
theorem dS_X24_fitsStep_86 : decode cX24_fitsStep 86 = .ok (.tableswitch 271 1 6 #[38, 77, 171, 191, 226, 245], 38) := by decide +kernel
noncomputable def m_X24_fitsStep_j413 (x4_66 x5_413 : Int) : Option ((Int) ⊕ ((Int))) :=
  if x5_413 ≠ 0 then (lt_ (w32 (x4_66 + 1)) fun x4_420 =>
  some (.inl x4_420))
  else (some (.inr 0))
noncomputable def m_X24_fitsStep_j158 (x4_66 s0_158 : Int) : Option ((Int) ⊕ ((Int))) :=
  m_X24_fitsStep_j413 x4_66 s0_158
noncomputable def m_X24_fitsStep_j252 (x4_66 s0_252 : Int) : Option ((Int) ⊕ ((Int))) :=
  m_X24_fitsStep_j413 x4_66 s0_252
noncomputable def m_X24_fitsStep_j251 (x4_66 : Int) : Option ((Int) ⊕ ((Int))) :=
  m_X24_fitsStep_j252 x4_66 0
noncomputable def m_X24_fitsStep_j272 (x4_66 s0_272 : Int) : Option ((Int) ⊕ ((Int))) :=
  m_X24_fitsStep_j413 x4_66 s0_272
noncomputable def m_X24_fitsStep_j307 (x4_66 s0_307 : Int) : Option ((Int) ⊕ ((Int))) :=
  m_X24_fitsStep_j413 x4_66 s0_307
noncomputable def m_X24_fitsStep_j326 (x4_66 s0_326 : Int) : Option ((Int) ⊕ ((Int))) :=
  m_X24_fitsStep_j413 x4_66 s0_326
noncomputable def m_X24_fitsStep_j352 (x4_66 s0_352 : Int) : Option ((Int) ⊕ ((Int))) :=
  m_X24_fitsStep_j413 x4_66 s0_352
noncomputable def m_X24_fitsStep_j411 (x4_66 s0_411 : Int) : Option ((Int) ⊕ ((Int))) :=
  m_X24_fitsStep_j413 x4_66 s0_411
noncomputable def m_X24_fitsStep_l66 (a0 a1 a2 a3 x4_66 : Int) (h : Hp) : Option ((Int) ⊕ ((Int))) :=
  gd (h (h a1 14) (-2) % 16 = 1 ∧ (0 : Int) ≤ (w32 (a2 + 1)) ∧ (w32 (a2 + 1)) < h (h a1 14) (-1)) (if (h (h a1 14) (w32 (a2 + 1))) ≤ x4_66 then (some (.inr 1))
  else (gd (h (h a1 15) (-2) % 16 = 1 ∧ (0 : Int) ≤ x4_66 ∧ x4_66 < h (h a1 15) (-1)) (if (h (h a1 15) x4_66) = 1 then (gd (h (h a1 16) (-2) % 16 = 1 ∧ (0 : Int) ≤ x4_66 ∧ x4_66 < h (h a1 16) (-1)) (gd (h (h a1 17) (-2) % 16 = 1 ∧ (0 : Int) ≤ x4_66 ∧ x4_66 < h (h a1 17) (-1)) (gd (h (h a0 0) (-2) = 384) ((m_X23_fieldOf (h a0 0) a3 (h a1 0) (h (h a1 16) x4_66) (h (h a1 17) x4_66) h).bind fun v147 =>
  if v147 < 0 then (m_X24_fitsStep_j158 x4_66 0)
  else (m_X24_fitsStep_j158 x4_66 1)))))
  else (if (h (h a1 15) x4_66) = 2 then (gd (h (h a1 16) (-2) % 16 = 1 ∧ (0 : Int) ≤ x4_66 ∧ x4_66 < h (h a1 16) (-1)) (gd (h (h a1 17) (-2) % 16 = 1 ∧ (0 : Int) ≤ x4_66 ∧ x4_66 < h (h a1 17) (-1)) (gd (h (h a0 0) (-2) = 384) ((m_X23_fieldOf (h a0 0) a3 (h a1 0) (h (h a1 16) x4_66) (h (h a1 17) x4_66) h).bind fun v186 =>
  if v186 < 0 then (m_X24_fitsStep_j251 x4_66)
  else (gd (h (h (h a0 0) 19) (-2) % 16 = 1 ∧ (0 : Int) ≤ v186 ∧ v186 < h (h (h a0 0) 19) (-1)) (gd (h (h (h a0 0) 20) (-2) % 16 = 1 ∧ (0 : Int) ≤ v186 ∧ v186 < h (h (h a0 0) 20) (-1)) (gd (h (h a1 18) (-2) % 16 = 1 ∧ (0 : Int) ≤ x4_66 ∧ x4_66 < h (h a1 18) (-1)) (gd (h (h a1 19) (-2) % 16 = 1 ∧ (0 : Int) ≤ x4_66 ∧ x4_66 < h (h a1 19) (-1)) ((m_X18_same (h (h a0 0) 0) (h (h (h a0 0) 19) v186) (h (h (h a0 0) 20) v186) (h a1 0) (h (h a1 18) x4_66) (h (h a1 19) x4_66) h).bind fun v241 =>
  if v241 = 0 then (m_X24_fitsStep_j251 x4_66)
  else (m_X24_fitsStep_j252 x4_66 1))))))))))
  else (if (h (h a1 15) x4_66) = 3 then (gd (h (h a0 20) (-2) % 16 = 1 ∧ (0 : Int) ≤ a3 ∧ a3 < h (h a0 20) (-1)) (if (h (h a0 20) a3) ≠ 1 then (m_X24_fitsStep_j272 x4_66 0)
  else (m_X24_fitsStep_j272 x4_66 1)))
  else (if (h (h a1 15) x4_66) = 4 then (gd (h (h a0 20) (-2) % 16 = 1 ∧ (0 : Int) ≤ a3 ∧ a3 < h (h a0 20) (-1)) (gd (h (h a0 0) (-2) = 384) (gd (h (h (h a0 0) 11) (-2) % 16 = 1 ∧ (0 : Int) ≤ a3 ∧ a3 < h (h (h a0 0) 11) (-1)) (gd (h (h a0 21) (-2) % 16 = 1 ∧ (0 : Int) ≤ (w32 ((h (h (h a0 0) 11) a3) + 1)) ∧ (w32 ((h (h (h a0 0) 11) a3) + 1)) < h (h a0 21) (-1)) (if (h (h a0 20) a3) ≠ (h (h a0 21) (w32 ((h (h (h a0 0) 11) a3) + 1))) then (m_X24_fitsStep_j307 x4_66 0)
  else (m_X24_fitsStep_j307 x4_66 1))))))
  else (if (h (h a1 15) x4_66) = 5 then (gd (h (h a0 23) (-2) % 16 = 3 ∧ (0 : Int) ≤ a3 ∧ a3 < h (h a0 23) (-1)) (if (h (h a0 23) a3) ≠ 0 then (m_X24_fitsStep_j326 x4_66 0)
  else (m_X24_fitsStep_j326 x4_66 1)))
  else (if (h (h a1 15) x4_66) = 6 then (gd (h (h a0 20) (-2) % 16 = 1 ∧ (0 : Int) ≤ a3 ∧ a3 < h (h a0 20) (-1)) (gd (h (h a1 20) (-2) % 16 = 1 ∧ (0 : Int) ≤ x4_66 ∧ x4_66 < h (h a1 20) (-1)) (if (h (h a0 20) a3) ≠ (h (h a1 20) x4_66) then (m_X24_fitsStep_j352 x4_66 0)
  else (m_X24_fitsStep_j352 x4_66 1))))
  else (gd (h (h a1 16) (-2) % 16 = 1 ∧ (0 : Int) ≤ x4_66 ∧ x4_66 < h (h a1 16) (-1)) (gd (h (h a1 17) (-2) % 16 = 1 ∧ (0 : Int) ≤ x4_66 ∧ x4_66 < h (h a1 17) (-1)) (gd (h (h a0 0) (-2) = 384) (gd (h (h (h a0 0) 12) (-2) % 16 = 1 ∧ (0 : Int) ≤ a3 ∧ a3 < h (h (h a0 0) 12) (-1)) (gd (h (h (h a0 0) 13) (-2) % 16 = 1 ∧ (0 : Int) ≤ a3 ∧ a3 < h (h (h a0 0) 13) (-1)) ((m_X18_same (h a1 0) (h (h a1 16) x4_66) (h (h a1 17) x4_66) (h (h a0 0) 0) (h (h (h a0 0) 12) a3) (h (h (h a0 0) 13) a3) h).bind fun v400 =>
  if v400 ≠ 0 then (m_X24_fitsStep_j411 x4_66 0)
  else (m_X24_fitsStep_j411 x4_66 1)))))))))))))))
noncomputable def m_X24_fitsStep_j58 (a0 a1 a2 a3 : Int) (h : Hp) : Option (Int) :=
  gd (h (h a1 14) (-2) % 16 = 1 ∧ (0 : Int) ≤ a2 ∧ a2 < h (h a1 14) (-1)) (lt_ (h (h a1 14) a2) fun x4_64 =>
  (lp (fun (q : Int) => m_X24_fitsStep_l66 a0 a1 a2 a3 q h) x4_64).bind (fun (x : Int) => some x))
noncomputable def m_X24_fitsStep (a0 a1 a2 a3 : Int) (h : Hp) : Option (Int) :=
  gd (h a1 (-2) = 368) (gd (h (h a1 11) (-2) % 16 = 1 ∧ (0 : Int) ≤ a2 ∧ a2 < h (h a1 11) (-1)) (if (h (h a1 11) a2) < 0 then (m_X24_fitsStep_j58 a0 a1 a2 a3 h)
  else (gd (h (h a1 12) (-2) % 16 = 1 ∧ (0 : Int) ≤ a2 ∧ a2 < h (h a1 12) (-1)) (gd (h (h a0 0) (-2) = 384) (gd (h (h (h a0 0) 12) (-2) % 16 = 1 ∧ (0 : Int) ≤ a3 ∧ a3 < h (h (h a0 0) 12) (-1)) (gd (h (h (h a0 0) 13) (-2) % 16 = 1 ∧ (0 : Int) ≤ a3 ∧ a3 < h (h (h a0 0) 13) (-1)) ((m_X18_same (h a1 0) (h (h a1 11) a2) (h (h a1 12) a2) (h (h a0 0) 0) (h (h (h a0 0) 12) a3) (h (h (h a0 0) 13) a3) h).bind fun v50 =>
  if v50 ≠ 0 then (m_X24_fitsStep_j58 a0 a1 a2 a3 h)
  else (some 0))))))))
theorem s_X24_fitsStep {l : Launch} [NoTr l] {D : SD} {a0 a1 a2 a3 : Int} {h : Hp} (hk : h a0 (-2) = 400) (r2 : r32 a2) (r3 : r32 a3) {r : Int} (hm : m_X24_fitsStep a0 a1 a2 a3 h = some r) : Sim l D yX24_fitsStep (Cond.code yX24_fitsStep cX24_fitsStep 7 (Option.some Jvm.ClassFile.FieldType.boolean)) 2 83 [rv D a0, rv D a1, iv a2, iv a3] h 3 ((0, r), h) := by
  refine Sim.of (fin := fun (v : Int) => ((0, v), h)) (lsE := [(0, rv D a0), (1, rv D a1), (2, iv a2), (3, iv a3)]) hm rfl cwS_code (la_r (la_r (la_i (la_i la_n)))) (ll_r (ll_r (ll_i (ll_i ll_n)))) ?_
  intro p e s m below meth c X hcw hmm hcc hnm hname
  unfold m_X24_fitsStep
  refine g_aload_n (pc := 0) X (j := 1) (i := 1) (q := 1) (x := a1) rfl rfl (dl_at t_X24_fitsStep 0 rfl) ?_
  refine g_gd fun k1 => ?_
  refine r_getr (pc := 1) X fX22_11 k1 q3422 (dl_at t_X24_fitsStep 1 rfl) ?_
  refine g_iload_n (pc := 4) X (j := 2) (i := 2) (q := 2) (x := a2) rfl rfl (dl_at t_X24_fitsStep 2 rfl) ?_
  refine g_gd fun k5 => ?_
  refine g_iald (pc := 5) X r2 k5 (dl_at t_X24_fitsStep 3 rfl) fun g5 => ?_
  refine g_join (γ := Unit) (fun q => True) 58 (fun q => [(0, rv D a0), (1, rv D a1), (2, iv a2), (3, iv a3)]) (fun q => []) (fun q => h) (fun q => m_X24_fitsStep_j58 a0 a1 a2 a3 h) ?_ ?_
  · rintro _ _
    try dsimp only
    unfold m_X24_fitsStep_j58
    refine g_aload_n (pc := 58) X (j := 1) (i := 1) (q := 1) (x := a1) rfl rfl (dl_at t_X24_fitsStep 32 rfl) ?_
    refine r_getr (pc := 59) X fX22_14 k1 q3428 (dl_at t_X24_fitsStep 33 rfl) ?_
    refine g_iload_n (pc := 62) X (j := 2) (i := 2) (q := 2) (x := a2) rfl rfl (dl_at t_X24_fitsStep 34 rfl) ?_
    refine g_gd fun k63 => ?_
    refine g_iald (pc := 63) X r2 k63 (dl_at t_X24_fitsStep 35 rfl) fun g63 => ?_
    refine g_lti g63 fun x4_64 r4_64 => ?_
    refine g_istoreN (pc := 64) X (i := 4) (x := x4_64) (b := 3) (w := iv a3) (rest := [(0, rv D a0), (1, rv D a1), (2, iv a2)]) (Nat.le_of_ble_eq_true rfl) [3, 0, 1, 2] rfl (by decide) rfl rfl (dl_at t_X24_fitsStep 36 rfl) ?_
    refine g_ls (ls2 := [(0, rv D a0), (1, rv D a1), (2, iv a2), (3, iv a3), (4, iv x4_64)]) [2, 3, 4, 1, 0] rfl ?_
    refine g_loop0F (fun (q : Int) => [(0, rv D a0), (1, rv D a1), (2, iv a2), (3, iv a3), (4, iv q)]) (fun (q : Int) => h) (fun (q : Int) => r32 q) x4_64 r4_64 ?_ (fun _ => rfl)
    · rintro x4_66 r4_66
      try dsimp only
      unfold m_X24_fitsStep_l66
      refine g_iload (pc := 66) X (i := 4) (q := 4) (x := x4_66) rfl (dl_at t_X24_fitsStep 37 rfl) ?_
      refine g_aload_n (pc := 68) X (j := 1) (i := 1) (q := 1) (x := a1) rfl rfl (dl_at t_X24_fitsStep 38 rfl) ?_
      refine r_getr (pc := 69) X fX22_14 k1 q3428 (dl_at t_X24_fitsStep 39 rfl) ?_
      refine g_iload_n (pc := 72) X (j := 2) (i := 2) (q := 2) (x := a2) rfl rfl (dl_at t_X24_fitsStep 40 rfl) ?_
      refine g_iconst (pc := 73) X (n := 1) (dl_at t_X24_fitsStep 41 rfl) ?_
      refine g_iadd (pc := 74) X r2 (r32_c rfl) (dl_at t_X24_fitsStep 42 rfl) ?_
      refine g_gd fun k75 => ?_
      refine g_iald (pc := 75) X (r32_w _) k75 (dl_at t_X24_fitsStep 43 rfl) fun g75 => ?_
      refine g_icmpge (pc := 76) X r4_66 g75 (off := 350) (tgt := 426) rfl (dl_at t_X24_fitsStep 44 rfl) (fun _ => ?_) (fun _ => ?_)
      · refine g_iconst (pc := 426) X (n := 1) (dl_at t_X24_fitsStep 206 rfl) ?_
        exact g_at fun Q hQ => (g_zret (pc := 427) X (Or.inr rfl) rfl rfl (dl_at t_X24_fitsStep 207 rfl)) _ Q rfl hQ
      refine g_aload_n (pc := 79) X (j := 1) (i := 1) (q := 1) (x := a1) rfl rfl (dl_at t_X24_fitsStep 45 rfl) ?_
      refine r_getr (pc := 80) X fX22_15 k1 q3430 (dl_at t_X24_fitsStep 46 rfl) ?_
      refine g_iload (pc := 83) X (i := 4) (q := 4) (x := x4_66) rfl (dl_at t_X24_fitsStep 47 rfl) ?_
      refine g_gd fun k85 => ?_
      refine g_iald (pc := 85) X r4_66 k85 (dl_at t_X24_fitsStep 48 rfl) fun g85 => ?_
      refine g_join (γ := Int) (fun q => (q = 0 ∨ q = 1)) 413 (fun q => [(0, rv D a0), (1, rv D a1), (2, iv a2), (3, iv a3), (4, iv x4_66), (5, iv q)]) (fun q => []) (fun q => h) (fun q => m_X24_fitsStep_j413 x4_66 q) ?_ ?_
      · rintro x5_413 r5_413
        try dsimp only
        unfold m_X24_fitsStep_j413
        refine g_iload (pc := 413) X (i := 5) (q := 5) (x := x5_413) rfl (dl_at t_X24_fitsStep 200 rfl) ?_
        refine g_ifne (pc := 415) X (r32_z r5_413) (off := 5) (tgt := 420) rfl (dl_at t_X24_fitsStep 201 rfl) (fun _ => ?_) (fun _ => ?_)
        · refine r_iincN (pc := 420) X (i := 4) (q := 4) (n := 1) (x := x4_66) (b := 3) (w := iv a3) (rest := [(0, rv D a0), (1, rv D a1), (2, iv a2)]) rfl r4_66 (r32_c rfl) (Nat.le_of_ble_eq_true rfl) [3, 0, 1, 2] rfl (by decide) rfl rfl (dl_at t_X24_fitsStep 204 rfl) fun x4_420 r4_420 => ?_
          refine g_goto (pc := 423) X (off := (-357)) (tgt := 66) rfl (dl_at t_X24_fitsStep 205 rfl) ?_
          refine g_ls (ls2 := [(0, rv D a0), (1, rv D a1), (2, iv a2), (3, iv a3), (4, iv x4_420)]) [2, 3, 4, 1, 0] rfl ?_
          exact g_at fun Q hQ => hQ r4_420
        refine g_iconst (pc := 418) X (n := 0) (dl_at t_X24_fitsStep 202 rfl) ?_
        exact g_at fun Q hQ => (g_zret (pc := 419) X (Or.inl rfl) rfl rfl (dl_at t_X24_fitsStep 203 rfl)) _ Q rfl hQ
      intro J413
      refine g_case (fun w86 => ?_) (fun nw86 => ?_)
      · refine g_tabIn (pc := 86) X (off := 38) (tgt := 124) g85 w86 (by decide) (by decide) rfl rfl dS_X24_fitsStep_86 ?_
        refine g_aload_n (pc := 124) X (j := 0) (i := 0) (q := 0) (x := a0) rfl rfl (dl_at t_X24_fitsStep 49 rfl) ?_
        refine r_getr (pc := 125) X fX24_0 hk q3642 (dl_at t_X24_fitsStep 50 rfl) ?_
        refine g_iload_n (pc := 128) X (j := 3) (i := 3) (q := 3) (x := a3) rfl rfl (dl_at t_X24_fitsStep 51 rfl) ?_
        refine g_aload_n (pc := 129) X (j := 1) (i := 1) (q := 1) (x := a1) rfl rfl (dl_at t_X24_fitsStep 52 rfl) ?_
        refine r_getr (pc := 130) X fX22_0 k1 q3405 (dl_at t_X24_fitsStep 53 rfl) ?_
        refine g_aload_n (pc := 133) X (j := 1) (i := 1) (q := 1) (x := a1) rfl rfl (dl_at t_X24_fitsStep 54 rfl) ?_
        refine r_getr (pc := 134) X fX22_16 k1 q3432 (dl_at t_X24_fitsStep 55 rfl) ?_
        refine g_iload (pc := 137) X (i := 4) (q := 4) (x := x4_66) rfl (dl_at t_X24_fitsStep 56 rfl) ?_
        refine g_gd fun k139 => ?_
        refine g_iald (pc := 139) X r4_66 k139 (dl_at t_X24_fitsStep 57 rfl) fun g139 => ?_
        refine g_aload_n (pc := 140) X (j := 1) (i := 1) (q := 1) (x := a1) rfl rfl (dl_at t_X24_fitsStep 58 rfl) ?_
        refine r_getr (pc := 141) X fX22_17 k1 q3434 (dl_at t_X24_fitsStep 59 rfl) ?_
        refine g_iload (pc := 144) X (i := 4) (q := 4) (x := x4_66) rfl (dl_at t_X24_fitsStep 60 rfl) ?_
        refine g_gd fun k146 => ?_
        refine g_iald (pc := 146) X r4_66 k146 (dl_at t_X24_fitsStep 61 rfl) fun g146 => ?_
        refine g_gd fun k147 => ?_
        refine r_callRi (pc := 147) X (fun _ hv => s_X23_fieldOf k147 r3 g139 g146 hv) cw_code q4693 q377 (in_Vk X (As := [iv a3, rv D (h a1 0), iv (h (h a1 16) x4_66), iv (h (h a1 17) x4_66)]) kX23 k147 (Or.inl q4690) q4691 q4692 cw_code q4693 ⟨by decide, by decide⟩ rfl (dl_at t_X24_fitsStep 62 rfl)) (dl_at t_X24_fitsStep 62 rfl) (cat24 (st := []) (Nat.le_of_ble_eq_true rfl)) (Nat.le_of_ble_eq_true rfl) (Nat.le_of_ble_eq_true rfl) fun v147 g147 => ?_
        refine g_join (γ := Int) (fun q => (q = 0 ∨ q = 1)) 158 (fun q => [(0, rv D a0), (1, rv D a1), (2, iv a2), (3, iv a3), (4, iv x4_66)]) (fun q => [iv q]) (fun q => h) (fun q => m_X24_fitsStep_j158 x4_66 q) ?_ ?_
        · rintro s0_158 rs0_158
          try dsimp only
          unfold m_X24_fitsStep_j158
          refine g_istoreN (pc := 158) X (i := 5) (x := s0_158) (b := 4) (w := iv x4_66) (rest := [(0, rv D a0), (1, rv D a1), (2, iv a2), (3, iv a3)]) (Nat.le_of_ble_eq_true rfl) [4, 0, 1, 2, 3] rfl (by decide) rfl rfl (dl_at t_X24_fitsStep 67 rfl) ?_
          refine g_goto (pc := 160) X (off := 253) (tgt := 413) rfl (dl_at t_X24_fitsStep 68 rfl) ?_
          refine g_ls (ls2 := [(0, rv D a0), (1, rv D a1), (2, iv a2), (3, iv a3), (4, iv x4_66), (5, iv s0_158)]) [2, 3, 4, 5, 1, 0] rfl ?_
          exact J413 s0_158 rs0_158
        intro J158
        refine g_iflt (pc := 150) X g147 (off := 7) (tgt := 157) rfl (dl_at t_X24_fitsStep 63 rfl) (fun _ => ?_) (fun _ => ?_)
        · refine g_iconst (pc := 157) X (n := 0) (dl_at t_X24_fitsStep 66 rfl) ?_
          exact J158 0 (Or.inl rfl)
        refine g_iconst (pc := 153) X (n := 1) (dl_at t_X24_fitsStep 64 rfl) ?_
        refine g_goto (pc := 154) X (off := 4) (tgt := 158) rfl (dl_at t_X24_fitsStep 65 rfl) ?_
        exact J158 1 (Or.inr rfl)
      refine g_case (fun w86_1 => ?_) (fun nw86_1 => ?_)
      · refine g_tabIn (pc := 86) X (off := 77) (tgt := 163) g85 w86_1 (by decide) (by decide) rfl rfl dS_X24_fitsStep_86 ?_
        refine g_aload_n (pc := 163) X (j := 0) (i := 0) (q := 0) (x := a0) rfl rfl (dl_at t_X24_fitsStep 69 rfl) ?_
        refine r_getr (pc := 164) X fX24_0 hk q3642 (dl_at t_X24_fitsStep 70 rfl) ?_
        refine g_iload_n (pc := 167) X (j := 3) (i := 3) (q := 3) (x := a3) rfl rfl (dl_at t_X24_fitsStep 71 rfl) ?_
        refine g_aload_n (pc := 168) X (j := 1) (i := 1) (q := 1) (x := a1) rfl rfl (dl_at t_X24_fitsStep 72 rfl) ?_
        refine r_getr (pc := 169) X fX22_0 k1 q3405 (dl_at t_X24_fitsStep 73 rfl) ?_
        refine g_aload_n (pc := 172) X (j := 1) (i := 1) (q := 1) (x := a1) rfl rfl (dl_at t_X24_fitsStep 74 rfl) ?_
        refine r_getr (pc := 173) X fX22_16 k1 q3432 (dl_at t_X24_fitsStep 75 rfl) ?_
        refine g_iload (pc := 176) X (i := 4) (q := 4) (x := x4_66) rfl (dl_at t_X24_fitsStep 76 rfl) ?_
        refine g_gd fun k178 => ?_
        refine g_iald (pc := 178) X r4_66 k178 (dl_at t_X24_fitsStep 77 rfl) fun g178 => ?_
        refine g_aload_n (pc := 179) X (j := 1) (i := 1) (q := 1) (x := a1) rfl rfl (dl_at t_X24_fitsStep 78 rfl) ?_
        refine r_getr (pc := 180) X fX22_17 k1 q3434 (dl_at t_X24_fitsStep 79 rfl) ?_
        refine g_iload (pc := 183) X (i := 4) (q := 4) (x := x4_66) rfl (dl_at t_X24_fitsStep 80 rfl) ?_
        refine g_gd fun k185 => ?_
        refine g_iald (pc := 185) X r4_66 k185 (dl_at t_X24_fitsStep 81 rfl) fun g185 => ?_
        refine g_gd fun k186 => ?_
        refine r_callRi (pc := 186) X (fun _ hv => s_X23_fieldOf k186 r3 g178 g185 hv) cw_code q4693 q377 (in_Vk X (As := [iv a3, rv D (h a1 0), iv (h (h a1 16) x4_66), iv (h (h a1 17) x4_66)]) kX23 k186 (Or.inl q4690) q4691 q4692 cw_code q4693 ⟨by decide, by decide⟩ rfl (dl_at t_X24_fitsStep 82 rfl)) (dl_at t_X24_fitsStep 82 rfl) (cat24 (st := []) (Nat.le_of_ble_eq_true rfl)) (Nat.le_of_ble_eq_true rfl) (Nat.le_of_ble_eq_true rfl) fun v186 g186 => ?_
        refine g_istore (pc := 189) X (i := 6) (x := v186) (rest := [(0, rv D a0), (1, rv D a1), (2, iv a2), (3, iv a3), (4, iv x4_66)]) (Nat.le_of_ble_eq_true rfl) [0, 1, 2, 3, 4] rfl rfl (dl_at t_X24_fitsStep 83 rfl) ?_
        refine g_iload (pc := 191) X (i := 6) (q := 0) (x := v186) rfl (dl_at t_X24_fitsStep 84 rfl) ?_
        refine g_join (γ := Int) (fun q => (q = 0 ∨ q = 1)) 252 (fun q => [(0, rv D a0), (1, rv D a1), (2, iv a2), (3, iv a3), (4, iv x4_66)]) (fun q => [iv q]) (fun q => h) (fun q => m_X24_fitsStep_j252 x4_66 q) ?_ ?_
        · rintro s0_252 rs0_252
          try dsimp only
          unfold m_X24_fitsStep_j252
          refine g_istoreN (pc := 252) X (i := 5) (x := s0_252) (b := 4) (w := iv x4_66) (rest := [(0, rv D a0), (1, rv D a1), (2, iv a2), (3, iv a3)]) (Nat.le_of_ble_eq_true rfl) [4, 0, 1, 2, 3] rfl (by decide) rfl rfl (dl_at t_X24_fitsStep 114 rfl) ?_
          refine g_goto (pc := 254) X (off := 159) (tgt := 413) rfl (dl_at t_X24_fitsStep 115 rfl) ?_
          refine g_ls (ls2 := [(0, rv D a0), (1, rv D a1), (2, iv a2), (3, iv a3), (4, iv x4_66), (5, iv s0_252)]) [2, 3, 4, 5, 1, 0] rfl ?_
          exact J413 s0_252 rs0_252
        intro J252
        refine g_join (γ := Unit) (fun q => True) 251 (fun q => [(0, rv D a0), (1, rv D a1), (2, iv a2), (3, iv a3), (4, iv x4_66)]) (fun q => []) (fun q => h) (fun q => m_X24_fitsStep_j251 x4_66) ?_ ?_
        · rintro _ _
          try dsimp only
          unfold m_X24_fitsStep_j251
          refine g_iconst (pc := 251) X (n := 0) (dl_at t_X24_fitsStep 113 rfl) ?_
          exact J252 0 (Or.inl rfl)
        intro J251
        refine g_iflt (pc := 193) X g186 (off := 58) (tgt := 251) rfl (dl_at t_X24_fitsStep 85 rfl) (fun _ => ?_) (fun _ => ?_)
        · refine g_ls (ls2 := [(0, rv D a0), (1, rv D a1), (2, iv a2), (3, iv a3), (4, iv x4_66)]) [1, 2, 3, 4, 5] rfl ?_
          exact J251 () trivial
        refine g_aload_n (pc := 196) X (j := 0) (i := 0) (q := 1) (x := a0) rfl rfl (dl_at t_X24_fitsStep 86 rfl) ?_
        refine r_getr (pc := 197) X fX24_0 hk q3642 (dl_at t_X24_fitsStep 87 rfl) ?_
        refine r_getr (pc := 200) X fX23_0 k186 q3518 (dl_at t_X24_fitsStep 88 rfl) ?_
        refine g_aload_n (pc := 203) X (j := 0) (i := 0) (q := 1) (x := a0) rfl rfl (dl_at t_X24_fitsStep 89 rfl) ?_
        refine r_getr (pc := 204) X fX24_0 hk q3642 (dl_at t_X24_fitsStep 90 rfl) ?_
        refine r_getr (pc := 207) X fX23_19 k186 q3565 (dl_at t_X24_fitsStep 91 rfl) ?_
        refine g_iload (pc := 210) X (i := 6) (q := 0) (x := v186) rfl (dl_at t_X24_fitsStep 92 rfl) ?_
        refine g_gd fun k212 => ?_
        refine g_iald (pc := 212) X g186 k212 (dl_at t_X24_fitsStep 93 rfl) fun g212 => ?_
        refine g_aload_n (pc := 213) X (j := 0) (i := 0) (q := 1) (x := a0) rfl rfl (dl_at t_X24_fitsStep 94 rfl) ?_
        refine r_getr (pc := 214) X fX24_0 hk q3642 (dl_at t_X24_fitsStep 95 rfl) ?_
        refine r_getr (pc := 217) X fX23_20 k186 q3568 (dl_at t_X24_fitsStep 96 rfl) ?_
        refine g_iload (pc := 220) X (i := 6) (q := 0) (x := v186) rfl (dl_at t_X24_fitsStep 97 rfl) ?_
        refine g_gd fun k222 => ?_
        refine g_iald (pc := 222) X g186 k222 (dl_at t_X24_fitsStep 98 rfl) fun g222 => ?_
        refine g_aload_n (pc := 223) X (j := 1) (i := 1) (q := 2) (x := a1) rfl rfl (dl_at t_X24_fitsStep 99 rfl) ?_
        refine r_getr (pc := 224) X fX22_0 k1 q3405 (dl_at t_X24_fitsStep 100 rfl) ?_
        refine g_aload_n (pc := 227) X (j := 1) (i := 1) (q := 2) (x := a1) rfl rfl (dl_at t_X24_fitsStep 101 rfl) ?_
        refine r_getr (pc := 228) X fX22_18 k1 q3436 (dl_at t_X24_fitsStep 102 rfl) ?_
        refine g_iload (pc := 231) X (i := 4) (q := 5) (x := x4_66) rfl (dl_at t_X24_fitsStep 103 rfl) ?_
        refine g_gd fun k233 => ?_
        refine g_iald (pc := 233) X r4_66 k233 (dl_at t_X24_fitsStep 104 rfl) fun g233 => ?_
        refine g_aload_n (pc := 234) X (j := 1) (i := 1) (q := 2) (x := a1) rfl rfl (dl_at t_X24_fitsStep 105 rfl) ?_
        refine r_getr (pc := 235) X fX22_19 k1 q3438 (dl_at t_X24_fitsStep 106 rfl) ?_
        refine g_iload (pc := 238) X (i := 4) (q := 5) (x := x4_66) rfl (dl_at t_X24_fitsStep 107 rfl) ?_
        refine g_gd fun k240 => ?_
        refine g_iald (pc := 240) X r4_66 k240 (dl_at t_X24_fitsStep 108 rfl) fun g240 => ?_
        refine r_callRz (pc := 241) X (fun _ hv => s_X18_same g212 g222 g233 g240 hv) cw_code q4464 q372 (in_Sc X (As := [rv D (h (h a0 0) 0), iv (h (h (h a0 0) 19) v186), iv (h (h (h a0 0) 20) v186), rv D (h a1 0), iv (h (h a1 18) x4_66), iv (h (h a1 19) x4_66)]) (Or.inr ⟨_, nw_in q4689 rfl⟩) q4463 q372 q4464 ⟨by decide, by decide⟩ rfl (dl_at t_X24_fitsStep 109 rfl)) (dl_at t_X24_fitsStep 109 rfl) (cat24 (st := []) (Nat.le_of_ble_eq_true rfl)) (Nat.le_of_ble_eq_true rfl) (Nat.le_of_ble_eq_true rfl) fun v241 g241 => ?_
        refine g_ifeq (pc := 244) X (r32_z g241) (off := 7) (tgt := 251) rfl (dl_at t_X24_fitsStep 110 rfl) (fun _ => ?_) (fun _ => ?_)
        · refine g_ls (ls2 := [(0, rv D a0), (1, rv D a1), (2, iv a2), (3, iv a3), (4, iv x4_66)]) [1, 2, 3, 4, 5] rfl ?_
          exact J251 () trivial
        refine g_iconst (pc := 247) X (n := 1) (dl_at t_X24_fitsStep 111 rfl) ?_
        refine g_goto (pc := 248) X (off := 4) (tgt := 252) rfl (dl_at t_X24_fitsStep 112 rfl) ?_
        refine g_ls (ls2 := [(0, rv D a0), (1, rv D a1), (2, iv a2), (3, iv a3), (4, iv x4_66)]) [1, 2, 3, 4, 5] rfl ?_
        exact J252 1 (Or.inr rfl)
      refine g_case (fun w86_2 => ?_) (fun nw86_2 => ?_)
      · refine g_tabIn (pc := 86) X (off := 171) (tgt := 257) g85 w86_2 (by decide) (by decide) rfl rfl dS_X24_fitsStep_86 ?_
        refine g_aload_n (pc := 257) X (j := 0) (i := 0) (q := 0) (x := a0) rfl rfl (dl_at t_X24_fitsStep 116 rfl) ?_
        refine r_getr (pc := 258) X fX24_20 hk q3682 (dl_at t_X24_fitsStep 117 rfl) ?_
        refine g_iload_n (pc := 261) X (j := 3) (i := 3) (q := 3) (x := a3) rfl rfl (dl_at t_X24_fitsStep 118 rfl) ?_
        refine g_gd fun k262 => ?_
        refine g_iald (pc := 262) X r3 k262 (dl_at t_X24_fitsStep 119 rfl) fun g262 => ?_
        refine g_iconst (pc := 263) X (n := 1) (dl_at t_X24_fitsStep 120 rfl) ?_
        refine g_join (γ := Int) (fun q => (q = 0 ∨ q = 1)) 272 (fun q => [(0, rv D a0), (1, rv D a1), (2, iv a2), (3, iv a3), (4, iv x4_66)]) (fun q => [iv q]) (fun q => h) (fun q => m_X24_fitsStep_j272 x4_66 q) ?_ ?_
        · rintro s0_272 rs0_272
          try dsimp only
          unfold m_X24_fitsStep_j272
          refine g_istoreN (pc := 272) X (i := 5) (x := s0_272) (b := 4) (w := iv x4_66) (rest := [(0, rv D a0), (1, rv D a1), (2, iv a2), (3, iv a3)]) (Nat.le_of_ble_eq_true rfl) [4, 0, 1, 2, 3] rfl (by decide) rfl rfl (dl_at t_X24_fitsStep 125 rfl) ?_
          refine g_goto (pc := 274) X (off := 139) (tgt := 413) rfl (dl_at t_X24_fitsStep 126 rfl) ?_
          refine g_ls (ls2 := [(0, rv D a0), (1, rv D a1), (2, iv a2), (3, iv a3), (4, iv x4_66), (5, iv s0_272)]) [2, 3, 4, 5, 1, 0] rfl ?_
          exact J413 s0_272 rs0_272
        intro J272
        refine g_icmpne (pc := 264) X g262 (r32_c rfl) (off := 7) (tgt := 271) rfl (dl_at t_X24_fitsStep 121 rfl) (fun _ => ?_) (fun _ => ?_)
        · refine g_iconst (pc := 271) X (n := 0) (dl_at t_X24_fitsStep 124 rfl) ?_
          exact J272 0 (Or.inl rfl)
        refine g_iconst (pc := 267) X (n := 1) (dl_at t_X24_fitsStep 122 rfl) ?_
        refine g_goto (pc := 268) X (off := 4) (tgt := 272) rfl (dl_at t_X24_fitsStep 123 rfl) ?_
        exact J272 1 (Or.inr rfl)
      refine g_case (fun w86_3 => ?_) (fun nw86_3 => ?_)
      · refine g_tabIn (pc := 86) X (off := 191) (tgt := 277) g85 w86_3 (by decide) (by decide) rfl rfl dS_X24_fitsStep_86 ?_
        refine g_aload_n (pc := 277) X (j := 0) (i := 0) (q := 0) (x := a0) rfl rfl (dl_at t_X24_fitsStep 127 rfl) ?_
        refine r_getr (pc := 278) X fX24_20 hk q3682 (dl_at t_X24_fitsStep 128 rfl) ?_
        refine g_iload_n (pc := 281) X (j := 3) (i := 3) (q := 3) (x := a3) rfl rfl (dl_at t_X24_fitsStep 129 rfl) ?_
        refine g_gd fun k282 => ?_
        refine g_iald (pc := 282) X r3 k282 (dl_at t_X24_fitsStep 130 rfl) fun g282 => ?_
        refine g_aload_n (pc := 283) X (j := 0) (i := 0) (q := 0) (x := a0) rfl rfl (dl_at t_X24_fitsStep 131 rfl) ?_
        refine r_getr (pc := 284) X fX24_21 hk q3683 (dl_at t_X24_fitsStep 132 rfl) ?_
        refine g_aload_n (pc := 287) X (j := 0) (i := 0) (q := 0) (x := a0) rfl rfl (dl_at t_X24_fitsStep 133 rfl) ?_
        refine r_getr (pc := 288) X fX24_0 hk q3642 (dl_at t_X24_fitsStep 134 rfl) ?_
        refine g_gd fun k291 => ?_
        refine r_getr (pc := 291) X fX23_11 k291 q3547 (dl_at t_X24_fitsStep 135 rfl) ?_
        refine g_iload_n (pc := 294) X (j := 3) (i := 3) (q := 3) (x := a3) rfl rfl (dl_at t_X24_fitsStep 136 rfl) ?_
        refine g_gd fun k295 => ?_
        refine g_iald (pc := 295) X r3 k295 (dl_at t_X24_fitsStep 137 rfl) fun g295 => ?_
        refine g_iconst (pc := 296) X (n := 1) (dl_at t_X24_fitsStep 138 rfl) ?_
        refine g_iadd (pc := 297) X g295 (r32_c rfl) (dl_at t_X24_fitsStep 139 rfl) ?_
        refine g_gd fun k298 => ?_
        refine g_iald (pc := 298) X (r32_w _) k298 (dl_at t_X24_fitsStep 140 rfl) fun g298 => ?_
        refine g_join (γ := Int) (fun q => (q = 0 ∨ q = 1)) 307 (fun q => [(0, rv D a0), (1, rv D a1), (2, iv a2), (3, iv a3), (4, iv x4_66)]) (fun q => [iv q]) (fun q => h) (fun q => m_X24_fitsStep_j307 x4_66 q) ?_ ?_
        · rintro s0_307 rs0_307
          try dsimp only
          unfold m_X24_fitsStep_j307
          refine g_istoreN (pc := 307) X (i := 5) (x := s0_307) (b := 4) (w := iv x4_66) (rest := [(0, rv D a0), (1, rv D a1), (2, iv a2), (3, iv a3)]) (Nat.le_of_ble_eq_true rfl) [4, 0, 1, 2, 3] rfl (by decide) rfl rfl (dl_at t_X24_fitsStep 145 rfl) ?_
          refine g_goto (pc := 309) X (off := 104) (tgt := 413) rfl (dl_at t_X24_fitsStep 146 rfl) ?_
          refine g_ls (ls2 := [(0, rv D a0), (1, rv D a1), (2, iv a2), (3, iv a3), (4, iv x4_66), (5, iv s0_307)]) [2, 3, 4, 5, 1, 0] rfl ?_
          exact J413 s0_307 rs0_307
        intro J307
        refine g_icmpne (pc := 299) X g282 g298 (off := 7) (tgt := 306) rfl (dl_at t_X24_fitsStep 141 rfl) (fun _ => ?_) (fun _ => ?_)
        · refine g_iconst (pc := 306) X (n := 0) (dl_at t_X24_fitsStep 144 rfl) ?_
          exact J307 0 (Or.inl rfl)
        refine g_iconst (pc := 302) X (n := 1) (dl_at t_X24_fitsStep 142 rfl) ?_
        refine g_goto (pc := 303) X (off := 4) (tgt := 307) rfl (dl_at t_X24_fitsStep 143 rfl) ?_
        exact J307 1 (Or.inr rfl)
      refine g_case (fun w86_4 => ?_) (fun nw86_4 => ?_)
      · refine g_tabIn (pc := 86) X (off := 226) (tgt := 312) g85 w86_4 (by decide) (by decide) rfl rfl dS_X24_fitsStep_86 ?_
        refine g_aload_n (pc := 312) X (j := 0) (i := 0) (q := 0) (x := a0) rfl rfl (dl_at t_X24_fitsStep 147 rfl) ?_
        refine r_getr (pc := 313) X fX24_23 hk q3685 (dl_at t_X24_fitsStep 148 rfl) ?_
        refine g_iload_n (pc := 316) X (j := 3) (i := 3) (q := 3) (x := a3) rfl rfl (dl_at t_X24_fitsStep 149 rfl) ?_
        refine g_gd fun k317 => ?_
        refine g_zald (pc := 317) X r3 k317 (dl_at t_X24_fitsStep 150 rfl) fun g317 => ?_
        refine g_join (γ := Int) (fun q => (q = 0 ∨ q = 1)) 326 (fun q => [(0, rv D a0), (1, rv D a1), (2, iv a2), (3, iv a3), (4, iv x4_66)]) (fun q => [iv q]) (fun q => h) (fun q => m_X24_fitsStep_j326 x4_66 q) ?_ ?_
        · rintro s0_326 rs0_326
          try dsimp only
          unfold m_X24_fitsStep_j326
          refine g_istoreN (pc := 326) X (i := 5) (x := s0_326) (b := 4) (w := iv x4_66) (rest := [(0, rv D a0), (1, rv D a1), (2, iv a2), (3, iv a3)]) (Nat.le_of_ble_eq_true rfl) [4, 0, 1, 2, 3] rfl (by decide) rfl rfl (dl_at t_X24_fitsStep 155 rfl) ?_
          refine g_goto (pc := 328) X (off := 85) (tgt := 413) rfl (dl_at t_X24_fitsStep 156 rfl) ?_
          refine g_ls (ls2 := [(0, rv D a0), (1, rv D a1), (2, iv a2), (3, iv a3), (4, iv x4_66), (5, iv s0_326)]) [2, 3, 4, 5, 1, 0] rfl ?_
          exact J413 s0_326 rs0_326
        intro J326
        refine g_ifne (pc := 318) X (r32_z g317) (off := 7) (tgt := 325) rfl (dl_at t_X24_fitsStep 151 rfl) (fun _ => ?_) (fun _ => ?_)
        · refine g_iconst (pc := 325) X (n := 0) (dl_at t_X24_fitsStep 154 rfl) ?_
          exact J326 0 (Or.inl rfl)
        refine g_iconst (pc := 321) X (n := 1) (dl_at t_X24_fitsStep 152 rfl) ?_
        refine g_goto (pc := 322) X (off := 4) (tgt := 326) rfl (dl_at t_X24_fitsStep 153 rfl) ?_
        exact J326 1 (Or.inr rfl)
      refine g_case (fun w86_5 => ?_) (fun nw86_5 => ?_)
      · refine g_tabIn (pc := 86) X (off := 245) (tgt := 331) g85 w86_5 (by decide) (by decide) rfl rfl dS_X24_fitsStep_86 ?_
        refine g_aload_n (pc := 331) X (j := 0) (i := 0) (q := 0) (x := a0) rfl rfl (dl_at t_X24_fitsStep 157 rfl) ?_
        refine r_getr (pc := 332) X fX24_20 hk q3682 (dl_at t_X24_fitsStep 158 rfl) ?_
        refine g_iload_n (pc := 335) X (j := 3) (i := 3) (q := 3) (x := a3) rfl rfl (dl_at t_X24_fitsStep 159 rfl) ?_
        refine g_gd fun k336 => ?_
        refine g_iald (pc := 336) X r3 k336 (dl_at t_X24_fitsStep 160 rfl) fun g336 => ?_
        refine g_aload_n (pc := 337) X (j := 1) (i := 1) (q := 1) (x := a1) rfl rfl (dl_at t_X24_fitsStep 161 rfl) ?_
        refine r_getr (pc := 338) X fX22_20 k1 q3440 (dl_at t_X24_fitsStep 162 rfl) ?_
        refine g_iload (pc := 341) X (i := 4) (q := 4) (x := x4_66) rfl (dl_at t_X24_fitsStep 163 rfl) ?_
        refine g_gd fun k343 => ?_
        refine g_iald (pc := 343) X r4_66 k343 (dl_at t_X24_fitsStep 164 rfl) fun g343 => ?_
        refine g_join (γ := Int) (fun q => (q = 0 ∨ q = 1)) 352 (fun q => [(0, rv D a0), (1, rv D a1), (2, iv a2), (3, iv a3), (4, iv x4_66)]) (fun q => [iv q]) (fun q => h) (fun q => m_X24_fitsStep_j352 x4_66 q) ?_ ?_
        · rintro s0_352 rs0_352
          try dsimp only
          unfold m_X24_fitsStep_j352
          refine g_istoreN (pc := 352) X (i := 5) (x := s0_352) (b := 4) (w := iv x4_66) (rest := [(0, rv D a0), (1, rv D a1), (2, iv a2), (3, iv a3)]) (Nat.le_of_ble_eq_true rfl) [4, 0, 1, 2, 3] rfl (by decide) rfl rfl (dl_at t_X24_fitsStep 169 rfl) ?_
          refine g_goto (pc := 354) X (off := 59) (tgt := 413) rfl (dl_at t_X24_fitsStep 170 rfl) ?_
          refine g_ls (ls2 := [(0, rv D a0), (1, rv D a1), (2, iv a2), (3, iv a3), (4, iv x4_66), (5, iv s0_352)]) [2, 3, 4, 5, 1, 0] rfl ?_
          exact J413 s0_352 rs0_352
        intro J352
        refine g_icmpne (pc := 344) X g336 g343 (off := 7) (tgt := 351) rfl (dl_at t_X24_fitsStep 165 rfl) (fun _ => ?_) (fun _ => ?_)
        · refine g_iconst (pc := 351) X (n := 0) (dl_at t_X24_fitsStep 168 rfl) ?_
          exact J352 0 (Or.inl rfl)
        refine g_iconst (pc := 347) X (n := 1) (dl_at t_X24_fitsStep 166 rfl) ?_
        refine g_goto (pc := 348) X (off := 4) (tgt := 352) rfl (dl_at t_X24_fitsStep 167 rfl) ?_
        exact J352 1 (Or.inr rfl)
      have w86_6 : ¬ (h (h a1 15) x4_66) ∈ ([1, 2, 3, 4, 5, 6] : List Int) := by simp only [List.mem_cons, List.not_mem_nil, or_false, not_or] at *; simp only [*, not_false_eq_true, and_self]
      refine g_tabElse (pc := 86) X (tgt := 357) [1, 2, 3, 4, 5, 6] g85 w86_6 rfl rfl dS_X24_fitsStep_86 ?_
      refine g_aload_n (pc := 357) X (j := 1) (i := 1) (q := 1) (x := a1) rfl rfl (dl_at t_X24_fitsStep 171 rfl) ?_
      refine r_getr (pc := 358) X fX22_0 k1 q3405 (dl_at t_X24_fitsStep 172 rfl) ?_
      refine g_aload_n (pc := 361) X (j := 1) (i := 1) (q := 1) (x := a1) rfl rfl (dl_at t_X24_fitsStep 173 rfl) ?_
      refine r_getr (pc := 362) X fX22_16 k1 q3432 (dl_at t_X24_fitsStep 174 rfl) ?_
      refine g_iload (pc := 365) X (i := 4) (q := 4) (x := x4_66) rfl (dl_at t_X24_fitsStep 175 rfl) ?_
      refine g_gd fun k367 => ?_
      refine g_iald (pc := 367) X r4_66 k367 (dl_at t_X24_fitsStep 176 rfl) fun g367 => ?_
      refine g_aload_n (pc := 368) X (j := 1) (i := 1) (q := 1) (x := a1) rfl rfl (dl_at t_X24_fitsStep 177 rfl) ?_
      refine r_getr (pc := 369) X fX22_17 k1 q3434 (dl_at t_X24_fitsStep 178 rfl) ?_
      refine g_iload (pc := 372) X (i := 4) (q := 4) (x := x4_66) rfl (dl_at t_X24_fitsStep 179 rfl) ?_
      refine g_gd fun k374 => ?_
      refine g_iald (pc := 374) X r4_66 k374 (dl_at t_X24_fitsStep 180 rfl) fun g374 => ?_
      refine g_aload_n (pc := 375) X (j := 0) (i := 0) (q := 0) (x := a0) rfl rfl (dl_at t_X24_fitsStep 181 rfl) ?_
      refine r_getr (pc := 376) X fX24_0 hk q3642 (dl_at t_X24_fitsStep 182 rfl) ?_
      refine g_gd fun k379 => ?_
      refine r_getr (pc := 379) X fX23_0 k379 q3518 (dl_at t_X24_fitsStep 183 rfl) ?_
      refine g_aload_n (pc := 382) X (j := 0) (i := 0) (q := 0) (x := a0) rfl rfl (dl_at t_X24_fitsStep 184 rfl) ?_
      refine r_getr (pc := 383) X fX24_0 hk q3642 (dl_at t_X24_fitsStep 185 rfl) ?_
      refine r_getr (pc := 386) X fX23_12 k379 q3551 (dl_at t_X24_fitsStep 186 rfl) ?_
      refine g_iload_n (pc := 389) X (j := 3) (i := 3) (q := 3) (x := a3) rfl rfl (dl_at t_X24_fitsStep 187 rfl) ?_
      refine g_gd fun k390 => ?_
      refine g_iald (pc := 390) X r3 k390 (dl_at t_X24_fitsStep 188 rfl) fun g390 => ?_
      refine g_aload_n (pc := 391) X (j := 0) (i := 0) (q := 0) (x := a0) rfl rfl (dl_at t_X24_fitsStep 189 rfl) ?_
      refine r_getr (pc := 392) X fX24_0 hk q3642 (dl_at t_X24_fitsStep 190 rfl) ?_
      refine r_getr (pc := 395) X fX23_13 k379 q3553 (dl_at t_X24_fitsStep 191 rfl) ?_
      refine g_iload_n (pc := 398) X (j := 3) (i := 3) (q := 3) (x := a3) rfl rfl (dl_at t_X24_fitsStep 192 rfl) ?_
      refine g_gd fun k399 => ?_
      refine g_iald (pc := 399) X r3 k399 (dl_at t_X24_fitsStep 193 rfl) fun g399 => ?_
      refine r_callRz (pc := 400) X (fun _ hv => s_X18_same g367 g374 g390 g399 hv) cw_code q4464 q372 (in_Sc X (As := [rv D (h a1 0), iv (h (h a1 16) x4_66), iv (h (h a1 17) x4_66), rv D (h (h a0 0) 0), iv (h (h (h a0 0) 12) a3), iv (h (h (h a0 0) 13) a3)]) (Or.inr ⟨_, nw_in q4689 rfl⟩) q4463 q372 q4464 ⟨by decide, by decide⟩ rfl (dl_at t_X24_fitsStep 194 rfl)) (dl_at t_X24_fitsStep 194 rfl) (cat24 (st := []) (Nat.le_of_ble_eq_true rfl)) (Nat.le_of_ble_eq_true rfl) (Nat.le_of_ble_eq_true rfl) fun v400 g400 => ?_
      refine g_join (γ := Int) (fun q => (q = 0 ∨ q = 1)) 411 (fun q => [(0, rv D a0), (1, rv D a1), (2, iv a2), (3, iv a3), (4, iv x4_66)]) (fun q => [iv q]) (fun q => h) (fun q => m_X24_fitsStep_j411 x4_66 q) ?_ ?_
      · rintro s0_411 rs0_411
        try dsimp only
        unfold m_X24_fitsStep_j411
        refine g_istoreN (pc := 411) X (i := 5) (x := s0_411) (b := 4) (w := iv x4_66) (rest := [(0, rv D a0), (1, rv D a1), (2, iv a2), (3, iv a3)]) (Nat.le_of_ble_eq_true rfl) [4, 0, 1, 2, 3] rfl (by decide) rfl rfl (dl_at t_X24_fitsStep 199 rfl) ?_
        refine g_ls (ls2 := [(0, rv D a0), (1, rv D a1), (2, iv a2), (3, iv a3), (4, iv x4_66), (5, iv s0_411)]) [2, 3, 4, 5, 1, 0] rfl ?_
        exact J413 s0_411 rs0_411
      intro J411
      refine g_ifne (pc := 403) X (r32_z g400) (off := 7) (tgt := 410) rfl (dl_at t_X24_fitsStep 195 rfl) (fun _ => ?_) (fun _ => ?_)
      · refine g_iconst (pc := 410) X (n := 0) (dl_at t_X24_fitsStep 198 rfl) ?_
        exact J411 0 (Or.inl rfl)
      refine g_iconst (pc := 406) X (n := 1) (dl_at t_X24_fitsStep 196 rfl) ?_
      refine g_goto (pc := 407) X (off := 4) (tgt := 411) rfl (dl_at t_X24_fitsStep 197 rfl) ?_
      exact J411 1 (Or.inr rfl)
  intro J58
  refine g_iflt (pc := 6) X g5 (off := 52) (tgt := 58) rfl (dl_at t_X24_fitsStep 4 rfl) (fun _ => ?_) (fun _ => ?_)
  · exact J58 () trivial
  refine g_aload_n (pc := 9) X (j := 1) (i := 1) (q := 1) (x := a1) rfl rfl (dl_at t_X24_fitsStep 5 rfl) ?_
  refine r_getr (pc := 10) X fX22_0 k1 q3405 (dl_at t_X24_fitsStep 6 rfl) ?_
  refine g_aload_n (pc := 13) X (j := 1) (i := 1) (q := 1) (x := a1) rfl rfl (dl_at t_X24_fitsStep 7 rfl) ?_
  refine r_getr (pc := 14) X fX22_11 k1 q3422 (dl_at t_X24_fitsStep 8 rfl) ?_
  refine g_iload_n (pc := 17) X (j := 2) (i := 2) (q := 2) (x := a2) rfl rfl (dl_at t_X24_fitsStep 9 rfl) ?_
  refine g_iald (pc := 18) X r2 k5 (dl_at t_X24_fitsStep 10 rfl) fun g18 => ?_
  refine g_aload_n (pc := 19) X (j := 1) (i := 1) (q := 1) (x := a1) rfl rfl (dl_at t_X24_fitsStep 11 rfl) ?_
  refine r_getr (pc := 20) X fX22_12 k1 q3424 (dl_at t_X24_fitsStep 12 rfl) ?_
  refine g_iload_n (pc := 23) X (j := 2) (i := 2) (q := 2) (x := a2) rfl rfl (dl_at t_X24_fitsStep 13 rfl) ?_
  refine g_gd fun k24 => ?_
  refine g_iald (pc := 24) X r2 k24 (dl_at t_X24_fitsStep 14 rfl) fun g24 => ?_
  refine g_aload_n (pc := 25) X (j := 0) (i := 0) (q := 0) (x := a0) rfl rfl (dl_at t_X24_fitsStep 15 rfl) ?_
  refine r_getr (pc := 26) X fX24_0 hk q3642 (dl_at t_X24_fitsStep 16 rfl) ?_
  refine g_gd fun k29 => ?_
  refine r_getr (pc := 29) X fX23_0 k29 q3518 (dl_at t_X24_fitsStep 17 rfl) ?_
  refine g_aload_n (pc := 32) X (j := 0) (i := 0) (q := 0) (x := a0) rfl rfl (dl_at t_X24_fitsStep 18 rfl) ?_
  refine r_getr (pc := 33) X fX24_0 hk q3642 (dl_at t_X24_fitsStep 19 rfl) ?_
  refine r_getr (pc := 36) X fX23_12 k29 q3551 (dl_at t_X24_fitsStep 20 rfl) ?_
  refine g_iload_n (pc := 39) X (j := 3) (i := 3) (q := 3) (x := a3) rfl rfl (dl_at t_X24_fitsStep 21 rfl) ?_
  refine g_gd fun k40 => ?_
  refine g_iald (pc := 40) X r3 k40 (dl_at t_X24_fitsStep 22 rfl) fun g40 => ?_
  refine g_aload_n (pc := 41) X (j := 0) (i := 0) (q := 0) (x := a0) rfl rfl (dl_at t_X24_fitsStep 23 rfl) ?_
  refine r_getr (pc := 42) X fX24_0 hk q3642 (dl_at t_X24_fitsStep 24 rfl) ?_
  refine r_getr (pc := 45) X fX23_13 k29 q3553 (dl_at t_X24_fitsStep 25 rfl) ?_
  refine g_iload_n (pc := 48) X (j := 3) (i := 3) (q := 3) (x := a3) rfl rfl (dl_at t_X24_fitsStep 26 rfl) ?_
  refine g_gd fun k49 => ?_
  refine g_iald (pc := 49) X r3 k49 (dl_at t_X24_fitsStep 27 rfl) fun g49 => ?_
  refine r_callRz (pc := 50) X (fun _ hv => s_X18_same g18 g24 g40 g49 hv) cw_code q4464 q372 (in_Sc X (As := [rv D (h a1 0), iv (h (h a1 11) a2), iv (h (h a1 12) a2), rv D (h (h a0 0) 0), iv (h (h (h a0 0) 12) a3), iv (h (h (h a0 0) 13) a3)]) (Or.inr ⟨_, nw_in q4689 rfl⟩) q4463 q372 q4464 ⟨by decide, by decide⟩ rfl (dl_at t_X24_fitsStep 28 rfl)) (dl_at t_X24_fitsStep 28 rfl) (cat24 (st := []) (Nat.le_of_ble_eq_true rfl)) (Nat.le_of_ble_eq_true rfl) (Nat.le_of_ble_eq_true rfl) fun v50 g50 => ?_
  refine g_ifne (pc := 53) X (r32_z g50) (off := 5) (tgt := 58) rfl (dl_at t_X24_fitsStep 29 rfl) (fun _ => ?_) (fun _ => ?_)
  · exact J58 () trivial
  refine g_iconst (pc := 56) X (n := 0) (dl_at t_X24_fitsStep 30 rfl) ?_
  exact g_zret (pc := 57) X (Or.inl rfl) rfl rfl (dl_at t_X24_fitsStep 31 rfl)
def k_X24_apply : List (Nat × Instr × Nat) := [(0, .iconst 0, 1), (1, .istore_n 3, 1), (2, .aload_n 1, 1), (3, .getfield 199, 3), (6, .iload_n 2, 1), (7, .iaload, 1), (8, .istore 4, 2), (10, .iload 4, 2), (12, .aload_n 1, 1), (13, .getfield 199, 3), (16, .iload_n 2, 1), (17, .iconst 1, 1), (18, .iadd, 1), (19, .iaload, 1), (20, .if_icmp .ge 156, 3), (23, .iload_n 3, 1), (24, .bipush 100, 2), (26, .aload_n 1, 1), (27, .getfield 168, 3), (30, .iload 4, 2), (32, .iconst 1, 1), (33, .iadd, 1), (34, .iaload, 1), (35, .aload_n 1, 1), (36, .getfield 168, 3), (39, .iload 4, 2), (41, .iaload, 1), (42, .isub, 1), (43, .imul, 1), (44, .aload_n 1, 1), (45, .getfield 151, 3), (48, .iload 4, 2), (50, .iaload, 1), (51, .ifCond .lt 7, 3), (54, .iconst 1, 1), (55, .goto 4, 3), (58, .iconst 0, 1), (59, .iadd, 1), (60, .iadd, 1), (61, .istore_n 3, 1), (62, .iconst 0, 1), (63, .istore 5, 2), (65, .iload 5, 2), (67, .aload_n 0, 1), (68, .getfield 12, 3), (71, .getfield 119, 3), (74, .if_icmp .ge 23, 3), (77, .aload_n 0, 1), (78, .getfield 72, 3), (81, .iload 5, 2), (83, .aload_n 0, 1), (84, .getfield 69, 3), (87, .iload 5, 2), (89, .baload, 1), (90, .bastore, 1), (91, .iinc 5 1, 3), (94, .goto (-29), 3), (97, .iconst 0, 1), (98, .istore 5, 2), (100, .iload 5, 2), (102, .aload_n 0, 1), (103, .getfield 12, 3), (106, .getfield 119, 3), (109, .if_icmp .ge 61, 3), (112, .aload_n 0, 1), (113, .getfield 69, 3), (116, .iload 5, 2), (118, .aload_n 0, 1), (119, .aload_n 1, 1), (120, .iload 4, 2), (122, .iload 5, 2), (124, .iload 4, 2), (126, .aload_n 1, 1), (127, .getfield 199, 3), (130, .iload_n 2, 1), (131, .iaload, 1), (132, .if_icmp .ne 7, 3), (135, .iconst 1, 1), (136, .goto 4, 3), (139, .iconst 0, 1), (140, .invokevirtual 202, 3), (143, .ifCond .eq 19, 3), (146, .aload_n 0, 1), (147, .aload_n 1, 1), (148, .iload 4, 2), (150, .iload 5, 2), (152, .invokevirtual 206, 3), (155, .ifCond .eq 7, 3), (158, .iconst 1, 1), (159, .goto 4, 3), (162, .iconst 0, 1), (163, .bastore, 1), (164, .iinc 5 1, 3), (167, .goto (-67), 3), (170, .iinc 4 1, 3), (173, .goto (-163), 3), (176, .aload_n 1, 1), (177, .getfield 210, 3), (180, .iload_n 2, 1), (181, .iaload, 1), (182, .istore 4, 2), (184, .iconst 0, 1), (185, .istore 5, 2), (187, .iload 5, 2), (189, .aload_n 0, 1), (190, .getfield 12, 3), (193, .getfield 119, 3), (196, .if_icmp .ge 139, 3), (199, .aload_n 1, 1), (200, .getfield 213, 3), (203, .iload 4, 2), (205, .iaload, 1), (206, .istore 6, 2), (208, .aload_n 0, 1), (209, .getfield 69, 3), (212, .iload 5, 2), (214, .baload, 1), (215, .ifCond .eq 114, 3), (218, .iload 6, 2), (220, .aload_n 1, 1), (221, .getfield 213, 3), (224, .iload 4, 2), (226, .iconst 1, 1), (227, .iadd, 1), (228, .iaload, 1), (229, .if_icmp .ge 100, 3), (232, .bipush 22, 2), (234, .iload 5, 2), (236, .imul, 1), (237, .aload_n 1, 1), (238, .getfield 216, 3), (241, .iload 6, 2), (243, .iaload, 1), (244, .iadd, 1), (245, .istore 7, 2), (247, .iload_n 3, 1), (248, .aload_n 0, 1), (249, .getfield 66, 3), (252, .iload 7, 2), (254, .iaload, 1), (255, .if_icmp .ge 6, 3), (258, .goto 65, 3), (261, .aload_n 0, 1), (262, .getfield 66, 3), (265, .iload 7, 2), (267, .iload_n 3, 1), (268, .iastore, 1), (269, .aload_n 0, 1), (270, .getfield 26, 3), (273, .iload 7, 2), (275, .aload_n 1, 1), (276, .getfield 217, 3), (279, .iload 6, 2), (281, .iaload, 1), (282, .iastore, 1), (283, .aload_n 1, 1), (284, .getfield 216, 3), (287, .iload 6, 2), (289, .iaload, 1), (290, .bipush 17, 2), (292, .if_icmp .ne 31, 3), (295, .aload_n 0, 1), (296, .getfield 29, 3), (299, .iload 5, 2), (301, .aload_n 1, 1), (302, .getfield 218, 3), (305, .iload 6, 2), (307, .iaload, 1), (308, .iastore, 1), (309, .aload_n 0, 1), (310, .getfield 32, 3), (313, .iload 5, 2), (315, .aload_n 1, 1), (316, .getfield 219, 3), (319, .iload 6, 2), (321, .iaload, 1), (322, .iastore, 1), (323, .iinc 6 1, 3), (326, .goto (-118), 3), (329, .iinc 5 1, 3), (332, .goto (-145), 3), (335, .return_, 1)]
theorem t_X24_apply : ∀ q ∈ k_X24_apply, decode cX24_apply q.1 = .ok q.2 := dl_all (by decide +kernel)
noncomputable def m_X24_apply_l65 (a0 x5_65 : Int) (h_65 : Hp) : Option ((Int × Hp) ⊕ ((Hp))) :=
  gd (h_65 (h_65 a0 0) (-2) = 384) (if (h_65 (h_65 a0 0) 3) ≤ x5_65 then (some (.inr h_65))
  else (gd (h_65 (h_65 a0 17) (-2) % 16 = 3 ∧ (0 : Int) ≤ x5_65 ∧ x5_65 < h_65 (h_65 a0 17) (-1)) (gd (h_65 (h_65 a0 18) (-2) % 16 = 3 ∧ (0 : Int) ≤ x5_65 ∧ x5_65 < h_65 (h_65 a0 18) (-1)) (pt h_65 (h_65 a0 18) x5_65 (h_65 (h_65 a0 17) x5_65) fun h90 =>
  lt_ (w32 (x5_65 + 1)) fun x5_91 =>
  some (.inl (x5_91, h90))))))
noncomputable def m_X24_apply_j163 (x5_100 s0_140 s2_163 : Int) (h_100 : Hp) : Option ((Int × Hp) ⊕ ((Hp))) :=
  gd (h_100 s0_140 (-2) % 16 = 3 ∧ (0 : Int) ≤ x5_100 ∧ x5_100 < h_100 s0_140 (-1)) (pt h_100 s0_140 x5_100 s2_163 fun h163 =>
  lt_ (w32 (x5_100 + 1)) fun x5_164 =>
  some (.inl (x5_164, h163)))
noncomputable def m_X24_apply_j162 (x5_100 s0_140 : Int) (h_100 : Hp) : Option ((Int × Hp) ⊕ ((Hp))) :=
  m_X24_apply_j163 x5_100 s0_140 0 h_100
noncomputable def m_X24_apply_j140 (a0 a1 x4_10 x5_100 s0_140 s6_140 : Int) (h_100 : Hp) : Option ((Int × Hp) ⊕ ((Hp))) :=
  (m_X24_linked a0 a1 x4_10 x5_100 s6_140 h_100).bind fun v140 =>
  if v140 = 0 then (m_X24_apply_j162 x5_100 s0_140 h_100)
  else ((m_X24_fitsStep a0 a1 x4_10 x5_100 h_100).bind fun v152 =>
  if v152 = 0 then (m_X24_apply_j162 x5_100 s0_140 h_100)
  else (m_X24_apply_j163 x5_100 s0_140 1 h_100))
noncomputable def m_X24_apply_l100 (a0 a1 a2 x4_10 x5_100 : Int) (h_100 : Hp) : Option ((Int × Hp) ⊕ ((Hp))) :=
  gd (h_100 (h_100 a0 0) (-2) = 384) (if (h_100 (h_100 a0 0) 3) ≤ x5_100 then (some (.inr h_100))
  else (gd (h_100 (h_100 a1 9) (-2) % 16 = 1 ∧ (0 : Int) ≤ a2 ∧ a2 < h_100 (h_100 a1 9) (-1)) (if x4_10 ≠ (h_100 (h_100 a1 9) a2) then (m_X24_apply_j140 a0 a1 x4_10 x5_100 (h_100 a0 17) 0 h_100)
  else (m_X24_apply_j140 a0 a1 x4_10 x5_100 (h_100 a0 17) 1 h_100))))
noncomputable def m_X24_apply_j59 (a0 a1 a2 x3_10 x4_10 s1_59 s2_59 : Int) (h_10 : Hp) : Option ((Int × Int × Hp) ⊕ ((Int × Hp))) :=
  lt_ (w32 (x3_10 + (w32 (s1_59 + s2_59)))) fun x3_61 =>
  lt_ 0 fun x5_63 =>
  (lp (fun (q : Int × Hp) => m_X24_apply_l65 a0 q.1 q.2) (x5_63, h_10)).bind (fun (y97 : Hp) => lt_ 0 fun x5_98 =>
  (lp (fun (q : Int × Hp) => m_X24_apply_l100 a0 a1 a2 x4_10 q.1 q.2) (x5_98, y97)).bind (fun (y170 : Hp) => lt_ (w32 (x4_10 + 1)) fun x4_170 =>
  some (.inl (x3_61, x4_170, y170))))
noncomputable def m_X24_apply_l10 (a0 a1 a2 x3_10 x4_10 : Int) (h_10 : Hp) : Option ((Int × Int × Hp) ⊕ ((Int × Hp))) :=
  gd (h_10 (h_10 a1 9) (-2) % 16 = 1 ∧ (0 : Int) ≤ (w32 (a2 + 1)) ∧ (w32 (a2 + 1)) < h_10 (h_10 a1 9) (-1)) (if (h_10 (h_10 a1 9) (w32 (a2 + 1))) ≤ x4_10 then (some (.inr (x3_10, h_10)))
  else (gd (h_10 (h_10 a1 14) (-2) % 16 = 1 ∧ (0 : Int) ≤ (w32 (x4_10 + 1)) ∧ (w32 (x4_10 + 1)) < h_10 (h_10 a1 14) (-1)) (gd (h_10 (h_10 a1 14) (-2) % 16 = 1 ∧ (0 : Int) ≤ x4_10 ∧ x4_10 < h_10 (h_10 a1 14) (-1)) (gd (h_10 (h_10 a1 11) (-2) % 16 = 1 ∧ (0 : Int) ≤ x4_10 ∧ x4_10 < h_10 (h_10 a1 11) (-1)) (if (h_10 (h_10 a1 11) x4_10) < 0 then (m_X24_apply_j59 a0 a1 a2 x3_10 x4_10 (w32 (100 * (w32 ((h_10 (h_10 a1 14) (w32 (x4_10 + 1))) - (h_10 (h_10 a1 14) x4_10))))) 0 h_10)
  else (m_X24_apply_j59 a0 a1 a2 x3_10 x4_10 (w32 (100 * (w32 ((h_10 (h_10 a1 14) (w32 (x4_10 + 1))) - (h_10 (h_10 a1 14) x4_10))))) 1 h_10))))))
noncomputable def m_X24_apply_j323 (x6_208 : Int) (h_323 : Hp) : Option ((Int × Hp) ⊕ ((Hp))) :=
  lt_ (w32 (x6_208 + 1)) fun x6_323 =>
  some (.inl (x6_323, h_323))
noncomputable def m_X24_apply_l208 (a0 a1 x3_176 x4_182 x5_187 x6_208 : Int) (h_208 : Hp) : Option ((Int × Hp) ⊕ ((Hp))) :=
  gd (h_208 (h_208 a0 17) (-2) % 16 = 3 ∧ (0 : Int) ≤ x5_187 ∧ x5_187 < h_208 (h_208 a0 17) (-1)) (if (h_208 (h_208 a0 17) x5_187) = 0 then (some (.inr h_208))
  else (gd (h_208 (h_208 a1 21) (-2) % 16 = 1 ∧ (0 : Int) ≤ (w32 (x4_182 + 1)) ∧ (w32 (x4_182 + 1)) < h_208 (h_208 a1 21) (-1)) (if (h_208 (h_208 a1 21) (w32 (x4_182 + 1))) ≤ x6_208 then (some (.inr h_208))
  else (gd (h_208 (h_208 a1 22) (-2) % 16 = 1 ∧ (0 : Int) ≤ x6_208 ∧ x6_208 < h_208 (h_208 a1 22) (-1)) (lt_ (w32 ((w32 (22 * x5_187)) + (h_208 (h_208 a1 22) x6_208))) fun x7_245 =>
  gd (h_208 (h_208 a0 16) (-2) % 16 = 1 ∧ (0 : Int) ≤ x7_245 ∧ x7_245 < h_208 (h_208 a0 16) (-1)) (if (h_208 (h_208 a0 16) x7_245) ≤ x3_176 then (pt h_208 (h_208 a0 16) x7_245 x3_176 fun h268 =>
  gd (h268 (h268 a1 23) (-2) % 16 = 1 ∧ (0 : Int) ≤ x6_208 ∧ x6_208 < h268 (h268 a1 23) (-1)) (gd (h268 (h268 a0 3) (-2) % 16 = 1 ∧ (0 : Int) ≤ x7_245 ∧ x7_245 < h268 (h268 a0 3) (-1)) (pt h268 (h268 a0 3) x7_245 (h268 (h268 a1 23) x6_208) fun h282 =>
  gd (h282 (h282 a1 22) (-2) % 16 = 1 ∧ (0 : Int) ≤ x6_208 ∧ x6_208 < h282 (h282 a1 22) (-1)) (if (h282 (h282 a1 22) x6_208) ≠ 17 then (m_X24_apply_j323 x6_208 h282)
  else (gd (h282 (h282 a1 24) (-2) % 16 = 1 ∧ (0 : Int) ≤ x6_208 ∧ x6_208 < h282 (h282 a1 24) (-1)) (gd (h282 (h282 a0 4) (-2) % 16 = 1 ∧ (0 : Int) ≤ x5_187 ∧ x5_187 < h282 (h282 a0 4) (-1)) (pt h282 (h282 a0 4) x5_187 (h282 (h282 a1 24) x6_208) fun h308 =>
  gd (h308 (h308 a1 25) (-2) % 16 = 1 ∧ (0 : Int) ≤ x6_208 ∧ x6_208 < h308 (h308 a1 25) (-1)) (gd (h308 (h308 a0 5) (-2) % 16 = 1 ∧ (0 : Int) ≤ x5_187 ∧ x5_187 < h308 (h308 a0 5) (-1)) (pt h308 (h308 a0 5) x5_187 (h308 (h308 a1 25) x6_208) fun h322 =>
  m_X24_apply_j323 x6_208 h322)))))))))
  else (m_X24_apply_j323 x6_208 h_208)))))))
noncomputable def m_X24_apply_l187 (a0 a1 x3_176 x4_182 x5_187 : Int) (h_187 : Hp) : Option ((Int × Hp) ⊕ ((Hp))) :=
  gd (h_187 (h_187 a0 0) (-2) = 384) (if (h_187 (h_187 a0 0) 3) ≤ x5_187 then (some (.inr h_187))
  else (gd (h_187 (h_187 a1 21) (-2) % 16 = 1 ∧ (0 : Int) ≤ x4_182 ∧ x4_182 < h_187 (h_187 a1 21) (-1)) (lt_ (h_187 (h_187 a1 21) x4_182) fun x6_206 =>
  (lp (fun (q : Int × Hp) => m_X24_apply_l208 a0 a1 x3_176 x4_182 x5_187 q.1 q.2) (x6_206, h_187)).bind (fun (y329 : Hp) => lt_ (w32 (x5_187 + 1)) fun x5_329 =>
  some (.inl (x5_329, y329))))))
noncomputable def m_X24_apply (a0 a1 a2 : Int) (h : Hp) : Option (Hp) :=
  lt_ 0 fun x3_1 =>
  gd (h a1 (-2) = 368) (gd (h (h a1 9) (-2) % 16 = 1 ∧ (0 : Int) ≤ a2 ∧ a2 < h (h a1 9) (-1)) (lt_ (h (h a1 9) a2) fun x4_8 =>
  (lp (fun (q : Int × Int × Hp) => m_X24_apply_l10 a0 a1 a2 q.1 q.2.1 q.2.2) (x3_1, x4_8, h)).bind (fun (y176 : Int × Hp) => gd (y176.2 (y176.2 a1 10) (-2) % 16 = 1 ∧ (0 : Int) ≤ a2 ∧ a2 < y176.2 (y176.2 a1 10) (-1)) (lt_ (y176.2 (y176.2 a1 10) a2) fun x4_182 =>
  lt_ 0 fun x5_185 =>
  (lp (fun (q : Int × Hp) => m_X24_apply_l187 a0 a1 y176.1 x4_182 q.1 q.2) (x5_185, y176.2)).bind (fun (x : Hp) => some x)))))
theorem s_X24_apply {l : Launch} [NoTr l] {D : SD} {a0 a1 a2 : Int} {h : Hp} (hk : h a0 (-2) = 400) (r2 : r32 a2) {r : Hp} (hm : m_X24_apply a0 a1 a2 h = some r) : Sim l D yX24_apply (Cond.code yX24_apply cX24_apply 8 (Option.none : Option Jvm.ClassFile.FieldType)) 3 125 [rv D a0, rv D a1, iv a2] h 0 ((0, 0), r) := by
  refine Sim.of (fin := fun (v : Hp) => ((0, 0), v)) (lsE := [(0, rv D a0), (1, rv D a1), (2, iv a2)]) hm rfl cwS_code (la_r (la_r (la_i la_n))) (ll_r (ll_r (ll_i ll_n))) ?_
  intro p e s m below meth c X hcw hmm hcc hnm hname
  unfold m_X24_apply
  refine g_iconst (pc := 0) X (n := 0) (dl_at t_X24_apply 0 rfl) ?_
  refine g_ltz (Or.inl rfl) fun x3_1 r3_1 => ?_
  refine g_istore_nN (pc := 1) X (j := 3) (i := 3) (x := x3_1) (b := 2) (w := iv a2) (rest := [(0, rv D a0), (1, rv D a1)]) rfl (Nat.le_of_ble_eq_true rfl) [2, 0, 1] rfl (by decide) rfl rfl (dl_at t_X24_apply 1 rfl) ?_
  refine g_aload_n (pc := 2) X (j := 1) (i := 1) (q := 3) (x := a1) rfl rfl (dl_at t_X24_apply 2 rfl) ?_
  refine g_gd fun k3 => ?_
  refine r_getr (pc := 3) X fX22_9 k3 q3418 (dl_at t_X24_apply 3 rfl) ?_
  refine g_iload_n (pc := 6) X (j := 2) (i := 2) (q := 1) (x := a2) rfl rfl (dl_at t_X24_apply 4 rfl) ?_
  refine g_gd fun k7 => ?_
  refine g_iald (pc := 7) X r2 k7 (dl_at t_X24_apply 5 rfl) fun g7 => ?_
  refine g_lti g7 fun x4_8 r4_8 => ?_
  refine g_istoreN (pc := 8) X (i := 4) (x := x4_8) (b := 3) (w := iv x3_1) (rest := [(2, iv a2), (0, rv D a0), (1, rv D a1)]) (Nat.le_of_ble_eq_true rfl) [0, 1, 2, 3] rfl (by decide) rfl rfl (dl_at t_X24_apply 6 rfl) ?_
  refine g_ls (ls2 := [(0, rv D a0), (1, rv D a1), (2, iv a2), (3, iv x3_1), (4, iv x4_8)]) [3, 4, 2, 1, 0] rfl ?_
  refine g_loop1 (fun (q : Int × Int × Hp) => [(0, rv D a0), (1, rv D a1), (2, iv a2), (3, iv q.1), (4, iv q.2.1)]) (fun (q : Int × Int × Hp) => q.2.2) (fun (q : Int × Int × Hp) => r32 q.1 ∧ r32 q.2.1 ∧ Ext h q.2.2) 176 (fun (y176 : Int × Hp) => [(0, rv D a0), (1, rv D a1), (2, iv a2), (3, iv y176.1)]) (fun (y176 : Int × Hp) => y176.2) (fun (y176 : Int × Hp) => r32 y176.1 ∧ Ext h y176.2) (x3_1, x4_8, h) ⟨(r32_z r3_1), r4_8, (Ext.refl _)⟩ ?_ ?_
  · rintro ⟨x3_10, x4_10, h_10⟩ ⟨r3_10, r4_10, E_10⟩
    try dsimp only
    unfold m_X24_apply_l10
    refine g_iload (pc := 10) X (i := 4) (q := 4) (x := x4_10) rfl (dl_at t_X24_apply 7 rfl) ?_
    refine g_aload_n (pc := 12) X (j := 1) (i := 1) (q := 1) (x := a1) rfl rfl (dl_at t_X24_apply 8 rfl) ?_
    have k13 := kx E_10 (by decide) k3
    refine r_getr (pc := 13) X fX22_9 k13 q3418 (dl_at t_X24_apply 9 rfl) ?_
    refine g_iload_n (pc := 16) X (j := 2) (i := 2) (q := 2) (x := a2) rfl rfl (dl_at t_X24_apply 10 rfl) ?_
    refine g_iconst (pc := 17) X (n := 1) (dl_at t_X24_apply 11 rfl) ?_
    refine g_iadd (pc := 18) X r2 (r32_c rfl) (dl_at t_X24_apply 12 rfl) ?_
    refine g_gd fun k19 => ?_
    refine g_iald (pc := 19) X (r32_w _) k19 (dl_at t_X24_apply 13 rfl) fun g19 => ?_
    refine g_icmpge (pc := 20) X r4_10 g19 (off := 156) (tgt := 176) rfl (dl_at t_X24_apply 14 rfl) (fun _ => ?_) (fun _ => ?_)
    · refine g_ls (ls2 := [(0, rv D a0), (1, rv D a1), (2, iv a2), (3, iv x3_10)]) [0, 1, 2, 3] rfl ?_
      exact g_at fun Q hQ => hQ ⟨r3_10, E_10⟩
    refine g_iload_n (pc := 23) X (j := 3) (i := 3) (q := 3) (x := x3_10) rfl rfl (dl_at t_X24_apply 15 rfl) ?_
    refine g_bipush (pc := 24) X (n := 100) rfl (dl_at t_X24_apply 16 rfl) ?_
    refine g_aload_n (pc := 26) X (j := 1) (i := 1) (q := 1) (x := a1) rfl rfl (dl_at t_X24_apply 17 rfl) ?_
    refine r_getr (pc := 27) X fX22_14 k13 q3428 (dl_at t_X24_apply 18 rfl) ?_
    refine g_iload (pc := 30) X (i := 4) (q := 4) (x := x4_10) rfl (dl_at t_X24_apply 19 rfl) ?_
    refine g_iconst (pc := 32) X (n := 1) (dl_at t_X24_apply 20 rfl) ?_
    refine g_iadd (pc := 33) X r4_10 (r32_c rfl) (dl_at t_X24_apply 21 rfl) ?_
    refine g_gd fun k34 => ?_
    refine g_iald (pc := 34) X (r32_w _) k34 (dl_at t_X24_apply 22 rfl) fun g34 => ?_
    refine g_aload_n (pc := 35) X (j := 1) (i := 1) (q := 1) (x := a1) rfl rfl (dl_at t_X24_apply 23 rfl) ?_
    refine r_getr (pc := 36) X fX22_14 k13 q3428 (dl_at t_X24_apply 24 rfl) ?_
    refine g_iload (pc := 39) X (i := 4) (q := 4) (x := x4_10) rfl (dl_at t_X24_apply 25 rfl) ?_
    refine g_gd fun k41 => ?_
    refine g_iald (pc := 41) X r4_10 k41 (dl_at t_X24_apply 26 rfl) fun g41 => ?_
    refine g_isub (pc := 42) X g34 g41 (dl_at t_X24_apply 27 rfl) ?_
    refine g_imul (pc := 43) X (r32_c rfl) (r32_w _) (dl_at t_X24_apply 28 rfl) ?_
    refine g_aload_n (pc := 44) X (j := 1) (i := 1) (q := 1) (x := a1) rfl rfl (dl_at t_X24_apply 29 rfl) ?_
    refine r_getr (pc := 45) X fX22_11 k13 q3422 (dl_at t_X24_apply 30 rfl) ?_
    refine g_iload (pc := 48) X (i := 4) (q := 4) (x := x4_10) rfl (dl_at t_X24_apply 31 rfl) ?_
    refine g_gd fun k50 => ?_
    refine g_iald (pc := 50) X r4_10 k50 (dl_at t_X24_apply 32 rfl) fun g50 => ?_
    refine g_join (γ := Int × Int) (fun q => r32 q.1 ∧ (q.2 = 0 ∨ q.2 = 1)) 59 (fun q => [(0, rv D a0), (1, rv D a1), (2, iv a2), (4, iv x4_10)]) (fun q => [iv q.2, iv q.1, iv x3_10]) (fun q => h_10) (fun q => m_X24_apply_j59 a0 a1 a2 x3_10 x4_10 q.1 q.2 h_10) ?_ ?_
    · rintro ⟨s1_59, s2_59⟩ ⟨rs1_59, rs2_59⟩
      try dsimp only
      unfold m_X24_apply_j59
      refine g_iadd (pc := 59) X rs1_59 (r32_z rs2_59) (dl_at t_X24_apply 37 rfl) ?_
      refine g_iadd (pc := 60) X r3_10 (r32_w _) (dl_at t_X24_apply 38 rfl) ?_
      refine g_lti (r32_w _) fun x3_61 r3_61 => ?_
      refine g_istore_nN (pc := 61) X (j := 3) (i := 3) (x := x3_61) (b := 2) (w := iv a2) (rest := [(0, rv D a0), (1, rv D a1), (4, iv x4_10)]) rfl (Nat.le_of_ble_eq_true rfl) [2, 0, 1, 3] rfl (by decide) rfl rfl (dl_at t_X24_apply 39 rfl) ?_
      refine g_iconst (pc := 62) X (n := 0) (dl_at t_X24_apply 40 rfl) ?_
      refine g_ltz (Or.inl rfl) fun x5_63 r5_63 => ?_
      refine g_istoreN (pc := 63) X (i := 5) (x := x5_63) (b := 4) (w := iv x4_10) (rest := [(3, iv x3_61), (2, iv a2), (0, rv D a0), (1, rv D a1)]) (Nat.le_of_ble_eq_true rfl) [4, 0, 1, 2, 3] rfl (by decide) rfl rfl (dl_at t_X24_apply 41 rfl) ?_
      refine g_ls (ls2 := [(0, rv D a0), (1, rv D a1), (2, iv a2), (3, iv x3_61), (4, iv x4_10), (5, iv x5_63)]) [4, 5, 3, 2, 1, 0] rfl ?_
      refine g_loop1 (fun (q : Int × Hp) => [(0, rv D a0), (1, rv D a1), (2, iv a2), (3, iv x3_61), (4, iv x4_10), (5, iv q.1)]) (fun (q : Int × Hp) => q.2) (fun (q : Int × Hp) => r32 q.1 ∧ Ext h_10 q.2) 97 (fun (y97 : Hp) => [(0, rv D a0), (1, rv D a1), (2, iv a2), (3, iv x3_61), (4, iv x4_10)]) (fun (y97 : Hp) => y97) (fun (y97 : Hp) => Ext h_10 y97) (x5_63, h_10) ⟨(r32_z r5_63), (Ext.refl _)⟩ ?_ ?_
      · rintro ⟨x5_65, h_65⟩ ⟨r5_65, E_65⟩
        try dsimp only
        unfold m_X24_apply_l65
        refine g_iload (pc := 65) X (i := 5) (q := 5) (x := x5_65) rfl (dl_at t_X24_apply 42 rfl) ?_
        refine g_aload_n (pc := 67) X (j := 0) (i := 0) (q := 0) (x := a0) rfl rfl (dl_at t_X24_apply 43 rfl) ?_
        have k68 := kx (E_10.trans E_65) (by decide) hk
        refine r_getr (pc := 68) X fX24_0 k68 q3642 (dl_at t_X24_apply 44 rfl) ?_
        refine g_gd fun k71 => ?_
        refine r_geti (pc := 71) X fX23_3 k71 q3527 (dl_at t_X24_apply 45 rfl) fun g71 => ?_
        refine g_icmpge (pc := 74) X r5_65 g71 (off := 23) (tgt := 97) rfl (dl_at t_X24_apply 46 rfl) (fun _ => ?_) (fun _ => ?_)
        · refine g_ls (ls2 := [(0, rv D a0), (1, rv D a1), (2, iv a2), (3, iv x3_61), (4, iv x4_10)]) [0, 1, 2, 3, 4] rfl ?_
          exact g_at fun Q hQ => hQ E_65
        refine g_aload_n (pc := 77) X (j := 0) (i := 0) (q := 0) (x := a0) rfl rfl (dl_at t_X24_apply 47 rfl) ?_
        refine r_getr (pc := 78) X fX24_18 k68 q3680 (dl_at t_X24_apply 48 rfl) ?_
        refine g_iload (pc := 81) X (i := 5) (q := 5) (x := x5_65) rfl (dl_at t_X24_apply 49 rfl) ?_
        refine g_aload_n (pc := 83) X (j := 0) (i := 0) (q := 0) (x := a0) rfl rfl (dl_at t_X24_apply 50 rfl) ?_
        refine r_getr (pc := 84) X fX24_17 k68 q3679 (dl_at t_X24_apply 51 rfl) ?_
        refine g_iload (pc := 87) X (i := 5) (q := 5) (x := x5_65) rfl (dl_at t_X24_apply 52 rfl) ?_
        refine g_gd fun k89 => ?_
        refine g_zald (pc := 89) X r5_65 k89 (dl_at t_X24_apply 53 rfl) fun g89 => ?_
        refine g_gd fun k90 => ?_
        refine r_zast (pc := 90) X r5_65 g89 k90 (dl_at t_X24_apply 54 rfl) (fun h90 E90 => ?_)
        refine r_iincN (pc := 91) X (i := 5) (q := 5) (n := 1) (x := x5_65) (b := 4) (w := iv x4_10) (rest := [(0, rv D a0), (1, rv D a1), (2, iv a2), (3, iv x3_61)]) rfl r5_65 (r32_c rfl) (Nat.le_of_ble_eq_true rfl) [4, 0, 1, 2, 3] rfl (by decide) rfl rfl (dl_at t_X24_apply 55 rfl) fun x5_91 r5_91 => ?_
        refine g_goto (pc := 94) X (off := (-29)) (tgt := 65) rfl (dl_at t_X24_apply 56 rfl) ?_
        refine g_ls (ls2 := [(0, rv D a0), (1, rv D a1), (2, iv a2), (3, iv x3_61), (4, iv x4_10), (5, iv x5_91)]) [2, 3, 4, 5, 1, 0] rfl ?_
        exact g_at fun Q hQ => hQ ⟨r5_91, (E_65.trans E90)⟩
      · rintro h_97 E_97
        try dsimp only [sE]
        refine g_iconst (pc := 97) X (n := 0) (dl_at t_X24_apply 57 rfl) ?_
        refine g_ltz (Or.inl rfl) fun x5_98 r5_98 => ?_
        refine g_istoreN (pc := 98) X (i := 5) (x := x5_98) (b := 4) (w := iv x4_10) (rest := [(0, rv D a0), (1, rv D a1), (2, iv a2), (3, iv x3_61)]) (Nat.le_of_ble_eq_true rfl) [4, 0, 1, 2, 3] rfl (by decide) rfl rfl (dl_at t_X24_apply 58 rfl) ?_
        refine g_ls (ls2 := [(0, rv D a0), (1, rv D a1), (2, iv a2), (3, iv x3_61), (4, iv x4_10), (5, iv x5_98)]) [2, 3, 4, 5, 1, 0] rfl ?_
        refine g_loop1 (fun (q : Int × Hp) => [(0, rv D a0), (1, rv D a1), (2, iv a2), (3, iv x3_61), (4, iv x4_10), (5, iv q.1)]) (fun (q : Int × Hp) => q.2) (fun (q : Int × Hp) => r32 q.1 ∧ Ext h_97 q.2) 170 (fun (y170 : Hp) => [(0, rv D a0), (1, rv D a1), (2, iv a2), (3, iv x3_61), (4, iv x4_10)]) (fun (y170 : Hp) => y170) (fun (y170 : Hp) => Ext h_97 y170) (x5_98, h_97) ⟨(r32_z r5_98), (Ext.refl _)⟩ ?_ ?_
        · rintro ⟨x5_100, h_100⟩ ⟨r5_100, E_100⟩
          try dsimp only
          unfold m_X24_apply_l100
          refine g_iload (pc := 100) X (i := 5) (q := 5) (x := x5_100) rfl (dl_at t_X24_apply 59 rfl) ?_
          refine g_aload_n (pc := 102) X (j := 0) (i := 0) (q := 0) (x := a0) rfl rfl (dl_at t_X24_apply 60 rfl) ?_
          have k103 := kx (E_10.trans (E_97.trans E_100)) (by decide) hk
          refine r_getr (pc := 103) X fX24_0 k103 q3642 (dl_at t_X24_apply 61 rfl) ?_
          refine g_gd fun k106 => ?_
          refine r_geti (pc := 106) X fX23_3 k106 q3527 (dl_at t_X24_apply 62 rfl) fun g106 => ?_
          refine g_icmpge (pc := 109) X r5_100 g106 (off := 61) (tgt := 170) rfl (dl_at t_X24_apply 63 rfl) (fun _ => ?_) (fun _ => ?_)
          · refine g_ls (ls2 := [(0, rv D a0), (1, rv D a1), (2, iv a2), (3, iv x3_61), (4, iv x4_10)]) [0, 1, 2, 3, 4] rfl ?_
            exact g_at fun Q hQ => hQ E_100
          refine g_aload_n (pc := 112) X (j := 0) (i := 0) (q := 0) (x := a0) rfl rfl (dl_at t_X24_apply 64 rfl) ?_
          refine r_getr (pc := 113) X fX24_17 k103 q3679 (dl_at t_X24_apply 65 rfl) ?_
          refine g_iload (pc := 116) X (i := 5) (q := 5) (x := x5_100) rfl (dl_at t_X24_apply 66 rfl) ?_
          refine g_aload_n (pc := 118) X (j := 0) (i := 0) (q := 0) (x := a0) rfl rfl (dl_at t_X24_apply 67 rfl) ?_
          refine g_aload_n (pc := 119) X (j := 1) (i := 1) (q := 1) (x := a1) rfl rfl (dl_at t_X24_apply 68 rfl) ?_
          refine g_iload (pc := 120) X (i := 4) (q := 4) (x := x4_10) rfl (dl_at t_X24_apply 69 rfl) ?_
          refine g_iload (pc := 122) X (i := 5) (q := 5) (x := x5_100) rfl (dl_at t_X24_apply 70 rfl) ?_
          refine g_iload (pc := 124) X (i := 4) (q := 4) (x := x4_10) rfl (dl_at t_X24_apply 71 rfl) ?_
          refine g_aload_n (pc := 126) X (j := 1) (i := 1) (q := 1) (x := a1) rfl rfl (dl_at t_X24_apply 72 rfl) ?_
          have k127 := kx (E_97.trans E_100) (by decide) k13
          refine r_getr (pc := 127) X fX22_9 k127 q3418 (dl_at t_X24_apply 73 rfl) ?_
          refine g_iload_n (pc := 130) X (j := 2) (i := 2) (q := 2) (x := a2) rfl rfl (dl_at t_X24_apply 74 rfl) ?_
          refine g_gd fun k131 => ?_
          refine g_iald (pc := 131) X r2 k131 (dl_at t_X24_apply 75 rfl) fun g131 => ?_
          refine g_join (γ := Int × Int) (fun q => (q.2 = 0 ∨ q.2 = 1)) 140 (fun q => [(0, rv D a0), (1, rv D a1), (2, iv a2), (3, iv x3_61), (4, iv x4_10), (5, iv x5_100)]) (fun q => [iv q.2, iv x5_100, iv x4_10, rv D a1, rv D a0, iv x5_100, rv D q.1]) (fun q => h_100) (fun q => m_X24_apply_j140 a0 a1 x4_10 x5_100 q.1 q.2 h_100) ?_ ?_
          · rintro ⟨s0_140, s6_140⟩ rs6_140
            try dsimp only
            unfold m_X24_apply_j140
            refine r_callRz (pc := 140) X (fun _ hv => s_X24_linked k103 r4_10 r5_100 rs6_140 hv) cw_code q4684 q378 (in_Vk X (As := [rv D a1, iv x4_10, iv x5_100, iv s6_140]) kX24 k103 (Or.inl q4681) q4683 qs275 cw_code q4684 ⟨by decide, by decide⟩ rfl (dl_at t_X24_apply 80 rfl)) (dl_at t_X24_apply 80 rfl) (cat24 (st := [iv x5_100, rv D s0_140]) (Nat.le_of_ble_eq_true rfl)) (Nat.le_of_ble_eq_true rfl) (Nat.le_of_ble_eq_true rfl) fun v140 g140 => ?_
            refine g_join (γ := Int) (fun q => (q = 0 ∨ q = 1)) 163 (fun q => [(0, rv D a0), (1, rv D a1), (2, iv a2), (3, iv x3_61), (4, iv x4_10), (5, iv x5_100)]) (fun q => [iv q, iv x5_100, rv D s0_140]) (fun q => h_100) (fun q => m_X24_apply_j163 x5_100 s0_140 q h_100) ?_ ?_
            · rintro s2_163 rs2_163
              try dsimp only
              unfold m_X24_apply_j163
              refine g_gd fun k163 => ?_
              refine r_zast (pc := 163) X r5_100 rs2_163 k163 (dl_at t_X24_apply 91 rfl) (fun h163 E163 => ?_)
              refine r_iincN (pc := 164) X (i := 5) (q := 5) (n := 1) (x := x5_100) (b := 4) (w := iv x4_10) (rest := [(0, rv D a0), (1, rv D a1), (2, iv a2), (3, iv x3_61)]) rfl r5_100 (r32_c rfl) (Nat.le_of_ble_eq_true rfl) [4, 0, 1, 2, 3] rfl (by decide) rfl rfl (dl_at t_X24_apply 92 rfl) fun x5_164 r5_164 => ?_
              refine g_goto (pc := 167) X (off := (-67)) (tgt := 100) rfl (dl_at t_X24_apply 93 rfl) ?_
              refine g_ls (ls2 := [(0, rv D a0), (1, rv D a1), (2, iv a2), (3, iv x3_61), (4, iv x4_10), (5, iv x5_164)]) [2, 3, 4, 5, 1, 0] rfl ?_
              exact g_at fun Q hQ => hQ ⟨r5_164, (E_100.trans E163)⟩
            intro J163
            refine g_join (γ := Unit) (fun q => True) 162 (fun q => [(0, rv D a0), (1, rv D a1), (2, iv a2), (3, iv x3_61), (4, iv x4_10), (5, iv x5_100)]) (fun q => [iv x5_100, rv D s0_140]) (fun q => h_100) (fun q => m_X24_apply_j162 x5_100 s0_140 h_100) ?_ ?_
            · rintro _ _
              try dsimp only
              unfold m_X24_apply_j162
              refine g_iconst (pc := 162) X (n := 0) (dl_at t_X24_apply 90 rfl) ?_
              exact J163 0 (Or.inl rfl)
            intro J162
            refine g_ifeq (pc := 143) X (r32_z g140) (off := 19) (tgt := 162) rfl (dl_at t_X24_apply 81 rfl) (fun _ => ?_) (fun _ => ?_)
            · exact J162 () trivial
            refine g_aload_n (pc := 146) X (j := 0) (i := 0) (q := 0) (x := a0) rfl rfl (dl_at t_X24_apply 82 rfl) ?_
            refine g_aload_n (pc := 147) X (j := 1) (i := 1) (q := 1) (x := a1) rfl rfl (dl_at t_X24_apply 83 rfl) ?_
            refine g_iload (pc := 148) X (i := 4) (q := 4) (x := x4_10) rfl (dl_at t_X24_apply 84 rfl) ?_
            refine g_iload (pc := 150) X (i := 5) (q := 5) (x := x5_100) rfl (dl_at t_X24_apply 85 rfl) ?_
            refine r_callRz (pc := 152) X (fun _ hv => s_X24_fitsStep k103 r4_10 r5_100 hv) cw_code q4688 q378 (in_Vk X (As := [rv D a1, iv x4_10, iv x5_100]) kX24 k103 (Or.inl q4685) q4687 qs276 cw_code q4688 ⟨by decide, by decide⟩ rfl (dl_at t_X24_apply 86 rfl)) (dl_at t_X24_apply 86 rfl) (cat24 (st := [iv x5_100, rv D s0_140]) (Nat.le_of_ble_eq_true rfl)) (Nat.le_of_ble_eq_true rfl) (Nat.le_of_ble_eq_true rfl) fun v152 g152 => ?_
            refine g_ifeq (pc := 155) X (r32_z g152) (off := 7) (tgt := 162) rfl (dl_at t_X24_apply 87 rfl) (fun _ => ?_) (fun _ => ?_)
            · exact J162 () trivial
            refine g_iconst (pc := 158) X (n := 1) (dl_at t_X24_apply 88 rfl) ?_
            refine g_goto (pc := 159) X (off := 4) (tgt := 163) rfl (dl_at t_X24_apply 89 rfl) ?_
            exact J163 1 (Or.inr rfl)
          intro J140
          refine g_icmpne (pc := 132) X r4_10 g131 (off := 7) (tgt := 139) rfl (dl_at t_X24_apply 76 rfl) (fun _ => ?_) (fun _ => ?_)
          · refine g_iconst (pc := 139) X (n := 0) (dl_at t_X24_apply 79 rfl) ?_
            exact J140 ((h_100 a0 17), 0) (Or.inl rfl)
          refine g_iconst (pc := 135) X (n := 1) (dl_at t_X24_apply 77 rfl) ?_
          refine g_goto (pc := 136) X (off := 4) (tgt := 140) rfl (dl_at t_X24_apply 78 rfl) ?_
          exact J140 ((h_100 a0 17), 1) (Or.inr rfl)
        · rintro h_170 E_170
          try dsimp only [sE]
          refine r_iincN (pc := 170) X (i := 4) (q := 4) (n := 1) (x := x4_10) (b := 3) (w := iv x3_61) (rest := [(0, rv D a0), (1, rv D a1), (2, iv a2)]) rfl r4_10 (r32_c rfl) (Nat.le_of_ble_eq_true rfl) [3, 0, 1, 2] rfl (by decide) rfl rfl (dl_at t_X24_apply 94 rfl) fun x4_170 r4_170 => ?_
          refine g_goto (pc := 173) X (off := (-163)) (tgt := 10) rfl (dl_at t_X24_apply 95 rfl) ?_
          refine g_ls (ls2 := [(0, rv D a0), (1, rv D a1), (2, iv a2), (3, iv x3_61), (4, iv x4_170)]) [2, 3, 4, 1, 0] rfl ?_
          exact g_at fun Q hQ => hQ ⟨r3_61, r4_170, (E_10.trans (E_97.trans E_170))⟩
    intro J59
    refine g_iflt (pc := 51) X g50 (off := 7) (tgt := 58) rfl (dl_at t_X24_apply 33 rfl) (fun _ => ?_) (fun _ => ?_)
    · refine g_iconst (pc := 58) X (n := 0) (dl_at t_X24_apply 36 rfl) ?_
      refine g_ls (ls2 := [(0, rv D a0), (1, rv D a1), (2, iv a2), (4, iv x4_10)]) [0, 1, 2, 4] rfl ?_
      exact J59 ((w32 (100 * (w32 ((h_10 (h_10 a1 14) (w32 (x4_10 + 1))) - (h_10 (h_10 a1 14) x4_10))))), 0) ⟨(r32_w _), (Or.inl rfl)⟩
    refine g_iconst (pc := 54) X (n := 1) (dl_at t_X24_apply 34 rfl) ?_
    refine g_goto (pc := 55) X (off := 4) (tgt := 59) rfl (dl_at t_X24_apply 35 rfl) ?_
    refine g_ls (ls2 := [(0, rv D a0), (1, rv D a1), (2, iv a2), (4, iv x4_10)]) [0, 1, 2, 4] rfl ?_
    exact J59 ((w32 (100 * (w32 ((h_10 (h_10 a1 14) (w32 (x4_10 + 1))) - (h_10 (h_10 a1 14) x4_10))))), 1) ⟨(r32_w _), (Or.inr rfl)⟩
  · rintro ⟨x3_176, h_176⟩ ⟨r3_176, E_176⟩
    try dsimp only [sE]
    refine g_aload_n (pc := 176) X (j := 1) (i := 1) (q := 1) (x := a1) rfl rfl (dl_at t_X24_apply 96 rfl) ?_
    have k177 := kx E_176 (by decide) k3
    refine r_getr (pc := 177) X fX22_10 k177 q3420 (dl_at t_X24_apply 97 rfl) ?_
    refine g_iload_n (pc := 180) X (j := 2) (i := 2) (q := 2) (x := a2) rfl rfl (dl_at t_X24_apply 98 rfl) ?_
    refine g_gd fun k181 => ?_
    refine g_iald (pc := 181) X r2 k181 (dl_at t_X24_apply 99 rfl) fun g181 => ?_
    refine g_lti g181 fun x4_182 r4_182 => ?_
    refine g_istoreN (pc := 182) X (i := 4) (x := x4_182) (b := 3) (w := iv x3_176) (rest := [(0, rv D a0), (1, rv D a1)]) (Nat.le_of_ble_eq_true rfl) [3, 0, 1] rfl (by decide) rfl rfl (dl_at t_X24_apply 100 rfl) ?_
    refine g_iconst (pc := 184) X (n := 0) (dl_at t_X24_apply 101 rfl) ?_
    refine g_ltz (Or.inl rfl) fun x5_185 r5_185 => ?_
    refine g_istoreN (pc := 185) X (i := 5) (x := x5_185) (b := 4) (w := iv x4_182) (rest := [(3, iv x3_176), (0, rv D a0), (1, rv D a1)]) (Nat.le_of_ble_eq_true rfl) [0, 1, 2, 3] rfl (by decide) rfl rfl (dl_at t_X24_apply 102 rfl) ?_
    refine g_ls (ls2 := [(0, rv D a0), (1, rv D a1), (3, iv x3_176), (4, iv x4_182), (5, iv x5_185)]) [3, 4, 2, 1, 0] rfl ?_
    refine g_loop0F (fun (q : Int × Hp) => [(0, rv D a0), (1, rv D a1), (3, iv x3_176), (4, iv x4_182), (5, iv q.1)]) (fun (q : Int × Hp) => q.2) (fun (q : Int × Hp) => r32 q.1 ∧ Ext h_176 q.2) (x5_185, h_176) ⟨(r32_z r5_185), (Ext.refl _)⟩ ?_ (fun _ => rfl)
    · rintro ⟨x5_187, h_187⟩ ⟨r5_187, E_187⟩
      try dsimp only
      unfold m_X24_apply_l187
      refine g_iload (pc := 187) X (i := 5) (q := 4) (x := x5_187) rfl (dl_at t_X24_apply 103 rfl) ?_
      refine g_aload_n (pc := 189) X (j := 0) (i := 0) (q := 0) (x := a0) rfl rfl (dl_at t_X24_apply 104 rfl) ?_
      have k190 := kx (E_176.trans E_187) (by decide) hk
      refine r_getr (pc := 190) X fX24_0 k190 q3642 (dl_at t_X24_apply 105 rfl) ?_
      refine g_gd fun k193 => ?_
      refine r_geti (pc := 193) X fX23_3 k193 q3527 (dl_at t_X24_apply 106 rfl) fun g193 => ?_
      refine g_icmpge (pc := 196) X r5_187 g193 (off := 139) (tgt := 335) rfl (dl_at t_X24_apply 107 rfl) (fun _ => ?_) (fun _ => ?_)
      · exact g_at fun Q hQ => (g_vret (pc := 335) X (v := 0) rfl rfl (dl_at t_X24_apply 181 rfl)) _ Q rfl hQ
      refine g_aload_n (pc := 199) X (j := 1) (i := 1) (q := 1) (x := a1) rfl rfl (dl_at t_X24_apply 108 rfl) ?_
      have k200 := kx E_187 (by decide) k177
      refine r_getr (pc := 200) X fX22_21 k200 q3442 (dl_at t_X24_apply 109 rfl) ?_
      refine g_iload (pc := 203) X (i := 4) (q := 3) (x := x4_182) rfl (dl_at t_X24_apply 110 rfl) ?_
      refine g_gd fun k205 => ?_
      refine g_iald (pc := 205) X r4_182 k205 (dl_at t_X24_apply 111 rfl) fun g205 => ?_
      refine g_lti g205 fun x6_206 r6_206 => ?_
      refine g_istoreN (pc := 206) X (i := 6) (x := x6_206) (b := 5) (w := iv x5_187) (rest := [(0, rv D a0), (1, rv D a1), (3, iv x3_176), (4, iv x4_182)]) (Nat.le_of_ble_eq_true rfl) [4, 0, 1, 2, 3] rfl (by decide) rfl rfl (dl_at t_X24_apply 112 rfl) ?_
      refine g_ls (ls2 := [(0, rv D a0), (1, rv D a1), (3, iv x3_176), (4, iv x4_182), (5, iv x5_187), (6, iv x6_206)]) [2, 3, 4, 5, 1, 0] rfl ?_
      refine g_loop1 (fun (q : Int × Hp) => [(0, rv D a0), (1, rv D a1), (3, iv x3_176), (4, iv x4_182), (5, iv x5_187), (6, iv q.1)]) (fun (q : Int × Hp) => q.2) (fun (q : Int × Hp) => r32 q.1 ∧ Ext h_187 q.2) 329 (fun (y329 : Hp) => [(0, rv D a0), (1, rv D a1), (3, iv x3_176), (4, iv x4_182), (5, iv x5_187)]) (fun (y329 : Hp) => y329) (fun (y329 : Hp) => Ext h_187 y329) (x6_206, h_187) ⟨r6_206, (Ext.refl _)⟩ ?_ ?_
      · rintro ⟨x6_208, h_208⟩ ⟨r6_208, E_208⟩
        try dsimp only
        unfold m_X24_apply_l208
        refine g_aload_n (pc := 208) X (j := 0) (i := 0) (q := 0) (x := a0) rfl rfl (dl_at t_X24_apply 113 rfl) ?_
        have k209 := kx E_208 (by decide) k190
        refine r_getr (pc := 209) X fX24_17 k209 q3679 (dl_at t_X24_apply 114 rfl) ?_
        refine g_iload (pc := 212) X (i := 5) (q := 4) (x := x5_187) rfl (dl_at t_X24_apply 115 rfl) ?_
        refine g_gd fun k214 => ?_
        refine g_zald (pc := 214) X r5_187 k214 (dl_at t_X24_apply 116 rfl) fun g214 => ?_
        refine g_ifeq (pc := 215) X (r32_z g214) (off := 114) (tgt := 329) rfl (dl_at t_X24_apply 117 rfl) (fun _ => ?_) (fun _ => ?_)
        · refine g_ls (ls2 := [(0, rv D a0), (1, rv D a1), (3, iv x3_176), (4, iv x4_182), (5, iv x5_187)]) [0, 1, 2, 3, 4] rfl ?_
          exact g_at fun Q hQ => hQ E_208
        refine g_iload (pc := 218) X (i := 6) (q := 5) (x := x6_208) rfl (dl_at t_X24_apply 118 rfl) ?_
        refine g_aload_n (pc := 220) X (j := 1) (i := 1) (q := 1) (x := a1) rfl rfl (dl_at t_X24_apply 119 rfl) ?_
        have k221 := kx E_208 (by decide) k200
        refine r_getr (pc := 221) X fX22_21 k221 q3442 (dl_at t_X24_apply 120 rfl) ?_
        refine g_iload (pc := 224) X (i := 4) (q := 3) (x := x4_182) rfl (dl_at t_X24_apply 121 rfl) ?_
        refine g_iconst (pc := 226) X (n := 1) (dl_at t_X24_apply 122 rfl) ?_
        refine g_iadd (pc := 227) X r4_182 (r32_c rfl) (dl_at t_X24_apply 123 rfl) ?_
        refine g_gd fun k228 => ?_
        refine g_iald (pc := 228) X (r32_w _) k228 (dl_at t_X24_apply 124 rfl) fun g228 => ?_
        refine g_icmpge (pc := 229) X r6_208 g228 (off := 100) (tgt := 329) rfl (dl_at t_X24_apply 125 rfl) (fun _ => ?_) (fun _ => ?_)
        · refine g_ls (ls2 := [(0, rv D a0), (1, rv D a1), (3, iv x3_176), (4, iv x4_182), (5, iv x5_187)]) [0, 1, 2, 3, 4] rfl ?_
          exact g_at fun Q hQ => hQ E_208
        refine g_bipush (pc := 232) X (n := 22) rfl (dl_at t_X24_apply 126 rfl) ?_
        refine g_iload (pc := 234) X (i := 5) (q := 4) (x := x5_187) rfl (dl_at t_X24_apply 127 rfl) ?_
        refine g_imul (pc := 236) X (r32_c rfl) r5_187 (dl_at t_X24_apply 128 rfl) ?_
        refine g_aload_n (pc := 237) X (j := 1) (i := 1) (q := 1) (x := a1) rfl rfl (dl_at t_X24_apply 129 rfl) ?_
        refine r_getr (pc := 238) X fX22_22 k221 q3444 (dl_at t_X24_apply 130 rfl) ?_
        refine g_iload (pc := 241) X (i := 6) (q := 5) (x := x6_208) rfl (dl_at t_X24_apply 131 rfl) ?_
        refine g_gd fun k243 => ?_
        refine g_iald (pc := 243) X r6_208 k243 (dl_at t_X24_apply 132 rfl) fun g243 => ?_
        refine g_iadd (pc := 244) X (r32_w _) g243 (dl_at t_X24_apply 133 rfl) ?_
        refine g_lti (r32_w _) fun x7_245 r7_245 => ?_
        refine g_istoreN (pc := 245) X (i := 7) (x := x7_245) (b := 6) (w := iv x6_208) (rest := [(0, rv D a0), (1, rv D a1), (3, iv x3_176), (4, iv x4_182), (5, iv x5_187)]) (Nat.le_of_ble_eq_true rfl) [5, 0, 1, 2, 3, 4] rfl (by decide) rfl rfl (dl_at t_X24_apply 134 rfl) ?_
        refine g_iload_n (pc := 247) X (j := 3) (i := 3) (q := 4) (x := x3_176) rfl rfl (dl_at t_X24_apply 135 rfl) ?_
        refine g_aload_n (pc := 248) X (j := 0) (i := 0) (q := 2) (x := a0) rfl rfl (dl_at t_X24_apply 136 rfl) ?_
        refine r_getr (pc := 249) X fX24_16 k209 q3678 (dl_at t_X24_apply 137 rfl) ?_
        refine g_iload (pc := 252) X (i := 7) (q := 0) (x := x7_245) rfl (dl_at t_X24_apply 138 rfl) ?_
        refine g_gd fun k254 => ?_
        refine g_iald (pc := 254) X r7_245 k254 (dl_at t_X24_apply 139 rfl) fun g254 => ?_
        refine g_join (γ := Hp) (fun q => Ext h_208 q) 323 (fun q => [(0, rv D a0), (1, rv D a1), (3, iv x3_176), (4, iv x4_182), (5, iv x5_187), (6, iv x6_208)]) (fun q => []) (fun q => q) (fun q => m_X24_apply_j323 x6_208 q) ?_ ?_
        · rintro h_323 E_323
          try dsimp only
          unfold m_X24_apply_j323
          refine r_iincN (pc := 323) X (i := 6) (q := 5) (n := 1) (x := x6_208) (b := 5) (w := iv x5_187) (rest := [(0, rv D a0), (1, rv D a1), (3, iv x3_176), (4, iv x4_182)]) rfl r6_208 (r32_c rfl) (Nat.le_of_ble_eq_true rfl) [4, 0, 1, 2, 3] rfl (by decide) rfl rfl (dl_at t_X24_apply 177 rfl) fun x6_323 r6_323 => ?_
          refine g_goto (pc := 326) X (off := (-118)) (tgt := 208) rfl (dl_at t_X24_apply 178 rfl) ?_
          refine g_ls (ls2 := [(0, rv D a0), (1, rv D a1), (3, iv x3_176), (4, iv x4_182), (5, iv x5_187), (6, iv x6_323)]) [2, 3, 4, 5, 1, 0] rfl ?_
          exact g_at fun Q hQ => hQ ⟨r6_323, (E_208.trans E_323)⟩
        intro J323
        refine g_icmpge (pc := 255) X r3_176 g254 (off := 6) (tgt := 261) rfl (dl_at t_X24_apply 140 rfl) (fun _ => ?_) (fun _ => ?_)
        · refine g_aload_n (pc := 261) X (j := 0) (i := 0) (q := 2) (x := a0) rfl rfl (dl_at t_X24_apply 142 rfl) ?_
          refine r_getr (pc := 262) X fX24_16 k209 q3678 (dl_at t_X24_apply 143 rfl) ?_
          refine g_iload (pc := 265) X (i := 7) (q := 0) (x := x7_245) rfl (dl_at t_X24_apply 144 rfl) ?_
          refine g_iload_n (pc := 267) X (j := 3) (i := 3) (q := 4) (x := x3_176) rfl rfl (dl_at t_X24_apply 145 rfl) ?_
          refine r_iast (pc := 268) X r7_245 r3_176 k254 (dl_at t_X24_apply 146 rfl) (fun h268 E268 => ?_)
          refine g_aload_n (pc := 269) X (j := 0) (i := 0) (q := 2) (x := a0) rfl rfl (dl_at t_X24_apply 147 rfl) ?_
          have k270 := kx E268 (by decide) k209
          refine r_getr (pc := 270) X fX24_3 k270 q3649 (dl_at t_X24_apply 148 rfl) ?_
          refine g_iload (pc := 273) X (i := 7) (q := 0) (x := x7_245) rfl (dl_at t_X24_apply 149 rfl) ?_
          refine g_aload_n (pc := 275) X (j := 1) (i := 1) (q := 3) (x := a1) rfl rfl (dl_at t_X24_apply 150 rfl) ?_
          have k276 := kx E268 (by decide) k221
          refine r_getr (pc := 276) X fX22_23 k276 q3446 (dl_at t_X24_apply 151 rfl) ?_
          refine g_iload (pc := 279) X (i := 6) (q := 1) (x := x6_208) rfl (dl_at t_X24_apply 152 rfl) ?_
          refine g_gd fun k281 => ?_
          refine g_iald (pc := 281) X r6_208 k281 (dl_at t_X24_apply 153 rfl) fun g281 => ?_
          refine g_gd fun k282 => ?_
          refine r_iast (pc := 282) X r7_245 g281 k282 (dl_at t_X24_apply 154 rfl) (fun h282 E282 => ?_)
          refine g_aload_n (pc := 283) X (j := 1) (i := 1) (q := 3) (x := a1) rfl rfl (dl_at t_X24_apply 155 rfl) ?_
          have k284 := kx E282 (by decide) k276
          refine r_getr (pc := 284) X fX22_22 k284 q3444 (dl_at t_X24_apply 156 rfl) ?_
          refine g_iload (pc := 287) X (i := 6) (q := 1) (x := x6_208) rfl (dl_at t_X24_apply 157 rfl) ?_
          refine g_gd fun k289 => ?_
          refine g_iald (pc := 289) X r6_208 k289 (dl_at t_X24_apply 158 rfl) fun g289 => ?_
          refine g_bipush (pc := 290) X (n := 17) rfl (dl_at t_X24_apply 159 rfl) ?_
          refine g_icmpne (pc := 292) X g289 (r32_c rfl) (off := 31) (tgt := 323) rfl (dl_at t_X24_apply 160 rfl) (fun _ => ?_) (fun _ => ?_)
          · refine g_ls (ls2 := [(0, rv D a0), (1, rv D a1), (3, iv x3_176), (4, iv x4_182), (5, iv x5_187), (6, iv x6_208)]) [2, 3, 4, 5, 6, 1] rfl ?_
            exact J323 h282 (E268.trans E282)
          refine g_aload_n (pc := 295) X (j := 0) (i := 0) (q := 2) (x := a0) rfl rfl (dl_at t_X24_apply 161 rfl) ?_
          have k296 := kx E282 (by decide) k270
          refine r_getr (pc := 296) X fX24_4 k296 q3650 (dl_at t_X24_apply 162 rfl) ?_
          refine g_iload (pc := 299) X (i := 5) (q := 6) (x := x5_187) rfl (dl_at t_X24_apply 163 rfl) ?_
          refine g_aload_n (pc := 301) X (j := 1) (i := 1) (q := 3) (x := a1) rfl rfl (dl_at t_X24_apply 164 rfl) ?_
          refine r_getr (pc := 302) X fX22_24 k284 q3448 (dl_at t_X24_apply 165 rfl) ?_
          refine g_iload (pc := 305) X (i := 6) (q := 1) (x := x6_208) rfl (dl_at t_X24_apply 166 rfl) ?_
          refine g_gd fun k307 => ?_
          refine g_iald (pc := 307) X r6_208 k307 (dl_at t_X24_apply 167 rfl) fun g307 => ?_
          refine g_gd fun k308 => ?_
          refine r_iast (pc := 308) X r5_187 g307 k308 (dl_at t_X24_apply 168 rfl) (fun h308 E308 => ?_)
          refine g_aload_n (pc := 309) X (j := 0) (i := 0) (q := 2) (x := a0) rfl rfl (dl_at t_X24_apply 169 rfl) ?_
          have k310 := kx E308 (by decide) k296
          refine r_getr (pc := 310) X fX24_5 k310 q3652 (dl_at t_X24_apply 170 rfl) ?_
          refine g_iload (pc := 313) X (i := 5) (q := 6) (x := x5_187) rfl (dl_at t_X24_apply 171 rfl) ?_
          refine g_aload_n (pc := 315) X (j := 1) (i := 1) (q := 3) (x := a1) rfl rfl (dl_at t_X24_apply 172 rfl) ?_
          have k316 := kx E308 (by decide) k284
          refine r_getr (pc := 316) X fX22_25 k316 q3450 (dl_at t_X24_apply 173 rfl) ?_
          refine g_iload (pc := 319) X (i := 6) (q := 1) (x := x6_208) rfl (dl_at t_X24_apply 174 rfl) ?_
          refine g_gd fun k321 => ?_
          refine g_iald (pc := 321) X r6_208 k321 (dl_at t_X24_apply 175 rfl) fun g321 => ?_
          refine g_gd fun k322 => ?_
          refine r_iast (pc := 322) X r5_187 g321 k322 (dl_at t_X24_apply 176 rfl) (fun h322 E322 => ?_)
          refine g_ls (ls2 := [(0, rv D a0), (1, rv D a1), (3, iv x3_176), (4, iv x4_182), (5, iv x5_187), (6, iv x6_208)]) [2, 3, 4, 5, 6, 1] rfl ?_
          exact J323 h322 (E268.trans (E282.trans (E308.trans E322)))
        refine g_goto (pc := 258) X (off := 65) (tgt := 323) rfl (dl_at t_X24_apply 141 rfl) ?_
        refine g_ls (ls2 := [(0, rv D a0), (1, rv D a1), (3, iv x3_176), (4, iv x4_182), (5, iv x5_187), (6, iv x6_208)]) [2, 3, 4, 5, 6, 1] rfl ?_
        exact J323 h_208 (Ext.refl _)
      · rintro h_329 E_329
        try dsimp only [sE]
        refine r_iincN (pc := 329) X (i := 5) (q := 4) (n := 1) (x := x5_187) (b := 4) (w := iv x4_182) (rest := [(0, rv D a0), (1, rv D a1), (3, iv x3_176)]) rfl r5_187 (r32_c rfl) (Nat.le_of_ble_eq_true rfl) [3, 0, 1, 2] rfl (by decide) rfl rfl (dl_at t_X24_apply 179 rfl) fun x5_329 r5_329 => ?_
        refine g_goto (pc := 332) X (off := (-145)) (tgt := 187) rfl (dl_at t_X24_apply 180 rfl) ?_
        refine g_ls (ls2 := [(0, rv D a0), (1, rv D a1), (3, iv x3_176), (4, iv x4_182), (5, iv x5_329)]) [2, 3, 4, 1, 0] rfl ?_
        exact g_at fun Q hQ => hQ ⟨r5_329, (E_187.trans E_329)⟩
def k_X24_isInherited : List (Nat × Instr × Nat) := [(0, .iload_n 0, 1), (1, .iconst 1, 1), (2, .if_icmp .eq 55, 3), (5, .iload_n 0, 1), (6, .iconst 2, 1), (7, .if_icmp .eq 50, 3), (10, .iload_n 0, 1), (11, .iconst 3, 1), (12, .if_icmp .eq 45, 3), (15, .iload_n 0, 1), (16, .bipush 8, 2), (18, .if_icmp .eq 39, 3), (21, .iload_n 0, 1), (22, .bipush 9, 2), (24, .if_icmp .eq 33, 3), (27, .iload_n 0, 1), (28, .bipush 10, 2), (30, .if_icmp .eq 27, 3), (33, .iload_n 0, 1), (34, .bipush 11, 2), (36, .if_icmp .eq 21, 3), (39, .iload_n 0, 1), (40, .bipush 12, 2), (42, .if_icmp .eq 15, 3), (45, .iload_n 0, 1), (46, .bipush 14, 2), (48, .if_icmp .eq 9, 3), (51, .iload_n 0, 1), (52, .bipush 18, 2), (54, .if_icmp .ne 7, 3), (57, .iconst 1, 1), (58, .goto 4, 3), (61, .iconst 0, 1), (62, .ireturn, 1)]
theorem t_X24_isInherited : ∀ q ∈ k_X24_isInherited, decode cX24_isInherited q.1 = .ok q.2 := dl_all (by decide +kernel)
noncomputable def m_X24_isInherited (a0 : Int) : Option (Int) :=
  if a0 = 1 then (some 1)
  else (if a0 = 2 then (some 1)
  else (if a0 = 3 then (some 1)
  else (if a0 = 8 then (some 1)
  else (if a0 = 9 then (some 1)
  else (if a0 = 10 then (some 1)
  else (if a0 = 11 then (some 1)
  else (if a0 = 12 then (some 1)
  else (if a0 = 14 then (some 1)
  else (if a0 ≠ 18 then (some 0)
  else (some 1))))))))))
theorem s_X24_isInherited {l : Launch} [NoTr l] {D : SD} {a0 : Int} {h : Hp} (r0 : r32 a0) {r : Int} (hm : m_X24_isInherited a0 = some r) : Sim l D yX24_isInherited (Cond.code yX24_isInherited cX24_isInherited 1 (Option.some Jvm.ClassFile.FieldType.boolean)) 0 0 [iv a0] h 3 ((0, r), h) := by
  refine Sim.of (fin := fun (v : Int) => ((0, v), h)) (lsE := [(0, iv a0)]) hm rfl cwS_code (la_i la_n) (ll_i ll_n) ?_
  intro p e s m below meth c X hcw hmm hcc hnm hname
  unfold m_X24_isInherited
  refine g_iload_n (pc := 0) X (j := 0) (i := 0) (q := 0) (x := a0) rfl rfl (dl_at t_X24_isInherited 0 rfl) ?_
  refine g_iconst (pc := 1) X (n := 1) (dl_at t_X24_isInherited 1 rfl) ?_
  refine g_icmpeq (pc := 2) X r0 (r32_c rfl) (off := 55) (tgt := 57) rfl (dl_at t_X24_isInherited 2 rfl) (fun _ => ?_) (fun _ => ?_)
  · refine g_iconst (pc := 57) X (n := 1) (dl_at t_X24_isInherited 30 rfl) ?_
    refine g_goto (pc := 58) X (off := 4) (tgt := 62) rfl (dl_at t_X24_isInherited 31 rfl) ?_
    exact g_zret (pc := 62) X (Or.inr rfl) rfl rfl (dl_at t_X24_isInherited 33 rfl)
  refine g_iload_n (pc := 5) X (j := 0) (i := 0) (q := 0) (x := a0) rfl rfl (dl_at t_X24_isInherited 3 rfl) ?_
  refine g_iconst (pc := 6) X (n := 2) (dl_at t_X24_isInherited 4 rfl) ?_
  refine g_icmpeq (pc := 7) X r0 (r32_c rfl) (off := 50) (tgt := 57) rfl (dl_at t_X24_isInherited 5 rfl) (fun _ => ?_) (fun _ => ?_)
  · refine g_iconst (pc := 57) X (n := 1) (dl_at t_X24_isInherited 30 rfl) ?_
    refine g_goto (pc := 58) X (off := 4) (tgt := 62) rfl (dl_at t_X24_isInherited 31 rfl) ?_
    exact g_zret (pc := 62) X (Or.inr rfl) rfl rfl (dl_at t_X24_isInherited 33 rfl)
  refine g_iload_n (pc := 10) X (j := 0) (i := 0) (q := 0) (x := a0) rfl rfl (dl_at t_X24_isInherited 6 rfl) ?_
  refine g_iconst (pc := 11) X (n := 3) (dl_at t_X24_isInherited 7 rfl) ?_
  refine g_icmpeq (pc := 12) X r0 (r32_c rfl) (off := 45) (tgt := 57) rfl (dl_at t_X24_isInherited 8 rfl) (fun _ => ?_) (fun _ => ?_)
  · refine g_iconst (pc := 57) X (n := 1) (dl_at t_X24_isInherited 30 rfl) ?_
    refine g_goto (pc := 58) X (off := 4) (tgt := 62) rfl (dl_at t_X24_isInherited 31 rfl) ?_
    exact g_zret (pc := 62) X (Or.inr rfl) rfl rfl (dl_at t_X24_isInherited 33 rfl)
  refine g_iload_n (pc := 15) X (j := 0) (i := 0) (q := 0) (x := a0) rfl rfl (dl_at t_X24_isInherited 9 rfl) ?_
  refine g_bipush (pc := 16) X (n := 8) rfl (dl_at t_X24_isInherited 10 rfl) ?_
  refine g_icmpeq (pc := 18) X r0 (r32_c rfl) (off := 39) (tgt := 57) rfl (dl_at t_X24_isInherited 11 rfl) (fun _ => ?_) (fun _ => ?_)
  · refine g_iconst (pc := 57) X (n := 1) (dl_at t_X24_isInherited 30 rfl) ?_
    refine g_goto (pc := 58) X (off := 4) (tgt := 62) rfl (dl_at t_X24_isInherited 31 rfl) ?_
    exact g_zret (pc := 62) X (Or.inr rfl) rfl rfl (dl_at t_X24_isInherited 33 rfl)
  refine g_iload_n (pc := 21) X (j := 0) (i := 0) (q := 0) (x := a0) rfl rfl (dl_at t_X24_isInherited 12 rfl) ?_
  refine g_bipush (pc := 22) X (n := 9) rfl (dl_at t_X24_isInherited 13 rfl) ?_
  refine g_icmpeq (pc := 24) X r0 (r32_c rfl) (off := 33) (tgt := 57) rfl (dl_at t_X24_isInherited 14 rfl) (fun _ => ?_) (fun _ => ?_)
  · refine g_iconst (pc := 57) X (n := 1) (dl_at t_X24_isInherited 30 rfl) ?_
    refine g_goto (pc := 58) X (off := 4) (tgt := 62) rfl (dl_at t_X24_isInherited 31 rfl) ?_
    exact g_zret (pc := 62) X (Or.inr rfl) rfl rfl (dl_at t_X24_isInherited 33 rfl)
  refine g_iload_n (pc := 27) X (j := 0) (i := 0) (q := 0) (x := a0) rfl rfl (dl_at t_X24_isInherited 15 rfl) ?_
  refine g_bipush (pc := 28) X (n := 10) rfl (dl_at t_X24_isInherited 16 rfl) ?_
  refine g_icmpeq (pc := 30) X r0 (r32_c rfl) (off := 27) (tgt := 57) rfl (dl_at t_X24_isInherited 17 rfl) (fun _ => ?_) (fun _ => ?_)
  · refine g_iconst (pc := 57) X (n := 1) (dl_at t_X24_isInherited 30 rfl) ?_
    refine g_goto (pc := 58) X (off := 4) (tgt := 62) rfl (dl_at t_X24_isInherited 31 rfl) ?_
    exact g_zret (pc := 62) X (Or.inr rfl) rfl rfl (dl_at t_X24_isInherited 33 rfl)
  refine g_iload_n (pc := 33) X (j := 0) (i := 0) (q := 0) (x := a0) rfl rfl (dl_at t_X24_isInherited 18 rfl) ?_
  refine g_bipush (pc := 34) X (n := 11) rfl (dl_at t_X24_isInherited 19 rfl) ?_
  refine g_icmpeq (pc := 36) X r0 (r32_c rfl) (off := 21) (tgt := 57) rfl (dl_at t_X24_isInherited 20 rfl) (fun _ => ?_) (fun _ => ?_)
  · refine g_iconst (pc := 57) X (n := 1) (dl_at t_X24_isInherited 30 rfl) ?_
    refine g_goto (pc := 58) X (off := 4) (tgt := 62) rfl (dl_at t_X24_isInherited 31 rfl) ?_
    exact g_zret (pc := 62) X (Or.inr rfl) rfl rfl (dl_at t_X24_isInherited 33 rfl)
  refine g_iload_n (pc := 39) X (j := 0) (i := 0) (q := 0) (x := a0) rfl rfl (dl_at t_X24_isInherited 21 rfl) ?_
  refine g_bipush (pc := 40) X (n := 12) rfl (dl_at t_X24_isInherited 22 rfl) ?_
  refine g_icmpeq (pc := 42) X r0 (r32_c rfl) (off := 15) (tgt := 57) rfl (dl_at t_X24_isInherited 23 rfl) (fun _ => ?_) (fun _ => ?_)
  · refine g_iconst (pc := 57) X (n := 1) (dl_at t_X24_isInherited 30 rfl) ?_
    refine g_goto (pc := 58) X (off := 4) (tgt := 62) rfl (dl_at t_X24_isInherited 31 rfl) ?_
    exact g_zret (pc := 62) X (Or.inr rfl) rfl rfl (dl_at t_X24_isInherited 33 rfl)
  refine g_iload_n (pc := 45) X (j := 0) (i := 0) (q := 0) (x := a0) rfl rfl (dl_at t_X24_isInherited 24 rfl) ?_
  refine g_bipush (pc := 46) X (n := 14) rfl (dl_at t_X24_isInherited 25 rfl) ?_
  refine g_icmpeq (pc := 48) X r0 (r32_c rfl) (off := 9) (tgt := 57) rfl (dl_at t_X24_isInherited 26 rfl) (fun _ => ?_) (fun _ => ?_)
  · refine g_iconst (pc := 57) X (n := 1) (dl_at t_X24_isInherited 30 rfl) ?_
    refine g_goto (pc := 58) X (off := 4) (tgt := 62) rfl (dl_at t_X24_isInherited 31 rfl) ?_
    exact g_zret (pc := 62) X (Or.inr rfl) rfl rfl (dl_at t_X24_isInherited 33 rfl)
  refine g_iload_n (pc := 51) X (j := 0) (i := 0) (q := 0) (x := a0) rfl rfl (dl_at t_X24_isInherited 27 rfl) ?_
  refine g_bipush (pc := 52) X (n := 18) rfl (dl_at t_X24_isInherited 28 rfl) ?_
  refine g_icmpne (pc := 54) X r0 (r32_c rfl) (off := 7) (tgt := 61) rfl (dl_at t_X24_isInherited 29 rfl) (fun _ => ?_) (fun _ => ?_)
  · refine g_iconst (pc := 61) X (n := 0) (dl_at t_X24_isInherited 32 rfl) ?_
    exact g_zret (pc := 62) X (Or.inl rfl) rfl rfl (dl_at t_X24_isInherited 33 rfl)
  refine g_iconst (pc := 57) X (n := 1) (dl_at t_X24_isInherited 30 rfl) ?_
  refine g_goto (pc := 58) X (off := 4) (tgt := 62) rfl (dl_at t_X24_isInherited 31 rfl) ?_
  exact g_zret (pc := 62) X (Or.inr rfl) rfl rfl (dl_at t_X24_isInherited 33 rfl)
def k_X24_beginning : List (Nat × Instr × Nat) := [(0, .iload_n 0, 1), (64, .sipush 10000, 3), (67, .ireturn, 1), (68, .sipush 12000, 3), (71, .ireturn, 1), (72, .sipush 200, 3), (75, .ireturn, 1), (76, .iconst 2, 1), (77, .ireturn, 1), (78, .iconst 0, 1), (79, .ireturn, 1)]
theorem t_X24_beginning : ∀ q ∈ k_X24_beginning, decode cX24_beginning q.1 = .ok q.2 := dl_all (by decide +kernel)
theorem dS_X24_beginning_1 : decode cX24_beginning 1 = .ok (.tableswitch 77 1 12 #[63, 67, 77, 77, 77, 77, 77, 77, 77, 71, 75, 75], 63) := by decide +kernel
noncomputable def m_X24_beginning (a0 : Int) : Option (Int) :=
  if a0 = 1 then (some 10000)
  else (if a0 = 2 then (some 12000)
  else (if a0 = 10 then (some 200)
  else (if a0 ∈ ([11, 12] : List Int) then (some 2)
  else (some 0))))
theorem s_X24_beginning {l : Launch} [NoTr l] {D : SD} {a0 : Int} {h : Hp} (r0 : r32 a0) {r : Int} (hm : m_X24_beginning a0 = some r) : Sim l D yX24_beginning (Cond.code yX24_beginning cX24_beginning 1 (Option.some Jvm.ClassFile.FieldType.int)) 0 0 [iv a0] h 1 ((0, r), h) := by
  refine Sim.of (fin := fun (v : Int) => ((0, v), h)) (lsE := [(0, iv a0)]) hm rfl cwS_code (la_i la_n) (ll_i ll_n) ?_
  intro p e s m below meth c X hcw hmm hcc hnm hname
  unfold m_X24_beginning
  refine g_iload_n (pc := 0) X (j := 0) (i := 0) (q := 0) (x := a0) rfl rfl (dl_at t_X24_beginning 0 rfl) ?_
  refine g_case (fun w1 => ?_) (fun nw1 => ?_)
  · refine g_tabIn (pc := 1) X (off := 63) (tgt := 64) r0 w1 (by decide) (by decide) rfl rfl dS_X24_beginning_1 ?_
    refine g_sipush (pc := 64) X (n := 10000) rfl (dl_at t_X24_beginning 1 rfl) ?_
    exact g_iret (pc := 67) X (r32_c rfl) rfl rfl (dl_at t_X24_beginning 2 rfl)
  refine g_case (fun w1_1 => ?_) (fun nw1_1 => ?_)
  · refine g_tabIn (pc := 1) X (off := 67) (tgt := 68) r0 w1_1 (by decide) (by decide) rfl rfl dS_X24_beginning_1 ?_
    refine g_sipush (pc := 68) X (n := 12000) rfl (dl_at t_X24_beginning 3 rfl) ?_
    exact g_iret (pc := 71) X (r32_c rfl) rfl rfl (dl_at t_X24_beginning 4 rfl)
  refine g_case (fun w1_2 => ?_) (fun nw1_2 => ?_)
  · refine g_tabIn (pc := 1) X (off := 71) (tgt := 72) r0 w1_2 (by decide) (by decide) rfl rfl dS_X24_beginning_1 ?_
    refine g_sipush (pc := 72) X (n := 200) rfl (dl_at t_X24_beginning 5 rfl) ?_
    exact g_iret (pc := 75) X (r32_c rfl) rfl rfl (dl_at t_X24_beginning 6 rfl)
  refine g_case (fun w1_3 => ?_) (fun nw1_3 => ?_)
  · refine g_tabIns (pc := 1) X (off := 75) (tgt := 76) [11, 12] r0 w1_3 rfl rfl dS_X24_beginning_1 ?_
    refine g_iconst (pc := 76) X (n := 2) (dl_at t_X24_beginning 7 rfl) ?_
    exact g_iret (pc := 77) X (r32_c rfl) rfl rfl (dl_at t_X24_beginning 8 rfl)
  have w1_4 : ¬ a0 ∈ ([1, 2, 10, 11, 12] : List Int) := by simp only [List.mem_cons, List.not_mem_nil, or_false, not_or] at *; simp only [*, not_false_eq_true, and_self]
  refine g_tabElse (pc := 1) X (tgt := 78) [1, 2, 10, 11, 12] r0 w1_4 rfl rfl dS_X24_beginning_1 ?_
  refine g_iconst (pc := 78) X (n := 0) (dl_at t_X24_beginning 9 rfl) ?_
  exact g_iret (pc := 79) X (r32_c rfl) rfl rfl (dl_at t_X24_beginning 10 rfl)
def k_X24_of : List (Nat × Instr × Nat) := [(0, .iload_n 1, 1), (1, .ifCond .ge 10, 3), (4, .iload_n 2, 1), (5, .invokestatic 102, 3), (8, .goto 14, 3), (11, .aload_n 0, 1), (12, .getfield 26, 3), (15, .bipush 22, 2), (17, .iload_n 1, 1), (18, .imul, 1), (19, .iload_n 2, 1), (20, .iadd, 1), (21, .iaload, 1), (22, .ireturn, 1)]
theorem t_X24_of : ∀ q ∈ k_X24_of, decode cX24_of q.1 = .ok q.2 := dl_all (by decide +kernel)
noncomputable def m_X24_of (a0 a1 a2 : Int) (h : Hp) : Option (Int) :=
  if 0 ≤ a1 then (gd (h (h a0 3) (-2) % 16 = 1 ∧ (0 : Int) ≤ (w32 ((w32 (22 * a1)) + a2)) ∧ (w32 ((w32 (22 * a1)) + a2)) < h (h a0 3) (-1)) (some (h (h a0 3) (w32 ((w32 (22 * a1)) + a2)))))
  else ((m_X24_beginning a2).bind fun v5 =>
  some v5)
theorem s_X24_of {l : Launch} [NoTr l] {D : SD} {a0 a1 a2 : Int} {h : Hp} (hk : h a0 (-2) = 400) (r1 : r32 a1) (r2 : r32 a2) {r : Int} (hm : m_X24_of a0 a1 a2 h = some r) : Sim l D yX24_of (Cond.code yX24_of cX24_of 3 (Option.some Jvm.ClassFile.FieldType.int)) 1 36 [rv D a0, iv a1, iv a2] h 1 ((0, r), h) := by
  refine Sim.of (fin := fun (v : Int) => ((0, v), h)) (lsE := [(0, rv D a0), (1, iv a1), (2, iv a2)]) hm rfl cwS_code (la_r (la_i (la_i la_n))) (ll_r (ll_i (ll_i ll_n))) ?_
  intro p e s m below meth c X hcw hmm hcc hnm hname
  unfold m_X24_of
  refine g_iload_n (pc := 0) X (j := 1) (i := 1) (q := 1) (x := a1) rfl rfl (dl_at t_X24_of 0 rfl) ?_
  refine g_ifge (pc := 1) X r1 (off := 10) (tgt := 11) rfl (dl_at t_X24_of 1 rfl) (fun _ => ?_) (fun _ => ?_)
  · refine g_aload_n (pc := 11) X (j := 0) (i := 0) (q := 0) (x := a0) rfl rfl (dl_at t_X24_of 5 rfl) ?_
    refine r_getr (pc := 12) X fX24_3 hk q3649 (dl_at t_X24_of 6 rfl) ?_
    refine g_bipush (pc := 15) X (n := 22) rfl (dl_at t_X24_of 7 rfl) ?_
    refine g_iload_n (pc := 17) X (j := 1) (i := 1) (q := 1) (x := a1) rfl rfl (dl_at t_X24_of 8 rfl) ?_
    refine g_imul (pc := 18) X (r32_c rfl) r1 (dl_at t_X24_of 9 rfl) ?_
    refine g_iload_n (pc := 19) X (j := 2) (i := 2) (q := 2) (x := a2) rfl rfl (dl_at t_X24_of 10 rfl) ?_
    refine g_iadd (pc := 20) X (r32_w _) r2 (dl_at t_X24_of 11 rfl) ?_
    refine g_gd fun k21 => ?_
    refine g_iald (pc := 21) X (r32_w _) k21 (dl_at t_X24_of 12 rfl) fun g21 => ?_
    exact g_iret (pc := 22) X g21 rfl rfl (dl_at t_X24_of 13 rfl)
  refine g_iload_n (pc := 4) X (j := 2) (i := 2) (q := 2) (x := a2) rfl rfl (dl_at t_X24_of 2 rfl) ?_
  refine r_callRi (pc := 5) X (fun _ hv => s_X24_beginning r2 hv) cw_code q4707 q378 (in_Sc X (As := [iv a2]) (Or.inl q4705) q4706 q378 q4707 ⟨by decide, by decide⟩ rfl (dl_at t_X24_of 3 rfl)) (dl_at t_X24_of 3 rfl) (cat24 (st := []) (Nat.le_of_ble_eq_true rfl)) (Nat.le_of_ble_eq_true rfl) (Nat.le_of_ble_eq_true rfl) fun v5 g5 => ?_
  refine g_goto (pc := 8) X (off := 14) (tgt := 22) rfl (dl_at t_X24_of 4 rfl) ?_
  exact g_iret (pc := 22) X g5 rfl rfl (dl_at t_X24_of 13 rfl)
def k_X24_inherit : List (Nat × Instr × Nat) := [(0, .iconst 0, 1), (1, .istore_n 1, 1), (2, .iload_n 1, 1), (3, .aload_n 0, 1), (4, .getfield 12, 3), (7, .getfield 119, 3), (10, .if_icmp .ge 155, 3), (13, .iconst 0, 1), (14, .istore_n 2, 1), (15, .iload_n 2, 1), (16, .bipush 22, 2), (18, .if_icmp .ge 141, 3), (21, .bipush 22, 2), (23, .iload_n 1, 1), (24, .imul, 1), (25, .iload_n 2, 1), (26, .iadd, 1), (27, .istore_n 3, 1), (28, .aload_n 0, 1), (29, .getfield 66, 3), (32, .iload_n 3, 1), (33, .iaload, 1), (34, .ifCond .ge 40, 3), (37, .aload_n 0, 1), (38, .getfield 26, 3), (41, .iload_n 3, 1), (42, .iload_n 2, 1), (43, .invokestatic 223, 3), (46, .ifCond .eq 20, 3), (49, .aload_n 0, 1), (50, .aload_n 0, 1), (51, .getfield 12, 3), (54, .getfield 139, 3), (57, .iload_n 1, 1), (58, .iaload, 1), (59, .iload_n 2, 1), (60, .invokevirtual 227, 3), (63, .goto 7, 3), (66, .iload_n 2, 1), (67, .invokestatic 102, 3), (70, .iastore, 1), (71, .goto 82, 3), (74, .iload_n 2, 1), (75, .iconst 1, 1), (76, .if_icmp .ne 77, 3), (79, .aload_n 0, 1), (80, .getfield 26, 3), (83, .iload_n 3, 1), (84, .iaload, 1), (85, .ifCond .ge 68, 3), (88, .aload_n 0, 1), (89, .aload_n 0, 1), (90, .getfield 12, 3), (93, .getfield 139, 3), (96, .iload_n 1, 1), (97, .iaload, 1), (98, .iconst 1, 1), (99, .invokevirtual 227, 3), (102, .i2l, 1), (103, .aload_n 0, 1), (104, .getfield 26, 3), (107, .iload_n 3, 1), (108, .iaload, 1), (109, .ineg, 1), (110, .i2l, 1), (111, .lmul, 1), (112, .ldc2_w 231, 3), (115, .ldiv, 1), (116, .l2i, 1), (117, .istore 4, 2), (119, .aload_n 0, 1), (120, .getfield 26, 3), (123, .iload_n 3, 1), (124, .iload 4, 2), (126, .sipush 1000, 3), (129, .if_icmp .ge 9, 3), (132, .sipush 1000, 3), (135, .goto 17, 3), (138, .iload 4, 2), (140, .ldc 233, 2), (142, .if_icmp .le 8, 3), (145, .ldc 233, 2), (147, .goto 5, 3), (150, .iload 4, 2), (152, .iastore, 1), (153, .iinc 2 1, 3), (156, .goto (-141), 3), (159, .iinc 1 1, 3), (162, .goto (-160), 3), (165, .return_, 1)]
theorem t_X24_inherit : ∀ q ∈ k_X24_inherit, decode cX24_inherit q.1 = .ok q.2 := dl_all (by decide +kernel)
noncomputable def m_X24_inherit_j153 (x2_15 : Int) (h_153 : Hp) : Option ((Int × Hp) ⊕ ((Hp))) :=
  lt_ (w32 (x2_15 + 1)) fun x2_153 =>
  some (.inl (x2_153, h_153))
noncomputable def m_X24_inherit_j152 (x3_27 x2_15 s0_152 s2_152 : Int) (h_15 : Hp) : Option ((Int × Hp) ⊕ ((Hp))) :=
  gd (h_15 s0_152 (-2) % 16 = 1 ∧ (0 : Int) ≤ x3_27 ∧ x3_27 < h_15 s0_152 (-1)) (pt h_15 s0_152 x3_27 s2_152 fun h152 =>
  m_X24_inherit_j153 x2_15 h152)
noncomputable def m_X24_inherit_j70 (x3_27 x2_15 s0_70 s2_70 : Int) (h_15 : Hp) : Option ((Int × Hp) ⊕ ((Hp))) :=
  gd (h_15 s0_70 (-2) % 16 = 1 ∧ (0 : Int) ≤ x3_27 ∧ x3_27 < h_15 s0_70 (-1)) (pt h_15 s0_70 x3_27 s2_70 fun h70 =>
  m_X24_inherit_j153 x2_15 h70)
noncomputable def m_X24_inherit_l15 (a0 x1_2 x2_15 : Int) (h_15 : Hp) : Option ((Int × Hp) ⊕ ((Hp))) :=
  if 22 ≤ x2_15 then (some (.inr h_15))
  else (lt_ (w32 ((w32 (22 * x1_2)) + x2_15)) fun x3_27 =>
  gd (h_15 (h_15 a0 16) (-2) % 16 = 1 ∧ (0 : Int) ≤ x3_27 ∧ x3_27 < h_15 (h_15 a0 16) (-1)) (if 0 ≤ (h_15 (h_15 a0 16) x3_27) then (if x2_15 ≠ 1 then (m_X24_inherit_j153 x2_15 h_15)
  else (gd (h_15 (h_15 a0 3) (-2) % 16 = 1 ∧ (0 : Int) ≤ x3_27 ∧ x3_27 < h_15 (h_15 a0 3) (-1)) (if 0 ≤ (h_15 (h_15 a0 3) x3_27) then (m_X24_inherit_j153 x2_15 h_15)
  else (gd (h_15 (h_15 a0 0) (-2) = 384) (gd (h_15 (h_15 (h_15 a0 0) 11) (-2) % 16 = 1 ∧ (0 : Int) ≤ x1_2 ∧ x1_2 < h_15 (h_15 (h_15 a0 0) 11) (-1)) ((m_X24_of a0 (h_15 (h_15 (h_15 a0 0) 11) x1_2) 1 h_15).bind fun v99 =>
  lt_ (w32 (w64 (Int.tdiv (w64 (v99 * (w32 (-(h_15 (h_15 a0 3) x3_27))))) 100))) fun x4_117 =>
  if 1000 ≤ x4_117 then (if x4_117 ≤ 100000 then (m_X24_inherit_j152 x3_27 x2_15 (h_15 a0 3) x4_117 h_15)
  else (m_X24_inherit_j152 x3_27 x2_15 (h_15 a0 3) 100000 h_15))
  else (m_X24_inherit_j152 x3_27 x2_15 (h_15 a0 3) 1000 h_15)))))))
  else ((m_X24_isInherited x2_15).bind fun v43 =>
  if v43 = 0 then ((m_X24_beginning x2_15).bind fun v67 =>
  m_X24_inherit_j70 x3_27 x2_15 (h_15 a0 3) v67 h_15)
  else (gd (h_15 (h_15 a0 0) (-2) = 384) (gd (h_15 (h_15 (h_15 a0 0) 11) (-2) % 16 = 1 ∧ (0 : Int) ≤ x1_2 ∧ x1_2 < h_15 (h_15 (h_15 a0 0) 11) (-1)) ((m_X24_of a0 (h_15 (h_15 (h_15 a0 0) 11) x1_2) x2_15 h_15).bind fun v60 =>
  m_X24_inherit_j70 x3_27 x2_15 (h_15 a0 3) v60 h_15))))))
noncomputable def m_X24_inherit_l2 (a0 x1_2 : Int) (h_2 : Hp) : Option ((Int × Hp) ⊕ ((Hp))) :=
  gd (h_2 (h_2 a0 0) (-2) = 384) (if (h_2 (h_2 a0 0) 3) ≤ x1_2 then (some (.inr h_2))
  else (lt_ 0 fun x2_14 =>
  (lp (fun (q : Int × Hp) => m_X24_inherit_l15 a0 x1_2 q.1 q.2) (x2_14, h_2)).bind (fun (y159 : Hp) => lt_ (w32 (x1_2 + 1)) fun x1_159 =>
  some (.inl (x1_159, y159)))))
noncomputable def m_X24_inherit (a0 : Int) (h : Hp) : Option (Hp) :=
  lt_ 0 fun x1_1 =>
  (lp (fun (q : Int × Hp) => m_X24_inherit_l2 a0 q.1 q.2) (x1_1, h)).bind (fun (x : Hp) => some x)
theorem s_X24_inherit {l : Launch} [NoTr l] {D : SD} {a0 : Int} {h : Hp} (hk : h a0 (-2) = 400) {r : Hp} (hm : m_X24_inherit a0 h = some r) : Sim l D yX24_inherit (Cond.code yX24_inherit cX24_inherit 5 (Option.none : Option Jvm.ClassFile.FieldType)) 2 74 [rv D a0] h 0 ((0, 0), r) := by
  refine Sim.of (fin := fun (v : Hp) => ((0, 0), v)) (lsE := [(0, rv D a0)]) hm rfl cwS_code (la_r la_n) (ll_r ll_n) ?_
  intro p e s m below meth c X hcw hmm hcc hnm hname
  unfold m_X24_inherit
  refine g_iconst (pc := 0) X (n := 0) (dl_at t_X24_inherit 0 rfl) ?_
  refine g_ltz (Or.inl rfl) fun x1_1 r1_1 => ?_
  refine g_istore_nN (pc := 1) X (j := 1) (i := 1) (x := x1_1) (b := 0) (w := rv D a0) (rest := []) rfl (Nat.le_of_ble_eq_true rfl) [0] rfl (by decide) rv_cat rfl (dl_at t_X24_inherit 1 rfl) ?_
  refine g_ls (ls2 := [(0, rv D a0), (1, iv x1_1)]) [1, 0] rfl ?_
  refine g_loop0F (fun (q : Int × Hp) => [(0, rv D a0), (1, iv q.1)]) (fun (q : Int × Hp) => q.2) (fun (q : Int × Hp) => r32 q.1 ∧ Ext h q.2) (x1_1, h) ⟨(r32_z r1_1), (Ext.refl _)⟩ ?_ (fun _ => rfl)
  · rintro ⟨x1_2, h_2⟩ ⟨r1_2, E_2⟩
    try dsimp only
    unfold m_X24_inherit_l2
    refine g_iload_n (pc := 2) X (j := 1) (i := 1) (q := 1) (x := x1_2) rfl rfl (dl_at t_X24_inherit 2 rfl) ?_
    refine g_aload_n (pc := 3) X (j := 0) (i := 0) (q := 0) (x := a0) rfl rfl (dl_at t_X24_inherit 3 rfl) ?_
    have k4 := kx E_2 (by decide) hk
    refine r_getr (pc := 4) X fX24_0 k4 q3642 (dl_at t_X24_inherit 4 rfl) ?_
    refine g_gd fun k7 => ?_
    refine r_geti (pc := 7) X fX23_3 k7 q3527 (dl_at t_X24_inherit 5 rfl) fun g7 => ?_
    refine g_icmpge (pc := 10) X r1_2 g7 (off := 155) (tgt := 165) rfl (dl_at t_X24_inherit 6 rfl) (fun _ => ?_) (fun _ => ?_)
    · exact g_at fun Q hQ => (g_vret (pc := 165) X (v := 0) rfl rfl (dl_at t_X24_inherit 89 rfl)) _ Q rfl hQ
    refine g_iconst (pc := 13) X (n := 0) (dl_at t_X24_inherit 7 rfl) ?_
    refine g_ltz (Or.inl rfl) fun x2_14 r2_14 => ?_
    refine g_istore_nN (pc := 14) X (j := 2) (i := 2) (x := x2_14) (b := 1) (w := iv x1_2) (rest := [(0, rv D a0)]) rfl (Nat.le_of_ble_eq_true rfl) [1, 0] rfl (by decide) rfl rfl (dl_at t_X24_inherit 8 rfl) ?_
    refine g_ls (ls2 := [(0, rv D a0), (1, iv x1_2), (2, iv x2_14)]) [2, 1, 0] rfl ?_
    refine g_loop1 (fun (q : Int × Hp) => [(0, rv D a0), (1, iv x1_2), (2, iv q.1)]) (fun (q : Int × Hp) => q.2) (fun (q : Int × Hp) => r32 q.1 ∧ Ext h_2 q.2) 159 (fun (y159 : Hp) => [(0, rv D a0), (1, iv x1_2)]) (fun (y159 : Hp) => y159) (fun (y159 : Hp) => Ext h_2 y159) (x2_14, h_2) ⟨(r32_z r2_14), (Ext.refl _)⟩ ?_ ?_
    · rintro ⟨x2_15, h_15⟩ ⟨r2_15, E_15⟩
      try dsimp only
      unfold m_X24_inherit_l15
      refine g_iload_n (pc := 15) X (j := 2) (i := 2) (q := 2) (x := x2_15) rfl rfl (dl_at t_X24_inherit 9 rfl) ?_
      refine g_bipush (pc := 16) X (n := 22) rfl (dl_at t_X24_inherit 10 rfl) ?_
      refine g_icmpge (pc := 18) X r2_15 (r32_c rfl) (off := 141) (tgt := 159) rfl (dl_at t_X24_inherit 11 rfl) (fun _ => ?_) (fun _ => ?_)
      · refine g_ls (ls2 := [(0, rv D a0), (1, iv x1_2)]) [0, 1] rfl ?_
        exact g_at fun Q hQ => hQ E_15
      refine g_bipush (pc := 21) X (n := 22) rfl (dl_at t_X24_inherit 12 rfl) ?_
      refine g_iload_n (pc := 23) X (j := 1) (i := 1) (q := 1) (x := x1_2) rfl rfl (dl_at t_X24_inherit 13 rfl) ?_
      refine g_imul (pc := 24) X (r32_c rfl) r1_2 (dl_at t_X24_inherit 14 rfl) ?_
      refine g_iload_n (pc := 25) X (j := 2) (i := 2) (q := 2) (x := x2_15) rfl rfl (dl_at t_X24_inherit 15 rfl) ?_
      refine g_iadd (pc := 26) X (r32_w _) r2_15 (dl_at t_X24_inherit 16 rfl) ?_
      refine g_lti (r32_w _) fun x3_27 r3_27 => ?_
      refine g_istore_nN (pc := 27) X (j := 3) (i := 3) (x := x3_27) (b := 2) (w := iv x2_15) (rest := [(0, rv D a0), (1, iv x1_2)]) rfl (Nat.le_of_ble_eq_true rfl) [2, 0, 1] rfl (by decide) rfl rfl (dl_at t_X24_inherit 17 rfl) ?_
      refine g_aload_n (pc := 28) X (j := 0) (i := 0) (q := 2) (x := a0) rfl rfl (dl_at t_X24_inherit 18 rfl) ?_
      have k29 := kx E_15 (by decide) k4
      refine r_getr (pc := 29) X fX24_16 k29 q3678 (dl_at t_X24_inherit 19 rfl) ?_
      refine g_iload_n (pc := 32) X (j := 3) (i := 3) (q := 0) (x := x3_27) rfl rfl (dl_at t_X24_inherit 20 rfl) ?_
      refine g_gd fun k33 => ?_
      refine g_iald (pc := 33) X r3_27 k33 (dl_at t_X24_inherit 21 rfl) fun g33 => ?_
      refine g_join (γ := Hp) (fun q => Ext h_15 q) 153 (fun q => [(0, rv D a0), (1, iv x1_2), (2, iv x2_15)]) (fun q => []) (fun q => q) (fun q => m_X24_inherit_j153 x2_15 q) ?_ ?_
      · rintro h_153 E_153
        try dsimp only
        unfold m_X24_inherit_j153
        refine r_iincN (pc := 153) X (i := 2) (q := 2) (n := 1) (x := x2_15) (b := 1) (w := iv x1_2) (rest := [(0, rv D a0)]) rfl r2_15 (r32_c rfl) (Nat.le_of_ble_eq_true rfl) [1, 0] rfl (by decide) rfl rfl (dl_at t_X24_inherit 85 rfl) fun x2_153 r2_153 => ?_
        refine g_goto (pc := 156) X (off := (-141)) (tgt := 15) rfl (dl_at t_X24_inherit 86 rfl) ?_
        refine g_ls (ls2 := [(0, rv D a0), (1, iv x1_2), (2, iv x2_153)]) [2, 1, 0] rfl ?_
        exact g_at fun Q hQ => hQ ⟨r2_153, (E_15.trans E_153)⟩
      intro J153
      refine g_ifge (pc := 34) X g33 (off := 40) (tgt := 74) rfl (dl_at t_X24_inherit 22 rfl) (fun _ => ?_) (fun _ => ?_)
      · refine g_iload_n (pc := 74) X (j := 2) (i := 2) (q := 1) (x := x2_15) rfl rfl (dl_at t_X24_inherit 42 rfl) ?_
        refine g_iconst (pc := 75) X (n := 1) (dl_at t_X24_inherit 43 rfl) ?_
        refine g_icmpne (pc := 76) X r2_15 (r32_c rfl) (off := 77) (tgt := 153) rfl (dl_at t_X24_inherit 44 rfl) (fun _ => ?_) (fun _ => ?_)
        · refine g_ls (ls2 := [(0, rv D a0), (1, iv x1_2), (2, iv x2_15)]) [2, 3, 1] rfl ?_
          exact J153 h_15 (Ext.refl _)
        refine g_aload_n (pc := 79) X (j := 0) (i := 0) (q := 2) (x := a0) rfl rfl (dl_at t_X24_inherit 45 rfl) ?_
        refine r_getr (pc := 80) X fX24_3 k29 q3649 (dl_at t_X24_inherit 46 rfl) ?_
        refine g_iload_n (pc := 83) X (j := 3) (i := 3) (q := 0) (x := x3_27) rfl rfl (dl_at t_X24_inherit 47 rfl) ?_
        refine g_gd fun k84 => ?_
        refine g_iald (pc := 84) X r3_27 k84 (dl_at t_X24_inherit 48 rfl) fun g84 => ?_
        refine g_ifge (pc := 85) X g84 (off := 68) (tgt := 153) rfl (dl_at t_X24_inherit 49 rfl) (fun _ => ?_) (fun _ => ?_)
        · refine g_ls (ls2 := [(0, rv D a0), (1, iv x1_2), (2, iv x2_15)]) [2, 3, 1] rfl ?_
          exact J153 h_15 (Ext.refl _)
        refine g_aload_n (pc := 88) X (j := 0) (i := 0) (q := 2) (x := a0) rfl rfl (dl_at t_X24_inherit 50 rfl) ?_
        refine g_aload_n (pc := 89) X (j := 0) (i := 0) (q := 2) (x := a0) rfl rfl (dl_at t_X24_inherit 51 rfl) ?_
        refine r_getr (pc := 90) X fX24_0 k29 q3642 (dl_at t_X24_inherit 52 rfl) ?_
        refine g_gd fun k93 => ?_
        refine r_getr (pc := 93) X fX23_11 k93 q3547 (dl_at t_X24_inherit 53 rfl) ?_
        refine g_iload_n (pc := 96) X (j := 1) (i := 1) (q := 3) (x := x1_2) rfl rfl (dl_at t_X24_inherit 54 rfl) ?_
        refine g_gd fun k97 => ?_
        refine g_iald (pc := 97) X r1_2 k97 (dl_at t_X24_inherit 55 rfl) fun g97 => ?_
        refine g_iconst (pc := 98) X (n := 1) (dl_at t_X24_inherit 56 rfl) ?_
        refine r_callRi (pc := 99) X (fun _ hv => s_X24_of k29 g97 (r32_c rfl) hv) cw_code q4704 q378 (in_Vk X (As := [iv (h_15 (h_15 (h_15 a0 0) 11) x1_2), iv 1]) kX24 k29 (Or.inl q4701) q4702 q4703 cw_code q4704 ⟨by decide, by decide⟩ rfl (dl_at t_X24_inherit 57 rfl)) (dl_at t_X24_inherit 57 rfl) (cat24 (st := []) (Nat.le_of_ble_eq_true rfl)) (Nat.le_of_ble_eq_true rfl) (Nat.le_of_ble_eq_true rfl) fun v99 g99 => ?_
        refine g_i2l (pc := 102) X g99 (dl_at t_X24_inherit 58 rfl) ?_
        refine g_aload_n (pc := 103) X (j := 0) (i := 0) (q := 2) (x := a0) rfl rfl (dl_at t_X24_inherit 59 rfl) ?_
        refine r_getr (pc := 104) X fX24_3 k29 q3649 (dl_at t_X24_inherit 60 rfl) ?_
        refine g_iload_n (pc := 107) X (j := 3) (i := 3) (q := 0) (x := x3_27) rfl rfl (dl_at t_X24_inherit 61 rfl) ?_
        refine g_iald (pc := 108) X r3_27 k84 (dl_at t_X24_inherit 62 rfl) fun g108 => ?_
        refine g_ineg (pc := 109) X g108 (dl_at t_X24_inherit 63 rfl) ?_
        refine g_i2l (pc := 110) X (r32_w _) (dl_at t_X24_inherit 64 rfl) ?_
        refine g_lmul (pc := 111) X (r64_of g99) (r64_of (r32_w _)) (dl_at t_X24_inherit 65 rfl) ?_
        refine g_ldc2 (pc := 112) X (index := 231) (n := 100) q4708 (dl_at t_X24_inherit 66 rfl) ?_
        refine g_ldiv (pc := 115) X (r64_w _) (r64_c rfl) (by decide) (dl_at t_X24_inherit 67 rfl) ?_
        refine g_l2i (pc := 116) X (r64_w _) (dl_at t_X24_inherit 68 rfl) ?_
        refine g_lti (r32_w _) fun x4_117 r4_117 => ?_
        refine g_istoreN (pc := 117) X (i := 4) (x := x4_117) (b := 3) (w := iv x3_27) (rest := [(2, iv x2_15), (0, rv D a0), (1, iv x1_2)]) (Nat.le_of_ble_eq_true rfl) [0, 1, 2, 3] rfl (by decide) rfl rfl (dl_at t_X24_inherit 69 rfl) ?_
        refine g_aload_n (pc := 119) X (j := 0) (i := 0) (q := 3) (x := a0) rfl rfl (dl_at t_X24_inherit 70 rfl) ?_
        refine r_getr (pc := 120) X fX24_3 k29 q3649 (dl_at t_X24_inherit 71 rfl) ?_
        refine g_iload_n (pc := 123) X (j := 3) (i := 3) (q := 1) (x := x3_27) rfl rfl (dl_at t_X24_inherit 72 rfl) ?_
        refine g_iload (pc := 124) X (i := 4) (q := 0) (x := x4_117) rfl (dl_at t_X24_inherit 73 rfl) ?_
        refine g_sipush (pc := 126) X (n := 1000) rfl (dl_at t_X24_inherit 74 rfl) ?_
        refine g_join (γ := Int × Int) (fun q => r32 q.2) 152 (fun q => [(0, rv D a0), (1, iv x1_2), (2, iv x2_15)]) (fun q => [iv q.2, iv x3_27, rv D q.1]) (fun q => h_15) (fun q => m_X24_inherit_j152 x3_27 x2_15 q.1 q.2 h_15) ?_ ?_
        · rintro ⟨s0_152, s2_152⟩ rs2_152
          try dsimp only
          unfold m_X24_inherit_j152
          refine g_gd fun k152 => ?_
          refine r_iast (pc := 152) X r3_27 rs2_152 k152 (dl_at t_X24_inherit 84 rfl) (fun h152 E152 => ?_)
          exact J153 h152 E152
        intro J152
        refine g_icmpge (pc := 129) X r4_117 (r32_c rfl) (off := 9) (tgt := 138) rfl (dl_at t_X24_inherit 75 rfl) (fun _ => ?_) (fun _ => ?_)
        · refine g_iload (pc := 138) X (i := 4) (q := 0) (x := x4_117) rfl (dl_at t_X24_inherit 78 rfl) ?_
          refine g_ldc (pc := 140) X (index := 233) (n := 100000) q4709 (dl_at t_X24_inherit 79 rfl) ?_
          refine g_icmple (pc := 142) X r4_117 (r32_c rfl) (off := 8) (tgt := 150) rfl (dl_at t_X24_inherit 80 rfl) (fun _ => ?_) (fun _ => ?_)
          · refine g_iload (pc := 150) X (i := 4) (q := 0) (x := x4_117) rfl (dl_at t_X24_inherit 83 rfl) ?_
            refine g_ls (ls2 := [(0, rv D a0), (1, iv x1_2), (2, iv x2_15)]) [3, 4, 2] rfl ?_
            exact J152 ((h_15 a0 3), x4_117) r4_117
          refine g_ldc (pc := 145) X (index := 233) (n := 100000) q4709 (dl_at t_X24_inherit 81 rfl) ?_
          refine g_goto (pc := 147) X (off := 5) (tgt := 152) rfl (dl_at t_X24_inherit 82 rfl) ?_
          refine g_ls (ls2 := [(0, rv D a0), (1, iv x1_2), (2, iv x2_15)]) [3, 4, 2] rfl ?_
          exact J152 ((h_15 a0 3), 100000) (r32_c rfl)
        refine g_sipush (pc := 132) X (n := 1000) rfl (dl_at t_X24_inherit 76 rfl) ?_
        refine g_goto (pc := 135) X (off := 17) (tgt := 152) rfl (dl_at t_X24_inherit 77 rfl) ?_
        refine g_ls (ls2 := [(0, rv D a0), (1, iv x1_2), (2, iv x2_15)]) [3, 4, 2] rfl ?_
        exact J152 ((h_15 a0 3), 1000) (r32_c rfl)
      refine g_aload_n (pc := 37) X (j := 0) (i := 0) (q := 2) (x := a0) rfl rfl (dl_at t_X24_inherit 23 rfl) ?_
      refine r_getr (pc := 38) X fX24_3 k29 q3649 (dl_at t_X24_inherit 24 rfl) ?_
      refine g_iload_n (pc := 41) X (j := 3) (i := 3) (q := 0) (x := x3_27) rfl rfl (dl_at t_X24_inherit 25 rfl) ?_
      refine g_iload_n (pc := 42) X (j := 2) (i := 2) (q := 1) (x := x2_15) rfl rfl (dl_at t_X24_inherit 26 rfl) ?_
      refine r_callRz (pc := 43) X (fun _ hv => s_X24_isInherited r2_15 hv) cw_code q4700 q378 (in_Sc X (As := [iv x2_15]) (Or.inl q4698) q4699 q378 q4700 ⟨by decide, by decide⟩ rfl (dl_at t_X24_inherit 27 rfl)) (dl_at t_X24_inherit 27 rfl) (cat24 (st := [iv x3_27, rv D (h_15 a0 3)]) (Nat.le_of_ble_eq_true rfl)) (Nat.le_of_ble_eq_true rfl) (Nat.le_of_ble_eq_true rfl) fun v43 g43 => ?_
      refine g_join (γ := Int × Int) (fun q => r32 q.2) 70 (fun q => [(0, rv D a0), (1, iv x1_2), (2, iv x2_15)]) (fun q => [iv q.2, iv x3_27, rv D q.1]) (fun q => h_15) (fun q => m_X24_inherit_j70 x3_27 x2_15 q.1 q.2 h_15) ?_ ?_
      · rintro ⟨s0_70, s2_70⟩ rs2_70
        try dsimp only
        unfold m_X24_inherit_j70
        refine g_gd fun k70 => ?_
        refine r_iast (pc := 70) X r3_27 rs2_70 k70 (dl_at t_X24_inherit 40 rfl) (fun h70 E70 => ?_)
        refine g_goto (pc := 71) X (off := 82) (tgt := 153) rfl (dl_at t_X24_inherit 41 rfl) ?_
        exact J153 h70 E70
      intro J70
      refine g_ifeq (pc := 46) X (r32_z g43) (off := 20) (tgt := 66) rfl (dl_at t_X24_inherit 28 rfl) (fun _ => ?_) (fun _ => ?_)
      · refine g_iload_n (pc := 66) X (j := 2) (i := 2) (q := 1) (x := x2_15) rfl rfl (dl_at t_X24_inherit 38 rfl) ?_
        refine r_callRi (pc := 67) X (fun _ hv => s_X24_beginning r2_15 hv) cw_code q4707 q378 (in_Sc X (As := [iv x2_15]) (Or.inl q4705) q4706 q378 q4707 ⟨by decide, by decide⟩ rfl (dl_at t_X24_inherit 39 rfl)) (dl_at t_X24_inherit 39 rfl) (cat24 (st := [iv x3_27, rv D (h_15 a0 3)]) (Nat.le_of_ble_eq_true rfl)) (Nat.le_of_ble_eq_true rfl) (Nat.le_of_ble_eq_true rfl) fun v67 g67 => ?_
        refine g_ls (ls2 := [(0, rv D a0), (1, iv x1_2), (2, iv x2_15)]) [2, 3, 1] rfl ?_
        exact J70 ((h_15 a0 3), v67) g67
      refine g_aload_n (pc := 49) X (j := 0) (i := 0) (q := 2) (x := a0) rfl rfl (dl_at t_X24_inherit 29 rfl) ?_
      refine g_aload_n (pc := 50) X (j := 0) (i := 0) (q := 2) (x := a0) rfl rfl (dl_at t_X24_inherit 30 rfl) ?_
      refine r_getr (pc := 51) X fX24_0 k29 q3642 (dl_at t_X24_inherit 31 rfl) ?_
      refine g_gd fun k54 => ?_
      refine r_getr (pc := 54) X fX23_11 k54 q3547 (dl_at t_X24_inherit 32 rfl) ?_
      refine g_iload_n (pc := 57) X (j := 1) (i := 1) (q := 3) (x := x1_2) rfl rfl (dl_at t_X24_inherit 33 rfl) ?_
      refine g_gd fun k58 => ?_
      refine g_iald (pc := 58) X r1_2 k58 (dl_at t_X24_inherit 34 rfl) fun g58 => ?_
      refine g_iload_n (pc := 59) X (j := 2) (i := 2) (q := 1) (x := x2_15) rfl rfl (dl_at t_X24_inherit 35 rfl) ?_
      refine r_callRi (pc := 60) X (fun _ hv => s_X24_of k29 g58 r2_15 hv) cw_code q4704 q378 (in_Vk X (As := [iv (h_15 (h_15 (h_15 a0 0) 11) x1_2), iv x2_15]) kX24 k29 (Or.inl q4701) q4702 q4703 cw_code q4704 ⟨by decide, by decide⟩ rfl (dl_at t_X24_inherit 36 rfl)) (dl_at t_X24_inherit 36 rfl) (cat24 (st := [iv x3_27, rv D (h_15 a0 3)]) (Nat.le_of_ble_eq_true rfl)) (Nat.le_of_ble_eq_true rfl) (Nat.le_of_ble_eq_true rfl) fun v60 g60 => ?_
      refine g_goto (pc := 63) X (off := 7) (tgt := 70) rfl (dl_at t_X24_inherit 37 rfl) ?_
      refine g_ls (ls2 := [(0, rv D a0), (1, iv x1_2), (2, iv x2_15)]) [2, 3, 1] rfl ?_
      exact J70 ((h_15 a0 3), v60) g60
    · rintro h_159 E_159
      try dsimp only [sE]
      refine r_iincN (pc := 159) X (i := 1) (q := 1) (n := 1) (x := x1_2) (b := 0) (w := rv D a0) (rest := []) rfl r1_2 (r32_c rfl) (Nat.le_of_ble_eq_true rfl) [0] rfl (by decide) rv_cat rfl (dl_at t_X24_inherit 87 rfl) fun x1_159 r1_159 => ?_
      refine g_goto (pc := 162) X (off := (-160)) (tgt := 2) rfl (dl_at t_X24_inherit 88 rfl) ?_
      refine g_ls (ls2 := [(0, rv D a0), (1, iv x1_159)]) [1, 0] rfl ?_
      exact g_at fun Q hQ => hQ ⟨r1_159, (E_2.trans E_159)⟩
def k_X24_show : List (Nat × Instr × Nat) := [(0, .aload_n 0, 1), (1, .getfield 26, 3), (4, .bipush 22, 2), (6, .iload_n 1, 1), (7, .imul, 1), (8, .iconst 0, 1), (9, .iadd, 1), (10, .iaload, 1), (11, .ireturn, 1)]
theorem t_X24_show : ∀ q ∈ k_X24_show, decode cX24_show q.1 = .ok q.2 := dl_all (by decide +kernel)
noncomputable def m_X24_show (a0 a1 : Int) (h : Hp) : Option (Int) :=
  gd (h (h a0 3) (-2) % 16 = 1 ∧ (0 : Int) ≤ (w32 ((w32 (22 * a1)) + 0)) ∧ (w32 ((w32 (22 * a1)) + 0)) < h (h a0 3) (-1)) (some (h (h a0 3) (w32 ((w32 (22 * a1)) + 0))))
theorem s_X24_show {l : Launch} [NoTr l] {D : SD} {a0 a1 : Int} {h : Hp} (hk : h a0 (-2) = 400) (r1 : r32 a1) {r : Int} (hm : m_X24_show a0 a1 h = some r) : Sim l D yX24_show (Cond.code yX24_show cX24_show 2 (Option.some Jvm.ClassFile.FieldType.int)) 0 0 [rv D a0, iv a1] h 1 ((0, r), h) := by
  refine Sim.of (fin := fun (v : Int) => ((0, v), h)) (lsE := [(0, rv D a0), (1, iv a1)]) hm rfl cwS_code (la_r (la_i la_n)) (ll_r (ll_i ll_n)) ?_
  intro p e s m below meth c X hcw hmm hcc hnm hname
  unfold m_X24_show
  refine g_aload_n (pc := 0) X (j := 0) (i := 0) (q := 0) (x := a0) rfl rfl (dl_at t_X24_show 0 rfl) ?_
  refine r_getr (pc := 1) X fX24_3 hk q3649 (dl_at t_X24_show 1 rfl) ?_
  refine g_bipush (pc := 4) X (n := 22) rfl (dl_at t_X24_show 2 rfl) ?_
  refine g_iload_n (pc := 6) X (j := 1) (i := 1) (q := 1) (x := a1) rfl rfl (dl_at t_X24_show 3 rfl) ?_
  refine g_imul (pc := 7) X (r32_c rfl) r1 (dl_at t_X24_show 4 rfl) ?_
  refine g_iconst (pc := 8) X (n := 0) (dl_at t_X24_show 5 rfl) ?_
  refine g_iadd (pc := 9) X (r32_w _) (r32_c rfl) (dl_at t_X24_show 6 rfl) ?_
  refine g_gd fun k10 => ?_
  refine g_iald (pc := 10) X (r32_w _) k10 (dl_at t_X24_show 7 rfl) fun g10 => ?_
  exact g_iret (pc := 11) X g10 rfl rfl (dl_at t_X24_show 8 rfl)
def k_X24_isMute : List (Nat × Instr × Nat) := [(0, .aload_n 0, 1), (1, .iload_n 1, 1), (2, .invokevirtual 234, 3), (5, .bipush 8, 2), (7, .if_icmp .lt 13, 3), (10, .aload_n 0, 1), (11, .iload_n 1, 1), (12, .invokevirtual 234, 3), (15, .bipush 10, 2), (17, .if_icmp .le 12, 3), (20, .aload_n 0, 1), (21, .iload_n 1, 1), (22, .invokevirtual 234, 3), (25, .iconst 4, 1), (26, .if_icmp .ne 7, 3), (29, .iconst 1, 1), (30, .goto 4, 3), (33, .iconst 0, 1), (34, .ireturn, 1)]
theorem t_X24_isMute : ∀ q ∈ k_X24_isMute, decode cX24_isMute q.1 = .ok q.2 := dl_all (by decide +kernel)
noncomputable def m_X24_isMute_j20 (a0 a1 : Int) (h : Hp) : Option (Int) :=
  (m_X24_show a0 a1 h).bind fun v22 =>
  if v22 ≠ 4 then (some 0)
  else (some 1)
noncomputable def m_X24_isMute (a0 a1 : Int) (h : Hp) : Option (Int) :=
  (m_X24_show a0 a1 h).bind fun v2 =>
  if v2 < 8 then (m_X24_isMute_j20 a0 a1 h)
  else ((m_X24_show a0 a1 h).bind fun v12 =>
  if v12 ≤ 10 then (some 1)
  else (m_X24_isMute_j20 a0 a1 h))
theorem s_X24_isMute {l : Launch} [NoTr l] {D : SD} {a0 a1 : Int} {h : Hp} (hk : h a0 (-2) = 400) (r1 : r32 a1) {r : Int} (hm : m_X24_isMute a0 a1 h = some r) : Sim l D yX24_isMute (Cond.code yX24_isMute cX24_isMute 2 (Option.some Jvm.ClassFile.FieldType.boolean)) 1 37 [rv D a0, iv a1] h 3 ((0, r), h) := by
  refine Sim.of (fin := fun (v : Int) => ((0, v), h)) (lsE := [(0, rv D a0), (1, iv a1)]) hm rfl cwS_code (la_r (la_i la_n)) (ll_r (ll_i ll_n)) ?_
  intro p e s m below meth c X hcw hmm hcc hnm hname
  unfold m_X24_isMute
  refine g_aload_n (pc := 0) X (j := 0) (i := 0) (q := 0) (x := a0) rfl rfl (dl_at t_X24_isMute 0 rfl) ?_
  refine g_iload_n (pc := 1) X (j := 1) (i := 1) (q := 1) (x := a1) rfl rfl (dl_at t_X24_isMute 1 rfl) ?_
  refine r_callRi (pc := 2) X (fun _ hv => s_X24_show hk r1 hv) cw_code q4717 q378 (in_Vk X (As := [iv a1]) kX24 hk (Or.inl q4714) q4715 q4716 cw_code q4717 ⟨by decide, by decide⟩ rfl (dl_at t_X24_isMute 2 rfl)) (dl_at t_X24_isMute 2 rfl) (cat24 (st := []) (Nat.le_of_ble_eq_true rfl)) (Nat.le_of_ble_eq_true rfl) (Nat.le_of_ble_eq_true rfl) fun v2 g2 => ?_
  refine g_bipush (pc := 5) X (n := 8) rfl (dl_at t_X24_isMute 3 rfl) ?_
  refine g_join (γ := Unit) (fun q => True) 20 (fun q => [(0, rv D a0), (1, iv a1)]) (fun q => []) (fun q => h) (fun q => m_X24_isMute_j20 a0 a1 h) ?_ ?_
  · rintro _ _
    try dsimp only
    unfold m_X24_isMute_j20
    refine g_aload_n (pc := 20) X (j := 0) (i := 0) (q := 0) (x := a0) rfl rfl (dl_at t_X24_isMute 10 rfl) ?_
    refine g_iload_n (pc := 21) X (j := 1) (i := 1) (q := 1) (x := a1) rfl rfl (dl_at t_X24_isMute 11 rfl) ?_
    refine r_callRi (pc := 22) X (fun _ hv => s_X24_show hk r1 hv) cw_code q4717 q378 (in_Vk X (As := [iv a1]) kX24 hk (Or.inl q4714) q4715 q4716 cw_code q4717 ⟨by decide, by decide⟩ rfl (dl_at t_X24_isMute 12 rfl)) (dl_at t_X24_isMute 12 rfl) (cat24 (st := []) (Nat.le_of_ble_eq_true rfl)) (Nat.le_of_ble_eq_true rfl) (Nat.le_of_ble_eq_true rfl) fun v22 g22 => ?_
    refine g_iconst (pc := 25) X (n := 4) (dl_at t_X24_isMute 13 rfl) ?_
    refine g_icmpne (pc := 26) X g22 (r32_c rfl) (off := 7) (tgt := 33) rfl (dl_at t_X24_isMute 14 rfl) (fun _ => ?_) (fun _ => ?_)
    · refine g_iconst (pc := 33) X (n := 0) (dl_at t_X24_isMute 17 rfl) ?_
      exact g_zret (pc := 34) X (Or.inl rfl) rfl rfl (dl_at t_X24_isMute 18 rfl)
    refine g_iconst (pc := 29) X (n := 1) (dl_at t_X24_isMute 15 rfl) ?_
    refine g_goto (pc := 30) X (off := 4) (tgt := 34) rfl (dl_at t_X24_isMute 16 rfl) ?_
    exact g_zret (pc := 34) X (Or.inr rfl) rfl rfl (dl_at t_X24_isMute 18 rfl)
  intro J20
  refine g_icmplt (pc := 7) X g2 (r32_c rfl) (off := 13) (tgt := 20) rfl (dl_at t_X24_isMute 4 rfl) (fun _ => ?_) (fun _ => ?_)
  · exact J20 () trivial
  refine g_aload_n (pc := 10) X (j := 0) (i := 0) (q := 0) (x := a0) rfl rfl (dl_at t_X24_isMute 5 rfl) ?_
  refine g_iload_n (pc := 11) X (j := 1) (i := 1) (q := 1) (x := a1) rfl rfl (dl_at t_X24_isMute 6 rfl) ?_
  refine r_callRi (pc := 12) X (fun _ hv => s_X24_show hk r1 hv) cw_code q4717 q378 (in_Vk X (As := [iv a1]) kX24 hk (Or.inl q4714) q4715 q4716 cw_code q4717 ⟨by decide, by decide⟩ rfl (dl_at t_X24_isMute 7 rfl)) (dl_at t_X24_isMute 7 rfl) (cat24 (st := []) (Nat.le_of_ble_eq_true rfl)) (Nat.le_of_ble_eq_true rfl) (Nat.le_of_ble_eq_true rfl) fun v12 g12 => ?_
  refine g_bipush (pc := 15) X (n := 10) rfl (dl_at t_X24_isMute 8 rfl) ?_
  refine g_icmple (pc := 17) X g12 (r32_c rfl) (off := 12) (tgt := 29) rfl (dl_at t_X24_isMute 9 rfl) (fun _ => ?_) (fun _ => ?_)
  · refine g_iconst (pc := 29) X (n := 1) (dl_at t_X24_isMute 15 rfl) ?_
    refine g_goto (pc := 30) X (off := 4) (tgt := 34) rfl (dl_at t_X24_isMute 16 rfl) ?_
    exact g_zret (pc := 34) X (Or.inr rfl) rfl rfl (dl_at t_X24_isMute 18 rfl)
  exact J20 () trivial
