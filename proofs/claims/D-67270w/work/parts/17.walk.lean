set_option maxRecDepth 100000
def k_X7_count : List (Nat × Instr × Nat) := [(0, .iconst 0, 1), (1, .istore_n 1, 1), (2, .iload_n 1, 1), (3, .aload_n 0, 1), (4, .getfield 48, 3), (7, .arraylength, 1), (8, .if_icmp .ge 16, 3), (11, .aload_n 0, 1), (12, .getfield 48, 3), (15, .iload_n 1, 1), (16, .iconst 0, 1), (17, .iastore, 1), (18, .iinc 1 1, 3), (21, .goto (-19), 3), (24, .iconst 0, 1), (25, .istore_n 1, 1), (26, .iload_n 1, 1), (27, .aload_n 0, 1), (28, .getfield 80, 3), (31, .if_icmp .ge 81, 3), (34, .aload_n 0, 1), (35, .getfield 33, 3), (38, .iload_n 1, 1), (39, .iconst 0, 1), (40, .iastore, 1), (41, .aload_n 0, 1), (42, .getfield 23, 3), (45, .iload_n 1, 1), (46, .baload, 1), (47, .ifCond .ne 6, 3), (50, .goto 56, 3), (53, .aload_n 0, 1), (54, .iload_n 1, 1), (55, .bipush 16, 2), (57, .invokevirtual 131, 3), (60, .istore_n 2, 1), (61, .aload_n 0, 1), (62, .iload_n 1, 1), (63, .bipush 15, 2), (65, .invokevirtual 131, 3), (68, .istore_n 3, 1), (69, .iload_n 2, 1), (70, .ifCond .le 10, 3), (73, .aload_n 0, 1), (74, .getfield 48, 3), (77, .iload_n 2, 1), (78, .iconst 0, 1), (79, .iastore, 1), (80, .iload_n 3, 1), (81, .ifCond .le 25, 3), (84, .aload_n 0, 1), (85, .getfield 48, 3), (88, .iload_n 3, 1), (89, .dup2, 1), (90, .iaload, 1), (91, .iconst 1, 1), (92, .iadd, 1), (93, .iastore, 1), (94, .aload_n 0, 1), (95, .getfield 33, 3), (98, .iload_n 1, 1), (99, .aload_n 0, 1), (100, .getfield 48, 3), (103, .iload_n 3, 1), (104, .iaload, 1), (105, .iastore, 1), (106, .iinc 1 1, 3), (109, .goto (-83), 3), (112, .return_, 1)]
theorem t_X7_count : ∀ q ∈ k_X7_count, decode cX7_count q.1 = .ok q.2 := dl_all (by decide +kernel)
noncomputable def m_X7_count_l2 (a0 x1_2 : Int) (h_2 : Hp) : Option ((Int × Hp) ⊕ ((Hp))) :=
  gd (1 ≤ h_2 (h_2 a0 15) (-2) % 16 ∧ h_2 (h_2 a0 15) (-2) % 16 ≤ 9) (if (h_2 (h_2 a0 15) (-1)) ≤ x1_2 then (some (.inr h_2))
  else (gd (h_2 (h_2 a0 15) (-2) % 16 = 1 ∧ (0 : Int) ≤ x1_2 ∧ x1_2 < h_2 (h_2 a0 15) (-1)) (pt h_2 (h_2 a0 15) x1_2 0 fun h17 =>
  lt_ (w32 (x1_2 + 1)) fun x1_18 =>
  some (.inl (x1_18, h17)))))
noncomputable def m_X7_count_j106 (x1_26 : Int) (h_106 : Hp) : Option ((Int × Hp) ⊕ ((Hp))) :=
  lt_ (w32 (x1_26 + 1)) fun x1_106 =>
  some (.inl (x1_106, h_106))
noncomputable def m_X7_count_j80 (v65 x1_26 a0 : Int) (h_80 : Hp) : Option ((Int × Hp) ⊕ ((Hp))) :=
  if v65 ≤ 0 then (m_X7_count_j106 x1_26 h_80)
  else (gd (h_80 (h_80 a0 15) (-2) % 16 = 1 ∧ (0 : Int) ≤ v65 ∧ v65 < h_80 (h_80 a0 15) (-1)) (pt h_80 (h_80 a0 15) v65 (w32 ((h_80 (h_80 a0 15) v65) + 1)) fun h93 =>
  gd (h93 (h93 a0 15) (-2) % 16 = 1 ∧ (0 : Int) ≤ v65 ∧ v65 < h93 (h93 a0 15) (-1)) (gd (h93 (h93 a0 9) (-2) % 16 = 1 ∧ (0 : Int) ≤ x1_26 ∧ x1_26 < h93 (h93 a0 9) (-1)) (pt h93 (h93 a0 9) x1_26 (h93 (h93 a0 15) v65) fun h105 =>
  m_X7_count_j106 x1_26 h105))))
noncomputable def m_X7_count_l26 (a0 x1_26 : Int) (h_26 : Hp) : Option ((Int × Hp) ⊕ ((Hp))) :=
  if (h_26 a0 2) ≤ x1_26 then (some (.inr h_26))
  else (gd (h_26 (h_26 a0 9) (-2) % 16 = 1 ∧ (0 : Int) ≤ x1_26 ∧ x1_26 < h_26 (h_26 a0 9) (-1)) (pt h_26 (h_26 a0 9) x1_26 0 fun h40 =>
  gd (h40 (h40 a0 6) (-2) % 16 = 3 ∧ (0 : Int) ≤ x1_26 ∧ x1_26 < h40 (h40 a0 6) (-1)) (if (h40 (h40 a0 6) x1_26) ≠ 0 then ((m_X7_property a0 x1_26 16 h40).bind fun v57 =>
  (m_X7_property a0 x1_26 15 h40).bind fun v65 =>
  if v57 ≤ 0 then (m_X7_count_j80 v65 x1_26 a0 h40)
  else (gd (h40 (h40 a0 15) (-2) % 16 = 1 ∧ (0 : Int) ≤ v57 ∧ v57 < h40 (h40 a0 15) (-1)) (pt h40 (h40 a0 15) v57 0 fun h79 =>
  m_X7_count_j80 v65 x1_26 a0 h79)))
  else (m_X7_count_j106 x1_26 h40))))
noncomputable def m_X7_count (a0 : Int) (h : Hp) : Option (Hp) :=
  lt_ 0 fun x1_1 =>
  (lp (fun (q : Int × Hp) => m_X7_count_l2 a0 q.1 q.2) (x1_1, h)).bind (fun (y24 : Hp) => lt_ 0 fun x1_25 =>
  (lp (fun (q : Int × Hp) => m_X7_count_l26 a0 q.1 q.2) (x1_25, y24)).bind (fun (x : Hp) => some x))
theorem s_X7_count {l : Launch} [NoTr l] {D : SD} {a0 : Int} {h : Hp} (hk : h a0 (-2) = 112) {r : Hp} (hm : m_X7_count a0 h = some r) : Sim l D yX7_count (Cond.code yX7_count cX7_count 4 (Option.none : Option Jvm.ClassFile.FieldType)) 2 74 [rv D a0] h 0 ((0, 0), r) := by
  refine Sim.of (fin := fun (v : Hp) => ((0, 0), v)) (lsE := [(0, rv D a0)]) hm rfl cwS_code (la_r la_n) (ll_r ll_n) ?_
  intro p e s m below meth c X hcw hmm hcc hnm hname
  unfold m_X7_count
  refine g_iconst (pc := 0) X (n := 0) (dl_at t_X7_count 0 rfl) ?_
  refine g_ltz (Or.inl rfl) fun x1_1 r1_1 => ?_
  refine g_istore_nN (pc := 1) X (j := 1) (i := 1) (x := x1_1) (b := 0) (w := rv D a0) (rest := []) rfl (Nat.le_of_ble_eq_true rfl) [0] rfl (by decide) rv_cat rfl (dl_at t_X7_count 1 rfl) ?_
  refine g_ls (ls2 := [(0, rv D a0), (1, iv x1_1)]) [1, 0] rfl ?_
  refine g_loop1 (fun (q : Int × Hp) => [(0, rv D a0), (1, iv q.1)]) (fun (q : Int × Hp) => q.2) (fun (q : Int × Hp) => r32 q.1 ∧ Ext h q.2) 24 (fun (y24 : Hp) => [(0, rv D a0)]) (fun (y24 : Hp) => y24) (fun (y24 : Hp) => Ext h y24) (x1_1, h) ⟨(r32_z r1_1), (Ext.refl _)⟩ ?_ ?_
  · rintro ⟨x1_2, h_2⟩ ⟨r1_2, E_2⟩
    try dsimp only
    unfold m_X7_count_l2
    refine g_iload_n (pc := 2) X (j := 1) (i := 1) (q := 1) (x := x1_2) rfl rfl (dl_at t_X7_count 2 rfl) ?_
    refine g_aload_n (pc := 3) X (j := 0) (i := 0) (q := 0) (x := a0) rfl rfl (dl_at t_X7_count 3 rfl) ?_
    have k4 := kx E_2 (by decide) hk
    refine r_getr (pc := 4) X fX7_15 k4 q806 (dl_at t_X7_count 4 rfl) ?_
    refine g_gd fun k7 => ?_
    refine g_alen (pc := 7) X k7 (dl_at t_X7_count 5 rfl) fun g7 => ?_
    refine g_icmpge (pc := 8) X r1_2 g7 (off := 16) (tgt := 24) rfl (dl_at t_X7_count 6 rfl) (fun _ => ?_) (fun _ => ?_)
    · refine g_ls (ls2 := [(0, rv D a0)]) [0] rfl ?_
      exact g_at fun Q hQ => hQ E_2
    refine g_aload_n (pc := 11) X (j := 0) (i := 0) (q := 0) (x := a0) rfl rfl (dl_at t_X7_count 7 rfl) ?_
    refine r_getr (pc := 12) X fX7_15 k4 q806 (dl_at t_X7_count 8 rfl) ?_
    refine g_iload_n (pc := 15) X (j := 1) (i := 1) (q := 1) (x := x1_2) rfl rfl (dl_at t_X7_count 9 rfl) ?_
    refine g_iconst (pc := 16) X (n := 0) (dl_at t_X7_count 10 rfl) ?_
    refine g_gd fun k17 => ?_
    refine r_iast (pc := 17) X r1_2 (r32_c rfl) k17 (dl_at t_X7_count 11 rfl) (fun h17 E17 => ?_)
    refine r_iincN (pc := 18) X (i := 1) (q := 1) (n := 1) (x := x1_2) (b := 0) (w := rv D a0) (rest := []) rfl r1_2 (r32_c rfl) (Nat.le_of_ble_eq_true rfl) [0] rfl (by decide) rv_cat rfl (dl_at t_X7_count 12 rfl) fun x1_18 r1_18 => ?_
    refine g_goto (pc := 21) X (off := (-19)) (tgt := 2) rfl (dl_at t_X7_count 13 rfl) ?_
    refine g_ls (ls2 := [(0, rv D a0), (1, iv x1_18)]) [1, 0] rfl ?_
    exact g_at fun Q hQ => hQ ⟨r1_18, (E_2.trans E17)⟩
  · rintro h_24 E_24
    try dsimp only [sE]
    refine g_iconst (pc := 24) X (n := 0) (dl_at t_X7_count 14 rfl) ?_
    refine g_ltz (Or.inl rfl) fun x1_25 r1_25 => ?_
    refine g_istore_nN (pc := 25) X (j := 1) (i := 1) (x := x1_25) (b := 0) (w := rv D a0) (rest := []) rfl (Nat.le_of_ble_eq_true rfl) [0] rfl (by decide) rv_cat rfl (dl_at t_X7_count 15 rfl) ?_
    refine g_ls (ls2 := [(0, rv D a0), (1, iv x1_25)]) [1, 0] rfl ?_
    refine g_loop0F (fun (q : Int × Hp) => [(0, rv D a0), (1, iv q.1)]) (fun (q : Int × Hp) => q.2) (fun (q : Int × Hp) => r32 q.1 ∧ Ext h_24 q.2) (x1_25, h_24) ⟨(r32_z r1_25), (Ext.refl _)⟩ ?_ (fun _ => rfl)
    · rintro ⟨x1_26, h_26⟩ ⟨r1_26, E_26⟩
      try dsimp only
      unfold m_X7_count_l26
      refine g_iload_n (pc := 26) X (j := 1) (i := 1) (q := 1) (x := x1_26) rfl rfl (dl_at t_X7_count 16 rfl) ?_
      refine g_aload_n (pc := 27) X (j := 0) (i := 0) (q := 0) (x := a0) rfl rfl (dl_at t_X7_count 17 rfl) ?_
      have k28 := kx (E_24.trans E_26) (by decide) hk
      refine r_geti (pc := 28) X fX7_2 k28 q783 (dl_at t_X7_count 18 rfl) fun g28 => ?_
      refine g_icmpge (pc := 31) X r1_26 g28 (off := 81) (tgt := 112) rfl (dl_at t_X7_count 19 rfl) (fun _ => ?_) (fun _ => ?_)
      · exact g_at fun Q hQ => (g_vret (pc := 112) X (v := 0) rfl rfl (dl_at t_X7_count 68 rfl)) _ Q rfl hQ
      refine g_aload_n (pc := 34) X (j := 0) (i := 0) (q := 0) (x := a0) rfl rfl (dl_at t_X7_count 20 rfl) ?_
      refine r_getr (pc := 35) X fX7_9 k28 q799 (dl_at t_X7_count 21 rfl) ?_
      refine g_iload_n (pc := 38) X (j := 1) (i := 1) (q := 1) (x := x1_26) rfl rfl (dl_at t_X7_count 22 rfl) ?_
      refine g_iconst (pc := 39) X (n := 0) (dl_at t_X7_count 23 rfl) ?_
      refine g_gd fun k40 => ?_
      refine r_iast (pc := 40) X r1_26 (r32_c rfl) k40 (dl_at t_X7_count 24 rfl) (fun h40 E40 => ?_)
      refine g_aload_n (pc := 41) X (j := 0) (i := 0) (q := 0) (x := a0) rfl rfl (dl_at t_X7_count 25 rfl) ?_
      have k42 := kx E40 (by decide) k28
      refine r_getr (pc := 42) X fX7_6 k42 q789 (dl_at t_X7_count 26 rfl) ?_
      refine g_iload_n (pc := 45) X (j := 1) (i := 1) (q := 1) (x := x1_26) rfl rfl (dl_at t_X7_count 27 rfl) ?_
      refine g_gd fun k46 => ?_
      refine g_zald (pc := 46) X r1_26 k46 (dl_at t_X7_count 28 rfl) fun g46 => ?_
      refine g_join (γ := Hp) (fun q => Ext h40 q) 106 (fun q => [(0, rv D a0), (1, iv x1_26)]) (fun q => []) (fun q => q) (fun q => m_X7_count_j106 x1_26 q) ?_ ?_
      · rintro h_106 E_106
        try dsimp only
        unfold m_X7_count_j106
        refine r_iincN (pc := 106) X (i := 1) (q := 1) (n := 1) (x := x1_26) (b := 0) (w := rv D a0) (rest := []) rfl r1_26 (r32_c rfl) (Nat.le_of_ble_eq_true rfl) [0] rfl (by decide) rv_cat rfl (dl_at t_X7_count 66 rfl) fun x1_106 r1_106 => ?_
        refine g_goto (pc := 109) X (off := (-83)) (tgt := 26) rfl (dl_at t_X7_count 67 rfl) ?_
        refine g_ls (ls2 := [(0, rv D a0), (1, iv x1_106)]) [1, 0] rfl ?_
        exact g_at fun Q hQ => hQ ⟨r1_106, (E_26.trans (E40.trans E_106))⟩
      intro J106
      refine g_ifne (pc := 47) X (r32_z g46) (off := 6) (tgt := 53) rfl (dl_at t_X7_count 29 rfl) (fun _ => ?_) (fun _ => ?_)
      · refine g_aload_n (pc := 53) X (j := 0) (i := 0) (q := 0) (x := a0) rfl rfl (dl_at t_X7_count 31 rfl) ?_
        refine g_iload_n (pc := 54) X (j := 1) (i := 1) (q := 1) (x := x1_26) rfl rfl (dl_at t_X7_count 32 rfl) ?_
        refine g_bipush (pc := 55) X (n := 16) rfl (dl_at t_X7_count 33 rfl) ?_
        refine r_callRi (pc := 57) X (fun _ hv => s_X7_property k42 r1_26 (r32_c rfl) hv) cw_code q2332 q361 (in_Vk X (As := [iv x1_26, iv 16]) kX7 k42 (Or.inl q2329) q2331 qs84 cw_code q2332 ⟨by decide, by decide⟩ rfl (dl_at t_X7_count 34 rfl)) (dl_at t_X7_count 34 rfl) (cat24 (st := []) (Nat.le_of_ble_eq_true rfl)) (Nat.le_of_ble_eq_true rfl) (Nat.le_of_ble_eq_true rfl) fun v57 g57 => ?_
        refine g_istore_nN (pc := 60) X (j := 2) (i := 2) (x := v57) (b := 1) (w := iv x1_26) (rest := [(0, rv D a0)]) rfl (Nat.le_of_ble_eq_true rfl) [1, 0] rfl (by decide) rfl rfl (dl_at t_X7_count 35 rfl) ?_
        refine g_aload_n (pc := 61) X (j := 0) (i := 0) (q := 2) (x := a0) rfl rfl (dl_at t_X7_count 36 rfl) ?_
        refine g_iload_n (pc := 62) X (j := 1) (i := 1) (q := 1) (x := x1_26) rfl rfl (dl_at t_X7_count 37 rfl) ?_
        refine g_bipush (pc := 63) X (n := 15) rfl (dl_at t_X7_count 38 rfl) ?_
        refine r_callRi (pc := 65) X (fun _ hv => s_X7_property k42 r1_26 (r32_c rfl) hv) cw_code q2332 q361 (in_Vk X (As := [iv x1_26, iv 15]) kX7 k42 (Or.inl q2329) q2331 qs84 cw_code q2332 ⟨by decide, by decide⟩ rfl (dl_at t_X7_count 39 rfl)) (dl_at t_X7_count 39 rfl) (cat24 (st := []) (Nat.le_of_ble_eq_true rfl)) (Nat.le_of_ble_eq_true rfl) (Nat.le_of_ble_eq_true rfl) fun v65 g65 => ?_
        refine g_istore_nN (pc := 68) X (j := 3) (i := 3) (x := v65) (b := 2) (w := iv v57) (rest := [(1, iv x1_26), (0, rv D a0)]) rfl (Nat.le_of_ble_eq_true rfl) [0, 1, 2] rfl (by decide) rfl rfl (dl_at t_X7_count 40 rfl) ?_
        refine g_iload_n (pc := 69) X (j := 2) (i := 2) (q := 1) (x := v57) rfl rfl (dl_at t_X7_count 41 rfl) ?_
        refine g_join (γ := Hp) (fun q => Ext h40 q) 80 (fun q => [(0, rv D a0), (1, iv x1_26), (3, iv v65)]) (fun q => []) (fun q => q) (fun q => m_X7_count_j80 v65 x1_26 a0 q) ?_ ?_
        · rintro h_80 E_80
          try dsimp only
          unfold m_X7_count_j80
          refine g_iload_n (pc := 80) X (j := 3) (i := 3) (q := 2) (x := v65) rfl rfl (dl_at t_X7_count 48 rfl) ?_
          refine g_ifle (pc := 81) X g65 (off := 25) (tgt := 106) rfl (dl_at t_X7_count 49 rfl) (fun _ => ?_) (fun _ => ?_)
          · refine g_ls (ls2 := [(0, rv D a0), (1, iv x1_26)]) [0, 1] rfl ?_
            exact J106 h_80 E_80
          refine g_aload_n (pc := 84) X (j := 0) (i := 0) (q := 0) (x := a0) rfl rfl (dl_at t_X7_count 50 rfl) ?_
          have k85 := kx E_80 (by decide) k42
          refine r_getr (pc := 85) X fX7_15 k85 q806 (dl_at t_X7_count 51 rfl) ?_
          refine g_iload_n (pc := 88) X (j := 3) (i := 3) (q := 2) (x := v65) rfl rfl (dl_at t_X7_count 52 rfl) ?_
          refine g_dup2 (pc := 89) X rfl rv_cat (dl_at t_X7_count 53 rfl) ?_
          refine g_gd fun k90 => ?_
          refine g_iald (pc := 90) X g65 k90 (dl_at t_X7_count 54 rfl) fun g90 => ?_
          refine g_iconst (pc := 91) X (n := 1) (dl_at t_X7_count 55 rfl) ?_
          refine g_iadd (pc := 92) X g90 (r32_c rfl) (dl_at t_X7_count 56 rfl) ?_
          refine r_iast (pc := 93) X g65 (r32_w _) k90 (dl_at t_X7_count 57 rfl) (fun h93 E93 => ?_)
          refine g_aload_n (pc := 94) X (j := 0) (i := 0) (q := 0) (x := a0) rfl rfl (dl_at t_X7_count 58 rfl) ?_
          have k95 := kx E93 (by decide) k85
          refine r_getr (pc := 95) X fX7_9 k95 q799 (dl_at t_X7_count 59 rfl) ?_
          refine g_iload_n (pc := 98) X (j := 1) (i := 1) (q := 1) (x := x1_26) rfl rfl (dl_at t_X7_count 60 rfl) ?_
          refine g_aload_n (pc := 99) X (j := 0) (i := 0) (q := 0) (x := a0) rfl rfl (dl_at t_X7_count 61 rfl) ?_
          refine r_getr (pc := 100) X fX7_15 k95 q806 (dl_at t_X7_count 62 rfl) ?_
          refine g_iload_n (pc := 103) X (j := 3) (i := 3) (q := 2) (x := v65) rfl rfl (dl_at t_X7_count 63 rfl) ?_
          refine g_gd fun k104 => ?_
          refine g_iald (pc := 104) X g65 k104 (dl_at t_X7_count 64 rfl) fun g104 => ?_
          refine g_gd fun k105 => ?_
          refine r_iast (pc := 105) X r1_26 g104 k105 (dl_at t_X7_count 65 rfl) (fun h105 E105 => ?_)
          refine g_ls (ls2 := [(0, rv D a0), (1, iv x1_26)]) [0, 1] rfl ?_
          exact J106 h105 (E_80.trans (E93.trans E105))
        intro J80
        refine g_ifle (pc := 70) X g57 (off := 10) (tgt := 80) rfl (dl_at t_X7_count 42 rfl) (fun _ => ?_) (fun _ => ?_)
        · refine g_ls (ls2 := [(0, rv D a0), (1, iv x1_26), (3, iv v65)]) [3, 2, 0] rfl ?_
          exact J80 h40 (Ext.refl _)
        refine g_aload_n (pc := 73) X (j := 0) (i := 0) (q := 3) (x := a0) rfl rfl (dl_at t_X7_count 43 rfl) ?_
        refine r_getr (pc := 74) X fX7_15 k42 q806 (dl_at t_X7_count 44 rfl) ?_
        refine g_iload_n (pc := 77) X (j := 2) (i := 2) (q := 1) (x := v57) rfl rfl (dl_at t_X7_count 45 rfl) ?_
        refine g_iconst (pc := 78) X (n := 0) (dl_at t_X7_count 46 rfl) ?_
        refine g_gd fun k79 => ?_
        refine r_iast (pc := 79) X g57 (r32_c rfl) k79 (dl_at t_X7_count 47 rfl) (fun h79 E79 => ?_)
        refine g_ls (ls2 := [(0, rv D a0), (1, iv x1_26), (3, iv v65)]) [3, 2, 0] rfl ?_
        exact J80 h79 E79
      refine g_goto (pc := 50) X (off := 56) (tgt := 106) rfl (dl_at t_X7_count 30 rfl) ?_
      exact J106 h40 (Ext.refl _)
def k_X7_order : List (Nat × Instr × Nat) := [(0, .iconst (-1), 1), (1, .istore_n 1, 1), (2, .iconst 0, 1), (3, .istore_n 2, 1), (4, .iload_n 2, 1), (5, .aload_n 0, 1), (6, .getfield 66, 3), (9, .getfield 303, 3), (12, .if_icmp .ge 68, 3), (15, .aload_n 0, 1), (16, .getfield 66, 3), (19, .getfield 291, 3), (22, .iload_n 2, 1), (23, .iaload, 1), (24, .ifCond .ne 20, 3), (27, .aload_n 0, 1), (28, .getfield 66, 3), (31, .getfield 294, 3), (34, .iload_n 2, 1), (35, .iaload, 1), (36, .istore_n 1, 1), (37, .aload_n 0, 1), (38, .getfield 51, 3), (41, .iload_n 1, 1), (42, .iload_n 2, 1), (43, .iastore, 1), (44, .aload_n 0, 1), (45, .getfield 54, 3), (48, .iload_n 2, 1), (49, .iload_n 1, 1), (50, .iastore, 1), (51, .aload_n 0, 1), (52, .getfield 66, 3), (55, .getfield 291, 3), (58, .iload_n 2, 1), (59, .iaload, 1), (60, .iconst 1, 1), (61, .if_icmp .ne 13, 3), (64, .aload_n 0, 1), (65, .getfield 66, 3), (68, .getfield 121, 3), (71, .iload_n 1, 1), (72, .iaload, 1), (73, .istore_n 1, 1), (74, .iinc 2 1, 3), (77, .goto (-73), 3), (80, .return_, 1)]
theorem t_X7_order : ∀ q ∈ k_X7_order, decode cX7_order q.1 = .ok q.2 := dl_all (by decide +kernel)
noncomputable def m_X7_order_j74 (x2_4 x1_74 : Int) (h50 : Hp) : Option ((Int × Int × Hp) ⊕ ((Hp))) :=
  lt_ (w32 (x2_4 + 1)) fun x2_74 =>
  some (.inl (x1_74, x2_74, h50))
noncomputable def m_X7_order_j44 (a0 x2_4 x1_44 : Int) (h_44 : Hp) : Option ((Int × Int × Hp) ⊕ ((Hp))) :=
  gd (h_44 (h_44 a0 17) (-2) % 16 = 1 ∧ (0 : Int) ≤ x2_4 ∧ x2_4 < h_44 (h_44 a0 17) (-1)) (pt h_44 (h_44 a0 17) x2_4 x1_44 fun h50 =>
  gd (h50 (h50 a0 0) (-2) = 96) (gd (h50 (h50 (h50 a0 0) 21) (-2) % 16 = 1 ∧ (0 : Int) ≤ x2_4 ∧ x2_4 < h50 (h50 (h50 a0 0) 21) (-1)) (if (h50 (h50 (h50 a0 0) 21) x2_4) ≠ 1 then (m_X7_order_j74 x2_4 x1_44 h50)
  else (gd (h50 (h50 (h50 a0 0) 6) (-2) % 16 = 1 ∧ (0 : Int) ≤ x1_44 ∧ x1_44 < h50 (h50 (h50 a0 0) 6) (-1)) (lt_ (h50 (h50 (h50 a0 0) 6) x1_44) fun x1_73 =>
  m_X7_order_j74 x2_4 x1_73 h50)))))
noncomputable def m_X7_order_l4 (a0 x1_4 x2_4 : Int) (h_4 : Hp) : Option ((Int × Int × Hp) ⊕ ((Hp))) :=
  gd (h_4 (h_4 a0 0) (-2) = 96) (if (h_4 (h_4 a0 0) 24) ≤ x2_4 then (some (.inr h_4))
  else (gd (h_4 (h_4 (h_4 a0 0) 21) (-2) % 16 = 1 ∧ (0 : Int) ≤ x2_4 ∧ x2_4 < h_4 (h_4 (h_4 a0 0) 21) (-1)) (if (h_4 (h_4 (h_4 a0 0) 21) x2_4) ≠ 0 then (m_X7_order_j44 a0 x2_4 x1_4 h_4)
  else (gd (h_4 (h_4 (h_4 a0 0) 22) (-2) % 16 = 1 ∧ (0 : Int) ≤ x2_4 ∧ x2_4 < h_4 (h_4 (h_4 a0 0) 22) (-1)) (lt_ (h_4 (h_4 (h_4 a0 0) 22) x2_4) fun x1_36 =>
  gd (h_4 (h_4 a0 16) (-2) % 16 = 1 ∧ (0 : Int) ≤ x1_36 ∧ x1_36 < h_4 (h_4 a0 16) (-1)) (pt h_4 (h_4 a0 16) x1_36 x2_4 fun h43 =>
  m_X7_order_j44 a0 x2_4 x1_36 h43))))))
noncomputable def m_X7_order (a0 : Int) (h : Hp) : Option (Hp) :=
  lt_ (-1) fun x1_1 =>
  lt_ 0 fun x2_3 =>
  (lp (fun (q : Int × Int × Hp) => m_X7_order_l4 a0 q.1 q.2.1 q.2.2) (x1_1, x2_3, h)).bind (fun (x : Hp) => some x)
theorem s_X7_order {l : Launch} [NoTr l] {D : SD} {a0 : Int} {h : Hp} (hk : h a0 (-2) = 112) {r : Hp} (hm : m_X7_order a0 h = some r) : Sim l D yX7_order (Cond.code yX7_order cX7_order 3 (Option.none : Option Jvm.ClassFile.FieldType)) 0 0 [rv D a0] h 0 ((0, 0), r) := by
  refine Sim.of (fin := fun (v : Hp) => ((0, 0), v)) (lsE := [(0, rv D a0)]) hm rfl cwS_code (la_r la_n) (ll_r ll_n) ?_
  intro p e s m below meth c X hcw hmm hcc hnm hname
  unfold m_X7_order
  refine g_iconst (pc := 0) X (n := (-1)) (dl_at t_X7_order 0 rfl) ?_
  refine g_lti (r32_c rfl) fun x1_1 r1_1 => ?_
  refine g_istore_nN (pc := 1) X (j := 1) (i := 1) (x := x1_1) (b := 0) (w := rv D a0) (rest := []) rfl (Nat.le_of_ble_eq_true rfl) [0] rfl (by decide) rv_cat rfl (dl_at t_X7_order 1 rfl) ?_
  refine g_iconst (pc := 2) X (n := 0) (dl_at t_X7_order 2 rfl) ?_
  refine g_ltz (Or.inl rfl) fun x2_3 r2_3 => ?_
  refine g_istore_nN (pc := 3) X (j := 2) (i := 2) (x := x2_3) (b := 1) (w := iv x1_1) (rest := [(0, rv D a0)]) rfl (Nat.le_of_ble_eq_true rfl) [0, 1] rfl (by decide) rfl rfl (dl_at t_X7_order 3 rfl) ?_
  refine g_ls (ls2 := [(0, rv D a0), (1, iv x1_1), (2, iv x2_3)]) [2, 1, 0] rfl ?_
  refine g_loop0F (fun (q : Int × Int × Hp) => [(0, rv D a0), (1, iv q.1), (2, iv q.2.1)]) (fun (q : Int × Int × Hp) => q.2.2) (fun (q : Int × Int × Hp) => r32 q.1 ∧ r32 q.2.1 ∧ Ext h q.2.2) (x1_1, x2_3, h) ⟨r1_1, (r32_z r2_3), (Ext.refl _)⟩ ?_ (fun _ => rfl)
  · rintro ⟨x1_4, x2_4, h_4⟩ ⟨r1_4, r2_4, E_4⟩
    try dsimp only
    unfold m_X7_order_l4
    refine g_iload_n (pc := 4) X (j := 2) (i := 2) (q := 2) (x := x2_4) rfl rfl (dl_at t_X7_order 4 rfl) ?_
    refine g_aload_n (pc := 5) X (j := 0) (i := 0) (q := 0) (x := a0) rfl rfl (dl_at t_X7_order 5 rfl) ?_
    have k6 := kx E_4 (by decide) hk
    refine r_getr (pc := 6) X fX7_0 k6 q778 (dl_at t_X7_order 6 rfl) ?_
    refine g_gd fun k9 => ?_
    refine r_getiN (pc := 9) X fX6_24 k9 (nw_in q701 rfl) (dl_at t_X7_order 7 rfl) fun g9 => ?_
    refine g_icmpge (pc := 12) X r2_4 g9 (off := 68) (tgt := 80) rfl (dl_at t_X7_order 8 rfl) (fun _ => ?_) (fun _ => ?_)
    · exact g_at fun Q hQ => (g_vret (pc := 80) X (v := 0) rfl rfl (dl_at t_X7_order 46 rfl)) _ Q rfl hQ
    refine g_aload_n (pc := 15) X (j := 0) (i := 0) (q := 0) (x := a0) rfl rfl (dl_at t_X7_order 9 rfl) ?_
    refine r_getr (pc := 16) X fX7_0 k6 q778 (dl_at t_X7_order 10 rfl) ?_
    refine r_getrN (pc := 19) X fX6_21 k9 (nw_in q692 rfl) (dl_at t_X7_order 11 rfl) ?_
    refine g_iload_n (pc := 22) X (j := 2) (i := 2) (q := 2) (x := x2_4) rfl rfl (dl_at t_X7_order 12 rfl) ?_
    refine g_gd fun k23 => ?_
    refine g_iald (pc := 23) X r2_4 k23 (dl_at t_X7_order 13 rfl) fun g23 => ?_
    refine g_join (γ := Int × Hp) (fun q => r32 q.1 ∧ Ext h_4 q.2) 44 (fun q => [(0, rv D a0), (1, iv q.1), (2, iv x2_4)]) (fun q => []) (fun q => q.2) (fun q => m_X7_order_j44 a0 x2_4 q.1 q.2) ?_ ?_
    · rintro ⟨x1_44, h_44⟩ ⟨r1_44, E_44⟩
      try dsimp only
      unfold m_X7_order_j44
      refine g_aload_n (pc := 44) X (j := 0) (i := 0) (q := 0) (x := a0) rfl rfl (dl_at t_X7_order 26 rfl) ?_
      have k45 := kx E_44 (by decide) k6
      refine r_getr (pc := 45) X fX7_17 k45 q808 (dl_at t_X7_order 27 rfl) ?_
      refine g_iload_n (pc := 48) X (j := 2) (i := 2) (q := 2) (x := x2_4) rfl rfl (dl_at t_X7_order 28 rfl) ?_
      refine g_iload_n (pc := 49) X (j := 1) (i := 1) (q := 1) (x := x1_44) rfl rfl (dl_at t_X7_order 29 rfl) ?_
      refine g_gd fun k50 => ?_
      refine r_iast (pc := 50) X r2_4 r1_44 k50 (dl_at t_X7_order 30 rfl) (fun h50 E50 => ?_)
      refine g_aload_n (pc := 51) X (j := 0) (i := 0) (q := 0) (x := a0) rfl rfl (dl_at t_X7_order 31 rfl) ?_
      have k52 := kx E50 (by decide) k45
      refine r_getr (pc := 52) X fX7_0 k52 q778 (dl_at t_X7_order 32 rfl) ?_
      refine g_gd fun k55 => ?_
      refine r_getrN (pc := 55) X fX6_21 k55 (nw_in q692 rfl) (dl_at t_X7_order 33 rfl) ?_
      refine g_iload_n (pc := 58) X (j := 2) (i := 2) (q := 2) (x := x2_4) rfl rfl (dl_at t_X7_order 34 rfl) ?_
      refine g_gd fun k59 => ?_
      refine g_iald (pc := 59) X r2_4 k59 (dl_at t_X7_order 35 rfl) fun g59 => ?_
      refine g_iconst (pc := 60) X (n := 1) (dl_at t_X7_order 36 rfl) ?_
      refine g_join (γ := Int) (fun q => r32 q) 74 (fun q => [(0, rv D a0), (1, iv q), (2, iv x2_4)]) (fun q => []) (fun q => h50) (fun q => m_X7_order_j74 x2_4 q h50) ?_ ?_
      · rintro x1_74 r1_74
        try dsimp only
        unfold m_X7_order_j74
        refine r_iincN (pc := 74) X (i := 2) (q := 2) (n := 1) (x := x2_4) (b := 1) (w := iv x1_74) (rest := [(0, rv D a0)]) rfl r2_4 (r32_c rfl) (Nat.le_of_ble_eq_true rfl) [1, 0] rfl (by decide) rfl rfl (dl_at t_X7_order 44 rfl) fun x2_74 r2_74 => ?_
        refine g_goto (pc := 77) X (off := (-73)) (tgt := 4) rfl (dl_at t_X7_order 45 rfl) ?_
        refine g_ls (ls2 := [(0, rv D a0), (1, iv x1_74), (2, iv x2_74)]) [2, 1, 0] rfl ?_
        exact g_at fun Q hQ => hQ ⟨r1_74, r2_74, (E_4.trans (E_44.trans E50))⟩
      intro J74
      refine g_icmpne (pc := 61) X g59 (r32_c rfl) (off := 13) (tgt := 74) rfl (dl_at t_X7_order 37 rfl) (fun _ => ?_) (fun _ => ?_)
      · exact J74 x1_44 r1_44
      refine g_aload_n (pc := 64) X (j := 0) (i := 0) (q := 0) (x := a0) rfl rfl (dl_at t_X7_order 38 rfl) ?_
      refine r_getr (pc := 65) X fX7_0 k52 q778 (dl_at t_X7_order 39 rfl) ?_
      refine r_getrN (pc := 68) X fX6_6 k55 (nw_in q660 rfl) (dl_at t_X7_order 40 rfl) ?_
      refine g_iload_n (pc := 71) X (j := 1) (i := 1) (q := 1) (x := x1_44) rfl rfl (dl_at t_X7_order 41 rfl) ?_
      refine g_gd fun k72 => ?_
      refine g_iald (pc := 72) X r1_44 k72 (dl_at t_X7_order 42 rfl) fun g72 => ?_
      refine g_lti g72 fun x1_73 r1_73 => ?_
      refine g_istore_nN (pc := 73) X (j := 1) (i := 1) (x := x1_73) (b := 0) (w := rv D a0) (rest := [(2, iv x2_4)]) rfl (Nat.le_of_ble_eq_true rfl) [0, 2] rfl (by decide) rv_cat rfl (dl_at t_X7_order 43 rfl) ?_
      refine g_ls (ls2 := [(0, rv D a0), (1, iv x1_73), (2, iv x2_4)]) [1, 0, 2] rfl ?_
      exact J74 x1_73 r1_73
    intro J44
    refine g_ifne (pc := 24) X g23 (off := 20) (tgt := 44) rfl (dl_at t_X7_order 14 rfl) (fun _ => ?_) (fun _ => ?_)
    · exact J44 (x1_4, h_4) ⟨r1_4, (Ext.refl _)⟩
    refine g_aload_n (pc := 27) X (j := 0) (i := 0) (q := 0) (x := a0) rfl rfl (dl_at t_X7_order 15 rfl) ?_
    refine r_getr (pc := 28) X fX7_0 k6 q778 (dl_at t_X7_order 16 rfl) ?_
    refine r_getrN (pc := 31) X fX6_22 k9 (nw_in q695 rfl) (dl_at t_X7_order 17 rfl) ?_
    refine g_iload_n (pc := 34) X (j := 2) (i := 2) (q := 2) (x := x2_4) rfl rfl (dl_at t_X7_order 18 rfl) ?_
    refine g_gd fun k35 => ?_
    refine g_iald (pc := 35) X r2_4 k35 (dl_at t_X7_order 19 rfl) fun g35 => ?_
    refine g_lti g35 fun x1_36 r1_36 => ?_
    refine g_istore_nN (pc := 36) X (j := 1) (i := 1) (x := x1_36) (b := 0) (w := rv D a0) (rest := [(2, iv x2_4)]) rfl (Nat.le_of_ble_eq_true rfl) [0, 2] rfl (by decide) rv_cat rfl (dl_at t_X7_order 20 rfl) ?_
    refine g_aload_n (pc := 37) X (j := 0) (i := 0) (q := 1) (x := a0) rfl rfl (dl_at t_X7_order 21 rfl) ?_
    refine r_getr (pc := 38) X fX7_16 k6 q807 (dl_at t_X7_order 22 rfl) ?_
    refine g_iload_n (pc := 41) X (j := 1) (i := 1) (q := 0) (x := x1_36) rfl rfl (dl_at t_X7_order 23 rfl) ?_
    refine g_iload_n (pc := 42) X (j := 2) (i := 2) (q := 2) (x := x2_4) rfl rfl (dl_at t_X7_order 24 rfl) ?_
    refine g_gd fun k43 => ?_
    refine r_iast (pc := 43) X r1_36 r2_4 k43 (dl_at t_X7_order 25 rfl) (fun h43 E43 => ?_)
    refine g_ls (ls2 := [(0, rv D a0), (1, iv x1_36), (2, iv x2_4)]) [1, 0, 2] rfl ?_
    exact J44 (x1_36, h43) ⟨r1_36, E43⟩
def k_X7_make : List (Nat × Instr × Nat) := [(0, .aload_n 0, 1), (1, .aload_n 1, 1), (2, .putfield 66, 3), (5, .aload_n 0, 1), (6, .aload_n 2, 1), (7, .putfield 70, 3), (10, .aload_n 0, 1), (11, .aload_n 0, 1), (12, .getfield 66, 3), (15, .getfield 74, 3), (18, .putfield 80, 3), (21, .iconst 0, 1), (22, .istore_n 3, 1), (23, .iload_n 3, 1), (24, .aload_n 0, 1), (25, .getfield 70, 3), (28, .getfield 83, 3), (31, .getfield 87, 3), (34, .if_icmp .ge 33, 3), (37, .aload_n 0, 1), (38, .getfield 11, 3), (41, .iload_n 3, 1), (42, .aload_n 0, 1), (43, .getfield 66, 3), (46, .getfield 90, 3), (49, .aload_n 0, 1), (50, .getfield 70, 3), (53, .getfield 83, 3), (56, .iload_n 3, 1), (57, .invokevirtual 91, 3), (60, .iastore, 1), (61, .iinc 3 1, 3), (64, .goto (-41), 3), (67, .iconst 0, 1), (68, .istore_n 3, 1), (69, .iload_n 3, 1), (70, .aload_n 0, 1), (71, .getfield 80, 3), (74, .if_icmp .ge 14, 3), (77, .aload_n 0, 1), (78, .iload_n 3, 1), (79, .invokevirtual 95, 3), (82, .iinc 3 1, 3), (85, .goto (-16), 3), (88, .iconst 0, 1), (89, .istore_n 3, 1), (90, .iload_n 3, 1), (91, .aload_n 0, 1), (92, .getfield 80, 3), (95, .if_icmp .ge 14, 3), (98, .aload_n 0, 1), (99, .iload_n 3, 1), (100, .invokevirtual 98, 3), (103, .iinc 3 1, 3), (106, .goto (-16), 3), (109, .aload_n 0, 1), (110, .invokevirtual 101, 3), (113, .aload_n 0, 1), (114, .invokevirtual 104, 3), (117, .return_, 1)]
theorem t_X7_make : ∀ q ∈ k_X7_make, decode cX7_make q.1 = .ok q.2 := dl_all (by decide +kernel)
noncomputable def m_X7_make_l23 (a0 x3_23 : Int) (h_23 : Hp) : Option ((Int × Hp) ⊕ ((Hp))) :=
  gd (h_23 (h_23 a0 1) (-2) = 48) (gd (h_23 (h_23 (h_23 a0 1) 0) (-2) = 64) (if (h_23 (h_23 (h_23 a0 1) 0) 3) ≤ x3_23 then (some (.inr h_23))
  else (gd (h_23 (h_23 a0 0) (-2) = 96) (gd (h_23 (h_23 (h_23 a0 0) 3) (-2) = 64) ((m_X4_of (h_23 (h_23 a0 0) 3) (h_23 (h_23 a0 1) 0) x3_23 h_23).bind fun v57 =>
  gd (h_23 (h_23 a0 3) (-2) % 16 = 1 ∧ (0 : Int) ≤ x3_23 ∧ x3_23 < h_23 (h_23 a0 3) (-1)) (pt h_23 (h_23 a0 3) x3_23 v57 fun h60 =>
  lt_ (w32 (x3_23 + 1)) fun x3_61 =>
  some (.inl (x3_61, h60))))))))
noncomputable def m_X7_make_l69 (a0 x3_69 : Int) (h_69 : Hp) : Option ((Int × Hp) ⊕ ((Hp))) :=
  if (h_69 a0 2) ≤ x3_69 then (some (.inr h_69))
  else ((m_X7_compute a0 x3_69 h_69).bind fun h79 =>
  lt_ (w32 (x3_69 + 1)) fun x3_82 =>
  some (.inl (x3_82, h79)))
noncomputable def m_X7_make_l90 (a0 x3_90 : Int) (h_90 : Hp) : Option ((Int × Hp) ⊕ ((Hp))) :=
  if (h_90 a0 2) ≤ x3_90 then ((m_X7_count a0 h_90).bind fun h110 =>
  (m_X7_order a0 h110).bind fun h114 =>
  some (.inr h114))
  else ((m_X7_see a0 x3_90 h_90).bind fun h100 =>
  lt_ (w32 (x3_90 + 1)) fun x3_103 =>
  some (.inl (x3_103, h100)))
noncomputable def m_X7_make (a0 a1 a2 : Int) (h : Hp) : Option (Hp) :=
  pt h a0 0 a1 fun h2 =>
  pt h2 a0 1 a2 fun h7 =>
  gd (h7 (h7 a0 0) (-2) = 96) (pt h7 a0 2 (h7 (h7 a0 0) 4) fun h18 =>
  lt_ 0 fun x3_22 =>
  (lp (fun (q : Int × Hp) => m_X7_make_l23 a0 q.1 q.2) (x3_22, h18)).bind (fun (y67 : Hp) => lt_ 0 fun x3_68 =>
  (lp (fun (q : Int × Hp) => m_X7_make_l69 a0 q.1 q.2) (x3_68, y67)).bind (fun (y88 : Hp) => lt_ 0 fun x3_89 =>
  (lp (fun (q : Int × Hp) => m_X7_make_l90 a0 q.1 q.2) (x3_89, y88)).bind (fun (x : Hp) => some x))))
theorem s_X7_make {l : Launch} [NoTr l] {D : SD} {a0 a1 a2 : Int} {h : Hp} (hk : h a0 (-2) = 112) {r : Hp} (hm : m_X7_make a0 a1 a2 h = some r) : Sim l D yX7_make (Cond.code yX7_make cX7_make 4 (Option.none : Option Jvm.ClassFile.FieldType)) 70 2869 [rv D a0, rv D a1, rv D a2] h 0 ((0, 0), r) := by
  refine Sim.of (fin := fun (v : Hp) => ((0, 0), v)) (lsE := [(0, rv D a0), (1, rv D a1), (2, rv D a2)]) hm rfl cwS_code (la_r (la_r (la_r la_n))) (ll_r (ll_r (ll_r ll_n))) ?_
  intro p e s m below meth c X hcw hmm hcc hnm hname
  unfold m_X7_make
  refine g_aload_n (pc := 0) X (j := 0) (i := 0) (q := 0) (x := a0) rfl rfl (dl_at t_X7_make 0 rfl) ?_
  refine g_aload_n (pc := 1) X (j := 1) (i := 1) (q := 1) (x := a1) rfl rfl (dl_at t_X7_make 1 rfl) ?_
  refine r_putr (pc := 2) X fX7_0 hk q778 rfl (dl_at t_X7_make 2 rfl)  (fun h2 E2 => ?_)
  refine g_aload_n (pc := 5) X (j := 0) (i := 0) (q := 0) (x := a0) rfl rfl (dl_at t_X7_make 3 rfl) ?_
  refine g_aload_n (pc := 6) X (j := 2) (i := 2) (q := 2) (x := a2) rfl rfl (dl_at t_X7_make 4 rfl) ?_
  have k7 := kx E2 (by decide) hk
  refine r_putr (pc := 7) X fX7_1 k7 q781 rfl (dl_at t_X7_make 5 rfl)  (fun h7 E7 => ?_)
  refine g_aload_n (pc := 10) X (j := 0) (i := 0) (q := 0) (x := a0) rfl rfl (dl_at t_X7_make 6 rfl) ?_
  refine g_aload_n (pc := 11) X (j := 0) (i := 0) (q := 0) (x := a0) rfl rfl (dl_at t_X7_make 7 rfl) ?_
  have k12 := kx E7 (by decide) k7
  refine r_getr (pc := 12) X fX7_0 k12 q778 (dl_at t_X7_make 8 rfl) ?_
  refine g_gd fun k15 => ?_
  refine r_getiN (pc := 15) X fX6_4 k15 (nw_in q654 rfl) (dl_at t_X7_make 9 rfl) fun g15 => ?_
  refine r_puti (pc := 18) X fX7_2 k12 q783 rfl (dl_at t_X7_make 10 rfl) g15 (fun h18 E18 => ?_)
  refine g_iconst (pc := 21) X (n := 0) (dl_at t_X7_make 11 rfl) ?_
  refine g_ltz (Or.inl rfl) fun x3_22 r3_22 => ?_
  refine g_istore_n (pc := 22) X (j := 3) (i := 3) (x := x3_22) (rest := [(0, rv D a0)]) rfl (Nat.le_of_ble_eq_true rfl) [0] rfl rfl (dl_at t_X7_make 12 rfl) ?_
  refine g_ls (ls2 := [(0, rv D a0), (3, iv x3_22)]) [1, 0] rfl ?_
  refine g_loop1 (fun (q : Int × Hp) => [(0, rv D a0), (3, iv q.1)]) (fun (q : Int × Hp) => q.2) (fun (q : Int × Hp) => r32 q.1 ∧ Ext h18 q.2) 67 (fun (y67 : Hp) => [(0, rv D a0)]) (fun (y67 : Hp) => y67) (fun (y67 : Hp) => Ext h18 y67) (x3_22, h18) ⟨(r32_z r3_22), (Ext.refl _)⟩ ?_ ?_
  · rintro ⟨x3_23, h_23⟩ ⟨r3_23, E_23⟩
    try dsimp only
    unfold m_X7_make_l23
    refine g_iload_n (pc := 23) X (j := 3) (i := 3) (q := 1) (x := x3_23) rfl rfl (dl_at t_X7_make 13 rfl) ?_
    refine g_aload_n (pc := 24) X (j := 0) (i := 0) (q := 0) (x := a0) rfl rfl (dl_at t_X7_make 14 rfl) ?_
    have k25 := kx (E18.trans E_23) (by decide) k12
    refine r_getr (pc := 25) X fX7_1 k25 q781 (dl_at t_X7_make 15 rfl) ?_
    refine g_gd fun k28 => ?_
    refine r_getrN (pc := 28) X fX3_0 k28 (nw_in q523 rfl) (dl_at t_X7_make 16 rfl) ?_
    refine g_gd fun k31 => ?_
    refine r_getiN (pc := 31) X fX4_3 k31 (nw_in q473 rfl) (dl_at t_X7_make 17 rfl) fun g31 => ?_
    refine g_icmpge (pc := 34) X r3_23 g31 (off := 33) (tgt := 67) rfl (dl_at t_X7_make 18 rfl) (fun _ => ?_) (fun _ => ?_)
    · refine g_ls (ls2 := [(0, rv D a0)]) [0] rfl ?_
      exact g_at fun Q hQ => hQ E_23
    refine g_aload_n (pc := 37) X (j := 0) (i := 0) (q := 0) (x := a0) rfl rfl (dl_at t_X7_make 19 rfl) ?_
    refine r_getr (pc := 38) X fX7_3 k25 q786 (dl_at t_X7_make 20 rfl) ?_
    refine g_iload_n (pc := 41) X (j := 3) (i := 3) (q := 1) (x := x3_23) rfl rfl (dl_at t_X7_make 21 rfl) ?_
    refine g_aload_n (pc := 42) X (j := 0) (i := 0) (q := 0) (x := a0) rfl rfl (dl_at t_X7_make 22 rfl) ?_
    refine r_getr (pc := 43) X fX7_0 k25 q778 (dl_at t_X7_make 23 rfl) ?_
    refine g_gd fun k46 => ?_
    refine r_getrN (pc := 46) X fX6_3 k46 (nw_in q653 rfl) (dl_at t_X7_make 24 rfl) ?_
    refine g_aload_n (pc := 49) X (j := 0) (i := 0) (q := 0) (x := a0) rfl rfl (dl_at t_X7_make 25 rfl) ?_
    refine r_getr (pc := 50) X fX7_1 k25 q781 (dl_at t_X7_make 26 rfl) ?_
    refine r_getrN (pc := 53) X fX3_0 k28 (nw_in q523 rfl) (dl_at t_X7_make 27 rfl) ?_
    refine g_iload_n (pc := 56) X (j := 3) (i := 3) (q := 1) (x := x3_23) rfl rfl (dl_at t_X7_make 28 rfl) ?_
    refine g_gd fun k57 => ?_
    refine r_callRi (pc := 57) X (fun _ hv => s_X4_of k57 r3_23 hv) cw_code q2296 q358 (in_Vk X (As := [rv D (h_23 (h_23 a0 1) 0), iv x3_23]) kX4 k57 (Or.inr ⟨_, nw_in q2293 rfl⟩) q2295 qs76 cw_code q2296 ⟨by decide, by decide⟩ rfl (dl_at t_X7_make 29 rfl)) (dl_at t_X7_make 29 rfl) (cat24 (st := [iv x3_23, rv D (h_23 a0 3)]) (Nat.le_of_ble_eq_true rfl)) (Nat.le_of_ble_eq_true rfl) (Nat.le_of_ble_eq_true rfl) fun v57 g57 => ?_
    refine g_gd fun k60 => ?_
    refine r_iast (pc := 60) X r3_23 g57 k60 (dl_at t_X7_make 30 rfl) (fun h60 E60 => ?_)
    refine r_iinc (pc := 61) X (i := 3) (q := 1) (n := 1) (x := x3_23) (rest := [(0, rv D a0)]) rfl r3_23 (r32_c rfl) (Nat.le_of_ble_eq_true rfl) [0] rfl rfl (dl_at t_X7_make 31 rfl) fun x3_61 r3_61 => ?_
    refine g_goto (pc := 64) X (off := (-41)) (tgt := 23) rfl (dl_at t_X7_make 32 rfl) ?_
    refine g_ls (ls2 := [(0, rv D a0), (3, iv x3_61)]) [1, 0] rfl ?_
    exact g_at fun Q hQ => hQ ⟨r3_61, (E_23.trans E60)⟩
  · rintro h_67 E_67
    try dsimp only [sE]
    refine g_iconst (pc := 67) X (n := 0) (dl_at t_X7_make 33 rfl) ?_
    refine g_ltz (Or.inl rfl) fun x3_68 r3_68 => ?_
    refine g_istore_n (pc := 68) X (j := 3) (i := 3) (x := x3_68) (rest := [(0, rv D a0)]) rfl (Nat.le_of_ble_eq_true rfl) [0] rfl rfl (dl_at t_X7_make 34 rfl) ?_
    refine g_ls (ls2 := [(0, rv D a0), (3, iv x3_68)]) [1, 0] rfl ?_
    refine g_loop1 (fun (q : Int × Hp) => [(0, rv D a0), (3, iv q.1)]) (fun (q : Int × Hp) => q.2) (fun (q : Int × Hp) => r32 q.1 ∧ Ext h_67 q.2) 88 (fun (y88 : Hp) => [(0, rv D a0)]) (fun (y88 : Hp) => y88) (fun (y88 : Hp) => Ext h_67 y88) (x3_68, h_67) ⟨(r32_z r3_68), (Ext.refl _)⟩ ?_ ?_
    · rintro ⟨x3_69, h_69⟩ ⟨r3_69, E_69⟩
      try dsimp only
      unfold m_X7_make_l69
      refine g_iload_n (pc := 69) X (j := 3) (i := 3) (q := 1) (x := x3_69) rfl rfl (dl_at t_X7_make 35 rfl) ?_
      refine g_aload_n (pc := 70) X (j := 0) (i := 0) (q := 0) (x := a0) rfl rfl (dl_at t_X7_make 36 rfl) ?_
      have k71 := kx (E18.trans (E_67.trans E_69)) (by decide) k12
      refine r_geti (pc := 71) X fX7_2 k71 q783 (dl_at t_X7_make 37 rfl) fun g71 => ?_
      refine g_icmpge (pc := 74) X r3_69 g71 (off := 14) (tgt := 88) rfl (dl_at t_X7_make 38 rfl) (fun _ => ?_) (fun _ => ?_)
      · refine g_ls (ls2 := [(0, rv D a0)]) [0] rfl ?_
        exact g_at fun Q hQ => hQ E_69
      refine g_aload_n (pc := 77) X (j := 0) (i := 0) (q := 0) (x := a0) rfl rfl (dl_at t_X7_make 39 rfl) ?_
      refine g_iload_n (pc := 78) X (j := 3) (i := 3) (q := 1) (x := x3_69) rfl rfl (dl_at t_X7_make 40 rfl) ?_
      refine r_callV (pc := 79) X (fun _ hv => s_X7_compute k71 r3_69 hv) cw_code q2300 q361 (in_Vk X (As := [iv x3_69]) kX7 k71 (Or.inl q2297) q2299 qs77 cw_code q2300 ⟨by decide, by decide⟩ rfl (dl_at t_X7_make 41 rfl)) (dl_at t_X7_make 41 rfl) (cat24 (st := []) (Nat.le_of_ble_eq_true rfl)) (Nat.le_of_ble_eq_true rfl) (Nat.le_of_ble_eq_true rfl) fun h79 E79 => ?_
      refine r_iinc (pc := 82) X (i := 3) (q := 1) (n := 1) (x := x3_69) (rest := [(0, rv D a0)]) rfl r3_69 (r32_c rfl) (Nat.le_of_ble_eq_true rfl) [0] rfl rfl (dl_at t_X7_make 42 rfl) fun x3_82 r3_82 => ?_
      refine g_goto (pc := 85) X (off := (-16)) (tgt := 69) rfl (dl_at t_X7_make 43 rfl) ?_
      refine g_ls (ls2 := [(0, rv D a0), (3, iv x3_82)]) [1, 0] rfl ?_
      exact g_at fun Q hQ => hQ ⟨r3_82, (E_69.trans E79)⟩
    · rintro h_88 E_88
      try dsimp only [sE]
      refine g_iconst (pc := 88) X (n := 0) (dl_at t_X7_make 44 rfl) ?_
      refine g_ltz (Or.inl rfl) fun x3_89 r3_89 => ?_
      refine g_istore_n (pc := 89) X (j := 3) (i := 3) (x := x3_89) (rest := [(0, rv D a0)]) rfl (Nat.le_of_ble_eq_true rfl) [0] rfl rfl (dl_at t_X7_make 45 rfl) ?_
      refine g_ls (ls2 := [(0, rv D a0), (3, iv x3_89)]) [1, 0] rfl ?_
      refine g_loop0F (fun (q : Int × Hp) => [(0, rv D a0), (3, iv q.1)]) (fun (q : Int × Hp) => q.2) (fun (q : Int × Hp) => r32 q.1 ∧ Ext h_88 q.2) (x3_89, h_88) ⟨(r32_z r3_89), (Ext.refl _)⟩ ?_ (fun _ => rfl)
      · rintro ⟨x3_90, h_90⟩ ⟨r3_90, E_90⟩
        try dsimp only
        unfold m_X7_make_l90
        refine g_iload_n (pc := 90) X (j := 3) (i := 3) (q := 1) (x := x3_90) rfl rfl (dl_at t_X7_make 46 rfl) ?_
        refine g_aload_n (pc := 91) X (j := 0) (i := 0) (q := 0) (x := a0) rfl rfl (dl_at t_X7_make 47 rfl) ?_
        have k92 := kx (E18.trans (E_67.trans (E_88.trans E_90))) (by decide) k12
        refine r_geti (pc := 92) X fX7_2 k92 q783 (dl_at t_X7_make 48 rfl) fun g92 => ?_
        refine g_icmpge (pc := 95) X r3_90 g92 (off := 14) (tgt := 109) rfl (dl_at t_X7_make 49 rfl) (fun _ => ?_) (fun _ => ?_)
        · refine g_aload_n (pc := 109) X (j := 0) (i := 0) (q := 0) (x := a0) rfl rfl (dl_at t_X7_make 55 rfl) ?_
          refine r_callV (pc := 110) X (fun _ hv => s_X7_count k92 hv) cw_code q2353 q361 (in_Vk X (As := []) kX7 k92 (Or.inl q2350) q2352 qs87 cw_code q2353 ⟨by decide, by decide⟩ rfl (dl_at t_X7_make 56 rfl)) (dl_at t_X7_make 56 rfl) (cat24 (st := []) (Nat.le_of_ble_eq_true rfl)) (Nat.le_of_ble_eq_true rfl) (Nat.le_of_ble_eq_true rfl) fun h110 E110 => ?_
          refine g_aload_n (pc := 113) X (j := 0) (i := 0) (q := 0) (x := a0) rfl rfl (dl_at t_X7_make 57 rfl) ?_
          have k114 := kx E110 (by decide) k92
          refine r_callV (pc := 114) X (fun _ hv => s_X7_order k114 hv) cw_code q2357 q361 (in_Vk X (As := []) kX7 k114 (Or.inl q2354) q2356 qs88 cw_code q2357 ⟨by decide, by decide⟩ rfl (dl_at t_X7_make 58 rfl)) (dl_at t_X7_make 58 rfl) (cat24 (st := []) (Nat.le_of_ble_eq_true rfl)) (Nat.le_of_ble_eq_true rfl) (Nat.le_of_ble_eq_true rfl) fun h114 E114 => ?_
          exact g_at fun Q hQ => (g_vret (pc := 117) X (v := 0) rfl rfl (dl_at t_X7_make 59 rfl)) _ Q rfl hQ
        refine g_aload_n (pc := 98) X (j := 0) (i := 0) (q := 0) (x := a0) rfl rfl (dl_at t_X7_make 50 rfl) ?_
        refine g_iload_n (pc := 99) X (j := 3) (i := 3) (q := 1) (x := x3_90) rfl rfl (dl_at t_X7_make 51 rfl) ?_
        refine r_callV (pc := 100) X (fun _ hv => s_X7_see k92 r3_90 hv) cw_code q2342 q361 (in_Vk X (As := [iv x3_90]) kX7 k92 (Or.inl q2339) q2341 qs85 cw_code q2342 ⟨by decide, by decide⟩ rfl (dl_at t_X7_make 52 rfl)) (dl_at t_X7_make 52 rfl) (cat24 (st := []) (Nat.le_of_ble_eq_true rfl)) (Nat.le_of_ble_eq_true rfl) (Nat.le_of_ble_eq_true rfl) fun h100 E100 => ?_
        refine r_iinc (pc := 103) X (i := 3) (q := 1) (n := 1) (x := x3_90) (rest := [(0, rv D a0)]) rfl r3_90 (r32_c rfl) (Nat.le_of_ble_eq_true rfl) [0] rfl rfl (dl_at t_X7_make 53 rfl) fun x3_103 r3_103 => ?_
        refine g_goto (pc := 106) X (off := (-16)) (tgt := 90) rfl (dl_at t_X7_make 54 rfl) ?_
        refine g_ls (ls2 := [(0, rv D a0), (3, iv x3_103)]) [1, 0] rfl ?_
        exact g_at fun Q hQ => hQ ⟨r3_103, (E_90.trans E100)⟩
def k_X1_tree : List (Nat × Instr × Nat) := [(0, .aload_n 0, 1), (1, .getfield 175, 3), (4, .ifCond .ne 65, 3), (7, .aload_n 0, 1), (8, .aload_n 0, 1), (9, .getfield 169, 3), (12, .ifnull 28, 3), (15, .aload_n 0, 1), (16, .getfield 52, 3), (19, .iconst 0, 1), (20, .aaload, 1), (21, .aload_n 0, 1), (22, .getfield 169, 3), (25, .getfield 215, 3), (28, .if_acmp .ne 12, 3), (31, .aload_n 0, 1), (32, .getfield 52, 3), (35, .iconst 1, 1), (36, .aaload, 1), (37, .goto 9, 3), (40, .aload_n 0, 1), (41, .getfield 52, 3), (44, .iconst 0, 1), (45, .aaload, 1), (46, .putfield 219, 3), (49, .aload_n 0, 1), (50, .getfield 219, 3), (53, .aload_n 0, 1), (54, .getfield 182, 3), (57, .aload_n 0, 1), (58, .getfield 56, 3), (61, .invokevirtual 220, 3), (64, .aload_n 0, 1), (65, .iconst 1, 1), (66, .putfield 175, 3), (69, .aload_n 0, 1), (70, .getfield 219, 3), (73, .areturn, 1)]
theorem t_X1_tree : ∀ q ∈ k_X1_tree, decode cX1_tree q.1 = .ok q.2 := dl_all (by decide +kernel)
noncomputable def m_X1_tree_j46 (a0 s1_46 : Int) (h : Hp) : Option (Int × Hp) :=
  pt h a0 12 s1_46 fun h46 =>
  gd (h46 (h46 a0 12) (-2) = 112) ((m_X7_make (h46 a0 12) (h46 a0 11) (h46 a0 6) h46).bind fun h61 =>
  pt h61 a0 13 1 fun h66 =>
  some ((h66 a0 12), h66))
noncomputable def m_X1_tree_j40 (a0 : Int) (h : Hp) : Option (Int × Hp) :=
  gd (h (h a0 5) (-2) % 16 = 7 ∧ (0 : Int) ≤ 0 ∧ 0 < h (h a0 5) (-1)) (m_X1_tree_j46 a0 (h (h a0 5) 0) h)
noncomputable def m_X1_tree (a0 : Int) (h : Hp) : Option (Int × Hp) :=
  if (h a0 13) ≠ 0 then (some ((h a0 12), h))
  else (if (h a0 18) = 0 then (m_X1_tree_j40 a0 h)
  else (gd (h (h a0 5) (-2) % 16 = 7 ∧ (0 : Int) ≤ 0 ∧ 0 < h (h a0 5) (-1)) (gd (h (h a0 18) (-2) = 224) (gd (0 ≤ (h (h a0 5) 0) ∧ 0 ≤ (h (h a0 18) 2)) (if (h (h a0 5) 0) ≠ (h (h a0 18) 2) then (m_X1_tree_j40 a0 h)
  else (gd (h (h a0 5) (-2) % 16 = 7 ∧ (0 : Int) ≤ 1 ∧ 1 < h (h a0 5) (-1)) (m_X1_tree_j46 a0 (h (h a0 5) 1) h)))))))
theorem s_X1_tree {l : Launch} [NoTr l] {D : SD} {a0 : Int} {h : Hp} (hk : h a0 (-2) = 16) {r : Int × Hp} (hm : m_X1_tree a0 h = some r) : Sim l D yX1_tree (Cond.code yX1_tree cX1_tree 1 (Option.some (Jvm.ClassFile.FieldType.object "ScholarsPress$Tree"))) 71 2908 [rv D a0] h 5 ((0, r.1), r.2) := by
  refine Sim.of (fin := fun (v : Int × Hp) => ((0, v.1), v.2)) (lsE := [(0, rv D a0)]) hm rfl cwS_code (la_r la_n) (ll_r ll_n) ?_
  intro p e s m below meth c X hcw hmm hcc hnm hname
  unfold m_X1_tree
  refine g_aload_n (pc := 0) X (j := 0) (i := 0) (q := 0) (x := a0) rfl rfl (dl_at t_X1_tree 0 rfl) ?_
  refine r_getz (pc := 1) X fX1_13 hk q1501 (dl_at t_X1_tree 1 rfl) fun g1 => ?_
  refine g_ifne (pc := 4) X (r32_z g1) (off := 65) (tgt := 69) rfl (dl_at t_X1_tree 2 rfl) (fun _ => ?_) (fun _ => ?_)
  · refine g_aload_n (pc := 69) X (j := 0) (i := 0) (q := 0) (x := a0) rfl rfl (dl_at t_X1_tree 35 rfl) ?_
    refine r_getr (pc := 70) X fX1_12 hk q1500 (dl_at t_X1_tree 36 rfl) ?_
    exact g_aret (pc := 73) X (Or.inl ⟨_, rfl⟩) rfl rfl (dl_at t_X1_tree 37 rfl)
  refine g_aload_n (pc := 7) X (j := 0) (i := 0) (q := 0) (x := a0) rfl rfl (dl_at t_X1_tree 3 rfl) ?_
  refine g_aload_n (pc := 8) X (j := 0) (i := 0) (q := 0) (x := a0) rfl rfl (dl_at t_X1_tree 4 rfl) ?_
  refine r_getr (pc := 9) X fX1_18 hk q1506 (dl_at t_X1_tree 5 rfl) ?_
  refine g_join (γ := Int) (fun q => True) 46 (fun q => [(0, rv D a0)]) (fun q => [rv D q, rv D a0]) (fun q => h) (fun q => m_X1_tree_j46 a0 q h) ?_ ?_
  · rintro s1_46 _
    try dsimp only
    unfold m_X1_tree_j46
    refine r_putr (pc := 46) X fX1_12 hk q1500 rfl (dl_at t_X1_tree 24 rfl)  (fun h46 E46 => ?_)
    refine g_aload_n (pc := 49) X (j := 0) (i := 0) (q := 0) (x := a0) rfl rfl (dl_at t_X1_tree 25 rfl) ?_
    have k50 := kx E46 (by decide) hk
    refine r_getr (pc := 50) X fX1_12 k50 q1500 (dl_at t_X1_tree 26 rfl) ?_
    refine g_aload_n (pc := 53) X (j := 0) (i := 0) (q := 0) (x := a0) rfl rfl (dl_at t_X1_tree 27 rfl) ?_
    refine r_getr (pc := 54) X fX1_11 k50 q1499 (dl_at t_X1_tree 28 rfl) ?_
    refine g_aload_n (pc := 57) X (j := 0) (i := 0) (q := 0) (x := a0) rfl rfl (dl_at t_X1_tree 29 rfl) ?_
    refine r_getr (pc := 58) X fX1_6 k50 q1494 (dl_at t_X1_tree 30 rfl) ?_
    refine g_gd fun k61 => ?_
    refine r_callV (pc := 61) X (fun _ hv => s_X7_make k61 hv) cw_code q2292 q361 (in_Vk X (As := [rv D (h46 a0 11), rv D (h46 a0 6)]) kX7 k61 (Or.inr ⟨_, nw_in q2289 rfl⟩) q2291 qs75 cw_code q2292 ⟨by decide, by decide⟩ rfl (dl_at t_X1_tree 31 rfl)) (dl_at t_X1_tree 31 rfl) (cat24 (st := []) (Nat.le_of_ble_eq_true rfl)) (Nat.le_of_ble_eq_true rfl) (Nat.le_of_ble_eq_true rfl) fun h61 E61 => ?_
    refine g_aload_n (pc := 64) X (j := 0) (i := 0) (q := 0) (x := a0) rfl rfl (dl_at t_X1_tree 32 rfl) ?_
    refine g_iconst (pc := 65) X (n := 1) (dl_at t_X1_tree 33 rfl) ?_
    have k66 := kx E61 (by decide) k50
    refine r_putz (pc := 66) X fX1_13 k66 q1501 rfl (dl_at t_X1_tree 34 rfl) (Or.inr rfl) (fun h66 E66 => ?_)
    refine g_aload_n (pc := 69) X (j := 0) (i := 0) (q := 0) (x := a0) rfl rfl (dl_at t_X1_tree 35 rfl) ?_
    have k70 := kx E66 (by decide) k66
    refine r_getr (pc := 70) X fX1_12 k70 q1500 (dl_at t_X1_tree 36 rfl) ?_
    exact g_aret (pc := 73) X (Or.inl ⟨_, rfl⟩) rfl rfl (dl_at t_X1_tree 37 rfl)
  intro J46
  refine g_join (γ := Unit) (fun q => True) 40 (fun q => [(0, rv D a0)]) (fun q => [rv D a0]) (fun q => h) (fun q => m_X1_tree_j40 a0 h) ?_ ?_
  · rintro _ _
    try dsimp only
    unfold m_X1_tree_j40
    refine g_aload_n (pc := 40) X (j := 0) (i := 0) (q := 0) (x := a0) rfl rfl (dl_at t_X1_tree 20 rfl) ?_
    refine r_getr (pc := 41) X fX1_5 hk q1493 (dl_at t_X1_tree 21 rfl) ?_
    refine g_iconst (pc := 44) X (n := 0) (dl_at t_X1_tree 22 rfl) ?_
    refine g_gd fun k45 => ?_
    refine g_aald (pc := 45) X 7 (Nat.le_of_ble_eq_true rfl) (Nat.le_of_ble_eq_true rfl) (r32_c rfl) rfl k45 (dl_at t_X1_tree 23 rfl) ?_
    exact J46 (h (h a0 5) 0) trivial
  intro J40
  refine g_ifnull (pc := 12) X (off := 28) (tgt := 40) rfl (dl_at t_X1_tree 6 rfl) (fun _ => ?_) (fun _ => ?_)
  · exact J40 () trivial
  refine g_aload_n (pc := 15) X (j := 0) (i := 0) (q := 0) (x := a0) rfl rfl (dl_at t_X1_tree 7 rfl) ?_
  refine r_getr (pc := 16) X fX1_5 hk q1493 (dl_at t_X1_tree 8 rfl) ?_
  refine g_iconst (pc := 19) X (n := 0) (dl_at t_X1_tree 9 rfl) ?_
  refine g_gd fun k20 => ?_
  refine g_aald (pc := 20) X 7 (Nat.le_of_ble_eq_true rfl) (Nat.le_of_ble_eq_true rfl) (r32_c rfl) rfl k20 (dl_at t_X1_tree 10 rfl) ?_
  refine g_aload_n (pc := 21) X (j := 0) (i := 0) (q := 0) (x := a0) rfl rfl (dl_at t_X1_tree 11 rfl) ?_
  refine r_getr (pc := 22) X fX1_18 hk q1506 (dl_at t_X1_tree 12 rfl) ?_
  refine g_gd fun k25 => ?_
  refine r_getrN (pc := 25) X fX14_2 k25 (nw_in q1244 rfl) (dl_at t_X1_tree 13 rfl) ?_
  refine g_gd fun z28 => ?_
  refine g_acmpne (pc := 28) X z28 (off := 12) (tgt := 40) rfl (dl_at t_X1_tree 14 rfl) (fun _ => ?_) (fun _ => ?_)
  · exact J40 () trivial
  refine g_aload_n (pc := 31) X (j := 0) (i := 0) (q := 0) (x := a0) rfl rfl (dl_at t_X1_tree 15 rfl) ?_
  refine r_getr (pc := 32) X fX1_5 hk q1493 (dl_at t_X1_tree 16 rfl) ?_
  refine g_iconst (pc := 35) X (n := 1) (dl_at t_X1_tree 17 rfl) ?_
  refine g_gd fun k36 => ?_
  refine g_aald (pc := 36) X 7 (Nat.le_of_ble_eq_true rfl) (Nat.le_of_ble_eq_true rfl) (r32_c rfl) rfl k36 (dl_at t_X1_tree 18 rfl) ?_
  refine g_goto (pc := 37) X (off := 9) (tgt := 46) rfl (dl_at t_X1_tree 19 rfl) ?_
  exact J46 (h (h a0 5) 1) trivial
def k_X15_clear : List (Nat × Instr × Nat) := [(0, .aload_n 0, 1), (1, .iconst 0, 1), (2, .putfield 53, 3), (5, .aload_n 0, 1), (6, .iconst 0, 1), (7, .putfield 57, 3), (10, .aload_n 0, 1), (11, .iconst 0, 1), (12, .putfield 60, 3), (15, .return_, 1)]
theorem t_X15_clear : ∀ q ∈ k_X15_clear, decode cX15_clear q.1 = .ok q.2 := dl_all (by decide +kernel)
noncomputable def m_X15_clear (a0 : Int) (h : Hp) : Option (Hp) :=
  pt h a0 3 0 fun h2 =>
  pt h2 a0 12 0 fun h7 =>
  pt h7 a0 15 0 fun h12 =>
  some h12
theorem s_X15_clear {l : Launch} [NoTr l] {D : SD} {a0 : Int} {h : Hp} (hk : h a0 (-2) = 240) {r : Hp} (hm : m_X15_clear a0 h = some r) : Sim l D yX15_clear (Cond.code yX15_clear cX15_clear 1 (Option.none : Option Jvm.ClassFile.FieldType)) 0 0 [rv D a0] h 0 ((0, 0), r) := by
  refine Sim.of (fin := fun (v : Hp) => ((0, 0), v)) (lsE := [(0, rv D a0)]) hm rfl cwS_code (la_r la_n) (ll_r ll_n) ?_
  intro p e s m below meth c X hcw hmm hcc hnm hname
  unfold m_X15_clear
  refine g_aload_n (pc := 0) X (j := 0) (i := 0) (q := 0) (x := a0) rfl rfl (dl_at t_X15_clear 0 rfl) ?_
  refine g_iconst (pc := 1) X (n := 0) (dl_at t_X15_clear 1 rfl) ?_
  refine r_puti (pc := 2) X fX15_3 hk q1136 rfl (dl_at t_X15_clear 2 rfl) (r32_c rfl) (fun h2 E2 => ?_)
  refine g_aload_n (pc := 5) X (j := 0) (i := 0) (q := 0) (x := a0) rfl rfl (dl_at t_X15_clear 3 rfl) ?_
  refine g_iconst (pc := 6) X (n := 0) (dl_at t_X15_clear 4 rfl) ?_
  have k7 := kx E2 (by decide) hk
  refine r_puti (pc := 7) X fX15_12 k7 q1154 rfl (dl_at t_X15_clear 5 rfl) (r32_c rfl) (fun h7 E7 => ?_)
  refine g_aload_n (pc := 10) X (j := 0) (i := 0) (q := 0) (x := a0) rfl rfl (dl_at t_X15_clear 6 rfl) ?_
  refine g_iconst (pc := 11) X (n := 0) (dl_at t_X15_clear 7 rfl) ?_
  have k12 := kx E7 (by decide) k7
  refine r_puti (pc := 12) X fX15_15 k12 q1160 rfl (dl_at t_X15_clear 8 rfl) (r32_c rfl) (fun h12 E12 => ?_)
  exact g_vret (pc := 15) X (v := 0) rfl rfl (dl_at t_X15_clear 9 rfl)
def k_X14_pageAt : List (Nat × Instr × Nat) := [(0, .aload_n 0, 1), (1, .getfield 148, 3), (4, .iload_n 1, 1), (5, .iaload, 1), (6, .aload_n 0, 1), (7, .getfield 168, 3), (10, .getfield 747, 3), (13, .idiv, 1), (14, .iconst 1, 1), (15, .iadd, 1), (16, .ireturn, 1)]
theorem t_X14_pageAt : ∀ q ∈ k_X14_pageAt, decode cX14_pageAt q.1 = .ok q.2 := dl_all (by decide +kernel)
noncomputable def m_X14_pageAt (a0 a1 : Int) (h : Hp) : Option (Int) :=
  gd (h (h a0 65) (-2) % 16 = 1 ∧ (0 : Int) ≤ a1 ∧ a1 < h (h a0 65) (-1)) (gd (h (h a0 3) (-2) = 48) (gd ((h (h a0 3) 25) ≠ 0) (some (w32 ((w32 (Int.tdiv (h (h a0 65) a1) (h (h a0 3) 25))) + 1)))))
theorem s_X14_pageAt {l : Launch} [NoTr l] {D : SD} {a0 a1 : Int} {h : Hp} (hk : h a0 (-2) = 224) (r1 : r32 a1) {r : Int} (hm : m_X14_pageAt a0 a1 h = some r) : Sim l D yX14_pageAt (Cond.code yX14_pageAt cX14_pageAt 2 (Option.some Jvm.ClassFile.FieldType.int)) 0 0 [rv D a0, iv a1] h 1 ((0, r), h) := by
  refine Sim.of (fin := fun (v : Int) => ((0, v), h)) (lsE := [(0, rv D a0), (1, iv a1)]) hm rfl cwS_code (la_r (la_i la_n)) (ll_r (ll_i ll_n)) ?_
  intro p e s m below meth c X hcw hmm hcc hnm hname
  unfold m_X14_pageAt
  refine g_aload_n (pc := 0) X (j := 0) (i := 0) (q := 0) (x := a0) rfl rfl (dl_at t_X14_pageAt 0 rfl) ?_
  refine r_getr (pc := 1) X fX14_65 hk q1330 (dl_at t_X14_pageAt 1 rfl) ?_
  refine g_iload_n (pc := 4) X (j := 1) (i := 1) (q := 1) (x := a1) rfl rfl (dl_at t_X14_pageAt 2 rfl) ?_
  refine g_gd fun k5 => ?_
  refine g_iald (pc := 5) X r1 k5 (dl_at t_X14_pageAt 3 rfl) fun g5 => ?_
  refine g_aload_n (pc := 6) X (j := 0) (i := 0) (q := 0) (x := a0) rfl rfl (dl_at t_X14_pageAt 4 rfl) ?_
  refine r_getr (pc := 7) X fX14_3 hk q1245 (dl_at t_X14_pageAt 5 rfl) ?_
  refine g_gd fun k10 => ?_
  refine r_getiN (pc := 10) X fX3_25 k10 (nw_in q569 rfl) (dl_at t_X14_pageAt 6 rfl) fun g10 => ?_
  refine g_gd fun z13 => ?_
  refine g_idiv (pc := 13) X g5 g10 z13 (dl_at t_X14_pageAt 7 rfl) ?_
  refine g_iconst (pc := 14) X (n := 1) (dl_at t_X14_pageAt 8 rfl) ?_
  refine g_iadd (pc := 15) X (r32_w _) (r32_c rfl) (dl_at t_X14_pageAt 9 rfl) ?_
  exact g_iret (pc := 16) X (r32_w _) rfl rfl (dl_at t_X14_pageAt 10 rfl)
def k_X14_pageOf : List (Nat × Instr × Nat) := [(0, .aload_n 0, 1), (1, .getfield 74, 3), (4, .iload_n 1, 1), (5, .iaload, 1), (6, .ifCond .ge 7, 3), (9, .iconst 0, 1), (10, .goto 13, 3), (13, .aload_n 0, 1), (14, .aload_n 0, 1), (15, .getfield 74, 3), (18, .iload_n 1, 1), (19, .iaload, 1), (20, .invokevirtual 234, 3), (23, .ireturn, 1)]
theorem t_X14_pageOf : ∀ q ∈ k_X14_pageOf, decode cX14_pageOf q.1 = .ok q.2 := dl_all (by decide +kernel)
noncomputable def m_X14_pageOf (a0 a1 : Int) (h : Hp) : Option (Int) :=
  gd (h (h a0 31) (-2) % 16 = 1 ∧ (0 : Int) ≤ a1 ∧ a1 < h (h a0 31) (-1)) (if 0 ≤ (h (h a0 31) a1) then ((m_X14_pageAt a0 (h (h a0 31) a1) h).bind fun v20 =>
  some v20)
  else (some 0))
theorem s_X14_pageOf {l : Launch} [NoTr l] {D : SD} {a0 a1 : Int} {h : Hp} (hk : h a0 (-2) = 224) (r1 : r32 a1) {r : Int} (hm : m_X14_pageOf a0 a1 h = some r) : Sim l D yX14_pageOf (Cond.code yX14_pageOf cX14_pageOf 2 (Option.some Jvm.ClassFile.FieldType.int)) 1 37 [rv D a0, iv a1] h 1 ((0, r), h) := by
  refine Sim.of (fin := fun (v : Int) => ((0, v), h)) (lsE := [(0, rv D a0), (1, iv a1)]) hm rfl cwS_code (la_r (la_i la_n)) (ll_r (ll_i ll_n)) ?_
  intro p e s m below meth c X hcw hmm hcc hnm hname
  unfold m_X14_pageOf
  refine g_aload_n (pc := 0) X (j := 0) (i := 0) (q := 0) (x := a0) rfl rfl (dl_at t_X14_pageOf 0 rfl) ?_
  refine r_getr (pc := 1) X fX14_31 hk q1284 (dl_at t_X14_pageOf 1 rfl) ?_
  refine g_iload_n (pc := 4) X (j := 1) (i := 1) (q := 1) (x := a1) rfl rfl (dl_at t_X14_pageOf 2 rfl) ?_
  refine g_gd fun k5 => ?_
  refine g_iald (pc := 5) X r1 k5 (dl_at t_X14_pageOf 3 rfl) fun g5 => ?_
  refine g_ifge (pc := 6) X g5 (off := 7) (tgt := 13) rfl (dl_at t_X14_pageOf 4 rfl) (fun _ => ?_) (fun _ => ?_)
  · refine g_aload_n (pc := 13) X (j := 0) (i := 0) (q := 0) (x := a0) rfl rfl (dl_at t_X14_pageOf 7 rfl) ?_
    refine g_aload_n (pc := 14) X (j := 0) (i := 0) (q := 0) (x := a0) rfl rfl (dl_at t_X14_pageOf 8 rfl) ?_
    refine r_getr (pc := 15) X fX14_31 hk q1284 (dl_at t_X14_pageOf 9 rfl) ?_
    refine g_iload_n (pc := 18) X (j := 1) (i := 1) (q := 1) (x := a1) rfl rfl (dl_at t_X14_pageOf 10 rfl) ?_
    refine g_iald (pc := 19) X r1 k5 (dl_at t_X14_pageOf 11 rfl) fun g19 => ?_
    refine r_callRi (pc := 20) X (fun _ hv => s_X14_pageAt hk g19 hv) cw_code q2373 q368 (in_Vk X (As := [iv (h (h a0 31) a1)]) kX14 hk (Or.inl q2370) q2372 qs92 cw_code q2373 ⟨by decide, by decide⟩ rfl (dl_at t_X14_pageOf 12 rfl)) (dl_at t_X14_pageOf 12 rfl) (cat24 (st := []) (Nat.le_of_ble_eq_true rfl)) (Nat.le_of_ble_eq_true rfl) (Nat.le_of_ble_eq_true rfl) fun v20 g20 => ?_
    exact g_iret (pc := 23) X g20 rfl rfl (dl_at t_X14_pageOf 13 rfl)
  refine g_iconst (pc := 9) X (n := 0) (dl_at t_X14_pageOf 5 rfl) ?_
  refine g_goto (pc := 10) X (off := 13) (tgt := 23) rfl (dl_at t_X14_pageOf 6 rfl) ?_
  exact g_iret (pc := 23) X (r32_c rfl) rfl rfl (dl_at t_X14_pageOf 13 rfl)
def k_X14_numberAt : List (Nat × Instr × Nat) := [(0, .iload_n 1, 1), (1, .ifCond .ge 7, 3), (4, .iconst 0, 1), (5, .goto 9, 3), (8, .aload_n 0, 1), (9, .getfield 44, 3), (12, .iload_n 1, 1), (13, .iaload, 1), (14, .ireturn, 1)]
theorem t_X14_numberAt : ∀ q ∈ k_X14_numberAt, decode cX14_numberAt q.1 = .ok q.2 := dl_all (by decide +kernel)
noncomputable def m_X14_numberAt (a0 a1 : Int) (h : Hp) : Option (Int) :=
  if 0 ≤ a1 then (gd (h (h a0 17) (-2) % 16 = 1 ∧ (0 : Int) ≤ a1 ∧ a1 < h (h a0 17) (-1)) (some (h (h a0 17) a1)))
  else (some 0)
theorem s_X14_numberAt {l : Launch} [NoTr l] {D : SD} {a0 a1 : Int} {h : Hp} (hk : h a0 (-2) = 224) (r1 : r32 a1) {r : Int} (hm : m_X14_numberAt a0 a1 h = some r) : Sim l D yX14_numberAt (Cond.code yX14_numberAt cX14_numberAt 2 (Option.some Jvm.ClassFile.FieldType.int)) 0 0 [rv D a0, iv a1] h 1 ((0, r), h) := by
  refine Sim.of (fin := fun (v : Int) => ((0, v), h)) (lsE := [(0, rv D a0), (1, iv a1)]) hm rfl cwS_code (la_r (la_i la_n)) (ll_r (ll_i ll_n)) ?_
  intro p e s m below meth c X hcw hmm hcc hnm hname
  unfold m_X14_numberAt
  refine g_iload_n (pc := 0) X (j := 1) (i := 1) (q := 1) (x := a1) rfl rfl (dl_at t_X14_numberAt 0 rfl) ?_
  refine g_ifge (pc := 1) X r1 (off := 7) (tgt := 8) rfl (dl_at t_X14_numberAt 1 rfl) (fun _ => ?_) (fun _ => ?_)
  · refine g_aload_n (pc := 8) X (j := 0) (i := 0) (q := 0) (x := a0) rfl rfl (dl_at t_X14_numberAt 4 rfl) ?_
    refine r_getr (pc := 9) X fX14_17 hk q1267 (dl_at t_X14_numberAt 5 rfl) ?_
    refine g_iload_n (pc := 12) X (j := 1) (i := 1) (q := 1) (x := a1) rfl rfl (dl_at t_X14_numberAt 6 rfl) ?_
    refine g_gd fun k13 => ?_
    refine g_iald (pc := 13) X r1 k13 (dl_at t_X14_numberAt 7 rfl) fun g13 => ?_
    exact g_iret (pc := 14) X g13 rfl rfl (dl_at t_X14_numberAt 8 rfl)
  refine g_iconst (pc := 4) X (n := 0) (dl_at t_X14_numberAt 2 rfl) ?_
  refine g_goto (pc := 5) X (off := 9) (tgt := 14) rfl (dl_at t_X14_numberAt 3 rfl) ?_
  exact g_iret (pc := 14) X (r32_c rfl) rfl rfl (dl_at t_X14_numberAt 8 rfl)
def k_X14_lastNumber : List (Nat × Instr × Nat) := [(0, .aload_n 0, 1), (1, .getfield 74, 3), (4, .iload_n 1, 1), (5, .iaload, 1), (6, .aload_n 0, 1), (7, .getfield 77, 3), (10, .iload_n 1, 1), (11, .iaload, 1), (12, .if_icmp .ne 7, 3), (15, .iconst (-1), 1), (16, .goto 13, 3), (19, .aload_n 0, 1), (20, .aload_n 0, 1), (21, .getfield 77, 3), (24, .iload_n 1, 1), (25, .iaload, 1), (26, .invokevirtual 228, 3), (29, .ireturn, 1)]
theorem t_X14_lastNumber : ∀ q ∈ k_X14_lastNumber, decode cX14_lastNumber q.1 = .ok q.2 := dl_all (by decide +kernel)
noncomputable def m_X14_lastNumber (a0 a1 : Int) (h : Hp) : Option (Int) :=
  gd (h (h a0 31) (-2) % 16 = 1 ∧ (0 : Int) ≤ a1 ∧ a1 < h (h a0 31) (-1)) (gd (h (h a0 32) (-2) % 16 = 1 ∧ (0 : Int) ≤ a1 ∧ a1 < h (h a0 32) (-1)) (if (h (h a0 31) a1) ≠ (h (h a0 32) a1) then ((m_X14_numberAt a0 (h (h a0 32) a1) h).bind fun v26 =>
  some v26)
  else (some (-1))))
theorem s_X14_lastNumber {l : Launch} [NoTr l] {D : SD} {a0 a1 : Int} {h : Hp} (hk : h a0 (-2) = 224) (r1 : r32 a1) {r : Int} (hm : m_X14_lastNumber a0 a1 h = some r) : Sim l D yX14_lastNumber (Cond.code yX14_lastNumber cX14_lastNumber 2 (Option.some Jvm.ClassFile.FieldType.int)) 1 37 [rv D a0, iv a1] h 1 ((0, r), h) := by
  refine Sim.of (fin := fun (v : Int) => ((0, v), h)) (lsE := [(0, rv D a0), (1, iv a1)]) hm rfl cwS_code (la_r (la_i la_n)) (ll_r (ll_i ll_n)) ?_
  intro p e s m below meth c X hcw hmm hcc hnm hname
  unfold m_X14_lastNumber
  refine g_aload_n (pc := 0) X (j := 0) (i := 0) (q := 0) (x := a0) rfl rfl (dl_at t_X14_lastNumber 0 rfl) ?_
  refine r_getr (pc := 1) X fX14_31 hk q1284 (dl_at t_X14_lastNumber 1 rfl) ?_
  refine g_iload_n (pc := 4) X (j := 1) (i := 1) (q := 1) (x := a1) rfl rfl (dl_at t_X14_lastNumber 2 rfl) ?_
  refine g_gd fun k5 => ?_
  refine g_iald (pc := 5) X r1 k5 (dl_at t_X14_lastNumber 3 rfl) fun g5 => ?_
  refine g_aload_n (pc := 6) X (j := 0) (i := 0) (q := 0) (x := a0) rfl rfl (dl_at t_X14_lastNumber 4 rfl) ?_
  refine r_getr (pc := 7) X fX14_32 hk q1286 (dl_at t_X14_lastNumber 5 rfl) ?_
  refine g_iload_n (pc := 10) X (j := 1) (i := 1) (q := 1) (x := a1) rfl rfl (dl_at t_X14_lastNumber 6 rfl) ?_
  refine g_gd fun k11 => ?_
  refine g_iald (pc := 11) X r1 k11 (dl_at t_X14_lastNumber 7 rfl) fun g11 => ?_
  refine g_icmpne (pc := 12) X g5 g11 (off := 7) (tgt := 19) rfl (dl_at t_X14_lastNumber 8 rfl) (fun _ => ?_) (fun _ => ?_)
  · refine g_aload_n (pc := 19) X (j := 0) (i := 0) (q := 0) (x := a0) rfl rfl (dl_at t_X14_lastNumber 11 rfl) ?_
    refine g_aload_n (pc := 20) X (j := 0) (i := 0) (q := 0) (x := a0) rfl rfl (dl_at t_X14_lastNumber 12 rfl) ?_
    refine r_getr (pc := 21) X fX14_32 hk q1286 (dl_at t_X14_lastNumber 13 rfl) ?_
    refine g_iload_n (pc := 24) X (j := 1) (i := 1) (q := 1) (x := a1) rfl rfl (dl_at t_X14_lastNumber 14 rfl) ?_
    refine g_iald (pc := 25) X r1 k11 (dl_at t_X14_lastNumber 15 rfl) fun g25 => ?_
    refine r_callRi (pc := 26) X (fun _ hv => s_X14_numberAt hk g25 hv) cw_code q2377 q368 (in_Vk X (As := [iv (h (h a0 32) a1)]) kX14 hk (Or.inl q2374) q2376 qs93 cw_code q2377 ⟨by decide, by decide⟩ rfl (dl_at t_X14_lastNumber 16 rfl)) (dl_at t_X14_lastNumber 16 rfl) (cat24 (st := []) (Nat.le_of_ble_eq_true rfl)) (Nat.le_of_ble_eq_true rfl) (Nat.le_of_ble_eq_true rfl) fun v26 g26 => ?_
    exact g_iret (pc := 29) X g26 rfl rfl (dl_at t_X14_lastNumber 17 rfl)
  refine g_iconst (pc := 15) X (n := (-1)) (dl_at t_X14_lastNumber 9 rfl) ?_
  refine g_goto (pc := 16) X (off := 13) (tgt := 29) rfl (dl_at t_X14_lastNumber 10 rfl) ?_
  exact g_iret (pc := 29) X (r32_c rfl) rfl rfl (dl_at t_X14_lastNumber 17 rfl)
def k_X14_begin : List (Nat × Instr × Nat) := [(0, .aload_n 0, 1), (1, .aload_n 1, 1), (2, .putfield 158, 3), (5, .aload_n 0, 1), (6, .aload_n 0, 1), (7, .getfield 158, 3), (10, .getfield 162, 3), (13, .putfield 168, 3), (16, .aload_n 0, 1), (17, .aload_n 0, 1), (18, .getfield 158, 3), (21, .getfield 169, 3), (24, .putfield 173, 3), (27, .aload_n 0, 1), (28, .aload_n 2, 1), (29, .putfield 174, 3), (32, .aload_n 0, 1), (33, .aload_n 3, 1), (34, .putfield 178, 3), (37, .aload_n 0, 1), (38, .aload 4, 2), (40, .putfield 182, 3), (43, .aload_n 0, 1), (44, .getfield 12, 3), (47, .invokevirtual 186, 3), (50, .aload_n 0, 1), (51, .iconst 0, 1), (52, .putfield 189, 3), (55, .aload_n 0, 1), (56, .iconst 0, 1), (57, .putfield 193, 3), (60, .aload_n 0, 1), (61, .iconst 0, 1), (62, .putfield 196, 3), (65, .aload_n 0, 1), (66, .iconst 0, 1), (67, .putfield 199, 3), (70, .aload_n 0, 1), (71, .iconst 0, 1), (72, .putfield 202, 3), (75, .aload_n 0, 1), (76, .iconst 0, 1), (77, .putfield 205, 3), (80, .aload_n 0, 1), (81, .iconst 0, 1), (82, .putfield 208, 3), (85, .aload_n 0, 1), (86, .iconst 0, 1), (87, .putfield 211, 3), (90, .aload_n 0, 1), (91, .iconst 0, 1), (92, .putfield 214, 3), (95, .aload_n 0, 1), (96, .iconst 0, 1), (97, .putfield 217, 3), (100, .aload_n 0, 1), (101, .iconst 0, 1), (102, .putfield 220, 3), (105, .iconst 0, 1), (106, .istore 5, 2), (108, .iload 5, 2), (110, .aload_n 0, 1), (111, .getfield 158, 3), (114, .getfield 223, 3), (117, .if_icmp .ge 98, 3), (120, .aload_n 0, 1), (121, .getfield 95, 3), (124, .iload 5, 2), (126, .aload_n 0, 1), (127, .getfield 182, 3), (130, .ifnonnull 7, 3), (133, .iconst 0, 1), (134, .goto 12, 3), (137, .aload_n 0, 1), (138, .getfield 182, 3), (141, .iload 5, 2), (143, .invokevirtual 224, 3), (146, .iastore, 1), (147, .aload_n 0, 1), (148, .getfield 98, 3), (151, .iload 5, 2), (153, .aload_n 0, 1), (154, .getfield 182, 3), (157, .ifnonnull 7, 3), (160, .iconst 0, 1), (161, .goto 20, 3), (164, .aload_n 0, 1), (165, .getfield 182, 3), (168, .aload_n 0, 1), (169, .getfield 182, 3), (172, .getfield 74, 3), (175, .iload 5, 2), (177, .iaload, 1), (178, .invokevirtual 228, 3), (181, .iastore, 1), (182, .aload_n 0, 1), (183, .getfield 101, 3), (186, .iload 5, 2), (188, .aload_n 0, 1), (189, .getfield 182, 3), (192, .ifnonnull 7, 3), (195, .iconst (-1), 1), (196, .goto 12, 3), (199, .aload_n 0, 1), (200, .getfield 182, 3), (203, .iload 5, 2), (205, .invokevirtual 231, 3), (208, .iastore, 1), (209, .iinc 5 1, 3), (212, .goto (-104), 3), (215, .return_, 1)]
theorem t_X14_begin : ∀ q ∈ k_X14_begin, decode cX14_begin q.1 = .ok q.2 := dl_all (by decide +kernel)
noncomputable def m_X14_begin_j208 (x5_108 s0_208 s2_208 : Int) (h181 : Hp) : Option ((Int × Hp) ⊕ ((Hp))) :=
  gd (h181 s0_208 (-2) % 16 = 1 ∧ (0 : Int) ≤ x5_108 ∧ x5_108 < h181 s0_208 (-1)) (pt h181 s0_208 x5_108 s2_208 fun h208 =>
  lt_ (w32 (x5_108 + 1)) fun x5_209 =>
  some (.inl (x5_209, h208)))
noncomputable def m_X14_begin_j181 (a0 x5_108 s0_181 s2_181 : Int) (h146 : Hp) : Option ((Int × Hp) ⊕ ((Hp))) :=
  gd (h146 s0_181 (-2) % 16 = 1 ∧ (0 : Int) ≤ x5_108 ∧ x5_108 < h146 s0_181 (-1)) (pt h146 s0_181 x5_108 s2_181 fun h181 =>
  if (h181 a0 7) ≠ 0 then (gd (h181 (h181 a0 7) (-2) = 224) ((m_X14_lastNumber (h181 a0 7) x5_108 h181).bind fun v205 =>
  m_X14_begin_j208 x5_108 (h181 a0 42) v205 h181))
  else (m_X14_begin_j208 x5_108 (h181 a0 42) (-1) h181))
noncomputable def m_X14_begin_j146 (a0 x5_108 s0_146 s2_146 : Int) (h_108 : Hp) : Option ((Int × Hp) ⊕ ((Hp))) :=
  gd (h_108 s0_146 (-2) % 16 = 1 ∧ (0 : Int) ≤ x5_108 ∧ x5_108 < h_108 s0_146 (-1)) (pt h_108 s0_146 x5_108 s2_146 fun h146 =>
  if (h146 a0 7) ≠ 0 then (gd (h146 (h146 a0 7) (-2) = 224) (gd (h146 (h146 (h146 a0 7) 31) (-2) % 16 = 1 ∧ (0 : Int) ≤ x5_108 ∧ x5_108 < h146 (h146 (h146 a0 7) 31) (-1)) ((m_X14_numberAt (h146 a0 7) (h146 (h146 (h146 a0 7) 31) x5_108) h146).bind fun v178 =>
  m_X14_begin_j181 a0 x5_108 (h146 a0 41) v178 h146)))
  else (m_X14_begin_j181 a0 x5_108 (h146 a0 41) 0 h146))
noncomputable def m_X14_begin_l108 (a0 x5_108 : Int) (h_108 : Hp) : Option ((Int × Hp) ⊕ ((Hp))) :=
  gd (h_108 (h_108 a0 2) (-2) = 112) (if (h_108 (h_108 a0 2) 2) ≤ x5_108 then (some (.inr h_108))
  else (if (h_108 a0 7) ≠ 0 then (gd (h_108 (h_108 a0 7) (-2) = 224) ((m_X14_pageOf (h_108 a0 7) x5_108 h_108).bind fun v143 =>
  m_X14_begin_j146 a0 x5_108 (h_108 a0 40) v143 h_108))
  else (m_X14_begin_j146 a0 x5_108 (h_108 a0 40) 0 h_108)))
noncomputable def m_X14_begin (a0 a1 a2 a3 a4 : Int) (h : Hp) : Option (Hp) :=
  pt h a0 2 a1 fun h2 =>
  gd (h2 (h2 a0 2) (-2) = 112) (pt h2 a0 3 (h2 (h2 a0 2) 1) fun h13 =>
  gd (h13 (h13 a0 2) (-2) = 112) (pt h13 a0 6 (h13 (h13 a0 2) 0) fun h24 =>
  pt h24 a0 4 a2 fun h29 =>
  pt h29 a0 5 a3 fun h34 =>
  pt h34 a0 7 a4 fun h40 =>
  gd (h40 (h40 a0 1) (-2) = 240) ((m_X15_clear (h40 a0 1) h40).bind fun h47 =>
  pt h47 a0 9 0 fun h52 =>
  pt h52 a0 11 0 fun h57 =>
  pt h57 a0 18 0 fun h62 =>
  pt h62 a0 23 0 fun h67 =>
  pt h67 a0 26 0 fun h72 =>
  pt h72 a0 27 0 fun h77 =>
  pt h77 a0 36 0 fun h82 =>
  pt h82 a0 39 0 fun h87 =>
  pt h87 a0 53 0 fun h92 =>
  pt h92 a0 58 0 fun h97 =>
  pt h97 a0 57 0 fun h102 =>
  lt_ 0 fun x5_106 =>
  (lp (fun (q : Int × Hp) => m_X14_begin_l108 a0 q.1 q.2) (x5_106, h102)).bind (fun (x : Hp) => some x))))
theorem s_X14_begin {l : Launch} [NoTr l] {D : SD} {a0 a1 a2 a3 a4 : Int} {h : Hp} (hk : h a0 (-2) = 224) {r : Hp} (hm : m_X14_begin a0 a1 a2 a3 a4 h = some r) : Sim l D yX14_begin (Cond.code yX14_begin cX14_begin 6 (Option.none : Option Jvm.ClassFile.FieldType)) 2 74 [rv D a0, rv D a1, rv D a2, rv D a3, rv D a4] h 0 ((0, 0), r) := by
  refine Sim.of (fin := fun (v : Hp) => ((0, 0), v)) (lsE := [(0, rv D a0), (1, rv D a1), (2, rv D a2), (3, rv D a3), (4, rv D a4)]) hm rfl cwS_code (la_r (la_r (la_r (la_r (la_r la_n))))) (ll_r (ll_r (ll_r (ll_r (ll_r ll_n))))) ?_
  intro p e s m below meth c X hcw hmm hcc hnm hname
  unfold m_X14_begin
  refine g_aload_n (pc := 0) X (j := 0) (i := 0) (q := 0) (x := a0) rfl rfl (dl_at t_X14_begin 0 rfl) ?_
  refine g_aload_n (pc := 1) X (j := 1) (i := 1) (q := 1) (x := a1) rfl rfl (dl_at t_X14_begin 1 rfl) ?_
  refine r_putr (pc := 2) X fX14_2 hk q1243 rfl (dl_at t_X14_begin 2 rfl)  (fun h2 E2 => ?_)
  refine g_aload_n (pc := 5) X (j := 0) (i := 0) (q := 0) (x := a0) rfl rfl (dl_at t_X14_begin 3 rfl) ?_
  refine g_aload_n (pc := 6) X (j := 0) (i := 0) (q := 0) (x := a0) rfl rfl (dl_at t_X14_begin 4 rfl) ?_
  have k7 := kx E2 (by decide) hk
  refine r_getr (pc := 7) X fX14_2 k7 q1243 (dl_at t_X14_begin 5 rfl) ?_
  refine g_gd fun k10 => ?_
  refine r_getrN (pc := 10) X fX7_1 k10 (nw_in q782 rfl) (dl_at t_X14_begin 6 rfl) ?_
  refine r_putr (pc := 13) X fX14_3 k7 q1245 rfl (dl_at t_X14_begin 7 rfl)  (fun h13 E13 => ?_)
  refine g_aload_n (pc := 16) X (j := 0) (i := 0) (q := 0) (x := a0) rfl rfl (dl_at t_X14_begin 8 rfl) ?_
  refine g_aload_n (pc := 17) X (j := 0) (i := 0) (q := 0) (x := a0) rfl rfl (dl_at t_X14_begin 9 rfl) ?_
  have k18 := kx E13 (by decide) k7
  refine r_getr (pc := 18) X fX14_2 k18 q1243 (dl_at t_X14_begin 10 rfl) ?_
  refine g_gd fun k21 => ?_
  refine r_getrN (pc := 21) X fX7_0 k21 (nw_in q779 rfl) (dl_at t_X14_begin 11 rfl) ?_
  refine r_putr (pc := 24) X fX14_6 k18 q1249 rfl (dl_at t_X14_begin 12 rfl)  (fun h24 E24 => ?_)
  refine g_aload_n (pc := 27) X (j := 0) (i := 0) (q := 0) (x := a0) rfl rfl (dl_at t_X14_begin 13 rfl) ?_
  refine g_aload_n (pc := 28) X (j := 2) (i := 2) (q := 2) (x := a2) rfl rfl (dl_at t_X14_begin 14 rfl) ?_
  have k29 := kx E24 (by decide) k18
  refine r_putr (pc := 29) X fX14_4 k29 q1247 rfl (dl_at t_X14_begin 15 rfl)  (fun h29 E29 => ?_)
  refine g_aload_n (pc := 32) X (j := 0) (i := 0) (q := 0) (x := a0) rfl rfl (dl_at t_X14_begin 16 rfl) ?_
  refine g_aload_n (pc := 33) X (j := 3) (i := 3) (q := 3) (x := a3) rfl rfl (dl_at t_X14_begin 17 rfl) ?_
  have k34 := kx E29 (by decide) k29
  refine r_putr (pc := 34) X fX14_5 k34 q1248 rfl (dl_at t_X14_begin 18 rfl)  (fun h34 E34 => ?_)
  refine g_aload_n (pc := 37) X (j := 0) (i := 0) (q := 0) (x := a0) rfl rfl (dl_at t_X14_begin 19 rfl) ?_
  refine g_aload (pc := 38) X (i := 4) (q := 4) (x := a4) rfl (dl_at t_X14_begin 20 rfl) ?_
  have k40 := kx E34 (by decide) k34
  refine r_putr (pc := 40) X fX14_7 k40 q1251 rfl (dl_at t_X14_begin 21 rfl)  (fun h40 E40 => ?_)
  refine g_aload_n (pc := 43) X (j := 0) (i := 0) (q := 0) (x := a0) rfl rfl (dl_at t_X14_begin 22 rfl) ?_
  have k44 := kx E40 (by decide) k40
  refine r_getr (pc := 44) X fX14_1 k44 q1242 (dl_at t_X14_begin 23 rfl) ?_
  refine g_gd fun k47 => ?_
  refine r_callV (pc := 47) X (fun _ hv => s_X15_clear k47 hv) cw_code q2365 q369 (in_Vk X (As := []) kX15 k47 (Or.inr ⟨_, nw_in q2362 rfl⟩) q2364 qs90 cw_code q2365 ⟨by decide, by decide⟩ rfl (dl_at t_X14_begin 24 rfl)) (dl_at t_X14_begin 24 rfl) (cat24 (st := []) (Nat.le_of_ble_eq_true rfl)) (Nat.le_of_ble_eq_true rfl) (Nat.le_of_ble_eq_true rfl) fun h47 E47 => ?_
  refine g_aload_n (pc := 50) X (j := 0) (i := 0) (q := 0) (x := a0) rfl rfl (dl_at t_X14_begin 25 rfl) ?_
  refine g_iconst (pc := 51) X (n := 0) (dl_at t_X14_begin 26 rfl) ?_
  have k52 := kx E47 (by decide) k44
  refine r_puti (pc := 52) X fX14_9 k52 q1255 rfl (dl_at t_X14_begin 27 rfl) (r32_c rfl) (fun h52 E52 => ?_)
  refine g_aload_n (pc := 55) X (j := 0) (i := 0) (q := 0) (x := a0) rfl rfl (dl_at t_X14_begin 28 rfl) ?_
  refine g_iconst (pc := 56) X (n := 0) (dl_at t_X14_begin 29 rfl) ?_
  have k57 := kx E52 (by decide) k52
  refine r_puti (pc := 57) X fX14_11 k57 q1258 rfl (dl_at t_X14_begin 30 rfl) (r32_c rfl) (fun h57 E57 => ?_)
  refine g_aload_n (pc := 60) X (j := 0) (i := 0) (q := 0) (x := a0) rfl rfl (dl_at t_X14_begin 31 rfl) ?_
  refine g_iconst (pc := 61) X (n := 0) (dl_at t_X14_begin 32 rfl) ?_
  have k62 := kx E57 (by decide) k57
  refine r_puti (pc := 62) X fX14_18 k62 q1269 rfl (dl_at t_X14_begin 33 rfl) (r32_c rfl) (fun h62 E62 => ?_)
  refine g_aload_n (pc := 65) X (j := 0) (i := 0) (q := 0) (x := a0) rfl rfl (dl_at t_X14_begin 34 rfl) ?_
  refine g_iconst (pc := 66) X (n := 0) (dl_at t_X14_begin 35 rfl) ?_
  have k67 := kx E62 (by decide) k62
  refine r_puti (pc := 67) X fX14_23 k67 q1276 rfl (dl_at t_X14_begin 36 rfl) (r32_c rfl) (fun h67 E67 => ?_)
  refine g_aload_n (pc := 70) X (j := 0) (i := 0) (q := 0) (x := a0) rfl rfl (dl_at t_X14_begin 37 rfl) ?_
  refine g_iconst (pc := 71) X (n := 0) (dl_at t_X14_begin 38 rfl) ?_
  have k72 := kx E67 (by decide) k67
  refine r_puti (pc := 72) X fX14_26 k72 q1279 rfl (dl_at t_X14_begin 39 rfl) (r32_c rfl) (fun h72 E72 => ?_)
  refine g_aload_n (pc := 75) X (j := 0) (i := 0) (q := 0) (x := a0) rfl rfl (dl_at t_X14_begin 40 rfl) ?_
  refine g_iconst (pc := 76) X (n := 0) (dl_at t_X14_begin 41 rfl) ?_
  have k77 := kx E72 (by decide) k72
  refine r_puti (pc := 77) X fX14_27 k77 q1280 rfl (dl_at t_X14_begin 42 rfl) (r32_c rfl) (fun h77 E77 => ?_)
  refine g_aload_n (pc := 80) X (j := 0) (i := 0) (q := 0) (x := a0) rfl rfl (dl_at t_X14_begin 43 rfl) ?_
  refine g_iconst (pc := 81) X (n := 0) (dl_at t_X14_begin 44 rfl) ?_
  have k82 := kx E77 (by decide) k77
  refine r_puti (pc := 82) X fX14_36 k82 q1293 rfl (dl_at t_X14_begin 45 rfl) (r32_c rfl) (fun h82 E82 => ?_)
  refine g_aload_n (pc := 85) X (j := 0) (i := 0) (q := 0) (x := a0) rfl rfl (dl_at t_X14_begin 46 rfl) ?_
  refine g_iconst (pc := 86) X (n := 0) (dl_at t_X14_begin 47 rfl) ?_
  have k87 := kx E82 (by decide) k82
  refine r_puti (pc := 87) X fX14_39 k87 q1299 rfl (dl_at t_X14_begin 48 rfl) (r32_c rfl) (fun h87 E87 => ?_)
  refine g_aload_n (pc := 90) X (j := 0) (i := 0) (q := 0) (x := a0) rfl rfl (dl_at t_X14_begin 49 rfl) ?_
  refine g_iconst (pc := 91) X (n := 0) (dl_at t_X14_begin 50 rfl) ?_
  have k92 := kx E87 (by decide) k87
  refine r_puti (pc := 92) X fX14_53 k92 q1315 rfl (dl_at t_X14_begin 51 rfl) (r32_c rfl) (fun h92 E92 => ?_)
  refine g_aload_n (pc := 95) X (j := 0) (i := 0) (q := 0) (x := a0) rfl rfl (dl_at t_X14_begin 52 rfl) ?_
  refine g_iconst (pc := 96) X (n := 0) (dl_at t_X14_begin 53 rfl) ?_
  have k97 := kx E92 (by decide) k92
  refine r_puti (pc := 97) X fX14_58 k97 q1321 rfl (dl_at t_X14_begin 54 rfl) (r32_c rfl) (fun h97 E97 => ?_)
  refine g_aload_n (pc := 100) X (j := 0) (i := 0) (q := 0) (x := a0) rfl rfl (dl_at t_X14_begin 55 rfl) ?_
  refine g_iconst (pc := 101) X (n := 0) (dl_at t_X14_begin 56 rfl) ?_
  have k102 := kx E97 (by decide) k97
  refine r_puti (pc := 102) X fX14_57 k102 q1320 rfl (dl_at t_X14_begin 57 rfl) (r32_c rfl) (fun h102 E102 => ?_)
  refine g_iconst (pc := 105) X (n := 0) (dl_at t_X14_begin 58 rfl) ?_
  refine g_ltz (Or.inl rfl) fun x5_106 r5_106 => ?_
  refine g_istore (pc := 106) X (i := 5) (x := x5_106) (rest := [(0, rv D a0)]) (Nat.le_of_ble_eq_true rfl) [0] rfl rfl (dl_at t_X14_begin 59 rfl) ?_
  refine g_ls (ls2 := [(0, rv D a0), (5, iv x5_106)]) [1, 0] rfl ?_
  refine g_loop0F (fun (q : Int × Hp) => [(0, rv D a0), (5, iv q.1)]) (fun (q : Int × Hp) => q.2) (fun (q : Int × Hp) => r32 q.1 ∧ Ext h102 q.2) (x5_106, h102) ⟨(r32_z r5_106), (Ext.refl _)⟩ ?_ (fun _ => rfl)
  · rintro ⟨x5_108, h_108⟩ ⟨r5_108, E_108⟩
    try dsimp only
    unfold m_X14_begin_l108
    refine g_iload (pc := 108) X (i := 5) (q := 1) (x := x5_108) rfl (dl_at t_X14_begin 60 rfl) ?_
    refine g_aload_n (pc := 110) X (j := 0) (i := 0) (q := 0) (x := a0) rfl rfl (dl_at t_X14_begin 61 rfl) ?_
    have k111 := kx (E102.trans E_108) (by decide) k102
    refine r_getr (pc := 111) X fX14_2 k111 q1243 (dl_at t_X14_begin 62 rfl) ?_
    refine g_gd fun k114 => ?_
    refine r_getiN (pc := 114) X fX7_2 k114 (nw_in q785 rfl) (dl_at t_X14_begin 63 rfl) fun g114 => ?_
    refine g_icmpge (pc := 117) X r5_108 g114 (off := 98) (tgt := 215) rfl (dl_at t_X14_begin 64 rfl) (fun _ => ?_) (fun _ => ?_)
    · exact g_at fun Q hQ => (g_vret (pc := 215) X (v := 0) rfl rfl (dl_at t_X14_begin 110 rfl)) _ Q rfl hQ
    refine g_aload_n (pc := 120) X (j := 0) (i := 0) (q := 0) (x := a0) rfl rfl (dl_at t_X14_begin 65 rfl) ?_
    refine r_getr (pc := 121) X fX14_40 k111 q1301 (dl_at t_X14_begin 66 rfl) ?_
    refine g_iload (pc := 124) X (i := 5) (q := 1) (x := x5_108) rfl (dl_at t_X14_begin 67 rfl) ?_
    refine g_aload_n (pc := 126) X (j := 0) (i := 0) (q := 0) (x := a0) rfl rfl (dl_at t_X14_begin 68 rfl) ?_
    refine r_getr (pc := 127) X fX14_7 k111 q1251 (dl_at t_X14_begin 69 rfl) ?_
    refine g_join (γ := Int × Int) (fun q => r32 q.2) 146 (fun q => [(0, rv D a0), (5, iv x5_108)]) (fun q => [iv q.2, iv x5_108, rv D q.1]) (fun q => h_108) (fun q => m_X14_begin_j146 a0 x5_108 q.1 q.2 h_108) ?_ ?_
    · rintro ⟨s0_146, s2_146⟩ rs2_146
      try dsimp only
      unfold m_X14_begin_j146
      refine g_gd fun k146 => ?_
      refine r_iast (pc := 146) X r5_108 rs2_146 k146 (dl_at t_X14_begin 77 rfl) (fun h146 E146 => ?_)
      refine g_aload_n (pc := 147) X (j := 0) (i := 0) (q := 0) (x := a0) rfl rfl (dl_at t_X14_begin 78 rfl) ?_
      have k148 := kx E146 (by decide) k111
      refine r_getr (pc := 148) X fX14_41 k148 q1302 (dl_at t_X14_begin 79 rfl) ?_
      refine g_iload (pc := 151) X (i := 5) (q := 1) (x := x5_108) rfl (dl_at t_X14_begin 80 rfl) ?_
      refine g_aload_n (pc := 153) X (j := 0) (i := 0) (q := 0) (x := a0) rfl rfl (dl_at t_X14_begin 81 rfl) ?_
      refine r_getr (pc := 154) X fX14_7 k148 q1251 (dl_at t_X14_begin 82 rfl) ?_
      refine g_join (γ := Int × Int) (fun q => r32 q.2) 181 (fun q => [(0, rv D a0), (5, iv x5_108)]) (fun q => [iv q.2, iv x5_108, rv D q.1]) (fun q => h146) (fun q => m_X14_begin_j181 a0 x5_108 q.1 q.2 h146) ?_ ?_
      · rintro ⟨s0_181, s2_181⟩ rs2_181
        try dsimp only
        unfold m_X14_begin_j181
        refine g_gd fun k181 => ?_
        refine r_iast (pc := 181) X r5_108 rs2_181 k181 (dl_at t_X14_begin 94 rfl) (fun h181 E181 => ?_)
        refine g_aload_n (pc := 182) X (j := 0) (i := 0) (q := 0) (x := a0) rfl rfl (dl_at t_X14_begin 95 rfl) ?_
        have k183 := kx E181 (by decide) k148
        refine r_getr (pc := 183) X fX14_42 k183 q1303 (dl_at t_X14_begin 96 rfl) ?_
        refine g_iload (pc := 186) X (i := 5) (q := 1) (x := x5_108) rfl (dl_at t_X14_begin 97 rfl) ?_
        refine g_aload_n (pc := 188) X (j := 0) (i := 0) (q := 0) (x := a0) rfl rfl (dl_at t_X14_begin 98 rfl) ?_
        refine r_getr (pc := 189) X fX14_7 k183 q1251 (dl_at t_X14_begin 99 rfl) ?_
        refine g_join (γ := Int × Int) (fun q => r32 q.2) 208 (fun q => [(0, rv D a0), (5, iv x5_108)]) (fun q => [iv q.2, iv x5_108, rv D q.1]) (fun q => h181) (fun q => m_X14_begin_j208 x5_108 q.1 q.2 h181) ?_ ?_
        · rintro ⟨s0_208, s2_208⟩ rs2_208
          try dsimp only
          unfold m_X14_begin_j208
          refine g_gd fun k208 => ?_
          refine r_iast (pc := 208) X r5_108 rs2_208 k208 (dl_at t_X14_begin 107 rfl) (fun h208 E208 => ?_)
          refine r_iinc (pc := 209) X (i := 5) (q := 1) (n := 1) (x := x5_108) (rest := [(0, rv D a0)]) rfl r5_108 (r32_c rfl) (Nat.le_of_ble_eq_true rfl) [0] rfl rfl (dl_at t_X14_begin 108 rfl) fun x5_209 r5_209 => ?_
          refine g_goto (pc := 212) X (off := (-104)) (tgt := 108) rfl (dl_at t_X14_begin 109 rfl) ?_
          refine g_ls (ls2 := [(0, rv D a0), (5, iv x5_209)]) [1, 0] rfl ?_
          exact g_at fun Q hQ => hQ ⟨r5_209, (E_108.trans (E146.trans (E181.trans E208)))⟩
        intro J208
        refine g_ifnonnull (pc := 192) X (off := 7) (tgt := 199) rfl (dl_at t_X14_begin 100 rfl) (fun _ => ?_) (fun _ => ?_)
        · refine g_aload_n (pc := 199) X (j := 0) (i := 0) (q := 0) (x := a0) rfl rfl (dl_at t_X14_begin 103 rfl) ?_
          refine r_getr (pc := 200) X fX14_7 k183 q1251 (dl_at t_X14_begin 104 rfl) ?_
          refine g_iload (pc := 203) X (i := 5) (q := 1) (x := x5_108) rfl (dl_at t_X14_begin 105 rfl) ?_
          refine g_gd fun k205 => ?_
          refine r_callRi (pc := 205) X (fun _ hv => s_X14_lastNumber k205 r5_108 hv) cw_code q2381 q368 (in_Vk X (As := [iv x5_108]) kX14 k205 (Or.inl q2378) q2380 qs94 cw_code q2381 ⟨by decide, by decide⟩ rfl (dl_at t_X14_begin 106 rfl)) (dl_at t_X14_begin 106 rfl) (cat24 (st := [iv x5_108, rv D (h181 a0 42)]) (Nat.le_of_ble_eq_true rfl)) (Nat.le_of_ble_eq_true rfl) (Nat.le_of_ble_eq_true rfl) fun v205 g205 => ?_
          exact J208 ((h181 a0 42), v205) g205
        refine g_iconst (pc := 195) X (n := (-1)) (dl_at t_X14_begin 101 rfl) ?_
        refine g_goto (pc := 196) X (off := 12) (tgt := 208) rfl (dl_at t_X14_begin 102 rfl) ?_
        exact J208 ((h181 a0 42), (-1)) (r32_c rfl)
      intro J181
      refine g_ifnonnull (pc := 157) X (off := 7) (tgt := 164) rfl (dl_at t_X14_begin 83 rfl) (fun _ => ?_) (fun _ => ?_)
      · refine g_aload_n (pc := 164) X (j := 0) (i := 0) (q := 0) (x := a0) rfl rfl (dl_at t_X14_begin 86 rfl) ?_
        refine r_getr (pc := 165) X fX14_7 k148 q1251 (dl_at t_X14_begin 87 rfl) ?_
        refine g_aload_n (pc := 168) X (j := 0) (i := 0) (q := 0) (x := a0) rfl rfl (dl_at t_X14_begin 88 rfl) ?_
        refine r_getr (pc := 169) X fX14_7 k148 q1251 (dl_at t_X14_begin 89 rfl) ?_
        refine g_gd fun k172 => ?_
        refine r_getr (pc := 172) X fX14_31 k172 q1284 (dl_at t_X14_begin 90 rfl) ?_
        refine g_iload (pc := 175) X (i := 5) (q := 1) (x := x5_108) rfl (dl_at t_X14_begin 91 rfl) ?_
        refine g_gd fun k177 => ?_
        refine g_iald (pc := 177) X r5_108 k177 (dl_at t_X14_begin 92 rfl) fun g177 => ?_
        refine r_callRi (pc := 178) X (fun _ hv => s_X14_numberAt k172 g177 hv) cw_code q2377 q368 (in_Vk X (As := [iv (h146 (h146 (h146 a0 7) 31) x5_108)]) kX14 k172 (Or.inl q2374) q2376 qs93 cw_code q2377 ⟨by decide, by decide⟩ rfl (dl_at t_X14_begin 93 rfl)) (dl_at t_X14_begin 93 rfl) (cat24 (st := [iv x5_108, rv D (h146 a0 41)]) (Nat.le_of_ble_eq_true rfl)) (Nat.le_of_ble_eq_true rfl) (Nat.le_of_ble_eq_true rfl) fun v178 g178 => ?_
        exact J181 ((h146 a0 41), v178) g178
      refine g_iconst (pc := 160) X (n := 0) (dl_at t_X14_begin 84 rfl) ?_
      refine g_goto (pc := 161) X (off := 20) (tgt := 181) rfl (dl_at t_X14_begin 85 rfl) ?_
      exact J181 ((h146 a0 41), 0) (r32_c rfl)
    intro J146
    refine g_ifnonnull (pc := 130) X (off := 7) (tgt := 137) rfl (dl_at t_X14_begin 70 rfl) (fun _ => ?_) (fun _ => ?_)
    · refine g_aload_n (pc := 137) X (j := 0) (i := 0) (q := 0) (x := a0) rfl rfl (dl_at t_X14_begin 73 rfl) ?_
      refine r_getr (pc := 138) X fX14_7 k111 q1251 (dl_at t_X14_begin 74 rfl) ?_
      refine g_iload (pc := 141) X (i := 5) (q := 1) (x := x5_108) rfl (dl_at t_X14_begin 75 rfl) ?_
      refine g_gd fun k143 => ?_
      refine r_callRi (pc := 143) X (fun _ hv => s_X14_pageOf k143 r5_108 hv) cw_code q2369 q368 (in_Vk X (As := [iv x5_108]) kX14 k143 (Or.inl q2366) q2368 qs91 cw_code q2369 ⟨by decide, by decide⟩ rfl (dl_at t_X14_begin 76 rfl)) (dl_at t_X14_begin 76 rfl) (cat24 (st := [iv x5_108, rv D (h_108 a0 40)]) (Nat.le_of_ble_eq_true rfl)) (Nat.le_of_ble_eq_true rfl) (Nat.le_of_ble_eq_true rfl) fun v143 g143 => ?_
      exact J146 ((h_108 a0 40), v143) g143
    refine g_iconst (pc := 133) X (n := 0) (dl_at t_X14_begin 71 rfl) ?_
    refine g_goto (pc := 134) X (off := 12) (tgt := 146) rfl (dl_at t_X14_begin 72 rfl) ?_
    exact J146 ((h_108 a0 40), 0) (r32_c rfl)
def k_X6_isName : List (Nat × Instr × Nat) := [(0, .aload_n 0, 1), (1, .getfield 20, 3), (4, .iload_n 1, 1), (5, .invokevirtual 220, 3), (8, .aload_n 2, 1), (9, .invokevirtual 159, 3), (12, .if_icmp .eq 5, 3), (15, .iconst 0, 1), (16, .ireturn, 1), (17, .iconst 0, 1), (18, .istore_n 3, 1), (19, .iload_n 3, 1), (20, .aload_n 2, 1), (21, .invokevirtual 159, 3), (24, .if_icmp .ge 38, 3), (27, .aload_n 0, 1), (28, .getfield 20, 3), (31, .getfield 222, 3), (34, .aload_n 0, 1), (35, .getfield 20, 3), (38, .getfield 225, 3), (41, .iload_n 1, 1), (42, .iaload, 1), (43, .iload_n 3, 1), (44, .iadd, 1), (45, .baload, 1), (46, .aload_n 2, 1), (47, .iload_n 3, 1), (48, .invokevirtual 163, 3), (51, .if_icmp .eq 5, 3), (54, .iconst 0, 1), (55, .ireturn, 1), (56, .iinc 3 1, 3), (59, .goto (-40), 3), (62, .iconst 1, 1), (63, .ireturn, 1)]
theorem t_X6_isName : ∀ q ∈ k_X6_isName, decode cX6_isName q.1 = .ok q.2 := dl_all (by decide +kernel)
noncomputable def m_X6_isName_l19 (a0 a1 a2 x3_19 : Int) (h : Hp) : Option ((Int) ⊕ ((Int))) :=
  (x_slen a2).bind fun v21 =>
  if v21 ≤ x3_19 then (some (.inr 1))
  else (gd (h (h (h a0 3) 2) (-2) % 16 = 1 ∧ (0 : Int) ≤ a1 ∧ a1 < h (h (h a0 3) 2) (-1)) (gd (h (h (h a0 3) 0) (-2) % 16 = 2 ∧ (0 : Int) ≤ (w32 ((h (h (h a0 3) 2) a1) + x3_19)) ∧ (w32 ((h (h (h a0 3) 2) a1) + x3_19)) < h (h (h a0 3) 0) (-1)) ((x_sat a2 x3_19).bind fun v48 =>
  if (h (h (h a0 3) 0) (w32 ((h (h (h a0 3) 2) a1) + x3_19))) = v48 then (lt_ (w32 (x3_19 + 1)) fun x3_56 =>
  some (.inl x3_56))
  else (some (.inr 0)))))
noncomputable def m_X6_isName (a0 a1 a2 : Int) (h : Hp) : Option (Int) :=
  gd (h (h a0 3) (-2) = 64) ((m_X4_length (h a0 3) a1 h).bind fun v5 =>
  (x_slen a2).bind fun v9 =>
  if v5 = v9 then (lt_ 0 fun x3_18 =>
  (lp (fun (q : Int) => m_X6_isName_l19 a0 a1 a2 q h) x3_18).bind (fun (x : Int) => some x))
  else (some 0))
theorem s_X6_isName {l : Launch} [NoTr l] {D : SD} {a0 a1 a2 : Int} {h : Hp} (hk : h a0 (-2) = 96) (r1 : r32 a1) {r : Int} (hm : m_X6_isName a0 a1 a2 h = some r) : Sim l D yX6_isName (Cond.code yX6_isName cX6_isName 4 (Option.some Jvm.ClassFile.FieldType.boolean)) 4 200 [rv D a0, iv a1, rv D a2] h 3 ((0, r), h) := by
  refine Sim.of (fin := fun (v : Int) => ((0, v), h)) (lsE := [(0, rv D a0), (1, iv a1), (2, rv D a2)]) hm rfl cwS_code (la_r (la_i (la_r la_n))) (ll_r (ll_i (ll_r ll_n))) ?_
  intro p e s m below meth c X hcw hmm hcc hnm hname
  unfold m_X6_isName
  refine g_aload_n (pc := 0) X (j := 0) (i := 0) (q := 0) (x := a0) rfl rfl (dl_at t_X6_isName 0 rfl) ?_
  refine r_getr (pc := 1) X fX6_3 hk q652 (dl_at t_X6_isName 1 rfl) ?_
  refine g_iload_n (pc := 4) X (j := 1) (i := 1) (q := 1) (x := a1) rfl rfl (dl_at t_X6_isName 2 rfl) ?_
  refine g_gd fun k5 => ?_
  refine r_callRi (pc := 5) X (fun _ hv => s_X4_length k5 r1 hv) cw_code q2022 q358 (in_Vk X (As := [iv a1]) kX4 k5 (Or.inr ⟨_, nw_in q2399 rfl⟩) q2021 qs40 cw_code q2022 ⟨by decide, by decide⟩ rfl (dl_at t_X6_isName 3 rfl)) (dl_at t_X6_isName 3 rfl) (cat24 (st := []) (Nat.le_of_ble_eq_true rfl)) (Nat.le_of_ble_eq_true rfl) (Nat.le_of_ble_eq_true rfl) fun v5 g5 => ?_
  refine g_aload_n (pc := 8) X (j := 2) (i := 2) (q := 2) (x := a2) rfl rfl (dl_at t_X6_isName 4 rfl) ?_
  refine r_slen (pc := 9) X q2180 (cat24 (st := [iv v5]) (Nat.le_of_ble_eq_true rfl)) (Nat.le_of_ble_eq_true rfl) (Nat.le_of_ble_eq_true rfl) (dl_at t_X6_isName 5 rfl) fun v9 g9 => ?_
  refine g_icmpeq (pc := 12) X g5 g9 (off := 5) (tgt := 17) rfl (dl_at t_X6_isName 6 rfl) (fun _ => ?_) (fun _ => ?_)
  · refine g_iconst (pc := 17) X (n := 0) (dl_at t_X6_isName 9 rfl) ?_
    refine g_ltz (Or.inl rfl) fun x3_18 r3_18 => ?_
    refine g_istore_nN (pc := 18) X (j := 3) (i := 3) (x := x3_18) (b := 2) (w := rv D a2) (rest := [(0, rv D a0), (1, iv a1)]) rfl (Nat.le_of_ble_eq_true rfl) [2, 0, 1] rfl (by decide) rv_cat rfl (dl_at t_X6_isName 10 rfl) ?_
    refine g_ls (ls2 := [(0, rv D a0), (1, iv a1), (2, rv D a2), (3, iv x3_18)]) [2, 3, 1, 0] rfl ?_
    refine g_loop0F (fun (q : Int) => [(0, rv D a0), (1, iv a1), (2, rv D a2), (3, iv q)]) (fun (q : Int) => h) (fun (q : Int) => r32 q) x3_18 (r32_z r3_18) ?_ (fun _ => rfl)
    · rintro x3_19 r3_19
      try dsimp only
      unfold m_X6_isName_l19
      refine g_iload_n (pc := 19) X (j := 3) (i := 3) (q := 3) (x := x3_19) rfl rfl (dl_at t_X6_isName 11 rfl) ?_
      refine g_aload_n (pc := 20) X (j := 2) (i := 2) (q := 2) (x := a2) rfl rfl (dl_at t_X6_isName 12 rfl) ?_
      refine r_slen (pc := 21) X q2180 (cat24 (st := [iv x3_19]) (Nat.le_of_ble_eq_true rfl)) (Nat.le_of_ble_eq_true rfl) (Nat.le_of_ble_eq_true rfl) (dl_at t_X6_isName 13 rfl) fun v21 g21 => ?_
      refine g_icmpge (pc := 24) X r3_19 g21 (off := 38) (tgt := 62) rfl (dl_at t_X6_isName 14 rfl) (fun _ => ?_) (fun _ => ?_)
      · refine g_iconst (pc := 62) X (n := 1) (dl_at t_X6_isName 34 rfl) ?_
        exact g_at fun Q hQ => (g_zret (pc := 63) X (Or.inr rfl) rfl rfl (dl_at t_X6_isName 35 rfl)) _ Q rfl hQ
      refine g_aload_n (pc := 27) X (j := 0) (i := 0) (q := 0) (x := a0) rfl rfl (dl_at t_X6_isName 15 rfl) ?_
      refine r_getr (pc := 28) X fX6_3 hk q652 (dl_at t_X6_isName 16 rfl) ?_
      refine r_getrN (pc := 31) X fX4_0 k5 (nw_in q468 rfl) (dl_at t_X6_isName 17 rfl) ?_
      refine g_aload_n (pc := 34) X (j := 0) (i := 0) (q := 0) (x := a0) rfl rfl (dl_at t_X6_isName 18 rfl) ?_
      refine r_getr (pc := 35) X fX6_3 hk q652 (dl_at t_X6_isName 19 rfl) ?_
      refine r_getrN (pc := 38) X fX4_2 k5 (nw_in q471 rfl) (dl_at t_X6_isName 20 rfl) ?_
      refine g_iload_n (pc := 41) X (j := 1) (i := 1) (q := 1) (x := a1) rfl rfl (dl_at t_X6_isName 21 rfl) ?_
      refine g_gd fun k42 => ?_
      refine g_iald (pc := 42) X r1 k42 (dl_at t_X6_isName 22 rfl) fun g42 => ?_
      refine g_iload_n (pc := 43) X (j := 3) (i := 3) (q := 3) (x := x3_19) rfl rfl (dl_at t_X6_isName 23 rfl) ?_
      refine g_iadd (pc := 44) X g42 r3_19 (dl_at t_X6_isName 24 rfl) ?_
      refine g_gd fun k45 => ?_
      refine g_bald (pc := 45) X (r32_w _) k45 (dl_at t_X6_isName 25 rfl) fun g45 => ?_
      refine g_aload_n (pc := 46) X (j := 2) (i := 2) (q := 2) (x := a2) rfl rfl (dl_at t_X6_isName 26 rfl) ?_
      refine g_iload_n (pc := 47) X (j := 3) (i := 3) (q := 3) (x := x3_19) rfl rfl (dl_at t_X6_isName 27 rfl) ?_
      refine r_sat (pc := 48) X r3_19 q2181 (cat24 (st := [iv (h (h (h a0 3) 0) (w32 ((h (h (h a0 3) 2) a1) + x3_19)))]) (Nat.le_of_ble_eq_true rfl)) (Nat.le_of_ble_eq_true rfl) (Nat.le_of_ble_eq_true rfl) (dl_at t_X6_isName 28 rfl) fun v48 g48 => ?_
      refine g_icmpeq (pc := 51) X (r32_b g45) g48 (off := 5) (tgt := 56) rfl (dl_at t_X6_isName 29 rfl) (fun _ => ?_) (fun _ => ?_)
      · refine r_iincN (pc := 56) X (i := 3) (q := 3) (n := 1) (x := x3_19) (b := 2) (w := rv D a2) (rest := [(0, rv D a0), (1, iv a1)]) rfl r3_19 (r32_c rfl) (Nat.le_of_ble_eq_true rfl) [2, 0, 1] rfl (by decide) rv_cat rfl (dl_at t_X6_isName 32 rfl) fun x3_56 r3_56 => ?_
        refine g_goto (pc := 59) X (off := (-40)) (tgt := 19) rfl (dl_at t_X6_isName 33 rfl) ?_
        refine g_ls (ls2 := [(0, rv D a0), (1, iv a1), (2, rv D a2), (3, iv x3_56)]) [2, 3, 1, 0] rfl ?_
        exact g_at fun Q hQ => hQ r3_56
      refine g_iconst (pc := 54) X (n := 0) (dl_at t_X6_isName 30 rfl) ?_
      exact g_at fun Q hQ => (g_zret (pc := 55) X (Or.inl rfl) rfl rfl (dl_at t_X6_isName 31 rfl)) _ Q rfl hQ
  refine g_iconst (pc := 15) X (n := 0) (dl_at t_X6_isName 7 rfl) ?_
  exact g_zret (pc := 16) X (Or.inl rfl) rfl rfl (dl_at t_X6_isName 8 rfl)
def k_X6_fieldOf : List (Nat × Instr × Nat) := [(0, .iload_n 1, 1), (1, .iconst 1, 1), (2, .iadd, 1), (3, .aload_n 0, 1), (4, .getfield 96, 3), (7, .if_icmp .ge 14, 3), (10, .aload_n 0, 1), (11, .getfield 53, 3), (14, .iload_n 1, 1), (15, .iconst 1, 1), (16, .iadd, 1), (17, .iaload, 1), (18, .goto 7, 3), (21, .aload_n 0, 1), (22, .getfield 99, 3), (25, .istore_n 3, 1), (26, .aload_n 0, 1), (27, .getfield 53, 3), (30, .iload_n 1, 1), (31, .iaload, 1), (32, .istore 4, 2), (34, .iload 4, 2), (36, .iload_n 3, 1), (37, .if_icmp .ge 27, 3), (40, .aload_n 0, 1), (41, .aload_n 0, 1), (42, .getfield 56, 3), (45, .iload 4, 2), (47, .iaload, 1), (48, .aload_n 2, 1), (49, .invokevirtual 216, 3), (52, .ifCond .eq 6, 3), (55, .iload 4, 2), (57, .ireturn, 1), (58, .iinc 4 1, 3), (61, .goto (-27), 3), (64, .iconst (-1), 1), (65, .ireturn, 1)]
theorem t_X6_fieldOf : ∀ q ∈ k_X6_fieldOf, decode cX6_fieldOf q.1 = .ok q.2 := dl_all (by decide +kernel)
noncomputable def m_X6_fieldOf_l34 (a0 a2 s0_25 x4_34 : Int) (h : Hp) : Option ((Int) ⊕ ((Int))) :=
  if s0_25 ≤ x4_34 then (some (.inr (-1)))
  else (gd (h (h a0 15) (-2) % 16 = 1 ∧ (0 : Int) ≤ x4_34 ∧ x4_34 < h (h a0 15) (-1)) ((m_X6_isName a0 (h (h a0 15) x4_34) a2 h).bind fun v49 =>
  if v49 = 0 then (lt_ (w32 (x4_34 + 1)) fun x4_58 =>
  some (.inl x4_58))
  else (some (.inr x4_34))))
noncomputable def m_X6_fieldOf_j25 (a0 a1 a2 s0_25 : Int) (h : Hp) : Option (Int) :=
  gd (h (h a0 14) (-2) % 16 = 1 ∧ (0 : Int) ≤ a1 ∧ a1 < h (h a0 14) (-1)) (lt_ (h (h a0 14) a1) fun x4_32 =>
  (lp (fun (q : Int) => m_X6_fieldOf_l34 a0 a2 s0_25 q h) x4_32).bind (fun (x : Int) => some x))
noncomputable def m_X6_fieldOf (a0 a1 a2 : Int) (h : Hp) : Option (Int) :=
  if (h a0 4) ≤ (w32 (a1 + 1)) then (m_X6_fieldOf_j25 a0 a1 a2 (h a0 18) h)
  else (gd (h (h a0 14) (-2) % 16 = 1 ∧ (0 : Int) ≤ (w32 (a1 + 1)) ∧ (w32 (a1 + 1)) < h (h a0 14) (-1)) (m_X6_fieldOf_j25 a0 a1 a2 (h (h a0 14) (w32 (a1 + 1))) h))
theorem s_X6_fieldOf {l : Launch} [NoTr l] {D : SD} {a0 a1 a2 : Int} {h : Hp} (hk : h a0 (-2) = 96) (r1 : r32 a1) {r : Int} (hm : m_X6_fieldOf a0 a1 a2 h = some r) : Sim l D yX6_fieldOf (Cond.code yX6_fieldOf cX6_fieldOf 5 (Option.some Jvm.ClassFile.FieldType.int)) 5 239 [rv D a0, iv a1, rv D a2] h 1 ((0, r), h) := by
  refine Sim.of (fin := fun (v : Int) => ((0, v), h)) (lsE := [(0, rv D a0), (1, iv a1), (2, rv D a2)]) hm rfl cwS_code (la_r (la_i (la_r la_n))) (ll_r (ll_i (ll_r ll_n))) ?_
  intro p e s m below meth c X hcw hmm hcc hnm hname
  unfold m_X6_fieldOf
  refine g_iload_n (pc := 0) X (j := 1) (i := 1) (q := 1) (x := a1) rfl rfl (dl_at t_X6_fieldOf 0 rfl) ?_
  refine g_iconst (pc := 1) X (n := 1) (dl_at t_X6_fieldOf 1 rfl) ?_
  refine g_iadd (pc := 2) X r1 (r32_c rfl) (dl_at t_X6_fieldOf 2 rfl) ?_
  refine g_aload_n (pc := 3) X (j := 0) (i := 0) (q := 0) (x := a0) rfl rfl (dl_at t_X6_fieldOf 3 rfl) ?_
  refine r_geti (pc := 4) X fX6_4 hk q655 (dl_at t_X6_fieldOf 4 rfl) fun g4 => ?_
  refine g_join (γ := Int) (fun q => r32 q) 25 (fun q => [(0, rv D a0), (1, iv a1), (2, rv D a2)]) (fun q => [iv q]) (fun q => h) (fun q => m_X6_fieldOf_j25 a0 a1 a2 q h) ?_ ?_
  · rintro s0_25 rs0_25
    try dsimp only
    unfold m_X6_fieldOf_j25
    refine g_istore_nN (pc := 25) X (j := 3) (i := 3) (x := s0_25) (b := 2) (w := rv D a2) (rest := [(0, rv D a0), (1, iv a1)]) rfl (Nat.le_of_ble_eq_true rfl) [2, 0, 1] rfl (by decide) rv_cat rfl (dl_at t_X6_fieldOf 15 rfl) ?_
    refine g_aload_n (pc := 26) X (j := 0) (i := 0) (q := 2) (x := a0) rfl rfl (dl_at t_X6_fieldOf 16 rfl) ?_
    refine r_getr (pc := 27) X fX6_14 hk q676 (dl_at t_X6_fieldOf 17 rfl) ?_
    refine g_iload_n (pc := 30) X (j := 1) (i := 1) (q := 3) (x := a1) rfl rfl (dl_at t_X6_fieldOf 18 rfl) ?_
    refine g_gd fun k31 => ?_
    refine g_iald (pc := 31) X r1 k31 (dl_at t_X6_fieldOf 19 rfl) fun g31 => ?_
    refine g_lti g31 fun x4_32 r4_32 => ?_
    refine g_istoreN (pc := 32) X (i := 4) (x := x4_32) (b := 3) (w := iv s0_25) (rest := [(2, rv D a2), (0, rv D a0)]) (Nat.le_of_ble_eq_true rfl) [0, 1, 2] rfl (by decide) rfl rfl (dl_at t_X6_fieldOf 20 rfl) ?_
    refine g_ls (ls2 := [(0, rv D a0), (2, rv D a2), (3, iv s0_25), (4, iv x4_32)]) [3, 2, 1, 0] rfl ?_
    refine g_loop0F (fun (q : Int) => [(0, rv D a0), (2, rv D a2), (3, iv s0_25), (4, iv q)]) (fun (q : Int) => h) (fun (q : Int) => r32 q) x4_32 r4_32 ?_ (fun _ => rfl)
    · rintro x4_34 r4_34
      try dsimp only
      unfold m_X6_fieldOf_l34
      refine g_iload (pc := 34) X (i := 4) (q := 3) (x := x4_34) rfl (dl_at t_X6_fieldOf 21 rfl) ?_
      refine g_iload_n (pc := 36) X (j := 3) (i := 3) (q := 2) (x := s0_25) rfl rfl (dl_at t_X6_fieldOf 22 rfl) ?_
      refine g_icmpge (pc := 37) X r4_34 rs0_25 (off := 27) (tgt := 64) rfl (dl_at t_X6_fieldOf 23 rfl) (fun _ => ?_) (fun _ => ?_)
      · refine g_iconst (pc := 64) X (n := (-1)) (dl_at t_X6_fieldOf 36 rfl) ?_
        exact g_at fun Q hQ => (g_iret (pc := 65) X (r32_c rfl) rfl rfl (dl_at t_X6_fieldOf 37 rfl)) _ Q rfl hQ
      refine g_aload_n (pc := 40) X (j := 0) (i := 0) (q := 0) (x := a0) rfl rfl (dl_at t_X6_fieldOf 24 rfl) ?_
      refine g_aload_n (pc := 41) X (j := 0) (i := 0) (q := 0) (x := a0) rfl rfl (dl_at t_X6_fieldOf 25 rfl) ?_
      refine r_getr (pc := 42) X fX6_15 hk q678 (dl_at t_X6_fieldOf 26 rfl) ?_
      refine g_iload (pc := 45) X (i := 4) (q := 3) (x := x4_34) rfl (dl_at t_X6_fieldOf 27 rfl) ?_
      refine g_gd fun k47 => ?_
      refine g_iald (pc := 47) X r4_34 k47 (dl_at t_X6_fieldOf 28 rfl) fun g47 => ?_
      refine g_aload_n (pc := 48) X (j := 2) (i := 2) (q := 1) (x := a2) rfl rfl (dl_at t_X6_fieldOf 29 rfl) ?_
      refine r_callRz (pc := 49) X (fun _ hv => s_X6_isName hk g47 hv) cw_code q2398 q360 (in_Vk X (As := [iv (h (h a0 15) x4_34), rv D a2]) kX6 hk (Or.inl q2395) q2397 qs98 cw_code q2398 ⟨by decide, by decide⟩ rfl (dl_at t_X6_fieldOf 30 rfl)) (dl_at t_X6_fieldOf 30 rfl) (cat24 (st := []) (Nat.le_of_ble_eq_true rfl)) (Nat.le_of_ble_eq_true rfl) (Nat.le_of_ble_eq_true rfl) fun v49 g49 => ?_
      refine g_ifeq (pc := 52) X (r32_z g49) (off := 6) (tgt := 58) rfl (dl_at t_X6_fieldOf 31 rfl) (fun _ => ?_) (fun _ => ?_)
      · refine r_iincN (pc := 58) X (i := 4) (q := 3) (n := 1) (x := x4_34) (b := 3) (w := iv s0_25) (rest := [(0, rv D a0), (2, rv D a2)]) rfl r4_34 (r32_c rfl) (Nat.le_of_ble_eq_true rfl) [2, 0, 1] rfl (by decide) rfl rfl (dl_at t_X6_fieldOf 34 rfl) fun x4_58 r4_58 => ?_
        refine g_goto (pc := 61) X (off := (-27)) (tgt := 34) rfl (dl_at t_X6_fieldOf 35 rfl) ?_
        refine g_ls (ls2 := [(0, rv D a0), (2, rv D a2), (3, iv s0_25), (4, iv x4_58)]) [2, 3, 1, 0] rfl ?_
        exact g_at fun Q hQ => hQ r4_58
      refine g_iload (pc := 55) X (i := 4) (q := 3) (x := x4_34) rfl (dl_at t_X6_fieldOf 32 rfl) ?_
      exact g_at fun Q hQ => (g_iret (pc := 57) X r4_34 rfl rfl (dl_at t_X6_fieldOf 33 rfl)) _ Q rfl hQ
  intro J25
  refine g_icmpge (pc := 7) X (r32_w _) g4 (off := 14) (tgt := 21) rfl (dl_at t_X6_fieldOf 5 rfl) (fun _ => ?_) (fun _ => ?_)
  · refine g_aload_n (pc := 21) X (j := 0) (i := 0) (q := 0) (x := a0) rfl rfl (dl_at t_X6_fieldOf 13 rfl) ?_
    refine r_geti (pc := 22) X fX6_18 hk q685 (dl_at t_X6_fieldOf 14 rfl) fun g22 => ?_
    exact J25 (h a0 18) g22
  refine g_aload_n (pc := 10) X (j := 0) (i := 0) (q := 0) (x := a0) rfl rfl (dl_at t_X6_fieldOf 6 rfl) ?_
  refine r_getr (pc := 11) X fX6_14 hk q676 (dl_at t_X6_fieldOf 7 rfl) ?_
  refine g_iload_n (pc := 14) X (j := 1) (i := 1) (q := 1) (x := a1) rfl rfl (dl_at t_X6_fieldOf 8 rfl) ?_
  refine g_iconst (pc := 15) X (n := 1) (dl_at t_X6_fieldOf 9 rfl) ?_
  refine g_iadd (pc := 16) X r1 (r32_c rfl) (dl_at t_X6_fieldOf 10 rfl) ?_
  refine g_gd fun k17 => ?_
  refine g_iald (pc := 17) X (r32_w _) k17 (dl_at t_X6_fieldOf 11 rfl) fun g17 => ?_
  refine g_goto (pc := 18) X (off := 7) (tgt := 25) rfl (dl_at t_X6_fieldOf 12 rfl) ?_
  exact J25 (h (h a0 14) (w32 (a1 + 1))) g17
def k_X7_isMute : List (Nat × Instr × Nat) := [(0, .aload_n 0, 1), (1, .getfield 30, 3), (4, .iload_n 1, 1), (5, .iaload, 1), (6, .istore_n 2, 1), (7, .aload_n 0, 1), (8, .getfield 23, 3), (11, .iload_n 1, 1), (12, .baload, 1), (13, .ifCond .eq 37, 3), (16, .iload_n 2, 1), (17, .iconst 5, 1), (18, .if_icmp .eq 32, 3), (21, .iload_n 2, 1), (22, .bipush 6, 2), (24, .if_icmp .eq 26, 3), (27, .iload_n 2, 1), (28, .bipush 8, 2), (30, .if_icmp .eq 20, 3), (33, .iload_n 2, 1), (34, .bipush 9, 2), (36, .if_icmp .eq 14, 3), (39, .iload_n 2, 1), (40, .iconst 4, 1), (41, .if_icmp .eq 9, 3), (44, .iload_n 2, 1), (45, .bipush 10, 2), (47, .if_icmp .ne 7, 3), (50, .iconst 1, 1), (51, .goto 4, 3), (54, .iconst 0, 1), (55, .ireturn, 1)]
theorem t_X7_isMute : ∀ q ∈ k_X7_isMute, decode cX7_isMute q.1 = .ok q.2 := dl_all (by decide +kernel)
noncomputable def m_X7_isMute (a0 a1 : Int) (h : Hp) : Option (Int) :=
  gd (h (h a0 8) (-2) % 16 = 1 ∧ (0 : Int) ≤ a1 ∧ a1 < h (h a0 8) (-1)) (lt_ (h (h a0 8) a1) fun x2_6 =>
  gd (h (h a0 6) (-2) % 16 = 3 ∧ (0 : Int) ≤ a1 ∧ a1 < h (h a0 6) (-1)) (if (h (h a0 6) a1) = 0 then (some 1)
  else (if x2_6 = 5 then (some 1)
  else (if x2_6 = 6 then (some 1)
  else (if x2_6 = 8 then (some 1)
  else (if x2_6 = 9 then (some 1)
  else (if x2_6 = 4 then (some 1)
  else (if x2_6 ≠ 10 then (some 0)
  else (some 1)))))))))
theorem s_X7_isMute {l : Launch} [NoTr l] {D : SD} {a0 a1 : Int} {h : Hp} (hk : h a0 (-2) = 112) (r1 : r32 a1) {r : Int} (hm : m_X7_isMute a0 a1 h = some r) : Sim l D yX7_isMute (Cond.code yX7_isMute cX7_isMute 3 (Option.some Jvm.ClassFile.FieldType.boolean)) 0 0 [rv D a0, iv a1] h 3 ((0, r), h) := by
  refine Sim.of (fin := fun (v : Int) => ((0, v), h)) (lsE := [(0, rv D a0), (1, iv a1)]) hm rfl cwS_code (la_r (la_i la_n)) (ll_r (ll_i ll_n)) ?_
  intro p e s m below meth c X hcw hmm hcc hnm hname
  unfold m_X7_isMute
  refine g_aload_n (pc := 0) X (j := 0) (i := 0) (q := 0) (x := a0) rfl rfl (dl_at t_X7_isMute 0 rfl) ?_
  refine r_getr (pc := 1) X fX7_8 hk q796 (dl_at t_X7_isMute 1 rfl) ?_
  refine g_iload_n (pc := 4) X (j := 1) (i := 1) (q := 1) (x := a1) rfl rfl (dl_at t_X7_isMute 2 rfl) ?_
  refine g_gd fun k5 => ?_
  refine g_iald (pc := 5) X r1 k5 (dl_at t_X7_isMute 3 rfl) fun g5 => ?_
  refine g_lti g5 fun x2_6 r2_6 => ?_
  refine g_istore_nN (pc := 6) X (j := 2) (i := 2) (x := x2_6) (b := 1) (w := iv a1) (rest := [(0, rv D a0)]) rfl (Nat.le_of_ble_eq_true rfl) [1, 0] rfl (by decide) rfl rfl (dl_at t_X7_isMute 4 rfl) ?_
  refine g_aload_n (pc := 7) X (j := 0) (i := 0) (q := 2) (x := a0) rfl rfl (dl_at t_X7_isMute 5 rfl) ?_
  refine r_getr (pc := 8) X fX7_6 hk q789 (dl_at t_X7_isMute 6 rfl) ?_
  refine g_iload_n (pc := 11) X (j := 1) (i := 1) (q := 1) (x := a1) rfl rfl (dl_at t_X7_isMute 7 rfl) ?_
  refine g_gd fun k12 => ?_
  refine g_zald (pc := 12) X r1 k12 (dl_at t_X7_isMute 8 rfl) fun g12 => ?_
  refine g_ifeq (pc := 13) X (r32_z g12) (off := 37) (tgt := 50) rfl (dl_at t_X7_isMute 9 rfl) (fun _ => ?_) (fun _ => ?_)
  · refine g_iconst (pc := 50) X (n := 1) (dl_at t_X7_isMute 28 rfl) ?_
    refine g_goto (pc := 51) X (off := 4) (tgt := 55) rfl (dl_at t_X7_isMute 29 rfl) ?_
    exact g_zret (pc := 55) X (Or.inr rfl) rfl rfl (dl_at t_X7_isMute 31 rfl)
  refine g_iload_n (pc := 16) X (j := 2) (i := 2) (q := 0) (x := x2_6) rfl rfl (dl_at t_X7_isMute 10 rfl) ?_
  refine g_iconst (pc := 17) X (n := 5) (dl_at t_X7_isMute 11 rfl) ?_
  refine g_icmpeq (pc := 18) X r2_6 (r32_c rfl) (off := 32) (tgt := 50) rfl (dl_at t_X7_isMute 12 rfl) (fun _ => ?_) (fun _ => ?_)
  · refine g_iconst (pc := 50) X (n := 1) (dl_at t_X7_isMute 28 rfl) ?_
    refine g_goto (pc := 51) X (off := 4) (tgt := 55) rfl (dl_at t_X7_isMute 29 rfl) ?_
    exact g_zret (pc := 55) X (Or.inr rfl) rfl rfl (dl_at t_X7_isMute 31 rfl)
  refine g_iload_n (pc := 21) X (j := 2) (i := 2) (q := 0) (x := x2_6) rfl rfl (dl_at t_X7_isMute 13 rfl) ?_
  refine g_bipush (pc := 22) X (n := 6) rfl (dl_at t_X7_isMute 14 rfl) ?_
  refine g_icmpeq (pc := 24) X r2_6 (r32_c rfl) (off := 26) (tgt := 50) rfl (dl_at t_X7_isMute 15 rfl) (fun _ => ?_) (fun _ => ?_)
  · refine g_iconst (pc := 50) X (n := 1) (dl_at t_X7_isMute 28 rfl) ?_
    refine g_goto (pc := 51) X (off := 4) (tgt := 55) rfl (dl_at t_X7_isMute 29 rfl) ?_
    exact g_zret (pc := 55) X (Or.inr rfl) rfl rfl (dl_at t_X7_isMute 31 rfl)
  refine g_iload_n (pc := 27) X (j := 2) (i := 2) (q := 0) (x := x2_6) rfl rfl (dl_at t_X7_isMute 16 rfl) ?_
  refine g_bipush (pc := 28) X (n := 8) rfl (dl_at t_X7_isMute 17 rfl) ?_
  refine g_icmpeq (pc := 30) X r2_6 (r32_c rfl) (off := 20) (tgt := 50) rfl (dl_at t_X7_isMute 18 rfl) (fun _ => ?_) (fun _ => ?_)
  · refine g_iconst (pc := 50) X (n := 1) (dl_at t_X7_isMute 28 rfl) ?_
    refine g_goto (pc := 51) X (off := 4) (tgt := 55) rfl (dl_at t_X7_isMute 29 rfl) ?_
    exact g_zret (pc := 55) X (Or.inr rfl) rfl rfl (dl_at t_X7_isMute 31 rfl)
  refine g_iload_n (pc := 33) X (j := 2) (i := 2) (q := 0) (x := x2_6) rfl rfl (dl_at t_X7_isMute 19 rfl) ?_
  refine g_bipush (pc := 34) X (n := 9) rfl (dl_at t_X7_isMute 20 rfl) ?_
  refine g_icmpeq (pc := 36) X r2_6 (r32_c rfl) (off := 14) (tgt := 50) rfl (dl_at t_X7_isMute 21 rfl) (fun _ => ?_) (fun _ => ?_)
  · refine g_iconst (pc := 50) X (n := 1) (dl_at t_X7_isMute 28 rfl) ?_
    refine g_goto (pc := 51) X (off := 4) (tgt := 55) rfl (dl_at t_X7_isMute 29 rfl) ?_
    exact g_zret (pc := 55) X (Or.inr rfl) rfl rfl (dl_at t_X7_isMute 31 rfl)
  refine g_iload_n (pc := 39) X (j := 2) (i := 2) (q := 0) (x := x2_6) rfl rfl (dl_at t_X7_isMute 22 rfl) ?_
  refine g_iconst (pc := 40) X (n := 4) (dl_at t_X7_isMute 23 rfl) ?_
  refine g_icmpeq (pc := 41) X r2_6 (r32_c rfl) (off := 9) (tgt := 50) rfl (dl_at t_X7_isMute 24 rfl) (fun _ => ?_) (fun _ => ?_)
  · refine g_iconst (pc := 50) X (n := 1) (dl_at t_X7_isMute 28 rfl) ?_
    refine g_goto (pc := 51) X (off := 4) (tgt := 55) rfl (dl_at t_X7_isMute 29 rfl) ?_
    exact g_zret (pc := 55) X (Or.inr rfl) rfl rfl (dl_at t_X7_isMute 31 rfl)
  refine g_iload_n (pc := 44) X (j := 2) (i := 2) (q := 0) (x := x2_6) rfl rfl (dl_at t_X7_isMute 25 rfl) ?_
  refine g_bipush (pc := 45) X (n := 10) rfl (dl_at t_X7_isMute 26 rfl) ?_
  refine g_icmpne (pc := 47) X r2_6 (r32_c rfl) (off := 7) (tgt := 54) rfl (dl_at t_X7_isMute 27 rfl) (fun _ => ?_) (fun _ => ?_)
  · refine g_iconst (pc := 54) X (n := 0) (dl_at t_X7_isMute 30 rfl) ?_
    exact g_zret (pc := 55) X (Or.inl rfl) rfl rfl (dl_at t_X7_isMute 31 rfl)
  refine g_iconst (pc := 50) X (n := 1) (dl_at t_X7_isMute 28 rfl) ?_
  refine g_goto (pc := 51) X (off := 4) (tgt := 55) rfl (dl_at t_X7_isMute 29 rfl) ?_
  exact g_zret (pc := 55) X (Or.inr rfl) rfl rfl (dl_at t_X7_isMute 31 rfl)
def k_X7_hasLabel : List (Nat × Instr × Nat) := [(0, .aload_n 0, 1), (1, .iload_n 1, 1), (2, .bipush 17, 2), (4, .invokevirtual 131, 3), (7, .ifCond .lt 24, 3), (10, .aload_n 0, 1), (11, .getfield 23, 3), (14, .iload_n 1, 1), (15, .baload, 1), (16, .ifCond .eq 15, 3), (19, .aload_n 0, 1), (20, .iload_n 1, 1), (21, .invokevirtual 255, 3), (24, .ifCond .ne 7, 3), (27, .iconst 1, 1), (28, .goto 4, 3), (31, .iconst 0, 1), (32, .ireturn, 1)]
theorem t_X7_hasLabel : ∀ q ∈ k_X7_hasLabel, decode cX7_hasLabel q.1 = .ok q.2 := dl_all (by decide +kernel)
noncomputable def m_X7_hasLabel (a0 a1 : Int) (h : Hp) : Option (Int) :=
  (m_X7_property a0 a1 17 h).bind fun v4 =>
  if v4 < 0 then (some 0)
  else (gd (h (h a0 6) (-2) % 16 = 3 ∧ (0 : Int) ≤ a1 ∧ a1 < h (h a0 6) (-1)) (if (h (h a0 6) a1) = 0 then (some 0)
  else ((m_X7_isMute a0 a1 h).bind fun v21 =>
  if v21 ≠ 0 then (some 0)
  else (some 1))))
theorem s_X7_hasLabel {l : Launch} [NoTr l] {D : SD} {a0 a1 : Int} {h : Hp} (hk : h a0 (-2) = 112) (r1 : r32 a1) {r : Int} (hm : m_X7_hasLabel a0 a1 h = some r) : Sim l D yX7_hasLabel (Cond.code yX7_hasLabel cX7_hasLabel 2 (Option.some Jvm.ClassFile.FieldType.boolean)) 2 74 [rv D a0, iv a1] h 3 ((0, r), h) := by
  refine Sim.of (fin := fun (v : Int) => ((0, v), h)) (lsE := [(0, rv D a0), (1, iv a1)]) hm rfl cwS_code (la_r (la_i la_n)) (ll_r (ll_i ll_n)) ?_
  intro p e s m below meth c X hcw hmm hcc hnm hname
  unfold m_X7_hasLabel
  refine g_aload_n (pc := 0) X (j := 0) (i := 0) (q := 0) (x := a0) rfl rfl (dl_at t_X7_hasLabel 0 rfl) ?_
  refine g_iload_n (pc := 1) X (j := 1) (i := 1) (q := 1) (x := a1) rfl rfl (dl_at t_X7_hasLabel 1 rfl) ?_
  refine g_bipush (pc := 2) X (n := 17) rfl (dl_at t_X7_hasLabel 2 rfl) ?_
  refine r_callRi (pc := 4) X (fun _ hv => s_X7_property hk r1 (r32_c rfl) hv) cw_code q2332 q361 (in_Vk X (As := [iv a1, iv 17]) kX7 hk (Or.inl q2329) q2331 qs84 cw_code q2332 ⟨by decide, by decide⟩ rfl (dl_at t_X7_hasLabel 3 rfl)) (dl_at t_X7_hasLabel 3 rfl) (cat24 (st := []) (Nat.le_of_ble_eq_true rfl)) (Nat.le_of_ble_eq_true rfl) (Nat.le_of_ble_eq_true rfl) fun v4 g4 => ?_
  refine g_iflt (pc := 7) X g4 (off := 24) (tgt := 31) rfl (dl_at t_X7_hasLabel 4 rfl) (fun _ => ?_) (fun _ => ?_)
  · refine g_iconst (pc := 31) X (n := 0) (dl_at t_X7_hasLabel 16 rfl) ?_
    exact g_zret (pc := 32) X (Or.inl rfl) rfl rfl (dl_at t_X7_hasLabel 17 rfl)
  refine g_aload_n (pc := 10) X (j := 0) (i := 0) (q := 0) (x := a0) rfl rfl (dl_at t_X7_hasLabel 5 rfl) ?_
  refine r_getr (pc := 11) X fX7_6 hk q789 (dl_at t_X7_hasLabel 6 rfl) ?_
  refine g_iload_n (pc := 14) X (j := 1) (i := 1) (q := 1) (x := a1) rfl rfl (dl_at t_X7_hasLabel 7 rfl) ?_
  refine g_gd fun k15 => ?_
  refine g_zald (pc := 15) X r1 k15 (dl_at t_X7_hasLabel 8 rfl) fun g15 => ?_
  refine g_ifeq (pc := 16) X (r32_z g15) (off := 15) (tgt := 31) rfl (dl_at t_X7_hasLabel 9 rfl) (fun _ => ?_) (fun _ => ?_)
  · refine g_iconst (pc := 31) X (n := 0) (dl_at t_X7_hasLabel 16 rfl) ?_
    exact g_zret (pc := 32) X (Or.inl rfl) rfl rfl (dl_at t_X7_hasLabel 17 rfl)
  refine g_aload_n (pc := 19) X (j := 0) (i := 0) (q := 0) (x := a0) rfl rfl (dl_at t_X7_hasLabel 10 rfl) ?_
  refine g_iload_n (pc := 20) X (j := 1) (i := 1) (q := 1) (x := a1) rfl rfl (dl_at t_X7_hasLabel 11 rfl) ?_
  refine r_callRz (pc := 21) X (fun _ hv => s_X7_isMute hk r1 hv) cw_code q2420 q361 (in_Vk X (As := [iv a1]) kX7 hk (Or.inl q2417) q2419 qs103 cw_code q2420 ⟨by decide, by decide⟩ rfl (dl_at t_X7_hasLabel 12 rfl)) (dl_at t_X7_hasLabel 12 rfl) (cat24 (st := []) (Nat.le_of_ble_eq_true rfl)) (Nat.le_of_ble_eq_true rfl) (Nat.le_of_ble_eq_true rfl) fun v21 g21 => ?_
  refine g_ifne (pc := 24) X (r32_z g21) (off := 7) (tgt := 31) rfl (dl_at t_X7_hasLabel 13 rfl) (fun _ => ?_) (fun _ => ?_)
  · refine g_iconst (pc := 31) X (n := 0) (dl_at t_X7_hasLabel 16 rfl) ?_
    exact g_zret (pc := 32) X (Or.inl rfl) rfl rfl (dl_at t_X7_hasLabel 17 rfl)
  refine g_iconst (pc := 27) X (n := 1) (dl_at t_X7_hasLabel 14 rfl) ?_
  refine g_goto (pc := 28) X (off := 4) (tgt := 32) rfl (dl_at t_X7_hasLabel 15 rfl) ?_
  exact g_zret (pc := 32) X (Or.inr rfl) rfl rfl (dl_at t_X7_hasLabel 17 rfl)
def k_X7_digit : List (Nat × Instr × Nat) := [(0, .iload_n 1, 1), (1, .bipush 9, 2), (3, .if_icmp .eq 8, 3), (6, .iload_n 1, 1), (7, .iconst 4, 1), (8, .if_icmp .ne 25, 3), (11, .aload_n 0, 1), (12, .iload_n 2, 1), (13, .invokevirtual 244, 3), (16, .aload_n 0, 1), (17, .iload_n 1, 1), (18, .bipush 9, 2), (20, .if_icmp .ne 8, 3), (23, .iload 4, 2), (25, .goto 4, 3), (28, .iload_n 3, 1), (29, .invokevirtual 244, 3), (32, .return_, 1), (33, .iload_n 1, 1), (34, .iconst 5, 1), (35, .if_icmp .lt 8, 3), (38, .aload_n 0, 1), (39, .iload_n 3, 1), (40, .invokevirtual 244, 3), (43, .iconst 0, 1), (44, .istore 5, 2), (46, .iload 5, 2), (48, .iload_n 1, 1), (49, .iconst 5, 1), (50, .irem, 1), (51, .if_icmp .ge 14, 3), (54, .aload_n 0, 1), (55, .iload_n 2, 1), (56, .invokevirtual 244, 3), (59, .iinc 5 1, 3), (62, .goto (-16), 3), (65, .return_, 1)]
theorem t_X7_digit : ∀ q ∈ k_X7_digit, decode cX7_digit q.1 = .ok q.2 := dl_all (by decide +kernel)
noncomputable def m_X7_digit_j11 (a0 a1 a2 a3 a4 : Int) (h : Hp) : Option ((Int × Int) × Hp) :=
  gd (h a0 (-2) = 80) (bT (m_X5_add a0 a2 h) (fun _ h13 =>
  if a1 ≠ 9 then (bT (m_X5_add a0 a3 h13) (fun _ h29 =>
  some ((0, 0), h29)) (fun a_ h_ => some ((1, a_), h_)))
  else (bT (m_X5_add a0 a4 h13) (fun _ h29_1 =>
  some ((0, 0), h29_1)) (fun a_ h_ => some ((1, a_), h_)))) (fun a_ h_ => some ((1, a_), h_)))
noncomputable def m_X7_digit_l46 (a0 a1 a2 x5_46 : Int) (h_46 : Hp) : Option ((Int × Hp) ⊕ (((Int × Int) × Hp))) :=
  if (Int.tmod a1 5) ≤ x5_46 then (some (.inr ((0, 0), h_46)))
  else (gd (h_46 a0 (-2) = 80) (bT (m_X5_add a0 a2 h_46) (fun _ h56 =>
  lt_ (w32 (x5_46 + 1)) fun x5_59 =>
  some (.inl (x5_59, h56))) (fun a_ h_ => some (.inr ((1, a_), h_)))))
noncomputable def m_X7_digit_j43 (a0 a1 a2 : Int) (h_43 : Hp) : Option ((Int × Int) × Hp) :=
  lt_ 0 fun x5_44 =>
  (lp (fun (q : Int × Hp) => m_X7_digit_l46 a0 a1 a2 q.1 q.2) (x5_44, h_43)).bind (fun (x : (Int × Int) × Hp) => some x)
noncomputable def m_X7_digit (a0 a1 a2 a3 a4 : Int) (h : Hp) : Option ((Int × Int) × Hp) :=
  if a1 = 9 then (m_X7_digit_j11 a0 a1 a2 a3 a4 h)
  else (if a1 ≠ 4 then (if a1 < 5 then (m_X7_digit_j43 a0 a1 a2 h)
  else (gd (h a0 (-2) = 80) (bT (m_X5_add a0 a3 h) (fun _ h40 =>
  m_X7_digit_j43 a0 a1 a2 h40) (fun a_ h_ => some ((1, a_), h_)))))
  else (m_X7_digit_j11 a0 a1 a2 a3 a4 h))
theorem s_X7_digit {l : Launch} [NoTr l] {D : SD} {a0 a1 a2 a3 a4 : Int} {h : Hp} (r1 : r32 a1) (r2 : r32 a2) (r3 : r32 a3) (r4 : r32 a4) {r : (Int × Int) × Hp} (hm : m_X7_digit a0 a1 a2 a3 a4 h = some r) : Sim l D yX7_digit (Cond.code yX7_digit cX7_digit 6 (Option.none : Option Jvm.ClassFile.FieldType)) 11 409 [rv D a0, iv a1, iv a2, iv a3, iv a4] h 0 r := by
  refine Sim.of (fin := fun (v : (Int × Int) × Hp) => v) (lsE := [(0, rv D a0), (1, iv a1), (2, iv a2), (3, iv a3), (4, iv a4)]) hm rfl cwS_code (la_r (la_i (la_i (la_i (la_i la_n))))) (ll_r (ll_i (ll_i (ll_i (ll_i ll_n))))) ?_
  intro p e s m below meth c X hcw hmm hcc hnm hname
  have hno := noh hcw hnm hmm hcc
  unfold m_X7_digit
  refine g_iload_n (pc := 0) X (j := 1) (i := 1) (q := 1) (x := a1) rfl rfl (dl_at t_X7_digit 0 rfl) ?_
  refine g_bipush (pc := 1) X (n := 9) rfl (dl_at t_X7_digit 1 rfl) ?_
  refine g_join (γ := Unit) (fun q => True) 11 (fun q => [(0, rv D a0), (1, iv a1), (2, iv a2), (3, iv a3), (4, iv a4)]) (fun q => []) (fun q => h) (fun q => m_X7_digit_j11 a0 a1 a2 a3 a4 h) ?_ ?_
  · rintro _ _
    try dsimp only
    unfold m_X7_digit_j11
    refine g_aload_n (pc := 11) X (j := 0) (i := 0) (q := 0) (x := a0) rfl rfl (dl_at t_X7_digit 6 rfl) ?_
    refine g_iload_n (pc := 12) X (j := 2) (i := 2) (q := 2) (x := a2) rfl rfl (dl_at t_X7_digit 7 rfl) ?_
    refine g_gd fun k13 => ?_
    refine r_callTv (pc := 13) X (fun _ hv => s_X5_add k13 r2 hv) cw_code q2038 q359 (in_Vk X (As := [iv a2]) kX5 k13 (Or.inr ⟨_, nw_in q2431 rfl⟩) q2037 qs44 cw_code q2038 ⟨by decide, by decide⟩ rfl (dl_at t_X7_digit 8 rfl)) (dl_at t_X7_digit 8 rfl) (cat24 (st := []) (Nat.le_of_ble_eq_true rfl)) (Nat.le_of_ble_eq_true rfl) (Nat.le_of_ble_eq_true rfl) (fun v13 h13 E13 => ?_) (fun _ _ ha _ => gt_at fun Q hQ => gt_out (Q := Q) X rfl ha (hno _) _ Q rfl hQ)
    refine g_aload_n (pc := 16) X (j := 0) (i := 0) (q := 0) (x := a0) rfl rfl (dl_at t_X7_digit 9 rfl) ?_
    refine g_iload_n (pc := 17) X (j := 1) (i := 1) (q := 1) (x := a1) rfl rfl (dl_at t_X7_digit 10 rfl) ?_
    refine g_bipush (pc := 18) X (n := 9) rfl (dl_at t_X7_digit 11 rfl) ?_
    refine g_icmpne (pc := 20) X r1 (r32_c rfl) (off := 8) (tgt := 28) rfl (dl_at t_X7_digit 12 rfl) (fun _ => ?_) (fun _ => ?_)
    · refine g_iload_n (pc := 28) X (j := 3) (i := 3) (q := 3) (x := a3) rfl rfl (dl_at t_X7_digit 15 rfl) ?_
      have k29 := kx E13 (by decide) k13
      refine r_callTv (pc := 29) X (fun _ hv => s_X5_add k29 r3 hv) cw_code q2038 q359 (in_Vk X (As := [iv a3]) kX5 k29 (Or.inr ⟨_, nw_in q2431 rfl⟩) q2037 qs44 cw_code q2038 ⟨by decide, by decide⟩ rfl (dl_at t_X7_digit 16 rfl)) (dl_at t_X7_digit 16 rfl) (cat24 (st := []) (Nat.le_of_ble_eq_true rfl)) (Nat.le_of_ble_eq_true rfl) (Nat.le_of_ble_eq_true rfl) (fun v29 h29 E29 => ?_) (fun _ _ ha _ => gt_at fun Q hQ => gt_out (Q := Q) X rfl ha (hno _) _ Q rfl hQ)
      exact g_vret (pc := 32) X (v := 0) rfl rfl (dl_at t_X7_digit 17 rfl)
    refine g_iload (pc := 23) X (i := 4) (q := 4) (x := a4) rfl (dl_at t_X7_digit 13 rfl) ?_
    refine g_goto (pc := 25) X (off := 4) (tgt := 29) rfl (dl_at t_X7_digit 14 rfl) ?_
    have k29_1 := kx E13 (by decide) k13
    refine r_callTv (pc := 29) X (fun _ hv => s_X5_add k29_1 r4 hv) cw_code q2038 q359 (in_Vk X (As := [iv a4]) kX5 k29_1 (Or.inr ⟨_, nw_in q2431 rfl⟩) q2037 qs44 cw_code q2038 ⟨by decide, by decide⟩ rfl (dl_at t_X7_digit 16 rfl)) (dl_at t_X7_digit 16 rfl) (cat24 (st := []) (Nat.le_of_ble_eq_true rfl)) (Nat.le_of_ble_eq_true rfl) (Nat.le_of_ble_eq_true rfl) (fun v29_1 h29_1 E29_1 => ?_) (fun _ _ ha _ => gt_at fun Q hQ => gt_out (Q := Q) X rfl ha (hno _) _ Q rfl hQ)
    exact g_vret (pc := 32) X (v := 0) rfl rfl (dl_at t_X7_digit 17 rfl)
  intro J11
  refine g_icmpeq (pc := 3) X r1 (r32_c rfl) (off := 8) (tgt := 11) rfl (dl_at t_X7_digit 2 rfl) (fun _ => ?_) (fun _ => ?_)
  · exact J11 () trivial
  refine g_iload_n (pc := 6) X (j := 1) (i := 1) (q := 1) (x := a1) rfl rfl (dl_at t_X7_digit 3 rfl) ?_
  refine g_iconst (pc := 7) X (n := 4) (dl_at t_X7_digit 4 rfl) ?_
  refine g_icmpne (pc := 8) X r1 (r32_c rfl) (off := 25) (tgt := 33) rfl (dl_at t_X7_digit 5 rfl) (fun _ => ?_) (fun _ => ?_)
  · refine g_iload_n (pc := 33) X (j := 1) (i := 1) (q := 1) (x := a1) rfl rfl (dl_at t_X7_digit 18 rfl) ?_
    refine g_iconst (pc := 34) X (n := 5) (dl_at t_X7_digit 19 rfl) ?_
    refine g_join (γ := Hp) (fun q => Ext h q) 43 (fun q => [(0, rv D a0), (1, iv a1), (2, iv a2)]) (fun q => []) (fun q => q) (fun q => m_X7_digit_j43 a0 a1 a2 q) ?_ ?_
    · rintro h_43 E_43
      try dsimp only
      unfold m_X7_digit_j43
      refine g_iconst (pc := 43) X (n := 0) (dl_at t_X7_digit 24 rfl) ?_
      refine g_ltz (Or.inl rfl) fun x5_44 r5_44 => ?_
      refine g_istore (pc := 44) X (i := 5) (x := x5_44) (rest := [(0, rv D a0), (1, iv a1), (2, iv a2)]) (Nat.le_of_ble_eq_true rfl) [0, 1, 2] rfl rfl (dl_at t_X7_digit 25 rfl) ?_
      refine g_ls (ls2 := [(0, rv D a0), (1, iv a1), (2, iv a2), (5, iv x5_44)]) [1, 2, 3, 0] rfl ?_
      refine g_loop0F (fun (q : Int × Hp) => [(0, rv D a0), (1, iv a1), (2, iv a2), (5, iv q.1)]) (fun (q : Int × Hp) => q.2) (fun (q : Int × Hp) => r32 q.1 ∧ Ext h_43 q.2) (x5_44, h_43) ⟨(r32_z r5_44), (Ext.refl _)⟩ ?_ (fun _ => rfl)
      · rintro ⟨x5_46, h_46⟩ ⟨r5_46, E_46⟩
        try dsimp only
        unfold m_X7_digit_l46
        refine g_iload (pc := 46) X (i := 5) (q := 3) (x := x5_46) rfl (dl_at t_X7_digit 26 rfl) ?_
        refine g_iload_n (pc := 48) X (j := 1) (i := 1) (q := 1) (x := a1) rfl rfl (dl_at t_X7_digit 27 rfl) ?_
        refine g_iconst (pc := 49) X (n := 5) (dl_at t_X7_digit 28 rfl) ?_
        refine g_irem (pc := 50) X r1 (r32_c rfl) (by decide) (dl_at t_X7_digit 29 rfl) ?_
        refine g_icmpge (pc := 51) X r5_46 (r32_tmod r1) (off := 14) (tgt := 65) rfl (dl_at t_X7_digit 30 rfl) (fun _ => ?_) (fun _ => ?_)
        · exact g_at fun Q hQ => (g_vret (pc := 65) X (v := 0) rfl rfl (dl_at t_X7_digit 36 rfl)) _ Q rfl hQ
        refine g_aload_n (pc := 54) X (j := 0) (i := 0) (q := 0) (x := a0) rfl rfl (dl_at t_X7_digit 31 rfl) ?_
        refine g_iload_n (pc := 55) X (j := 2) (i := 2) (q := 2) (x := a2) rfl rfl (dl_at t_X7_digit 32 rfl) ?_
        refine g_gd fun k56 => ?_
        refine r_callTv (pc := 56) X (fun _ hv => s_X5_add k56 r2 hv) cw_code q2038 q359 (in_Vk X (As := [iv a2]) kX5 k56 (Or.inr ⟨_, nw_in q2431 rfl⟩) q2037 qs44 cw_code q2038 ⟨by decide, by decide⟩ rfl (dl_at t_X7_digit 33 rfl)) (dl_at t_X7_digit 33 rfl) (cat24 (st := []) (Nat.le_of_ble_eq_true rfl)) (Nat.le_of_ble_eq_true rfl) (Nat.le_of_ble_eq_true rfl) (fun v56 h56 E56 => ?_) (fun _ _ ha _ => gt_at fun Q hQ => gt_out (Q := Q) X rfl ha (hno _) _ Q rfl hQ)
        refine r_iinc (pc := 59) X (i := 5) (q := 3) (n := 1) (x := x5_46) (rest := [(0, rv D a0), (1, iv a1), (2, iv a2)]) rfl r5_46 (r32_c rfl) (Nat.le_of_ble_eq_true rfl) [0, 1, 2] rfl rfl (dl_at t_X7_digit 34 rfl) fun x5_59 r5_59 => ?_
        refine g_goto (pc := 62) X (off := (-16)) (tgt := 46) rfl (dl_at t_X7_digit 35 rfl) ?_
        refine g_ls (ls2 := [(0, rv D a0), (1, iv a1), (2, iv a2), (5, iv x5_59)]) [1, 2, 3, 0] rfl ?_
        exact g_at fun Q hQ => hQ ⟨r5_59, (E_46.trans E56)⟩
    intro J43
    refine g_icmplt (pc := 35) X r1 (r32_c rfl) (off := 8) (tgt := 43) rfl (dl_at t_X7_digit 20 rfl) (fun _ => ?_) (fun _ => ?_)
    · refine g_ls (ls2 := [(0, rv D a0), (1, iv a1), (2, iv a2)]) [0, 1, 2] rfl ?_
      exact J43 h (Ext.refl _)
    refine g_aload_n (pc := 38) X (j := 0) (i := 0) (q := 0) (x := a0) rfl rfl (dl_at t_X7_digit 21 rfl) ?_
    refine g_iload_n (pc := 39) X (j := 3) (i := 3) (q := 3) (x := a3) rfl rfl (dl_at t_X7_digit 22 rfl) ?_
    refine g_gd fun k40 => ?_
    refine r_callTv (pc := 40) X (fun _ hv => s_X5_add k40 r3 hv) cw_code q2038 q359 (in_Vk X (As := [iv a3]) kX5 k40 (Or.inr ⟨_, nw_in q2431 rfl⟩) q2037 qs44 cw_code q2038 ⟨by decide, by decide⟩ rfl (dl_at t_X7_digit 23 rfl)) (dl_at t_X7_digit 23 rfl) (cat24 (st := []) (Nat.le_of_ble_eq_true rfl)) (Nat.le_of_ble_eq_true rfl) (Nat.le_of_ble_eq_true rfl) (fun v40 h40 E40 => ?_) (fun _ _ ha _ => gt_at fun Q hQ => gt_out (Q := Q) X rfl ha (hno _) _ Q rfl hQ)
    refine g_ls (ls2 := [(0, rv D a0), (1, iv a1), (2, iv a2)]) [0, 1, 2] rfl ?_
    exact J43 h40 E40
  exact J11 () trivial
def k_X7_roman : List (Nat × Instr × Nat) := [(0, .iload_n 1, 1), (1, .istore_n 2, 1), (2, .iload_n 2, 1), (3, .sipush 1000, 3), (6, .if_icmp .lt 18, 3), (9, .aload_n 0, 1), (10, .bipush 109, 2), (12, .invokevirtual 244, 3), (21, .goto (-19), 3), (24, .aload_n 0, 1), (25, .iload_n 2, 1), (26, .bipush 100, 2), (28, .idiv, 1), (29, .bipush 99, 2), (31, .bipush 100, 2), (33, .bipush 109, 2), (35, .invokestatic 247, 3), (38, .aload_n 0, 1), (39, .iload_n 2, 1), (40, .bipush 10, 2), (42, .idiv, 1), (43, .bipush 10, 2), (45, .irem, 1), (46, .bipush 120, 2), (48, .bipush 108, 2), (50, .bipush 99, 2), (52, .invokestatic 247, 3), (55, .aload_n 0, 1), (56, .iload_n 2, 1), (57, .bipush 10, 2), (59, .irem, 1), (60, .bipush 105, 2), (62, .bipush 118, 2), (64, .bipush 120, 2), (66, .invokestatic 247, 3), (69, .return_, 1)]
theorem t_X7_roman : ∀ q ∈ k_X7_roman, decode cX7_roman q.1 = .ok q.2 := dl_all (by decide +kernel)
theorem dS_X7_roman_15 : decode cX7_roman 15 = .ok (.iinc 2 (-1000), 6) := by decide +kernel
noncomputable def m_X7_roman_l2 (a0 x2_2 : Int) (h_2 : Hp) : Option ((Int × Hp) ⊕ ((Int × Hp) ⊕ (((Int × Int) × Hp)))) :=
  if x2_2 < 1000 then (some (.inr (.inl (x2_2, h_2))))
  else (gd (h_2 a0 (-2) = 80) (bT (m_X5_add a0 109 h_2) (fun _ h12 =>
  lt_ (w32 (x2_2 + (-1000))) fun x2_15 =>
  some (.inl (x2_15, h12))) (fun a_ h_ => some (.inr (.inr ((1, a_), h_))))))
noncomputable def m_X7_roman (a0 a1 : Int) (h : Hp) : Option ((Int × Int) × Hp) :=
  (lp (fun (q : Int × Hp) => m_X7_roman_l2 a0 q.1 q.2) (a1, h)).bind (sE (fun (y24 : Int × Hp) => bT (m_X7_digit a0 (w32 (Int.tdiv y24.1 100)) 99 100 109 y24.2) (fun _ h35 =>
  bT (m_X7_digit a0 (Int.tmod (w32 (Int.tdiv y24.1 10)) 10) 120 108 99 h35) (fun _ h52 =>
  bT (m_X7_digit a0 (Int.tmod y24.1 10) 105 118 120 h52) (fun _ h66 =>
  some ((0, 0), h66)) (fun a_ h_ => some ((1, a_), h_))) (fun a_ h_ => some ((1, a_), h_))) (fun a_ h_ => some ((1, a_), h_))) (fun (x : (Int × Int) × Hp) => some x))
theorem s_X7_roman {l : Launch} [NoTr l] {D : SD} {a0 a1 : Int} {h : Hp} (r1 : r32 a1) {r : (Int × Int) × Hp} (hm : m_X7_roman a0 a1 h = some r) : Sim l D yX7_roman (Cond.code yX7_roman cX7_roman 3 (Option.none : Option Jvm.ClassFile.FieldType)) 12 450 [rv D a0, iv a1] h 0 r := by
  refine Sim.of (fin := fun (v : (Int × Int) × Hp) => v) (lsE := [(0, rv D a0), (1, iv a1)]) hm rfl cwS_code (la_r (la_i la_n)) (ll_r (ll_i ll_n)) ?_
  intro p e s m below meth c X hcw hmm hcc hnm hname
  have hno := noh hcw hnm hmm hcc
  unfold m_X7_roman
  refine g_iload_n (pc := 0) X (j := 1) (i := 1) (q := 1) (x := a1) rfl rfl (dl_at t_X7_roman 0 rfl) ?_
  refine g_istore_n (pc := 1) X (j := 2) (i := 2) (x := a1) (rest := [(0, rv D a0)]) rfl (Nat.le_of_ble_eq_true rfl) [0] rfl rfl (dl_at t_X7_roman 1 rfl) ?_
  refine g_ls (ls2 := [(0, rv D a0), (2, iv a1)]) [1, 0] rfl ?_
  refine g_loop1F (fun (q : Int × Hp) => [(0, rv D a0), (2, iv q.1)]) (fun (q : Int × Hp) => q.2) (fun (q : Int × Hp) => r32 q.1 ∧ Ext h q.2) 24 (fun (y24 : Int × Hp) => [(0, rv D a0), (2, iv y24.1)]) (fun (y24 : Int × Hp) => y24.2) (fun (y24 : Int × Hp) => r32 y24.1 ∧ Ext h y24.2) (a1, h) ⟨r1, (Ext.refl _)⟩ ?_ ?_ (fun _ => rfl)
  · rintro ⟨x2_2, h_2⟩ ⟨r2_2, E_2⟩
    try dsimp only
    unfold m_X7_roman_l2
    refine g_iload_n (pc := 2) X (j := 2) (i := 2) (q := 1) (x := x2_2) rfl rfl (dl_at t_X7_roman 2 rfl) ?_
    refine g_sipush (pc := 3) X (n := 1000) rfl (dl_at t_X7_roman 3 rfl) ?_
    refine g_icmplt (pc := 6) X r2_2 (r32_c rfl) (off := 18) (tgt := 24) rfl (dl_at t_X7_roman 4 rfl) (fun _ => ?_) (fun _ => ?_)
    · exact g_at fun Q hQ => hQ ⟨r2_2, E_2⟩
    refine g_aload_n (pc := 9) X (j := 0) (i := 0) (q := 0) (x := a0) rfl rfl (dl_at t_X7_roman 5 rfl) ?_
    refine g_bipush (pc := 10) X (n := 109) rfl (dl_at t_X7_roman 6 rfl) ?_
    refine g_gd fun k12 => ?_
    refine r_callTv (pc := 12) X (fun _ hv => s_X5_add k12 (r32_c rfl) hv) cw_code q2038 q359 (in_Vk X (As := [iv 109]) kX5 k12 (Or.inr ⟨_, nw_in q2431 rfl⟩) q2037 qs44 cw_code q2038 ⟨by decide, by decide⟩ rfl (dl_at t_X7_roman 7 rfl)) (dl_at t_X7_roman 7 rfl) (cat24 (st := []) (Nat.le_of_ble_eq_true rfl)) (Nat.le_of_ble_eq_true rfl) (Nat.le_of_ble_eq_true rfl) (fun v12 h12 E12 => ?_) (fun _ _ ha _ => gt_at fun Q hQ => gt_out (Q := Q) X rfl ha (hno _) _ Q rfl hQ)
    refine r_iincW (pc := 15) X (i := 2) (q := 1) (n := (-1000)) (x := x2_2) (rest := [(0, rv D a0)]) rfl r2_2 (r32_c rfl) (Nat.le_of_ble_eq_true rfl) [0] rfl rfl dS_X7_roman_15 fun x2_15 r2_15 => ?_
    refine g_goto (pc := 21) X (off := (-19)) (tgt := 2) rfl (dl_at t_X7_roman 8 rfl) ?_
    refine g_ls (ls2 := [(0, rv D a0), (2, iv x2_15)]) [1, 0] rfl ?_
    exact g_at fun Q hQ => hQ ⟨r2_15, (E_2.trans E12)⟩
  · rintro ⟨x2_24, h_24⟩ ⟨r2_24, E_24⟩
    try dsimp only [sE]
    refine g_aload_n (pc := 24) X (j := 0) (i := 0) (q := 0) (x := a0) rfl rfl (dl_at t_X7_roman 9 rfl) ?_
    refine g_iload_n (pc := 25) X (j := 2) (i := 2) (q := 1) (x := x2_24) rfl rfl (dl_at t_X7_roman 10 rfl) ?_
    refine g_bipush (pc := 26) X (n := 100) rfl (dl_at t_X7_roman 11 rfl) ?_
    refine g_idiv (pc := 28) X r2_24 (r32_c rfl) (by decide) (dl_at t_X7_roman 12 rfl) ?_
    refine g_bipush (pc := 29) X (n := 99) rfl (dl_at t_X7_roman 13 rfl) ?_
    refine g_bipush (pc := 31) X (n := 100) rfl (dl_at t_X7_roman 14 rfl) ?_
    refine g_bipush (pc := 33) X (n := 109) rfl (dl_at t_X7_roman 15 rfl) ?_
    refine r_callTv (pc := 35) X (fun _ hv => s_X7_digit (r32_w _) (r32_c rfl) (r32_c rfl) (r32_c rfl) hv) cw_code q2434 q361 (in_Sc X (As := [rv D a0, iv (w32 (Int.tdiv x2_24 100)), iv 99, iv 100, iv 109]) (Or.inl q2432) q2433 q361 q2434 ⟨by decide, by decide⟩ rfl (dl_at t_X7_roman 16 rfl)) (dl_at t_X7_roman 16 rfl) (cat24 (st := []) (Nat.le_of_ble_eq_true rfl)) (Nat.le_of_ble_eq_true rfl) (Nat.le_of_ble_eq_true rfl) (fun v35 h35 E35 => ?_) (fun _ _ ha _ => gt_at fun Q hQ => gt_out (Q := Q) X rfl ha (hno _) _ Q rfl hQ)
    refine g_aload_n (pc := 38) X (j := 0) (i := 0) (q := 0) (x := a0) rfl rfl (dl_at t_X7_roman 17 rfl) ?_
    refine g_iload_n (pc := 39) X (j := 2) (i := 2) (q := 1) (x := x2_24) rfl rfl (dl_at t_X7_roman 18 rfl) ?_
    refine g_bipush (pc := 40) X (n := 10) rfl (dl_at t_X7_roman 19 rfl) ?_
    refine g_idiv (pc := 42) X r2_24 (r32_c rfl) (by decide) (dl_at t_X7_roman 20 rfl) ?_
    refine g_bipush (pc := 43) X (n := 10) rfl (dl_at t_X7_roman 21 rfl) ?_
    refine g_irem (pc := 45) X (r32_w _) (r32_c rfl) (by decide) (dl_at t_X7_roman 22 rfl) ?_
    refine g_bipush (pc := 46) X (n := 120) rfl (dl_at t_X7_roman 23 rfl) ?_
    refine g_bipush (pc := 48) X (n := 108) rfl (dl_at t_X7_roman 24 rfl) ?_
    refine g_bipush (pc := 50) X (n := 99) rfl (dl_at t_X7_roman 25 rfl) ?_
    refine r_callTv (pc := 52) X (fun _ hv => s_X7_digit (r32_tmod (r32_w _)) (r32_c rfl) (r32_c rfl) (r32_c rfl) hv) cw_code q2434 q361 (in_Sc X (As := [rv D a0, iv (Int.tmod (w32 (Int.tdiv x2_24 10)) 10), iv 120, iv 108, iv 99]) (Or.inl q2432) q2433 q361 q2434 ⟨by decide, by decide⟩ rfl (dl_at t_X7_roman 26 rfl)) (dl_at t_X7_roman 26 rfl) (cat24 (st := []) (Nat.le_of_ble_eq_true rfl)) (Nat.le_of_ble_eq_true rfl) (Nat.le_of_ble_eq_true rfl) (fun v52 h52 E52 => ?_) (fun _ _ ha _ => gt_at fun Q hQ => gt_out (Q := Q) X rfl ha (hno _) _ Q rfl hQ)
    refine g_aload_n (pc := 55) X (j := 0) (i := 0) (q := 0) (x := a0) rfl rfl (dl_at t_X7_roman 27 rfl) ?_
    refine g_iload_n (pc := 56) X (j := 2) (i := 2) (q := 1) (x := x2_24) rfl rfl (dl_at t_X7_roman 28 rfl) ?_
    refine g_bipush (pc := 57) X (n := 10) rfl (dl_at t_X7_roman 29 rfl) ?_
    refine g_irem (pc := 59) X r2_24 (r32_c rfl) (by decide) (dl_at t_X7_roman 30 rfl) ?_
    refine g_bipush (pc := 60) X (n := 105) rfl (dl_at t_X7_roman 31 rfl) ?_
    refine g_bipush (pc := 62) X (n := 118) rfl (dl_at t_X7_roman 32 rfl) ?_
    refine g_bipush (pc := 64) X (n := 120) rfl (dl_at t_X7_roman 33 rfl) ?_
    refine r_callTv (pc := 66) X (fun _ hv => s_X7_digit (r32_tmod r2_24) (r32_c rfl) (r32_c rfl) (r32_c rfl) hv) cw_code q2434 q361 (in_Sc X (As := [rv D a0, iv (Int.tmod x2_24 10), iv 105, iv 118, iv 120]) (Or.inl q2432) q2433 q361 q2434 ⟨by decide, by decide⟩ rfl (dl_at t_X7_roman 34 rfl)) (dl_at t_X7_roman 34 rfl) (cat24 (st := []) (Nat.le_of_ble_eq_true rfl)) (Nat.le_of_ble_eq_true rfl) (Nat.le_of_ble_eq_true rfl) (fun v66 h66 E66 => ?_) (fun _ _ ha _ => gt_at fun Q hQ => gt_out (Q := Q) X rfl ha (hno _) _ Q rfl hQ)
    exact g_vret (pc := 69) X (v := 0) rfl rfl (dl_at t_X7_roman 35 rfl)
def k_X7_letters : List (Nat × Instr × Nat) := [(0, .iload_n 1, 1), (1, .iconst 1, 1), (2, .isub, 1), (3, .bipush 26, 2), (5, .idiv, 1), (6, .istore_n 2, 1), (7, .iload_n 2, 1), (8, .ifCond .le 8, 3), (11, .aload_n 0, 1), (12, .iload_n 2, 1), (13, .invokestatic 238, 3), (16, .aload_n 0, 1), (17, .bipush 97, 2), (19, .iload_n 1, 1), (20, .iconst 1, 1), (21, .isub, 1), (22, .bipush 26, 2), (24, .irem, 1), (25, .iadd, 1), (26, .invokevirtual 244, 3), (29, .return_, 1)]
theorem t_X7_letters : ∀ q ∈ k_X7_letters, decode cX7_letters q.1 = .ok q.2 := dl_all (by decide +kernel)
noncomputable def m_X7_letters_j16 (a1 a0 : Int) (h_16 : Hp) : Option ((Int × Int) × Hp) :=
  gd (h_16 a0 (-2) = 80) (bT (m_X5_add a0 (w32 (97 + (Int.tmod (w32 (a1 - 1)) 26))) h_16) (fun _ h26 =>
  some ((0, 0), h26)) (fun a_ h_ => some ((1, a_), h_)))
noncomputable def b_X7_letters (rec_ : Int → Int → Hp → Option ((Int × Int) × Hp)) (a0 a1 : Int) (h : Hp) : Option ((Int × Int) × Hp) :=
  lt_ (w32 (Int.tdiv (w32 (a1 - 1)) 26)) fun x2_6 =>
  if x2_6 ≤ 0 then (m_X7_letters_j16 a1 a0 h)
  else (bT (rec_ a0 x2_6 h) (fun _ h13 =>
  m_X7_letters_j16 a1 a0 h13) (fun a_ h_ => some ((1, a_), h_)))
noncomputable def m_X7_letters (d : Nat) : Int → Int → Hp → Option ((Int × Int) × Hp) := Nat.rec (motive := fun _ => Int → Int → Hp → Option ((Int × Int) × Hp)) (fun _ _ _ => none) (fun _ r => b_X7_letters r) d
theorem s_X7_letters {l : Launch} [NoTr l] {D : SD} {d : Nat} {a0 a1 : Int} {h : Hp} (r1 : r32 a1) {r : (Int × Int) × Hp} (hm : m_X7_letters d a0 a1 h = some r) : Sim l D yX7_letters (Cond.code yX7_letters cX7_letters 3 (Option.none : Option Jvm.ClassFile.FieldType)) (11 + d) (409 + d * 38) [rv D a0, iv a1] h 0 r := by
  induction d generalizing a0 a1 h r with
  | zero => cases hm
  | succ d ih_ =>
    have hm : b_X7_letters (m_X7_letters d) a0 a1 h = some r := hm
    refine Sim.of (fin := fun (v : (Int × Int) × Hp) => v) (lsE := [(0, rv D a0), (1, iv a1)]) hm rfl cwS_code (la_r (la_i la_n)) (ll_r (ll_i ll_n)) ?_
    intro p e s m below meth c X hcw hmm hcc hnm hname
    have hno := noh hcw hnm hmm hcc
    generalize hrec : m_X7_letters d = rec_ at *
    unfold b_X7_letters
    refine g_iload_n (pc := 0) X (j := 1) (i := 1) (q := 1) (x := a1) rfl rfl (dl_at t_X7_letters 0 rfl) ?_
    refine g_iconst (pc := 1) X (n := 1) (dl_at t_X7_letters 1 rfl) ?_
    refine g_isub (pc := 2) X r1 (r32_c rfl) (dl_at t_X7_letters 2 rfl) ?_
    refine g_bipush (pc := 3) X (n := 26) rfl (dl_at t_X7_letters 3 rfl) ?_
    refine g_idiv (pc := 5) X (r32_w _) (r32_c rfl) (by decide) (dl_at t_X7_letters 4 rfl) ?_
    refine g_lti (r32_w _) fun x2_6 r2_6 => ?_
    refine g_istore_nN (pc := 6) X (j := 2) (i := 2) (x := x2_6) (b := 1) (w := iv a1) (rest := [(0, rv D a0)]) rfl (Nat.le_of_ble_eq_true rfl) [1, 0] rfl (by decide) rfl rfl (dl_at t_X7_letters 5 rfl) ?_
    refine g_iload_n (pc := 7) X (j := 2) (i := 2) (q := 0) (x := x2_6) rfl rfl (dl_at t_X7_letters 6 rfl) ?_
    refine g_join (γ := Hp) (fun q => Ext h q) 16 (fun q => [(0, rv D a0), (1, iv a1)]) (fun q => []) (fun q => q) (fun q => m_X7_letters_j16 a1 a0 q) ?_ ?_
    · rintro h_16 E_16
      try dsimp only
      unfold m_X7_letters_j16
      refine g_aload_n (pc := 16) X (j := 0) (i := 0) (q := 0) (x := a0) rfl rfl (dl_at t_X7_letters 11 rfl) ?_
      refine g_bipush (pc := 17) X (n := 97) rfl (dl_at t_X7_letters 12 rfl) ?_
      refine g_iload_n (pc := 19) X (j := 1) (i := 1) (q := 1) (x := a1) rfl rfl (dl_at t_X7_letters 13 rfl) ?_
      refine g_iconst (pc := 20) X (n := 1) (dl_at t_X7_letters 14 rfl) ?_
      refine g_isub (pc := 21) X r1 (r32_c rfl) (dl_at t_X7_letters 15 rfl) ?_
      refine g_bipush (pc := 22) X (n := 26) rfl (dl_at t_X7_letters 16 rfl) ?_
      refine g_irem (pc := 24) X (r32_w _) (r32_c rfl) (by decide) (dl_at t_X7_letters 17 rfl) ?_
      refine g_iadd (pc := 25) X (r32_c rfl) (r32_tmod (r32_w _)) (dl_at t_X7_letters 18 rfl) ?_
      refine g_gd fun k26 => ?_
      refine r_callTv (pc := 26) X (fun _ hv => s_X5_add k26 (r32_w _) hv) cw_code q2038 q359 (in_Vk X (As := [iv (w32 (97 + (Int.tmod (w32 (a1 - 1)) 26)))]) kX5 k26 (Or.inr ⟨_, nw_in q2431 rfl⟩) q2037 qs44 cw_code q2038 ⟨by decide, by decide⟩ rfl (dl_at t_X7_letters 19 rfl)) (dl_at t_X7_letters 19 rfl) (cat24 (st := []) (Nat.le_of_ble_eq_true rfl)) (by dsimp only [rmOf]; omega) (by dsimp only [rmOf]; omega) (fun v26 h26 E26 => ?_) (fun _ _ ha _ => gt_at fun Q hQ => gt_out (Q := Q) X rfl ha (hno _) _ Q rfl hQ)
      exact g_vret (pc := 29) X (v := 0) rfl rfl (dl_at t_X7_letters 20 rfl)
    intro J16
    refine g_ifle (pc := 8) X r2_6 (off := 8) (tgt := 16) rfl (dl_at t_X7_letters 7 rfl) (fun _ => ?_) (fun _ => ?_)
    · refine g_ls (ls2 := [(0, rv D a0), (1, iv a1)]) [2, 1] rfl ?_
      exact J16 h (Ext.refl _)
    refine g_aload_n (pc := 11) X (j := 0) (i := 0) (q := 2) (x := a0) rfl rfl (dl_at t_X7_letters 8 rfl) ?_
    refine g_iload_n (pc := 12) X (j := 2) (i := 2) (q := 0) (x := x2_6) rfl rfl (dl_at t_X7_letters 9 rfl) ?_
    refine r_callTv (pc := 13) X (fun _ hv => ih_ r2_6 hv) cw_code q2437 q361 (in_Sc X (As := [rv D a0, iv x2_6]) (Or.inl q2435) q2436 q361 q2437 ⟨by decide, by decide⟩ rfl (dl_at t_X7_letters 10 rfl)) (dl_at t_X7_letters 10 rfl) (cat24 (st := []) (Nat.le_of_ble_eq_true rfl)) (by dsimp only [rmOf]; omega) (by dsimp only [rmOf]; omega) (fun v13 h13 E13 => ?_) (fun _ _ ha _ => gt_at fun Q hQ => gt_out (Q := Q) X rfl ha (hno _) _ Q rfl hQ)
    refine g_ls (ls2 := [(0, rv D a0), (1, iv a1)]) [2, 1] rfl ?_
    exact J16 h13 E13
def k_X5_number : List (Nat × Instr × Nat) := [(0, .lload_n 1, 1), (1, .ldc2_w 27, 3), (4, .lcmp, 1), (5, .ifCond .le 12, 3), (8, .aload_n 0, 1), (9, .lload_n 1, 1), (10, .ldc2_w 29, 3), (13, .ldiv, 1), (14, .invokevirtual 31, 3), (17, .aload_n 0, 1), (18, .ldc2_w 35, 3), (21, .lload_n 1, 1), (22, .ldc2_w 29, 3), (25, .lrem, 1), (26, .ladd, 1), (27, .l2i, 1), (28, .invokevirtual 23, 3), (31, .return_, 1)]
theorem t_X5_number : ∀ q ∈ k_X5_number, decode cX5_number q.1 = .ok q.2 := dl_all (by decide +kernel)
noncomputable def b_X5_number (rec_ : Int → Int → Hp → Option ((Int × Int) × Hp)) (a0 a1 : Int) (h : Hp) : Option ((Int × Int) × Hp) :=
  if (lcmp_ a1 9) ≤ 0 then (bT (m_X5_add a0 (w32 (w64 (48 + (Int.tmod a1 10)))) h) (fun _ h28 =>
  some ((0, 0), h28)) (fun a_ h_ => some ((1, a_), h_)))
  else (bT (rec_ a0 (w64 (Int.tdiv a1 10)) h) (fun _ h14 =>
  bT (m_X5_add a0 (w32 (w64 (48 + (Int.tmod a1 10)))) h14) (fun _ h28_1 =>
  some ((0, 0), h28_1)) (fun a_ h_ => some ((1, a_), h_))) (fun a_ h_ => some ((1, a_), h_)))
noncomputable def m_X5_number (d : Nat) : Int → Int → Hp → Option ((Int × Int) × Hp) := Nat.rec (motive := fun _ => Int → Int → Hp → Option ((Int × Int) × Hp)) (fun _ _ _ => none) (fun _ r => b_X5_number r) d
theorem s_X5_number {l : Launch} [NoTr l] {D : SD} {d : Nat} {a0 a1 : Int} {h : Hp} (hk : h a0 (-2) = 80) (r1 : r64 a1) {r : (Int × Int) × Hp} (hm : m_X5_number d a0 a1 h = some r) : Sim l D yX5_number (Cond.code yX5_number cX5_number 3 (Option.none : Option Jvm.ClassFile.FieldType)) (11 + d) (409 + d * 38) [rv D a0, jv a1] h 0 r := by
  induction d generalizing a0 a1 h r with
  | zero => cases hm
  | succ d ih_ =>
    have hm : b_X5_number (m_X5_number d) a0 a1 h = some r := hm
    refine Sim.of (fin := fun (v : (Int × Int) × Hp) => v) (lsE := [(0, rv D a0), (1, jv a1)]) hm rfl cwS_code (la_r (la_j la_n)) (ll_r (ll_j ll_n)) ?_
    intro p e s m below meth c X hcw hmm hcc hnm hname
    have hno := noh hcw hnm hmm hcc
    generalize hrec : m_X5_number d = rec_ at *
    unfold b_X5_number
    refine g_lload_n (pc := 0) X (j := 1) (i := 1) (q := 1) (x := a1) rfl rfl (dl_at t_X5_number 0 rfl) ?_
    refine g_ldc2 (pc := 1) X (index := 27) (n := 9) q2442 (dl_at t_X5_number 1 rfl) ?_
    refine g_lcmp (pc := 4) X r1 (r64_c rfl) (dl_at t_X5_number 2 rfl) ?_
    refine g_ifle (pc := 5) X (r32_lcmp _ _) (off := 12) (tgt := 17) rfl (dl_at t_X5_number 3 rfl) (fun _ => ?_) (fun _ => ?_)
    · refine g_aload_n (pc := 17) X (j := 0) (i := 0) (q := 0) (x := a0) rfl rfl (dl_at t_X5_number 9 rfl) ?_
      refine g_ldc2 (pc := 18) X (index := 35) (n := 48) q2445 (dl_at t_X5_number 10 rfl) ?_
      refine g_lload_n (pc := 21) X (j := 1) (i := 1) (q := 1) (x := a1) rfl rfl (dl_at t_X5_number 11 rfl) ?_
      refine g_ldc2 (pc := 22) X (index := 29) (n := 10) q2443 (dl_at t_X5_number 12 rfl) ?_
      refine g_lrem (pc := 25) X r1 (r64_c rfl) (by decide) (dl_at t_X5_number 13 rfl) ?_
      refine g_ladd (pc := 26) X (r64_c rfl) (r64_tmod r1) (dl_at t_X5_number 14 rfl) ?_
      refine g_l2i (pc := 27) X (r64_w _) (dl_at t_X5_number 15 rfl) ?_
      refine r_callTv (pc := 28) X (fun _ hv => s_X5_add hk (r32_w _) hv) cw_code q2038 q359 (in_Vk X (As := [iv (w32 (w64 (48 + (Int.tmod a1 10))))]) kX5 hk (Or.inl q2035) q2037 qs44 cw_code q2038 ⟨by decide, by decide⟩ rfl (dl_at t_X5_number 16 rfl)) (dl_at t_X5_number 16 rfl) (cat24 (st := []) (Nat.le_of_ble_eq_true rfl)) (by dsimp only [rmOf]; omega) (by dsimp only [rmOf]; omega) (fun v28 h28 E28 => ?_) (fun _ _ ha _ => gt_at fun Q hQ => gt_out (Q := Q) X rfl ha (hno _) _ Q rfl hQ)
      exact g_vret (pc := 31) X (v := 0) rfl rfl (dl_at t_X5_number 17 rfl)
    refine g_aload_n (pc := 8) X (j := 0) (i := 0) (q := 0) (x := a0) rfl rfl (dl_at t_X5_number 4 rfl) ?_
    refine g_lload_n (pc := 9) X (j := 1) (i := 1) (q := 1) (x := a1) rfl rfl (dl_at t_X5_number 5 rfl) ?_
    refine g_ldc2 (pc := 10) X (index := 29) (n := 10) q2443 (dl_at t_X5_number 6 rfl) ?_
    refine g_ldiv (pc := 13) X r1 (r64_c rfl) (by decide) (dl_at t_X5_number 7 rfl) ?_
    refine r_callTv (pc := 14) X (fun _ hv => ih_ hk (r64_w _) hv) cw_code q2441 q359 (in_Vk X (As := [jv (w64 (Int.tdiv a1 10))]) kX5 hk (Or.inl q2444) q2440 qs105 cw_code q2441 ⟨by decide, by decide⟩ rfl (dl_at t_X5_number 8 rfl)) (dl_at t_X5_number 8 rfl) (cat24 (st := []) (Nat.le_of_ble_eq_true rfl)) (by dsimp only [rmOf]; omega) (by dsimp only [rmOf]; omega) (fun v14 h14 E14 => ?_) (fun _ _ ha _ => gt_at fun Q hQ => gt_out (Q := Q) X rfl ha (hno _) _ Q rfl hQ)
    refine g_aload_n (pc := 17) X (j := 0) (i := 0) (q := 0) (x := a0) rfl rfl (dl_at t_X5_number 9 rfl) ?_
    refine g_ldc2 (pc := 18) X (index := 35) (n := 48) q2445 (dl_at t_X5_number 10 rfl) ?_
    refine g_lload_n (pc := 21) X (j := 1) (i := 1) (q := 1) (x := a1) rfl rfl (dl_at t_X5_number 11 rfl) ?_
    refine g_ldc2 (pc := 22) X (index := 29) (n := 10) q2443 (dl_at t_X5_number 12 rfl) ?_
    refine g_lrem (pc := 25) X r1 (r64_c rfl) (by decide) (dl_at t_X5_number 13 rfl) ?_
    refine g_ladd (pc := 26) X (r64_c rfl) (r64_tmod r1) (dl_at t_X5_number 14 rfl) ?_
    refine g_l2i (pc := 27) X (r64_w _) (dl_at t_X5_number 15 rfl) ?_
    have k28 := kx E14 (by decide) hk
    refine r_callTv (pc := 28) X (fun _ hv => s_X5_add k28 (r32_w _) hv) cw_code q2038 q359 (in_Vk X (As := [iv (w32 (w64 (48 + (Int.tmod a1 10))))]) kX5 k28 (Or.inl q2035) q2037 qs44 cw_code q2038 ⟨by decide, by decide⟩ rfl (dl_at t_X5_number 16 rfl)) (dl_at t_X5_number 16 rfl) (cat24 (st := []) (Nat.le_of_ble_eq_true rfl)) (by dsimp only [rmOf]; omega) (by dsimp only [rmOf]; omega) (fun v28_1 h28_1 E28_1 => ?_) (fun _ _ ha _ => gt_at fun Q hQ => gt_out (Q := Q) X rfl ha (hno _) _ Q rfl hQ)
    exact g_vret (pc := 31) X (v := 0) rfl rfl (dl_at t_X5_number 17 rfl)
def k_X7_write : List (Nat × Instr × Nat) := [(0, .iload_n 1, 1), (1, .iconst 1, 1), (2, .if_icmp .ne 23, 3), (5, .iload_n 2, 1), (6, .iconst 1, 1), (7, .if_icmp .lt 18, 3), (10, .iload_n 2, 1), (11, .sipush 3999, 3), (14, .if_icmp .gt 11, 3), (17, .aload_n 0, 1), (18, .iload_n 2, 1), (19, .invokestatic 234, 3), (22, .goto 27, 3), (25, .iload_n 1, 1), (26, .iconst 2, 1), (27, .if_icmp .ne 16, 3), (30, .iload_n 2, 1), (31, .iconst 1, 1), (32, .if_icmp .lt 11, 3), (35, .aload_n 0, 1), (36, .iload_n 2, 1), (37, .invokestatic 238, 3), (40, .goto 9, 3), (43, .aload_n 0, 1), (44, .iload_n 2, 1), (45, .i2l, 1), (46, .invokevirtual 241, 3), (49, .return_, 1)]
theorem t_X7_write : ∀ q ∈ k_X7_write, decode cX7_write q.1 = .ok q.2 := dl_all (by decide +kernel)
noncomputable def m_X7_write_j25 (a0 a1 a2 : Int) (h : Hp) : Option ((Int × Int) × Hp) :=
  if a1 ≠ 2 then (gd (h a0 (-2) = 80) (bT (m_X5_number 24 a0 a2 h) (fun _ h46 =>
  some ((0, 0), h46)) (fun a_ h_ => some ((1, a_), h_))))
  else (if a2 < 1 then (gd (h a0 (-2) = 80) (bT (m_X5_number 24 a0 a2 h) (fun _ h46_1 =>
  some ((0, 0), h46_1)) (fun a_ h_ => some ((1, a_), h_))))
  else (bT (m_X7_letters 12 a0 a2 h) (fun _ h37 =>
  some ((0, 0), h37)) (fun a_ h_ => some ((1, a_), h_))))
noncomputable def m_X7_write (a0 a1 a2 : Int) (h : Hp) : Option ((Int × Int) × Hp) :=
  if a1 ≠ 1 then (m_X7_write_j25 a0 a1 a2 h)
  else (if a2 < 1 then (m_X7_write_j25 a0 a1 a2 h)
  else (if 3999 < a2 then (m_X7_write_j25 a0 a1 a2 h)
  else (bT (m_X7_roman a0 a2 h) (fun _ h19 =>
  some ((0, 0), h19)) (fun a_ h_ => some ((1, a_), h_)))))
theorem s_X7_write {l : Launch} [NoTr l] {D : SD} {a0 a1 a2 : Int} {h : Hp} (r1 : r32 a1) (r2 : r32 a2) {r : (Int × Int) × Hp} (hm : m_X7_write a0 a1 a2 h = some r) : Sim l D yX7_write (Cond.code yX7_write cX7_write 3 (Option.none : Option Jvm.ClassFile.FieldType)) 36 1359 [rv D a0, iv a1, iv a2] h 0 r := by
  refine Sim.of (fin := fun (v : (Int × Int) × Hp) => v) (lsE := [(0, rv D a0), (1, iv a1), (2, iv a2)]) hm rfl cwS_code (la_r (la_i (la_i la_n))) (ll_r (ll_i (ll_i ll_n))) ?_
  intro p e s m below meth c X hcw hmm hcc hnm hname
  have hno := noh hcw hnm hmm hcc
  unfold m_X7_write
  refine g_iload_n (pc := 0) X (j := 1) (i := 1) (q := 1) (x := a1) rfl rfl (dl_at t_X7_write 0 rfl) ?_
  refine g_iconst (pc := 1) X (n := 1) (dl_at t_X7_write 1 rfl) ?_
  refine g_join (γ := Unit) (fun q => True) 25 (fun q => [(0, rv D a0), (1, iv a1), (2, iv a2)]) (fun q => []) (fun q => h) (fun q => m_X7_write_j25 a0 a1 a2 h) ?_ ?_
  · rintro _ _
    try dsimp only
    unfold m_X7_write_j25
    refine g_iload_n (pc := 25) X (j := 1) (i := 1) (q := 1) (x := a1) rfl rfl (dl_at t_X7_write 13 rfl) ?_
    refine g_iconst (pc := 26) X (n := 2) (dl_at t_X7_write 14 rfl) ?_
    refine g_icmpne (pc := 27) X r1 (r32_c rfl) (off := 16) (tgt := 43) rfl (dl_at t_X7_write 15 rfl) (fun _ => ?_) (fun _ => ?_)
    · refine g_aload_n (pc := 43) X (j := 0) (i := 0) (q := 0) (x := a0) rfl rfl (dl_at t_X7_write 23 rfl) ?_
      refine g_iload_n (pc := 44) X (j := 2) (i := 2) (q := 2) (x := a2) rfl rfl (dl_at t_X7_write 24 rfl) ?_
      refine g_i2l (pc := 45) X r2 (dl_at t_X7_write 25 rfl) ?_
      refine g_gd fun k46 => ?_
      refine r_callTv (pc := 46) X (fun _ hv => s_X5_number (d := 24) k46 (r64_of r2) hv) cw_code q2441 q359 (in_Vk X (As := [jv a2]) kX5 k46 (Or.inr ⟨_, nw_in q2438 rfl⟩) q2440 qs105 cw_code q2441 ⟨by decide, by decide⟩ rfl (dl_at t_X7_write 26 rfl)) (dl_at t_X7_write 26 rfl) (cat24 (st := []) (Nat.le_of_ble_eq_true rfl)) (Nat.le_of_ble_eq_true rfl) (Nat.le_of_ble_eq_true rfl) (fun v46 h46 E46 => ?_) (fun _ _ ha _ => gt_at fun Q hQ => gt_out (Q := Q) X rfl ha (hno _) _ Q rfl hQ)
      exact g_vret (pc := 49) X (v := 0) rfl rfl (dl_at t_X7_write 27 rfl)
    refine g_iload_n (pc := 30) X (j := 2) (i := 2) (q := 2) (x := a2) rfl rfl (dl_at t_X7_write 16 rfl) ?_
    refine g_iconst (pc := 31) X (n := 1) (dl_at t_X7_write 17 rfl) ?_
    refine g_icmplt (pc := 32) X r2 (r32_c rfl) (off := 11) (tgt := 43) rfl (dl_at t_X7_write 18 rfl) (fun _ => ?_) (fun _ => ?_)
    · refine g_aload_n (pc := 43) X (j := 0) (i := 0) (q := 0) (x := a0) rfl rfl (dl_at t_X7_write 23 rfl) ?_
      refine g_iload_n (pc := 44) X (j := 2) (i := 2) (q := 2) (x := a2) rfl rfl (dl_at t_X7_write 24 rfl) ?_
      refine g_i2l (pc := 45) X r2 (dl_at t_X7_write 25 rfl) ?_
      refine g_gd fun k46_1 => ?_
      refine r_callTv (pc := 46) X (fun _ hv => s_X5_number (d := 24) k46_1 (r64_of r2) hv) cw_code q2441 q359 (in_Vk X (As := [jv a2]) kX5 k46_1 (Or.inr ⟨_, nw_in q2438 rfl⟩) q2440 qs105 cw_code q2441 ⟨by decide, by decide⟩ rfl (dl_at t_X7_write 26 rfl)) (dl_at t_X7_write 26 rfl) (cat24 (st := []) (Nat.le_of_ble_eq_true rfl)) (Nat.le_of_ble_eq_true rfl) (Nat.le_of_ble_eq_true rfl) (fun v46_1 h46_1 E46_1 => ?_) (fun _ _ ha _ => gt_at fun Q hQ => gt_out (Q := Q) X rfl ha (hno _) _ Q rfl hQ)
      exact g_vret (pc := 49) X (v := 0) rfl rfl (dl_at t_X7_write 27 rfl)
    refine g_aload_n (pc := 35) X (j := 0) (i := 0) (q := 0) (x := a0) rfl rfl (dl_at t_X7_write 19 rfl) ?_
    refine g_iload_n (pc := 36) X (j := 2) (i := 2) (q := 2) (x := a2) rfl rfl (dl_at t_X7_write 20 rfl) ?_
    refine r_callTv (pc := 37) X (fun _ hv => s_X7_letters (d := 12) r2 hv) cw_code q2437 q361 (in_Sc X (As := [rv D a0, iv a2]) (Or.inl q2435) q2436 q361 q2437 ⟨by decide, by decide⟩ rfl (dl_at t_X7_write 21 rfl)) (dl_at t_X7_write 21 rfl) (cat24 (st := []) (Nat.le_of_ble_eq_true rfl)) (Nat.le_of_ble_eq_true rfl) (Nat.le_of_ble_eq_true rfl) (fun v37 h37 E37 => ?_) (fun _ _ ha _ => gt_at fun Q hQ => gt_out (Q := Q) X rfl ha (hno _) _ Q rfl hQ)
    refine g_goto (pc := 40) X (off := 9) (tgt := 49) rfl (dl_at t_X7_write 22 rfl) ?_
    exact g_vret (pc := 49) X (v := 0) rfl rfl (dl_at t_X7_write 27 rfl)
  intro J25
  refine g_icmpne (pc := 2) X r1 (r32_c rfl) (off := 23) (tgt := 25) rfl (dl_at t_X7_write 2 rfl) (fun _ => ?_) (fun _ => ?_)
  · exact J25 () trivial
  refine g_iload_n (pc := 5) X (j := 2) (i := 2) (q := 2) (x := a2) rfl rfl (dl_at t_X7_write 3 rfl) ?_
  refine g_iconst (pc := 6) X (n := 1) (dl_at t_X7_write 4 rfl) ?_
  refine g_icmplt (pc := 7) X r2 (r32_c rfl) (off := 18) (tgt := 25) rfl (dl_at t_X7_write 5 rfl) (fun _ => ?_) (fun _ => ?_)
  · exact J25 () trivial
  refine g_iload_n (pc := 10) X (j := 2) (i := 2) (q := 2) (x := a2) rfl rfl (dl_at t_X7_write 6 rfl) ?_
  refine g_sipush (pc := 11) X (n := 3999) rfl (dl_at t_X7_write 7 rfl) ?_
  refine g_icmpgt (pc := 14) X r2 (r32_c rfl) (off := 11) (tgt := 25) rfl (dl_at t_X7_write 8 rfl) (fun _ => ?_) (fun _ => ?_)
  · exact J25 () trivial
  refine g_aload_n (pc := 17) X (j := 0) (i := 0) (q := 0) (x := a0) rfl rfl (dl_at t_X7_write 9 rfl) ?_
  refine g_iload_n (pc := 18) X (j := 2) (i := 2) (q := 2) (x := a2) rfl rfl (dl_at t_X7_write 10 rfl) ?_
  refine r_callTv (pc := 19) X (fun _ hv => s_X7_roman r2 hv) cw_code q2430 q361 (in_Sc X (As := [rv D a0, iv a2]) (Or.inl q2428) q2429 q361 q2430 ⟨by decide, by decide⟩ rfl (dl_at t_X7_write 11 rfl)) (dl_at t_X7_write 11 rfl) (cat24 (st := []) (Nat.le_of_ble_eq_true rfl)) (Nat.le_of_ble_eq_true rfl) (Nat.le_of_ble_eq_true rfl) (fun v19 h19 E19 => ?_) (fun _ _ ha _ => gt_at fun Q hQ => gt_out (Q := Q) X rfl ha (hno _) _ Q rfl hQ)
  refine g_goto (pc := 22) X (off := 27) (tgt := 49) rfl (dl_at t_X7_write 12 rfl) ?_
  exact g_vret (pc := 49) X (v := 0) rfl rfl (dl_at t_X7_write 27 rfl)
def k_X7_value : List (Nat × Instr × Nat) := [(0, .aload_n 2, 1), (1, .aload_n 0, 1), (2, .iload_n 1, 1), (3, .bipush 18, 2), (5, .invokevirtual 131, 3), (8, .aload_n 0, 1), (9, .getfield 33, 3), (12, .iload_n 1, 1), (13, .iaload, 1), (14, .invokestatic 251, 3), (17, .return_, 1)]
theorem t_X7_value : ∀ q ∈ k_X7_value, decode cX7_value q.1 = .ok q.2 := dl_all (by decide +kernel)
noncomputable def m_X7_value (a0 a1 a2 : Int) (h : Hp) : Option ((Int × Int) × Hp) :=
  (m_X7_property a0 a1 18 h).bind fun v5 =>
  gd (h (h a0 9) (-2) % 16 = 1 ∧ (0 : Int) ≤ a1 ∧ a1 < h (h a0 9) (-1)) (bT (m_X7_write a2 v5 (h (h a0 9) a1) h) (fun _ h14 =>
  some ((0, 0), h14)) (fun a_ h_ => some ((1, a_), h_)))
theorem s_X7_value {l : Launch} [NoTr l] {D : SD} {a0 a1 a2 : Int} {h : Hp} (hk : h a0 (-2) = 112) (r1 : r32 a1) {r : (Int × Int) × Hp} (hm : m_X7_value a0 a1 a2 h = some r) : Sim l D yX7_value (Cond.code yX7_value cX7_value 3 (Option.none : Option Jvm.ClassFile.FieldType)) 37 1397 [rv D a0, iv a1, rv D a2] h 0 r := by
  refine Sim.of (fin := fun (v : (Int × Int) × Hp) => v) (lsE := [(0, rv D a0), (1, iv a1), (2, rv D a2)]) hm rfl cwS_code (la_r (la_i (la_r la_n))) (ll_r (ll_i (ll_r ll_n))) ?_
  intro p e s m below meth c X hcw hmm hcc hnm hname
  have hno := noh hcw hnm hmm hcc
  unfold m_X7_value
  refine g_aload_n (pc := 0) X (j := 2) (i := 2) (q := 2) (x := a2) rfl rfl (dl_at t_X7_value 0 rfl) ?_
  refine g_aload_n (pc := 1) X (j := 0) (i := 0) (q := 0) (x := a0) rfl rfl (dl_at t_X7_value 1 rfl) ?_
  refine g_iload_n (pc := 2) X (j := 1) (i := 1) (q := 1) (x := a1) rfl rfl (dl_at t_X7_value 2 rfl) ?_
  refine g_bipush (pc := 3) X (n := 18) rfl (dl_at t_X7_value 3 rfl) ?_
  refine r_callRi (pc := 5) X (fun _ hv => s_X7_property hk r1 (r32_c rfl) hv) cw_code q2332 q361 (in_Vk X (As := [iv a1, iv 18]) kX7 hk (Or.inl q2329) q2331 qs84 cw_code q2332 ⟨by decide, by decide⟩ rfl (dl_at t_X7_value 4 rfl)) (dl_at t_X7_value 4 rfl) (cat24 (st := [rv D a2]) (Nat.le_of_ble_eq_true rfl)) (Nat.le_of_ble_eq_true rfl) (Nat.le_of_ble_eq_true rfl) fun v5 g5 => ?_
  refine g_aload_n (pc := 8) X (j := 0) (i := 0) (q := 0) (x := a0) rfl rfl (dl_at t_X7_value 5 rfl) ?_
  refine r_getr (pc := 9) X fX7_9 hk q799 (dl_at t_X7_value 6 rfl) ?_
  refine g_iload_n (pc := 12) X (j := 1) (i := 1) (q := 1) (x := a1) rfl rfl (dl_at t_X7_value 7 rfl) ?_
  refine g_gd fun k13 => ?_
  refine g_iald (pc := 13) X r1 k13 (dl_at t_X7_value 8 rfl) fun g13 => ?_
  refine r_callTv (pc := 14) X (fun _ hv => s_X7_write g5 g13 hv) cw_code q2427 q361 (in_Sc X (As := [rv D a2, iv v5, iv (h (h a0 9) a1)]) (Or.inl q2425) q2426 q361 q2427 ⟨by decide, by decide⟩ rfl (dl_at t_X7_value 9 rfl)) (dl_at t_X7_value 9 rfl) (cat24 (st := []) (Nat.le_of_ble_eq_true rfl)) (Nat.le_of_ble_eq_true rfl) (Nat.le_of_ble_eq_true rfl) (fun v14 h14 E14 => ?_) (fun _ _ ha _ => gt_at fun Q hQ => gt_out (Q := Q) X rfl ha (hno _) _ Q rfl hQ)
  exact g_vret (pc := 17) X (v := 0) rfl rfl (dl_at t_X7_value 10 rfl)
def k_X7_labelOf : List (Nat × Instr × Nat) := [(0, .aload_n 0, 1), (1, .iload_n 1, 1), (2, .invokevirtual 258, 3), (5, .ifCond .ne 5, 3), (8, .iconst 0, 1), (9, .ireturn, 1), (10, .aload_n 0, 1), (11, .getfield 62, 3), (14, .iconst 0, 1), (15, .putfield 261, 3), (18, .aload_n 0, 1), (19, .iload_n 1, 1), (20, .aload_n 0, 1), (21, .getfield 62, 3), (24, .invokevirtual 262, 3), (27, .aload_n 0, 1), (28, .getfield 20, 3), (31, .iload_n 1, 1), (32, .iaload, 1), (33, .ireturn, 1)]
theorem t_X7_labelOf : ∀ q ∈ k_X7_labelOf, decode cX7_labelOf q.1 = .ok q.2 := dl_all (by decide +kernel)
noncomputable def m_X7_labelOf (a0 a1 : Int) (h : Hp) : Option ((Int × Int) × Hp) :=
  (m_X7_hasLabel a0 a1 h).bind fun v2 =>
  if v2 ≠ 0 then (gd (h (h a0 18) (-2) = 80) (pt h (h a0 18) 1 0 fun h15 =>
  bT (m_X7_value a0 a1 (h15 a0 18) h15) (fun _ h24 =>
  gd (h24 (h24 a0 5) (-2) % 16 = 1 ∧ (0 : Int) ≤ a1 ∧ a1 < h24 (h24 a0 5) (-1)) (some ((0, (h24 (h24 a0 5) a1)), h24))) (fun a_ h_ => some ((1, a_), h_))))
  else (some ((0, 0), h))
theorem s_X7_labelOf {l : Launch} [NoTr l] {D : SD} {a0 a1 : Int} {h : Hp} (hk : h a0 (-2) = 112) (r1 : r32 a1) {r : (Int × Int) × Hp} (hm : m_X7_labelOf a0 a1 h = some r) : Sim l D yX7_labelOf (Cond.code yX7_labelOf cX7_labelOf 2 (Option.some Jvm.ClassFile.FieldType.int)) 38 1435 [rv D a0, iv a1] h 1 r := by
  refine Sim.of (fin := fun (v : (Int × Int) × Hp) => v) (lsE := [(0, rv D a0), (1, iv a1)]) hm rfl cwS_code (la_r (la_i la_n)) (ll_r (ll_i ll_n)) ?_
  intro p e s m below meth c X hcw hmm hcc hnm hname
  have hno := noh hcw hnm hmm hcc
  unfold m_X7_labelOf
  refine g_aload_n (pc := 0) X (j := 0) (i := 0) (q := 0) (x := a0) rfl rfl (dl_at t_X7_labelOf 0 rfl) ?_
  refine g_iload_n (pc := 1) X (j := 1) (i := 1) (q := 1) (x := a1) rfl rfl (dl_at t_X7_labelOf 1 rfl) ?_
  refine r_callRz (pc := 2) X (fun _ hv => s_X7_hasLabel hk r1 hv) cw_code q2416 q361 (in_Vk X (As := [iv a1]) kX7 hk (Or.inl q2413) q2415 qs102 cw_code q2416 ⟨by decide, by decide⟩ rfl (dl_at t_X7_labelOf 2 rfl)) (dl_at t_X7_labelOf 2 rfl) (cat24 (st := []) (Nat.le_of_ble_eq_true rfl)) (Nat.le_of_ble_eq_true rfl) (Nat.le_of_ble_eq_true rfl) fun v2 g2 => ?_
  refine g_ifne (pc := 5) X (r32_z g2) (off := 5) (tgt := 10) rfl (dl_at t_X7_labelOf 3 rfl) (fun _ => ?_) (fun _ => ?_)
  · refine g_aload_n (pc := 10) X (j := 0) (i := 0) (q := 0) (x := a0) rfl rfl (dl_at t_X7_labelOf 6 rfl) ?_
    refine r_getr (pc := 11) X fX7_18 hk q809 (dl_at t_X7_labelOf 7 rfl) ?_
    refine g_iconst (pc := 14) X (n := 0) (dl_at t_X7_labelOf 8 rfl) ?_
    refine g_gd fun k15 => ?_
    refine r_putiN (pc := 15) X fX5_1 k15 (nw_in q508 rfl) rfl (dl_at t_X7_labelOf 9 rfl) (r32_c rfl) (fun h15 E15 => ?_)
    refine g_aload_n (pc := 18) X (j := 0) (i := 0) (q := 0) (x := a0) rfl rfl (dl_at t_X7_labelOf 10 rfl) ?_
    refine g_iload_n (pc := 19) X (j := 1) (i := 1) (q := 1) (x := a1) rfl rfl (dl_at t_X7_labelOf 11 rfl) ?_
    refine g_aload_n (pc := 20) X (j := 0) (i := 0) (q := 0) (x := a0) rfl rfl (dl_at t_X7_labelOf 12 rfl) ?_
    have k21 := kx E15 (by decide) hk
    refine r_getr (pc := 21) X fX7_18 k21 q809 (dl_at t_X7_labelOf 13 rfl) ?_
    refine r_callTv (pc := 24) X (fun _ hv => s_X7_value k21 r1 hv) cw_code q2424 q361 (in_Vk X (As := [iv a1, rv D (h15 a0 18)]) kX7 k21 (Or.inl q2421) q2423 qs104 cw_code q2424 ⟨by decide, by decide⟩ rfl (dl_at t_X7_labelOf 14 rfl)) (dl_at t_X7_labelOf 14 rfl) (cat24 (st := []) (Nat.le_of_ble_eq_true rfl)) (Nat.le_of_ble_eq_true rfl) (Nat.le_of_ble_eq_true rfl) (fun v24 h24 E24 => ?_) (fun _ _ ha _ => gt_at fun Q hQ => gt_out (Q := Q) X rfl ha (hno _) _ Q rfl hQ)
    refine g_aload_n (pc := 27) X (j := 0) (i := 0) (q := 0) (x := a0) rfl rfl (dl_at t_X7_labelOf 15 rfl) ?_
    have k28 := kx E24 (by decide) k21
    refine r_getr (pc := 28) X fX7_5 k28 q788 (dl_at t_X7_labelOf 16 rfl) ?_
    refine g_iload_n (pc := 31) X (j := 1) (i := 1) (q := 1) (x := a1) rfl rfl (dl_at t_X7_labelOf 17 rfl) ?_
    refine g_gd fun k32 => ?_
    refine g_iald (pc := 32) X r1 k32 (dl_at t_X7_labelOf 18 rfl) fun g32 => ?_
    exact g_iret (pc := 33) X g32 rfl rfl (dl_at t_X7_labelOf 19 rfl)
  refine g_iconst (pc := 8) X (n := 0) (dl_at t_X7_labelOf 4 rfl) ?_
  exact g_iret (pc := 9) X (r32_c rfl) rfl rfl (dl_at t_X7_labelOf 5 rfl)
def k_X7_isFull : List (Nat × Instr × Nat) := [(0, .aload_n 0, 1), (1, .getfield 265, 3), (4, .bipush 40, 2), (6, .if_icmp .ne 7, 3), (9, .iconst 1, 1), (10, .goto 4, 3), (13, .iconst 0, 1), (14, .ireturn, 1)]
theorem t_X7_isFull : ∀ q ∈ k_X7_isFull, decode cX7_isFull q.1 = .ok q.2 := dl_all (by decide +kernel)
noncomputable def m_X7_isFull (a0 : Int) (h : Hp) : Option (Int) :=
  if (h a0 19) ≠ 40 then (some 0)
  else (some 1)
theorem s_X7_isFull {l : Launch} [NoTr l] {D : SD} {a0 : Int} {h : Hp} (hk : h a0 (-2) = 112) {r : Int} (hm : m_X7_isFull a0 h = some r) : Sim l D yX7_isFull (Cond.code yX7_isFull cX7_isFull 1 (Option.some Jvm.ClassFile.FieldType.boolean)) 0 0 [rv D a0] h 3 ((0, r), h) := by
  refine Sim.of (fin := fun (v : Int) => ((0, v), h)) (lsE := [(0, rv D a0)]) hm rfl cwS_code (la_r la_n) (ll_r ll_n) ?_
  intro p e s m below meth c X hcw hmm hcc hnm hname
  unfold m_X7_isFull
  refine g_aload_n (pc := 0) X (j := 0) (i := 0) (q := 0) (x := a0) rfl rfl (dl_at t_X7_isFull 0 rfl) ?_
  refine r_geti (pc := 1) X fX7_19 hk q811 (dl_at t_X7_isFull 1 rfl) fun g1 => ?_
  refine g_bipush (pc := 4) X (n := 40) rfl (dl_at t_X7_isFull 2 rfl) ?_
  refine g_icmpne (pc := 6) X g1 (r32_c rfl) (off := 7) (tgt := 13) rfl (dl_at t_X7_isFull 3 rfl) (fun _ => ?_) (fun _ => ?_)
  · refine g_iconst (pc := 13) X (n := 0) (dl_at t_X7_isFull 6 rfl) ?_
    exact g_zret (pc := 14) X (Or.inl rfl) rfl rfl (dl_at t_X7_isFull 7 rfl)
  refine g_iconst (pc := 9) X (n := 1) (dl_at t_X7_isFull 4 rfl) ?_
  refine g_goto (pc := 10) X (off := 4) (tgt := 14) rfl (dl_at t_X7_isFull 5 rfl) ?_
  exact g_zret (pc := 14) X (Or.inr rfl) rfl rfl (dl_at t_X7_isFull 7 rfl)
def k_X7_labelByte : List (Nat × Instr × Nat) := [(0, .aload_n 0, 1), (1, .getfield 70, 3), (4, .getfield 204, 3), (7, .getfield 207, 3), (10, .aload_n 0, 1), (11, .iload_n 1, 1), (12, .bipush 17, 2), (14, .invokevirtual 131, 3), (17, .iload_n 2, 1), (18, .iadd, 1), (19, .baload, 1), (20, .ireturn, 1)]
theorem t_X7_labelByte : ∀ q ∈ k_X7_labelByte, decode cX7_labelByte q.1 = .ok q.2 := dl_all (by decide +kernel)
noncomputable def m_X7_labelByte (a0 a1 a2 : Int) (h : Hp) : Option (Int) :=
  gd (h (h a0 1) (-2) = 48) (gd (h (h (h a0 1) 2) (-2) = 80) ((m_X7_property a0 a1 17 h).bind fun v14 =>
  gd (h (h (h (h a0 1) 2) 0) (-2) % 16 = 2 ∧ (0 : Int) ≤ (w32 (v14 + a2)) ∧ (w32 (v14 + a2)) < h (h (h (h a0 1) 2) 0) (-1)) (some (h (h (h (h a0 1) 2) 0) (w32 (v14 + a2))))))
theorem s_X7_labelByte {l : Launch} [NoTr l] {D : SD} {a0 a1 a2 : Int} {h : Hp} (hk : h a0 (-2) = 112) (r1 : r32 a1) (r2 : r32 a2) {r : Int} (hm : m_X7_labelByte a0 a1 a2 h = some r) : Sim l D yX7_labelByte (Cond.code yX7_labelByte cX7_labelByte 3 (Option.some Jvm.ClassFile.FieldType.int)) 2 74 [rv D a0, iv a1, iv a2] h 1 ((0, r), h) := by
  refine Sim.of (fin := fun (v : Int) => ((0, v), h)) (lsE := [(0, rv D a0), (1, iv a1), (2, iv a2)]) hm rfl cwS_code (la_r (la_i (la_i la_n))) (ll_r (ll_i (ll_i ll_n))) ?_
  intro p e s m below meth c X hcw hmm hcc hnm hname
  unfold m_X7_labelByte
  refine g_aload_n (pc := 0) X (j := 0) (i := 0) (q := 0) (x := a0) rfl rfl (dl_at t_X7_labelByte 0 rfl) ?_
  refine r_getr (pc := 1) X fX7_1 hk q781 (dl_at t_X7_labelByte 1 rfl) ?_
  refine g_gd fun k4 => ?_
  refine r_getrN (pc := 4) X fX3_2 k4 (nw_in q526 rfl) (dl_at t_X7_labelByte 2 rfl) ?_
  refine g_gd fun k7 => ?_
  refine r_getrN (pc := 7) X fX5_0 k7 (nw_in q502 rfl) (dl_at t_X7_labelByte 3 rfl) ?_
  refine g_aload_n (pc := 10) X (j := 0) (i := 0) (q := 0) (x := a0) rfl rfl (dl_at t_X7_labelByte 4 rfl) ?_
  refine g_iload_n (pc := 11) X (j := 1) (i := 1) (q := 1) (x := a1) rfl rfl (dl_at t_X7_labelByte 5 rfl) ?_
  refine g_bipush (pc := 12) X (n := 17) rfl (dl_at t_X7_labelByte 6 rfl) ?_
  refine r_callRi (pc := 14) X (fun _ hv => s_X7_property hk r1 (r32_c rfl) hv) cw_code q2332 q361 (in_Vk X (As := [iv a1, iv 17]) kX7 hk (Or.inl q2329) q2331 qs84 cw_code q2332 ⟨by decide, by decide⟩ rfl (dl_at t_X7_labelByte 7 rfl)) (dl_at t_X7_labelByte 7 rfl) (cat24 (st := [rv D (h (h (h a0 1) 2) 0)]) (Nat.le_of_ble_eq_true rfl)) (Nat.le_of_ble_eq_true rfl) (Nat.le_of_ble_eq_true rfl) fun v14 g14 => ?_
  refine g_iload_n (pc := 17) X (j := 2) (i := 2) (q := 2) (x := a2) rfl rfl (dl_at t_X7_labelByte 8 rfl) ?_
  refine g_iadd (pc := 18) X g14 r2 (dl_at t_X7_labelByte 9 rfl) ?_
  refine g_gd fun k19 => ?_
  refine g_bald (pc := 19) X (r32_w _) k19 (dl_at t_X7_labelByte 10 rfl) fun g19 => ?_
  exact g_iret (pc := 20) X (r32_b g19) rfl rfl (dl_at t_X7_labelByte 11 rfl)
def k_X7_putTitle : List (Nat × Instr × Nat) := [(0, .aload_n 0, 1), (1, .invokevirtual 268, 3), (4, .ifCond .eq 4, 3), (7, .return_, 1), (8, .iload_n 2, 1), (9, .invokestatic 272, 3), (12, .ifCond .eq 20, 3), (15, .aload_n 0, 1), (16, .aload_n 0, 1), (17, .getfield 265, 3), (20, .ifCond .le 7, 3), (23, .iconst 1, 1), (24, .goto 4, 3), (27, .iconst 0, 1), (28, .putfield 275, 3), (31, .return_, 1), (32, .aload_n 0, 1), (33, .getfield 275, 3), (36, .ifCond .eq 33, 3), (39, .aload_n 0, 1), (40, .getfield 265, 3), (43, .iconst 1, 1), (44, .iadd, 1), (45, .bipush 40, 2), (47, .if_icmp .ge 22, 3), (50, .aload_n 1, 1), (51, .bipush 32, 2), (53, .invokevirtual 244, 3), (56, .aload_n 0, 1), (57, .dup, 1), (58, .getfield 265, 3), (61, .iconst 1, 1), (62, .iadd, 1), (63, .putfield 265, 3), (66, .goto 17, 3), (69, .aload_n 0, 1), (70, .getfield 275, 3), (73, .ifCond .eq 10, 3), (76, .aload_n 0, 1), (77, .bipush 40, 2), (79, .putfield 265, 3), (82, .return_, 1), (83, .aload_n 0, 1), (84, .iconst 0, 1), (85, .putfield 275, 3), (88, .aload_n 1, 1), (89, .iload_n 2, 1), (90, .invokevirtual 244, 3), (93, .aload_n 0, 1), (94, .dup, 1), (95, .getfield 265, 3), (98, .iconst 1, 1), (99, .iadd, 1), (100, .putfield 265, 3), (103, .return_, 1)]
theorem t_X7_putTitle : ∀ q ∈ k_X7_putTitle, decode cX7_putTitle q.1 = .ok q.2 := dl_all (by decide +kernel)
noncomputable def m_X7_putTitle_j83 (a0 a1 a2 : Int) (h_83 : Hp) : Option ((Int × Int) × Hp) :=
  pt h_83 a0 20 0 fun h85 =>
  gd (h85 a1 (-2) = 80) (bT (m_X5_add a1 a2 h85) (fun _ h90 =>
  pt h90 a0 19 (w32 ((h90 a0 19) + 1)) fun h100 =>
  some ((0, 0), h100)) (fun a_ h_ => some ((1, a_), h_)))
noncomputable def m_X7_putTitle_j69 (a0 a1 a2 : Int) (h : Hp) : Option ((Int × Int) × Hp) :=
  if (h a0 20) = 0 then (m_X7_putTitle_j83 a0 a1 a2 h)
  else (pt h a0 19 40 fun h79 =>
  some ((0, 0), h79))
noncomputable def m_X7_putTitle (a0 a1 a2 : Int) (h : Hp) : Option ((Int × Int) × Hp) :=
  (m_X7_isFull a0 h).bind fun v1 =>
  if v1 = 0 then ((m_X1_isBlank a2).bind fun v9 =>
  if v9 = 0 then (if (h a0 20) = 0 then (m_X7_putTitle_j69 a0 a1 a2 h)
  else (if 40 ≤ (w32 ((h a0 19) + 1)) then (m_X7_putTitle_j69 a0 a1 a2 h)
  else (gd (h a1 (-2) = 80) (bT (m_X5_add a1 32 h) (fun _ h53 =>
  pt h53 a0 19 (w32 ((h53 a0 19) + 1)) fun h63 =>
  m_X7_putTitle_j83 a0 a1 a2 h63) (fun a_ h_ => some ((1, a_), h_))))))
  else (if (h a0 19) ≤ 0 then (pt h a0 20 0 fun h28 =>
  some ((0, 0), h28))
  else (pt h a0 20 1 fun h28_1 =>
  some ((0, 0), h28_1))))
  else (some ((0, 0), h))
theorem s_X7_putTitle {l : Launch} [NoTr l] {D : SD} {a0 a1 a2 : Int} {h : Hp} (hk : h a0 (-2) = 112) (r2 : r32 a2) {r : (Int × Int) × Hp} (hm : m_X7_putTitle a0 a1 a2 h = some r) : Sim l D yX7_putTitle (Cond.code yX7_putTitle cX7_putTitle 3 (Option.none : Option Jvm.ClassFile.FieldType)) 11 409 [rv D a0, rv D a1, iv a2] h 0 r := by
  refine Sim.of (fin := fun (v : (Int × Int) × Hp) => v) (lsE := [(0, rv D a0), (1, rv D a1), (2, iv a2)]) hm rfl cwS_code (la_r (la_r (la_i la_n))) (ll_r (ll_r (ll_i ll_n))) ?_
  intro p e s m below meth c X hcw hmm hcc hnm hname
  have hno := noh hcw hnm hmm hcc
  unfold m_X7_putTitle
  refine g_aload_n (pc := 0) X (j := 0) (i := 0) (q := 0) (x := a0) rfl rfl (dl_at t_X7_putTitle 0 rfl) ?_
  refine r_callRz (pc := 1) X (fun _ hv => s_X7_isFull hk hv) cw_code q2449 q361 (in_Vk X (As := []) kX7 hk (Or.inl q2446) q2448 qs106 cw_code q2449 ⟨by decide, by decide⟩ rfl (dl_at t_X7_putTitle 1 rfl)) (dl_at t_X7_putTitle 1 rfl) (cat24 (st := []) (Nat.le_of_ble_eq_true rfl)) (Nat.le_of_ble_eq_true rfl) (Nat.le_of_ble_eq_true rfl) fun v1 g1 => ?_
  refine g_ifeq (pc := 4) X (r32_z g1) (off := 4) (tgt := 8) rfl (dl_at t_X7_putTitle 2 rfl) (fun _ => ?_) (fun _ => ?_)
  · refine g_iload_n (pc := 8) X (j := 2) (i := 2) (q := 2) (x := a2) rfl rfl (dl_at t_X7_putTitle 4 rfl) ?_
    refine r_callRz (pc := 9) X (fun _ hv => s_X1_isBlank r2 hv) cw_code q1732 q355 (in_Sc X (As := [iv a2]) (Or.inr ⟨_, nw_in q2458 rfl⟩) q1731 q355 q1732 ⟨by decide, by decide⟩ rfl (dl_at t_X7_putTitle 5 rfl)) (dl_at t_X7_putTitle 5 rfl) (cat24 (st := []) (Nat.le_of_ble_eq_true rfl)) (Nat.le_of_ble_eq_true rfl) (Nat.le_of_ble_eq_true rfl) fun v9 g9 => ?_
    refine g_ifeq (pc := 12) X (r32_z g9) (off := 20) (tgt := 32) rfl (dl_at t_X7_putTitle 6 rfl) (fun _ => ?_) (fun _ => ?_)
    · refine g_aload_n (pc := 32) X (j := 0) (i := 0) (q := 0) (x := a0) rfl rfl (dl_at t_X7_putTitle 16 rfl) ?_
      refine r_getz (pc := 33) X fX7_20 hk q812 (dl_at t_X7_putTitle 17 rfl) fun g33 => ?_
      refine g_join (γ := Hp) (fun q => Ext h q) 83 (fun q => [(0, rv D a0), (1, rv D a1), (2, iv a2)]) (fun q => []) (fun q => q) (fun q => m_X7_putTitle_j83 a0 a1 a2 q) ?_ ?_
      · rintro h_83 E_83
        try dsimp only
        unfold m_X7_putTitle_j83
        refine g_aload_n (pc := 83) X (j := 0) (i := 0) (q := 0) (x := a0) rfl rfl (dl_at t_X7_putTitle 42 rfl) ?_
        refine g_iconst (pc := 84) X (n := 0) (dl_at t_X7_putTitle 43 rfl) ?_
        have k85 := kx E_83 (by decide) hk
        refine r_putz (pc := 85) X fX7_20 k85 q812 rfl (dl_at t_X7_putTitle 44 rfl) (Or.inl rfl) (fun h85 E85 => ?_)
        refine g_aload_n (pc := 88) X (j := 1) (i := 1) (q := 1) (x := a1) rfl rfl (dl_at t_X7_putTitle 45 rfl) ?_
        refine g_iload_n (pc := 89) X (j := 2) (i := 2) (q := 2) (x := a2) rfl rfl (dl_at t_X7_putTitle 46 rfl) ?_
        refine g_gd fun k90 => ?_
        refine r_callTv (pc := 90) X (fun _ hv => s_X5_add k90 r2 hv) cw_code q2038 q359 (in_Vk X (As := [iv a2]) kX5 k90 (Or.inr ⟨_, nw_in q2431 rfl⟩) q2037 qs44 cw_code q2038 ⟨by decide, by decide⟩ rfl (dl_at t_X7_putTitle 47 rfl)) (dl_at t_X7_putTitle 47 rfl) (cat24 (st := []) (Nat.le_of_ble_eq_true rfl)) (Nat.le_of_ble_eq_true rfl) (Nat.le_of_ble_eq_true rfl) (fun v90 h90 E90 => ?_) (fun _ _ ha _ => gt_at fun Q hQ => gt_out (Q := Q) X rfl ha (hno _) _ Q rfl hQ)
        refine g_aload_n (pc := 93) X (j := 0) (i := 0) (q := 0) (x := a0) rfl rfl (dl_at t_X7_putTitle 48 rfl) ?_
        refine g_dup (pc := 94) X rv_cat (dl_at t_X7_putTitle 49 rfl) ?_
        have k95 := kx (E85.trans E90) (by decide) k85
        refine r_geti (pc := 95) X fX7_19 k95 q811 (dl_at t_X7_putTitle 50 rfl) fun g95 => ?_
        refine g_iconst (pc := 98) X (n := 1) (dl_at t_X7_putTitle 51 rfl) ?_
        refine g_iadd (pc := 99) X g95 (r32_c rfl) (dl_at t_X7_putTitle 52 rfl) ?_
        refine r_puti (pc := 100) X fX7_19 k95 q811 rfl (dl_at t_X7_putTitle 53 rfl) (r32_w _) (fun h100 E100 => ?_)
        exact g_vret (pc := 103) X (v := 0) rfl rfl (dl_at t_X7_putTitle 54 rfl)
      intro J83
      refine g_join (γ := Unit) (fun q => True) 69 (fun q => [(0, rv D a0), (1, rv D a1), (2, iv a2)]) (fun q => []) (fun q => h) (fun q => m_X7_putTitle_j69 a0 a1 a2 h) ?_ ?_
      · rintro _ _
        try dsimp only
        unfold m_X7_putTitle_j69
        refine g_aload_n (pc := 69) X (j := 0) (i := 0) (q := 0) (x := a0) rfl rfl (dl_at t_X7_putTitle 35 rfl) ?_
        refine r_getz (pc := 70) X fX7_20 hk q812 (dl_at t_X7_putTitle 36 rfl) fun g70 => ?_
        refine g_ifeq (pc := 73) X (r32_z g70) (off := 10) (tgt := 83) rfl (dl_at t_X7_putTitle 37 rfl) (fun _ => ?_) (fun _ => ?_)
        · exact J83 h (Ext.refl _)
        refine g_aload_n (pc := 76) X (j := 0) (i := 0) (q := 0) (x := a0) rfl rfl (dl_at t_X7_putTitle 38 rfl) ?_
        refine g_bipush (pc := 77) X (n := 40) rfl (dl_at t_X7_putTitle 39 rfl) ?_
        refine r_puti (pc := 79) X fX7_19 hk q811 rfl (dl_at t_X7_putTitle 40 rfl) (r32_c rfl) (fun h79 E79 => ?_)
        exact g_vret (pc := 82) X (v := 0) rfl rfl (dl_at t_X7_putTitle 41 rfl)
      intro J69
      refine g_ifeq (pc := 36) X (r32_z g33) (off := 33) (tgt := 69) rfl (dl_at t_X7_putTitle 18 rfl) (fun _ => ?_) (fun _ => ?_)
      · exact J69 () trivial
      refine g_aload_n (pc := 39) X (j := 0) (i := 0) (q := 0) (x := a0) rfl rfl (dl_at t_X7_putTitle 19 rfl) ?_
      refine r_geti (pc := 40) X fX7_19 hk q811 (dl_at t_X7_putTitle 20 rfl) fun g40 => ?_
      refine g_iconst (pc := 43) X (n := 1) (dl_at t_X7_putTitle 21 rfl) ?_
      refine g_iadd (pc := 44) X g40 (r32_c rfl) (dl_at t_X7_putTitle 22 rfl) ?_
      refine g_bipush (pc := 45) X (n := 40) rfl (dl_at t_X7_putTitle 23 rfl) ?_
      refine g_icmpge (pc := 47) X (r32_w _) (r32_c rfl) (off := 22) (tgt := 69) rfl (dl_at t_X7_putTitle 24 rfl) (fun _ => ?_) (fun _ => ?_)
      · exact J69 () trivial
      refine g_aload_n (pc := 50) X (j := 1) (i := 1) (q := 1) (x := a1) rfl rfl (dl_at t_X7_putTitle 25 rfl) ?_
      refine g_bipush (pc := 51) X (n := 32) rfl (dl_at t_X7_putTitle 26 rfl) ?_
      refine g_gd fun k53 => ?_
      refine r_callTv (pc := 53) X (fun _ hv => s_X5_add k53 (r32_c rfl) hv) cw_code q2038 q359 (in_Vk X (As := [iv 32]) kX5 k53 (Or.inr ⟨_, nw_in q2431 rfl⟩) q2037 qs44 cw_code q2038 ⟨by decide, by decide⟩ rfl (dl_at t_X7_putTitle 27 rfl)) (dl_at t_X7_putTitle 27 rfl) (cat24 (st := []) (Nat.le_of_ble_eq_true rfl)) (Nat.le_of_ble_eq_true rfl) (Nat.le_of_ble_eq_true rfl) (fun v53 h53 E53 => ?_) (fun _ _ ha _ => gt_at fun Q hQ => gt_out (Q := Q) X rfl ha (hno _) _ Q rfl hQ)
      refine g_aload_n (pc := 56) X (j := 0) (i := 0) (q := 0) (x := a0) rfl rfl (dl_at t_X7_putTitle 28 rfl) ?_
      refine g_dup (pc := 57) X rv_cat (dl_at t_X7_putTitle 29 rfl) ?_
      have k58 := kx E53 (by decide) hk
      refine r_geti (pc := 58) X fX7_19 k58 q811 (dl_at t_X7_putTitle 30 rfl) fun g58 => ?_
      refine g_iconst (pc := 61) X (n := 1) (dl_at t_X7_putTitle 31 rfl) ?_
      refine g_iadd (pc := 62) X g58 (r32_c rfl) (dl_at t_X7_putTitle 32 rfl) ?_
      refine r_puti (pc := 63) X fX7_19 k58 q811 rfl (dl_at t_X7_putTitle 33 rfl) (r32_w _) (fun h63 E63 => ?_)
      refine g_goto (pc := 66) X (off := 17) (tgt := 83) rfl (dl_at t_X7_putTitle 34 rfl) ?_
      exact J83 h63 (E53.trans E63)
    refine g_aload_n (pc := 15) X (j := 0) (i := 0) (q := 0) (x := a0) rfl rfl (dl_at t_X7_putTitle 7 rfl) ?_
    refine g_aload_n (pc := 16) X (j := 0) (i := 0) (q := 0) (x := a0) rfl rfl (dl_at t_X7_putTitle 8 rfl) ?_
    refine r_geti (pc := 17) X fX7_19 hk q811 (dl_at t_X7_putTitle 9 rfl) fun g17 => ?_
    refine g_ifle (pc := 20) X g17 (off := 7) (tgt := 27) rfl (dl_at t_X7_putTitle 10 rfl) (fun _ => ?_) (fun _ => ?_)
    · refine g_iconst (pc := 27) X (n := 0) (dl_at t_X7_putTitle 13 rfl) ?_
      refine r_putz (pc := 28) X fX7_20 hk q812 rfl (dl_at t_X7_putTitle 14 rfl) (Or.inl rfl) (fun h28 E28 => ?_)
      exact g_vret (pc := 31) X (v := 0) rfl rfl (dl_at t_X7_putTitle 15 rfl)
    refine g_iconst (pc := 23) X (n := 1) (dl_at t_X7_putTitle 11 rfl) ?_
    refine g_goto (pc := 24) X (off := 4) (tgt := 28) rfl (dl_at t_X7_putTitle 12 rfl) ?_
    refine r_putz (pc := 28) X fX7_20 hk q812 rfl (dl_at t_X7_putTitle 14 rfl) (Or.inr rfl) (fun h28_1 E28_1 => ?_)
    exact g_vret (pc := 31) X (v := 0) rfl rfl (dl_at t_X7_putTitle 15 rfl)
  exact g_vret (pc := 7) X (v := 0) rfl rfl (dl_at t_X7_putTitle 3 rfl)
def k_X7_titleLabel : List (Nat × Instr × Nat) := [(0, .aload_n 0, 1), (1, .iload_n 1, 1), (2, .invokevirtual 279, 3), (5, .istore_n 3, 1), (6, .iconst 0, 1), (7, .istore 4, 2), (9, .iload 4, 2), (11, .iload_n 3, 1), (12, .if_icmp .ge 82, 3), (15, .aload_n 0, 1), (16, .invokevirtual 268, 3), (19, .ifCond .ne 75, 3), (22, .aload_n 0, 1), (23, .iload_n 1, 1), (24, .iload 4, 2), (26, .invokevirtual 282, 3), (29, .istore 5, 2), (31, .iload 5, 2), (33, .bipush 35, 2), (35, .if_icmp .eq 10, 3), (38, .aload_n 0, 1), (39, .aload_n 2, 1), (40, .iload 5, 2), (42, .invokevirtual 285, 3), (45, .iconst 0, 1), (46, .istore 6, 2), (48, .iload 5, 2), (50, .bipush 35, 2), (52, .if_icmp .ne 36, 3), (55, .iload 6, 2), (57, .aload_n 0, 1), (58, .getfield 62, 3), (61, .getfield 261, 3), (64, .if_icmp .ge 24, 3), (67, .aload_n 0, 1), (68, .aload_n 2, 1), (69, .aload_n 0, 1), (70, .getfield 62, 3), (73, .getfield 207, 3), (76, .iload 6, 2), (78, .baload, 1), (79, .invokevirtual 285, 3), (82, .iinc 6 1, 3), (85, .goto (-37), 3), (88, .iinc 4 1, 3), (91, .goto (-82), 3), (94, .return_, 1)]
theorem t_X7_titleLabel : ∀ q ∈ k_X7_titleLabel, decode cX7_titleLabel q.1 = .ok q.2 := dl_all (by decide +kernel)
noncomputable def m_X7_titleLabel_l48 (a0 a2 v26 x6_48 : Int) (h_48 : Hp) : Option ((Int × Hp) ⊕ ((Hp) ⊕ (((Int × Hp) ⊕ (((Int × Int) × Hp)))))) :=
  if v26 ≠ 35 then (some (.inr (.inl h_48)))
  else (gd (h_48 (h_48 a0 18) (-2) = 80) (if (h_48 (h_48 a0 18) 1) ≤ x6_48 then (some (.inr (.inl h_48)))
  else (gd (h_48 (h_48 (h_48 a0 18) 0) (-2) % 16 = 2 ∧ (0 : Int) ≤ x6_48 ∧ x6_48 < h_48 (h_48 (h_48 a0 18) 0) (-1)) (bT (m_X7_putTitle a0 a2 (h_48 (h_48 (h_48 a0 18) 0) x6_48) h_48) (fun _ h79 =>
  lt_ (w32 (x6_48 + 1)) fun x6_82 =>
  some (.inl (x6_82, h79))) (fun a_ h_ => some (.inr (.inr (.inr ((1, a_), h_)))))))))
noncomputable def m_X7_titleLabel_j45 (v26 x4_9 a0 a2 : Int) (h_45 : Hp) : Option ((Int × Hp) ⊕ (((Int × Int) × Hp))) :=
  lt_ 0 fun x6_46 =>
  (lp (fun (q : Int × Hp) => m_X7_titleLabel_l48 a0 a2 v26 q.1 q.2) (x6_46, h_45)).bind (sE (fun (y88 : Hp) => lt_ (w32 (x4_9 + 1)) fun x4_88 =>
  some (.inl (x4_88, y88))) (fun (x : (Int × Hp) ⊕ (((Int × Int) × Hp))) => some x))
noncomputable def m_X7_titleLabel_l9 (a0 a1 a2 v2 x4_9 : Int) (h_9 : Hp) : Option ((Int × Hp) ⊕ (((Int × Int) × Hp))) :=
  if v2 ≤ x4_9 then (some (.inr ((0, 0), h_9)))
  else ((m_X7_isFull a0 h_9).bind fun v16 =>
  if v16 ≠ 0 then (some (.inr ((0, 0), h_9)))
  else ((m_X7_labelByte a0 a1 x4_9 h_9).bind fun v26 =>
  if v26 = 35 then (m_X7_titleLabel_j45 v26 x4_9 a0 a2 h_9)
  else (bT (m_X7_putTitle a0 a2 v26 h_9) (fun _ h42 =>
  m_X7_titleLabel_j45 v26 x4_9 a0 a2 h42) (fun a_ h_ => some (.inr ((1, a_), h_))))))
noncomputable def m_X7_titleLabel (a0 a1 a2 : Int) (h : Hp) : Option ((Int × Int) × Hp) :=
  bT (m_X7_labelOf a0 a1 h) (fun v2 h2 =>
  lt_ 0 fun x4_7 =>
  (lp (fun (q : Int × Hp) => m_X7_titleLabel_l9 a0 a1 a2 v2 q.1 q.2) (x4_7, h2)).bind (fun (x : (Int × Int) × Hp) => some x)) (fun a_ h_ => some ((1, a_), h_))
theorem s_X7_titleLabel {l : Launch} [NoTr l] {D : SD} {a0 a1 a2 : Int} {h : Hp} (hk : h a0 (-2) = 112) (r1 : r32 a1) {r : (Int × Int) × Hp} (hm : m_X7_titleLabel a0 a1 a2 h = some r) : Sim l D yX7_titleLabel (Cond.code yX7_titleLabel cX7_titleLabel 7 (Option.none : Option Jvm.ClassFile.FieldType)) 39 1472 [rv D a0, iv a1, rv D a2] h 0 r := by
  refine Sim.of (fin := fun (v : (Int × Int) × Hp) => v) (lsE := [(0, rv D a0), (1, iv a1), (2, rv D a2)]) hm rfl cwS_code (la_r (la_i (la_r la_n))) (ll_r (ll_i (ll_r ll_n))) ?_
  intro p e s m below meth c X hcw hmm hcc hnm hname
  have hno := noh hcw hnm hmm hcc
  unfold m_X7_titleLabel
  refine g_aload_n (pc := 0) X (j := 0) (i := 0) (q := 0) (x := a0) rfl rfl (dl_at t_X7_titleLabel 0 rfl) ?_
  refine g_iload_n (pc := 1) X (j := 1) (i := 1) (q := 1) (x := a1) rfl rfl (dl_at t_X7_titleLabel 1 rfl) ?_
  refine r_callTi (pc := 2) X (fun _ hv => s_X7_labelOf hk r1 hv) cw_code q2412 q361 (in_Vk X (As := [iv a1]) kX7 hk (Or.inl q2409) q2411 qs101 cw_code q2412 ⟨by decide, by decide⟩ rfl (dl_at t_X7_titleLabel 2 rfl)) (dl_at t_X7_titleLabel 2 rfl) (cat24 (st := []) (Nat.le_of_ble_eq_true rfl)) (Nat.le_of_ble_eq_true rfl) (Nat.le_of_ble_eq_true rfl) (fun v2 h2 g2 E2 => ?_) (fun _ _ ha _ => gt_at fun Q hQ => gt_out (Q := Q) X rfl ha (hno _) _ Q rfl hQ)
  refine g_istore_nN (pc := 5) X (j := 3) (i := 3) (x := v2) (b := 2) (w := rv D a2) (rest := [(0, rv D a0), (1, iv a1)]) rfl (Nat.le_of_ble_eq_true rfl) [2, 0, 1] rfl (by decide) rv_cat rfl (dl_at t_X7_titleLabel 3 rfl) ?_
  refine g_iconst (pc := 6) X (n := 0) (dl_at t_X7_titleLabel 4 rfl) ?_
  refine g_ltz (Or.inl rfl) fun x4_7 r4_7 => ?_
  refine g_istoreN (pc := 7) X (i := 4) (x := x4_7) (b := 3) (w := iv v2) (rest := [(2, rv D a2), (0, rv D a0), (1, iv a1)]) (Nat.le_of_ble_eq_true rfl) [0, 1, 2, 3] rfl (by decide) rfl rfl (dl_at t_X7_titleLabel 5 rfl) ?_
  refine g_ls (ls2 := [(0, rv D a0), (1, iv a1), (2, rv D a2), (3, iv v2), (4, iv x4_7)]) [3, 4, 2, 1, 0] rfl ?_
  refine g_loop0F (fun (q : Int × Hp) => [(0, rv D a0), (1, iv a1), (2, rv D a2), (3, iv v2), (4, iv q.1)]) (fun (q : Int × Hp) => q.2) (fun (q : Int × Hp) => r32 q.1 ∧ Ext h2 q.2) (x4_7, h2) ⟨(r32_z r4_7), (Ext.refl _)⟩ ?_ (fun _ => rfl)
  · rintro ⟨x4_9, h_9⟩ ⟨r4_9, E_9⟩
    try dsimp only
    unfold m_X7_titleLabel_l9
    refine g_iload (pc := 9) X (i := 4) (q := 4) (x := x4_9) rfl (dl_at t_X7_titleLabel 6 rfl) ?_
    refine g_iload_n (pc := 11) X (j := 3) (i := 3) (q := 3) (x := v2) rfl rfl (dl_at t_X7_titleLabel 7 rfl) ?_
    refine g_icmpge (pc := 12) X r4_9 g2 (off := 82) (tgt := 94) rfl (dl_at t_X7_titleLabel 8 rfl) (fun _ => ?_) (fun _ => ?_)
    · exact g_at fun Q hQ => (g_vret (pc := 94) X (v := 0) rfl rfl (dl_at t_X7_titleLabel 46 rfl)) _ Q rfl hQ
    refine g_aload_n (pc := 15) X (j := 0) (i := 0) (q := 0) (x := a0) rfl rfl (dl_at t_X7_titleLabel 9 rfl) ?_
    have k16 := kx (E2.trans E_9) (by decide) hk
    refine r_callRz (pc := 16) X (fun _ hv => s_X7_isFull k16 hv) cw_code q2449 q361 (in_Vk X (As := []) kX7 k16 (Or.inl q2446) q2448 qs106 cw_code q2449 ⟨by decide, by decide⟩ rfl (dl_at t_X7_titleLabel 10 rfl)) (dl_at t_X7_titleLabel 10 rfl) (cat24 (st := []) (Nat.le_of_ble_eq_true rfl)) (Nat.le_of_ble_eq_true rfl) (Nat.le_of_ble_eq_true rfl) fun v16 g16 => ?_
    refine g_ifne (pc := 19) X (r32_z g16) (off := 75) (tgt := 94) rfl (dl_at t_X7_titleLabel 11 rfl) (fun _ => ?_) (fun _ => ?_)
    · exact g_at fun Q hQ => (g_vret (pc := 94) X (v := 0) rfl rfl (dl_at t_X7_titleLabel 46 rfl)) _ Q rfl hQ
    refine g_aload_n (pc := 22) X (j := 0) (i := 0) (q := 0) (x := a0) rfl rfl (dl_at t_X7_titleLabel 12 rfl) ?_
    refine g_iload_n (pc := 23) X (j := 1) (i := 1) (q := 1) (x := a1) rfl rfl (dl_at t_X7_titleLabel 13 rfl) ?_
    refine g_iload (pc := 24) X (i := 4) (q := 4) (x := x4_9) rfl (dl_at t_X7_titleLabel 14 rfl) ?_
    refine r_callRi (pc := 26) X (fun _ hv => s_X7_labelByte k16 r1 r4_9 hv) cw_code q2453 q361 (in_Vk X (As := [iv a1, iv x4_9]) kX7 k16 (Or.inl q2450) q2452 qs107 cw_code q2453 ⟨by decide, by decide⟩ rfl (dl_at t_X7_titleLabel 15 rfl)) (dl_at t_X7_titleLabel 15 rfl) (cat24 (st := []) (Nat.le_of_ble_eq_true rfl)) (Nat.le_of_ble_eq_true rfl) (Nat.le_of_ble_eq_true rfl) fun v26 g26 => ?_
    refine g_istoreN (pc := 29) X (i := 5) (x := v26) (b := 4) (w := iv x4_9) (rest := [(0, rv D a0), (1, iv a1), (2, rv D a2), (3, iv v2)]) (Nat.le_of_ble_eq_true rfl) [4, 0, 1, 2, 3] rfl (by decide) rfl rfl (dl_at t_X7_titleLabel 16 rfl) ?_
    refine g_iload (pc := 31) X (i := 5) (q := 0) (x := v26) rfl (dl_at t_X7_titleLabel 17 rfl) ?_
    refine g_bipush (pc := 33) X (n := 35) rfl (dl_at t_X7_titleLabel 18 rfl) ?_
    refine g_join (γ := Hp) (fun q => Ext h_9 q) 45 (fun q => [(0, rv D a0), (1, iv a1), (2, rv D a2), (3, iv v2), (4, iv x4_9), (5, iv v26)]) (fun q => []) (fun q => q) (fun q => m_X7_titleLabel_j45 v26 x4_9 a0 a2 q) ?_ ?_
    · rintro h_45 E_45
      try dsimp only
      unfold m_X7_titleLabel_j45
      refine g_iconst (pc := 45) X (n := 0) (dl_at t_X7_titleLabel 24 rfl) ?_
      refine g_ltz (Or.inl rfl) fun x6_46 r6_46 => ?_
      refine g_istoreN (pc := 46) X (i := 6) (x := x6_46) (b := 5) (w := iv v26) (rest := [(0, rv D a0), (1, iv a1), (2, rv D a2), (3, iv v2), (4, iv x4_9)]) (Nat.le_of_ble_eq_true rfl) [5, 0, 1, 2, 3, 4] rfl (by decide) rfl rfl (dl_at t_X7_titleLabel 25 rfl) ?_
      refine g_ls (ls2 := [(0, rv D a0), (1, iv a1), (2, rv D a2), (3, iv v2), (4, iv x4_9), (5, iv v26), (6, iv x6_46)]) [2, 3, 4, 5, 6, 1, 0] rfl ?_
      refine g_loop1F (fun (q : Int × Hp) => [(0, rv D a0), (1, iv a1), (2, rv D a2), (3, iv v2), (4, iv x4_9), (5, iv v26), (6, iv q.1)]) (fun (q : Int × Hp) => q.2) (fun (q : Int × Hp) => r32 q.1 ∧ Ext h_45 q.2) 88 (fun (y88 : Hp) => [(0, rv D a0), (1, iv a1), (2, rv D a2), (3, iv v2), (4, iv x4_9)]) (fun (y88 : Hp) => y88) (fun (y88 : Hp) => Ext h_45 y88) (x6_46, h_45) ⟨(r32_z r6_46), (Ext.refl _)⟩ ?_ ?_ (fun _ => rfl)
      · rintro ⟨x6_48, h_48⟩ ⟨r6_48, E_48⟩
        try dsimp only
        unfold m_X7_titleLabel_l48
        refine g_iload (pc := 48) X (i := 5) (q := 5) (x := v26) rfl (dl_at t_X7_titleLabel 26 rfl) ?_
        refine g_bipush (pc := 50) X (n := 35) rfl (dl_at t_X7_titleLabel 27 rfl) ?_
        refine g_icmpne (pc := 52) X g26 (r32_c rfl) (off := 36) (tgt := 88) rfl (dl_at t_X7_titleLabel 28 rfl) (fun _ => ?_) (fun _ => ?_)
        · refine g_ls (ls2 := [(0, rv D a0), (1, iv a1), (2, rv D a2), (3, iv v2), (4, iv x4_9)]) [0, 1, 2, 3, 4] rfl ?_
          exact g_at fun Q hQ => hQ E_48
        refine g_iload (pc := 55) X (i := 6) (q := 6) (x := x6_48) rfl (dl_at t_X7_titleLabel 29 rfl) ?_
        refine g_aload_n (pc := 57) X (j := 0) (i := 0) (q := 0) (x := a0) rfl rfl (dl_at t_X7_titleLabel 30 rfl) ?_
        have k58 := kx (E_45.trans E_48) (by decide) k16
        refine r_getr (pc := 58) X fX7_18 k58 q809 (dl_at t_X7_titleLabel 31 rfl) ?_
        refine g_gd fun k61 => ?_
        refine r_getiN (pc := 61) X fX5_1 k61 (nw_in q508 rfl) (dl_at t_X7_titleLabel 32 rfl) fun g61 => ?_
        refine g_icmpge (pc := 64) X r6_48 g61 (off := 24) (tgt := 88) rfl (dl_at t_X7_titleLabel 33 rfl) (fun _ => ?_) (fun _ => ?_)
        · refine g_ls (ls2 := [(0, rv D a0), (1, iv a1), (2, rv D a2), (3, iv v2), (4, iv x4_9)]) [0, 1, 2, 3, 4] rfl ?_
          exact g_at fun Q hQ => hQ E_48
        refine g_aload_n (pc := 67) X (j := 0) (i := 0) (q := 0) (x := a0) rfl rfl (dl_at t_X7_titleLabel 34 rfl) ?_
        refine g_aload_n (pc := 68) X (j := 2) (i := 2) (q := 2) (x := a2) rfl rfl (dl_at t_X7_titleLabel 35 rfl) ?_
        refine g_aload_n (pc := 69) X (j := 0) (i := 0) (q := 0) (x := a0) rfl rfl (dl_at t_X7_titleLabel 36 rfl) ?_
        refine r_getr (pc := 70) X fX7_18 k58 q809 (dl_at t_X7_titleLabel 37 rfl) ?_
        refine r_getrN (pc := 73) X fX5_0 k61 (nw_in q502 rfl) (dl_at t_X7_titleLabel 38 rfl) ?_
        refine g_iload (pc := 76) X (i := 6) (q := 6) (x := x6_48) rfl (dl_at t_X7_titleLabel 39 rfl) ?_
        refine g_gd fun k78 => ?_
        refine g_bald (pc := 78) X r6_48 k78 (dl_at t_X7_titleLabel 40 rfl) fun g78 => ?_
        refine r_callTv (pc := 79) X (fun _ hv => s_X7_putTitle k58 (r32_b g78) hv) cw_code q2457 q361 (in_Vk X (As := [rv D a2, iv (h_48 (h_48 (h_48 a0 18) 0) x6_48)]) kX7 k58 (Or.inl q2454) q2456 qs108 cw_code q2457 ⟨by decide, by decide⟩ rfl (dl_at t_X7_titleLabel 41 rfl)) (dl_at t_X7_titleLabel 41 rfl) (cat24 (st := []) (Nat.le_of_ble_eq_true rfl)) (Nat.le_of_ble_eq_true rfl) (Nat.le_of_ble_eq_true rfl) (fun v79 h79 E79 => ?_) (fun _ _ ha _ => gt_at fun Q hQ => gt_out (Q := Q) X rfl ha (hno _) _ Q rfl hQ)
        refine r_iincN (pc := 82) X (i := 6) (q := 6) (n := 1) (x := x6_48) (b := 5) (w := iv v26) (rest := [(0, rv D a0), (1, iv a1), (2, rv D a2), (3, iv v2), (4, iv x4_9)]) rfl r6_48 (r32_c rfl) (Nat.le_of_ble_eq_true rfl) [5, 0, 1, 2, 3, 4] rfl (by decide) rfl rfl (dl_at t_X7_titleLabel 42 rfl) fun x6_82 r6_82 => ?_
        refine g_goto (pc := 85) X (off := (-37)) (tgt := 48) rfl (dl_at t_X7_titleLabel 43 rfl) ?_
        refine g_ls (ls2 := [(0, rv D a0), (1, iv a1), (2, rv D a2), (3, iv v2), (4, iv x4_9), (5, iv v26), (6, iv x6_82)]) [2, 3, 4, 5, 6, 1, 0] rfl ?_
        exact g_at fun Q hQ => hQ ⟨r6_82, (E_48.trans E79)⟩
      · rintro h_88 E_88
        try dsimp only [sE]
        refine r_iincN (pc := 88) X (i := 4) (q := 4) (n := 1) (x := x4_9) (b := 3) (w := iv v2) (rest := [(0, rv D a0), (1, iv a1), (2, rv D a2)]) rfl r4_9 (r32_c rfl) (Nat.le_of_ble_eq_true rfl) [3, 0, 1, 2] rfl (by decide) rfl rfl (dl_at t_X7_titleLabel 44 rfl) fun x4_88 r4_88 => ?_
        refine g_goto (pc := 91) X (off := (-82)) (tgt := 9) rfl (dl_at t_X7_titleLabel 45 rfl) ?_
        refine g_ls (ls2 := [(0, rv D a0), (1, iv a1), (2, rv D a2), (3, iv v2), (4, iv x4_88)]) [2, 3, 4, 1, 0] rfl ?_
        exact g_at fun Q hQ => hQ ⟨r4_88, (E_9.trans (E_45.trans E_88))⟩
    intro J45
    refine g_icmpeq (pc := 35) X g26 (r32_c rfl) (off := 10) (tgt := 45) rfl (dl_at t_X7_titleLabel 19 rfl) (fun _ => ?_) (fun _ => ?_)
    · refine g_ls (ls2 := [(0, rv D a0), (1, iv a1), (2, rv D a2), (3, iv v2), (4, iv x4_9), (5, iv v26)]) [2, 3, 4, 5, 1, 0] rfl ?_
      exact J45 h_9 (Ext.refl _)
    refine g_aload_n (pc := 38) X (j := 0) (i := 0) (q := 2) (x := a0) rfl rfl (dl_at t_X7_titleLabel 20 rfl) ?_
    refine g_aload_n (pc := 39) X (j := 2) (i := 2) (q := 4) (x := a2) rfl rfl (dl_at t_X7_titleLabel 21 rfl) ?_
    refine g_iload (pc := 40) X (i := 5) (q := 0) (x := v26) rfl (dl_at t_X7_titleLabel 22 rfl) ?_
    refine r_callTv (pc := 42) X (fun _ hv => s_X7_putTitle k16 g26 hv) cw_code q2457 q361 (in_Vk X (As := [rv D a2, iv v26]) kX7 k16 (Or.inl q2454) q2456 qs108 cw_code q2457 ⟨by decide, by decide⟩ rfl (dl_at t_X7_titleLabel 23 rfl)) (dl_at t_X7_titleLabel 23 rfl) (cat24 (st := []) (Nat.le_of_ble_eq_true rfl)) (Nat.le_of_ble_eq_true rfl) (Nat.le_of_ble_eq_true rfl) (fun v42 h42 E42 => ?_) (fun _ _ ha _ => gt_at fun Q hQ => gt_out (Q := Q) X rfl ha (hno _) _ Q rfl hQ)
    refine g_ls (ls2 := [(0, rv D a0), (1, iv a1), (2, rv D a2), (3, iv v2), (4, iv x4_9), (5, iv v26)]) [2, 3, 4, 5, 1, 0] rfl ?_
    exact J45 h42 E42
def k_X6_byteOf : List (Nat × Instr × Nat) := [(0, .aload_n 0, 1), (1, .getfield 68, 3), (4, .iload_n 1, 1), (5, .iaload, 1), (6, .ifCond .ge 14, 3), (9, .iconst (-1), 1), (10, .aload_n 0, 1), (11, .getfield 68, 3), (14, .iload_n 1, 1), (15, .iaload, 1), (16, .isub, 1), (17, .goto 16, 3), (20, .aload_n 0, 1), (21, .getfield 9, 3), (24, .aload_n 0, 1), (25, .getfield 68, 3), (28, .iload_n 1, 1), (29, .iaload, 1), (30, .iload_n 2, 1), (31, .iadd, 1), (32, .baload, 1), (33, .ireturn, 1)]
theorem t_X6_byteOf : ∀ q ∈ k_X6_byteOf, decode cX6_byteOf q.1 = .ok q.2 := dl_all (by decide +kernel)
noncomputable def m_X6_byteOf (a0 a1 a2 : Int) (h : Hp) : Option (Int) :=
  gd (h (h a0 22) (-2) % 16 = 1 ∧ (0 : Int) ≤ a1 ∧ a1 < h (h a0 22) (-1)) (if 0 ≤ (h (h a0 22) a1) then (gd (h (h a0 0) (-2) % 16 = 2 ∧ (0 : Int) ≤ (w32 ((h (h a0 22) a1) + a2)) ∧ (w32 ((h (h a0 22) a1) + a2)) < h (h a0 0) (-1)) (some (h (h a0 0) (w32 ((h (h a0 22) a1) + a2)))))
  else (some (w32 ((-1) - (h (h a0 22) a1)))))
theorem s_X6_byteOf {l : Launch} [NoTr l] {D : SD} {a0 a1 a2 : Int} {h : Hp} (hk : h a0 (-2) = 96) (r1 : r32 a1) (r2 : r32 a2) {r : Int} (hm : m_X6_byteOf a0 a1 a2 h = some r) : Sim l D yX6_byteOf (Cond.code yX6_byteOf cX6_byteOf 3 (Option.some Jvm.ClassFile.FieldType.int)) 0 0 [rv D a0, iv a1, iv a2] h 1 ((0, r), h) := by
  refine Sim.of (fin := fun (v : Int) => ((0, v), h)) (lsE := [(0, rv D a0), (1, iv a1), (2, iv a2)]) hm rfl cwS_code (la_r (la_i (la_i la_n))) (ll_r (ll_i (ll_i ll_n))) ?_
  intro p e s m below meth c X hcw hmm hcc hnm hname
  unfold m_X6_byteOf
  refine g_aload_n (pc := 0) X (j := 0) (i := 0) (q := 0) (x := a0) rfl rfl (dl_at t_X6_byteOf 0 rfl) ?_
  refine r_getr (pc := 1) X fX6_22 hk q693 (dl_at t_X6_byteOf 1 rfl) ?_
  refine g_iload_n (pc := 4) X (j := 1) (i := 1) (q := 1) (x := a1) rfl rfl (dl_at t_X6_byteOf 2 rfl) ?_
  refine g_gd fun k5 => ?_
  refine g_iald (pc := 5) X r1 k5 (dl_at t_X6_byteOf 3 rfl) fun g5 => ?_
  refine g_ifge (pc := 6) X g5 (off := 14) (tgt := 20) rfl (dl_at t_X6_byteOf 4 rfl) (fun _ => ?_) (fun _ => ?_)
  · refine g_aload_n (pc := 20) X (j := 0) (i := 0) (q := 0) (x := a0) rfl rfl (dl_at t_X6_byteOf 12 rfl) ?_
    refine r_getr (pc := 21) X fX6_0 hk q645 (dl_at t_X6_byteOf 13 rfl) ?_
    refine g_aload_n (pc := 24) X (j := 0) (i := 0) (q := 0) (x := a0) rfl rfl (dl_at t_X6_byteOf 14 rfl) ?_
    refine r_getr (pc := 25) X fX6_22 hk q693 (dl_at t_X6_byteOf 15 rfl) ?_
    refine g_iload_n (pc := 28) X (j := 1) (i := 1) (q := 1) (x := a1) rfl rfl (dl_at t_X6_byteOf 16 rfl) ?_
    refine g_iald (pc := 29) X r1 k5 (dl_at t_X6_byteOf 17 rfl) fun g29 => ?_
    refine g_iload_n (pc := 30) X (j := 2) (i := 2) (q := 2) (x := a2) rfl rfl (dl_at t_X6_byteOf 18 rfl) ?_
    refine g_iadd (pc := 31) X g29 r2 (dl_at t_X6_byteOf 19 rfl) ?_
    refine g_gd fun k32 => ?_
    refine g_bald (pc := 32) X (r32_w _) k32 (dl_at t_X6_byteOf 20 rfl) fun g32 => ?_
    exact g_iret (pc := 33) X (r32_b g32) rfl rfl (dl_at t_X6_byteOf 21 rfl)
  refine g_iconst (pc := 9) X (n := (-1)) (dl_at t_X6_byteOf 5 rfl) ?_
  refine g_aload_n (pc := 10) X (j := 0) (i := 0) (q := 0) (x := a0) rfl rfl (dl_at t_X6_byteOf 6 rfl) ?_
  refine r_getr (pc := 11) X fX6_22 hk q693 (dl_at t_X6_byteOf 7 rfl) ?_
  refine g_iload_n (pc := 14) X (j := 1) (i := 1) (q := 1) (x := a1) rfl rfl (dl_at t_X6_byteOf 8 rfl) ?_
  refine g_iald (pc := 15) X r1 k5 (dl_at t_X6_byteOf 9 rfl) fun g15 => ?_
  refine g_isub (pc := 16) X (r32_c rfl) g15 (dl_at t_X6_byteOf 10 rfl) ?_
  refine g_goto (pc := 17) X (off := 16) (tgt := 33) rfl (dl_at t_X6_byteOf 11 rfl) ?_
  exact g_iret (pc := 33) X (r32_w _) rfl rfl (dl_at t_X6_byteOf 21 rfl)
def k_X7_title : List (Nat × Instr × Nat) := [(0, .aload_n 0, 1), (1, .getfield 23, 3), (4, .iload_n 1, 1), (5, .baload, 1), (6, .ifCond .ne 4, 3), (9, .return_, 1), (10, .aload_n 0, 1), (11, .iconst 0, 1), (12, .putfield 265, 3), (15, .aload_n 0, 1), (16, .iconst 0, 1), (17, .putfield 275, 3), (20, .aload_n 0, 1), (21, .iload_n 1, 1), (22, .aload_n 2, 1), (23, .invokevirtual 288, 3), (26, .aload_n 0, 1), (27, .getfield 51, 3), (30, .iload_n 1, 1), (31, .iaload, 1), (32, .iconst 1, 1), (33, .iadd, 1), (34, .istore_n 3, 1), (35, .iconst (-1), 1), (36, .istore 4, 2), (38, .iconst 1, 1), (39, .istore 5, 2), (41, .iload 5, 2), (43, .ifCond .eq 179, 3), (46, .aload_n 0, 1), (47, .invokevirtual 268, 3), (50, .ifCond .ne 172, 3), (53, .aload_n 0, 1), (54, .getfield 66, 3), (57, .getfield 291, 3), (60, .iload_n 3, 1), (61, .iaload, 1), (62, .istore 6, 2), (64, .aload_n 0, 1), (65, .getfield 66, 3), (68, .getfield 294, 3), (71, .iload_n 3, 1), (72, .iaload, 1), (73, .istore 7, 2), (75, .iload 6, 2), (77, .iconst 1, 1), (78, .if_icmp .ne 25, 3), (81, .iload 7, 2), (83, .iload_n 1, 1), (84, .if_icmp .ne 6, 3), (87, .iconst 0, 1), (88, .istore 5, 2), (90, .iload 7, 2), (92, .iload 4, 2), (94, .if_icmp .ne 122, 3), (97, .iconst (-1), 1), (98, .istore 4, 2), (100, .goto 116, 3), (103, .iload 6, 2), (105, .ifCond .ne 48, 3), (108, .iload 4, 2), (110, .ifCond .ge 28, 3), (113, .aload_n 0, 1), (114, .getfield 23, 3), (117, .iload 7, 2), (119, .baload, 1), (120, .ifCond .eq 14, 3), (123, .aload_n 0, 1), (124, .iload 7, 2), (126, .iconst 0, 1), (127, .invokevirtual 131, 3), (130, .iconst 3, 1), (131, .if_icmp .ne 7, 3), (134, .iload 7, 2), (136, .istore 4, 2), (138, .iload 4, 2), (140, .ifCond .ge 76, 3), (143, .aload_n 0, 1), (144, .iload 7, 2), (146, .aload_n 2, 1), (147, .invokevirtual 288, 3), (150, .goto 66, 3), (153, .iload 4, 2), (155, .ifCond .ge 61, 3), (158, .aload_n 0, 1), (159, .aload_n 0, 1), (160, .getfield 54, 3), (163, .iload_n 3, 1), (164, .iaload, 1), (165, .invokevirtual 255, 3), (168, .ifCond .ne 48, 3), (171, .iconst 0, 1), (172, .istore 8, 2), (174, .iload 8, 2), (176, .aload_n 0, 1), (177, .getfield 66, 3), (180, .getfield 297, 3), (183, .iload_n 3, 1), (184, .iaload, 1), (185, .if_icmp .ge 31, 3), (188, .aload_n 0, 1), (189, .invokevirtual 268, 3), (192, .ifCond .ne 24, 3), (195, .aload_n 0, 1), (196, .aload_n 2, 1), (197, .aload_n 0, 1), (198, .getfield 66, 3), (201, .iload_n 3, 1), (202, .iload 8, 2), (204, .invokevirtual 300, 3), (207, .invokevirtual 285, 3), (210, .iinc 8 1, 3), (213, .goto (-39), 3), (216, .iinc 3 1, 3), (219, .goto (-178), 3), (222, .return_, 1)]
theorem t_X7_title : ∀ q ∈ k_X7_title, decode cX7_title q.1 = .ok q.2 := dl_all (by decide +kernel)
noncomputable def m_X7_title_j216 (x3_41 x4_216 x5_216 : Int) (h_216 : Hp) : Option ((Int × Int × Int × Hp) ⊕ (((Int × Int) × Hp))) :=
  lt_ (w32 (x3_41 + 1)) fun x3_216 =>
  some (.inl (x3_216, x4_216, x5_216, h_216))
noncomputable def m_X7_title_l174 (a0 a2 x3_41 x8_174 : Int) (h_174 : Hp) : Option ((Int × Hp) ⊕ ((Hp) ⊕ (((Int × Int × Int × Hp) ⊕ (((Int × Int) × Hp)))))) :=
  gd (h_174 (h_174 a0 0) (-2) = 96) (gd (h_174 (h_174 (h_174 a0 0) 23) (-2) % 16 = 1 ∧ (0 : Int) ≤ x3_41 ∧ x3_41 < h_174 (h_174 (h_174 a0 0) 23) (-1)) (if (h_174 (h_174 (h_174 a0 0) 23) x3_41) ≤ x8_174 then (some (.inr (.inl h_174)))
  else ((m_X7_isFull a0 h_174).bind fun v189 =>
  if v189 ≠ 0 then (some (.inr (.inl h_174)))
  else ((m_X6_byteOf (h_174 a0 0) x3_41 x8_174 h_174).bind fun v204 =>
  bT (m_X7_putTitle a0 a2 v204 h_174) (fun _ h207 =>
  lt_ (w32 (x8_174 + 1)) fun x8_210 =>
  some (.inl (x8_210, h207))) (fun a_ h_ => some (.inr (.inr (.inr ((1, a_), h_)))))))))
noncomputable def m_X7_title_j138 (x7_73 x5_41 a0 a2 x3_41 x4_138 : Int) (h_41 : Hp) : Option ((Int × Int × Int × Hp) ⊕ (((Int × Int) × Hp))) :=
  if 0 ≤ x4_138 then (m_X7_title_j216 x3_41 x4_138 x5_41 h_41)
  else (bT (m_X7_titleLabel a0 x7_73 a2 h_41) (fun _ h147 =>
  m_X7_title_j216 x3_41 x4_138 x5_41 h147) (fun a_ h_ => some (.inr ((1, a_), h_))))
noncomputable def m_X7_title_j134 (x7_73 x5_41 a0 a2 x3_41 : Int) (h_41 : Hp) : Option ((Int × Int × Int × Hp) ⊕ (((Int × Int) × Hp))) :=
  m_X7_title_j138 x7_73 x5_41 a0 a2 x3_41 x7_73 h_41
noncomputable def m_X7_title_j90 (x7_73 x3_41 x4_41 x5_90 : Int) (h_41 : Hp) : Option ((Int × Int × Int × Hp) ⊕ (((Int × Int) × Hp))) :=
  if x7_73 ≠ x4_41 then (m_X7_title_j216 x3_41 x4_41 x5_90 h_41)
  else (lt_ (-1) fun x4_98 =>
  m_X7_title_j216 x3_41 x4_98 x5_90 h_41)
noncomputable def m_X7_title_l41 (a0 a1 a2 x3_41 x4_41 x5_41 : Int) (h_41 : Hp) : Option ((Int × Int × Int × Hp) ⊕ (((Int × Int) × Hp))) :=
  if x5_41 = 0 then (some (.inr ((0, 0), h_41)))
  else ((m_X7_isFull a0 h_41).bind fun v47 =>
  if v47 ≠ 0 then (some (.inr ((0, 0), h_41)))
  else (gd (h_41 (h_41 a0 0) (-2) = 96) (gd (h_41 (h_41 (h_41 a0 0) 21) (-2) % 16 = 1 ∧ (0 : Int) ≤ x3_41 ∧ x3_41 < h_41 (h_41 (h_41 a0 0) 21) (-1)) (lt_ (h_41 (h_41 (h_41 a0 0) 21) x3_41) fun x6_62 =>
  gd (h_41 (h_41 (h_41 a0 0) 22) (-2) % 16 = 1 ∧ (0 : Int) ≤ x3_41 ∧ x3_41 < h_41 (h_41 (h_41 a0 0) 22) (-1)) (lt_ (h_41 (h_41 (h_41 a0 0) 22) x3_41) fun x7_73 =>
  if x6_62 ≠ 1 then (if x6_62 ≠ 0 then (if 0 ≤ x4_41 then (m_X7_title_j216 x3_41 x4_41 x5_41 h_41)
  else (gd (h_41 (h_41 a0 17) (-2) % 16 = 1 ∧ (0 : Int) ≤ x3_41 ∧ x3_41 < h_41 (h_41 a0 17) (-1)) ((m_X7_isMute a0 (h_41 (h_41 a0 17) x3_41) h_41).bind fun v165 =>
  if v165 ≠ 0 then (m_X7_title_j216 x3_41 x4_41 x5_41 h_41)
  else (lt_ 0 fun x8_172 =>
  (lp (fun (q : Int × Hp) => m_X7_title_l174 a0 a2 x3_41 q.1 q.2) (x8_172, h_41)).bind (sE (fun (y216 : Hp) => m_X7_title_j216 x3_41 x4_41 x5_41 y216) (fun (x : (Int × Int × Int × Hp) ⊕ (((Int × Int) × Hp))) => some x))))))
  else (if 0 ≤ x4_41 then (m_X7_title_j138 x7_73 x5_41 a0 a2 x3_41 x4_41 h_41)
  else (gd (h_41 (h_41 a0 6) (-2) % 16 = 3 ∧ (0 : Int) ≤ x7_73 ∧ x7_73 < h_41 (h_41 a0 6) (-1)) (if (h_41 (h_41 a0 6) x7_73) = 0 then (m_X7_title_j134 x7_73 x5_41 a0 a2 x3_41 h_41)
  else ((m_X7_property a0 x7_73 0 h_41).bind fun v127 =>
  if v127 ≠ 3 then (m_X7_title_j138 x7_73 x5_41 a0 a2 x3_41 x4_41 h_41)
  else (m_X7_title_j134 x7_73 x5_41 a0 a2 x3_41 h_41))))))
  else (if x7_73 ≠ a1 then (m_X7_title_j90 x7_73 x3_41 x4_41 x5_41 h_41)
  else (lt_ 0 fun x5_88 =>
  m_X7_title_j90 x7_73 x3_41 x4_41 x5_88 h_41)))))))
noncomputable def m_X7_title (a0 a1 a2 : Int) (h : Hp) : Option ((Int × Int) × Hp) :=
  gd (h (h a0 6) (-2) % 16 = 3 ∧ (0 : Int) ≤ a1 ∧ a1 < h (h a0 6) (-1)) (if (h (h a0 6) a1) ≠ 0 then (pt h a0 19 0 fun h12 =>
  pt h12 a0 20 0 fun h17 =>
  bT (m_X7_titleLabel a0 a1 a2 h17) (fun _ h23 =>
  gd (h23 (h23 a0 16) (-2) % 16 = 1 ∧ (0 : Int) ≤ a1 ∧ a1 < h23 (h23 a0 16) (-1)) (lt_ (w32 ((h23 (h23 a0 16) a1) + 1)) fun x3_34 =>
  lt_ (-1) fun x4_36 =>
  lt_ 1 fun x5_39 =>
  (lp (fun (q : Int × Int × Int × Hp) => m_X7_title_l41 a0 a1 a2 q.1 q.2.1 q.2.2.1 q.2.2.2) (x3_34, x4_36, x5_39, h23)).bind (fun (x : (Int × Int) × Hp) => some x))) (fun a_ h_ => some ((1, a_), h_)))
  else (some ((0, 0), h)))
theorem s_X7_title {l : Launch} [NoTr l] {D : SD} {a0 a1 a2 : Int} {h : Hp} (hk : h a0 (-2) = 112) (r1 : r32 a1) {r : (Int × Int) × Hp} (hm : m_X7_title a0 a1 a2 h = some r) : Sim l D yX7_title (Cond.code yX7_title cX7_title 9 (Option.none : Option Jvm.ClassFile.FieldType)) 40 1514 [rv D a0, iv a1, rv D a2] h 0 r := by
  refine Sim.of (fin := fun (v : (Int × Int) × Hp) => v) (lsE := [(0, rv D a0), (1, iv a1), (2, rv D a2)]) hm rfl cwS_code (la_r (la_i (la_r la_n))) (ll_r (ll_i (ll_r ll_n))) ?_
  intro p e s m below meth c X hcw hmm hcc hnm hname
  have hno := noh hcw hnm hmm hcc
  unfold m_X7_title
  refine g_aload_n (pc := 0) X (j := 0) (i := 0) (q := 0) (x := a0) rfl rfl (dl_at t_X7_title 0 rfl) ?_
  refine r_getr (pc := 1) X fX7_6 hk q789 (dl_at t_X7_title 1 rfl) ?_
  refine g_iload_n (pc := 4) X (j := 1) (i := 1) (q := 1) (x := a1) rfl rfl (dl_at t_X7_title 2 rfl) ?_
  refine g_gd fun k5 => ?_
  refine g_zald (pc := 5) X r1 k5 (dl_at t_X7_title 3 rfl) fun g5 => ?_
  refine g_ifne (pc := 6) X (r32_z g5) (off := 4) (tgt := 10) rfl (dl_at t_X7_title 4 rfl) (fun _ => ?_) (fun _ => ?_)
  · refine g_aload_n (pc := 10) X (j := 0) (i := 0) (q := 0) (x := a0) rfl rfl (dl_at t_X7_title 6 rfl) ?_
    refine g_iconst (pc := 11) X (n := 0) (dl_at t_X7_title 7 rfl) ?_
    refine r_puti (pc := 12) X fX7_19 hk q811 rfl (dl_at t_X7_title 8 rfl) (r32_c rfl) (fun h12 E12 => ?_)
    refine g_aload_n (pc := 15) X (j := 0) (i := 0) (q := 0) (x := a0) rfl rfl (dl_at t_X7_title 9 rfl) ?_
    refine g_iconst (pc := 16) X (n := 0) (dl_at t_X7_title 10 rfl) ?_
    have k17 := kx E12 (by decide) hk
    refine r_putz (pc := 17) X fX7_20 k17 q812 rfl (dl_at t_X7_title 11 rfl) (Or.inl rfl) (fun h17 E17 => ?_)
    refine g_aload_n (pc := 20) X (j := 0) (i := 0) (q := 0) (x := a0) rfl rfl (dl_at t_X7_title 12 rfl) ?_
    refine g_iload_n (pc := 21) X (j := 1) (i := 1) (q := 1) (x := a1) rfl rfl (dl_at t_X7_title 13 rfl) ?_
    refine g_aload_n (pc := 22) X (j := 2) (i := 2) (q := 2) (x := a2) rfl rfl (dl_at t_X7_title 14 rfl) ?_
    have k23 := kx E17 (by decide) k17
    refine r_callTv (pc := 23) X (fun _ hv => s_X7_titleLabel k23 r1 hv) cw_code q2408 q361 (in_Vk X (As := [iv a1, rv D a2]) kX7 k23 (Or.inl q2405) q2407 qs100 cw_code q2408 ⟨by decide, by decide⟩ rfl (dl_at t_X7_title 15 rfl)) (dl_at t_X7_title 15 rfl) (cat24 (st := []) (Nat.le_of_ble_eq_true rfl)) (Nat.le_of_ble_eq_true rfl) (Nat.le_of_ble_eq_true rfl) (fun v23 h23 E23 => ?_) (fun _ _ ha _ => gt_at fun Q hQ => gt_out (Q := Q) X rfl ha (hno _) _ Q rfl hQ)
    refine g_aload_n (pc := 26) X (j := 0) (i := 0) (q := 0) (x := a0) rfl rfl (dl_at t_X7_title 16 rfl) ?_
    have k27 := kx E23 (by decide) k23
    refine r_getr (pc := 27) X fX7_16 k27 q807 (dl_at t_X7_title 17 rfl) ?_
    refine g_iload_n (pc := 30) X (j := 1) (i := 1) (q := 1) (x := a1) rfl rfl (dl_at t_X7_title 18 rfl) ?_
    refine g_gd fun k31 => ?_
    refine g_iald (pc := 31) X r1 k31 (dl_at t_X7_title 19 rfl) fun g31 => ?_
    refine g_iconst (pc := 32) X (n := 1) (dl_at t_X7_title 20 rfl) ?_
    refine g_iadd (pc := 33) X g31 (r32_c rfl) (dl_at t_X7_title 21 rfl) ?_
    refine g_lti (r32_w _) fun x3_34 r3_34 => ?_
    refine g_istore_nN (pc := 34) X (j := 3) (i := 3) (x := x3_34) (b := 2) (w := rv D a2) (rest := [(0, rv D a0), (1, iv a1)]) rfl (Nat.le_of_ble_eq_true rfl) [2, 0, 1] rfl (by decide) rv_cat rfl (dl_at t_X7_title 22 rfl) ?_
    refine g_iconst (pc := 35) X (n := (-1)) (dl_at t_X7_title 23 rfl) ?_
    refine g_lti (r32_c rfl) fun x4_36 r4_36 => ?_
    refine g_istoreN (pc := 36) X (i := 4) (x := x4_36) (b := 3) (w := iv x3_34) (rest := [(2, rv D a2), (0, rv D a0), (1, iv a1)]) (Nat.le_of_ble_eq_true rfl) [0, 1, 2, 3] rfl (by decide) rfl rfl (dl_at t_X7_title 24 rfl) ?_
    refine g_iconst (pc := 38) X (n := 1) (dl_at t_X7_title 25 rfl) ?_
    refine g_ltz (Or.inr rfl) fun x5_39 r5_39 => ?_
    refine g_istoreN (pc := 39) X (i := 5) (x := x5_39) (b := 4) (w := iv x4_36) (rest := [(3, iv x3_34), (2, rv D a2), (0, rv D a0), (1, iv a1)]) (Nat.le_of_ble_eq_true rfl) [0, 1, 2, 3, 4] rfl (by decide) rfl rfl (dl_at t_X7_title 26 rfl) ?_
    refine g_ls (ls2 := [(0, rv D a0), (1, iv a1), (2, rv D a2), (3, iv x3_34), (4, iv x4_36), (5, iv x5_39)]) [4, 5, 3, 2, 1, 0] rfl ?_
    refine g_loop0F (fun (q : Int × Int × Int × Hp) => [(0, rv D a0), (1, iv a1), (2, rv D a2), (3, iv q.1), (4, iv q.2.1), (5, iv q.2.2.1)]) (fun (q : Int × Int × Int × Hp) => q.2.2.2) (fun (q : Int × Int × Int × Hp) => r32 q.1 ∧ r32 q.2.1 ∧ (q.2.2.1 = 0 ∨ q.2.2.1 = 1) ∧ Ext h23 q.2.2.2) (x3_34, x4_36, x5_39, h23) ⟨r3_34, r4_36, r5_39, (Ext.refl _)⟩ ?_ (fun _ => rfl)
    · rintro ⟨x3_41, x4_41, x5_41, h_41⟩ ⟨r3_41, r4_41, r5_41, E_41⟩
      try dsimp only
      unfold m_X7_title_l41
      refine g_iload (pc := 41) X (i := 5) (q := 5) (x := x5_41) rfl (dl_at t_X7_title 27 rfl) ?_
      refine g_ifeq (pc := 43) X (r32_z r5_41) (off := 179) (tgt := 222) rfl (dl_at t_X7_title 28 rfl) (fun _ => ?_) (fun _ => ?_)
      · exact g_at fun Q hQ => (g_vret (pc := 222) X (v := 0) rfl rfl (dl_at t_X7_title 115 rfl)) _ Q rfl hQ
      refine g_aload_n (pc := 46) X (j := 0) (i := 0) (q := 0) (x := a0) rfl rfl (dl_at t_X7_title 29 rfl) ?_
      have k47 := kx E_41 (by decide) k27
      refine r_callRz (pc := 47) X (fun _ hv => s_X7_isFull k47 hv) cw_code q2449 q361 (in_Vk X (As := []) kX7 k47 (Or.inl q2446) q2448 qs106 cw_code q2449 ⟨by decide, by decide⟩ rfl (dl_at t_X7_title 30 rfl)) (dl_at t_X7_title 30 rfl) (cat24 (st := []) (Nat.le_of_ble_eq_true rfl)) (Nat.le_of_ble_eq_true rfl) (Nat.le_of_ble_eq_true rfl) fun v47 g47 => ?_
      refine g_ifne (pc := 50) X (r32_z g47) (off := 172) (tgt := 222) rfl (dl_at t_X7_title 31 rfl) (fun _ => ?_) (fun _ => ?_)
      · exact g_at fun Q hQ => (g_vret (pc := 222) X (v := 0) rfl rfl (dl_at t_X7_title 115 rfl)) _ Q rfl hQ
      refine g_aload_n (pc := 53) X (j := 0) (i := 0) (q := 0) (x := a0) rfl rfl (dl_at t_X7_title 32 rfl) ?_
      refine r_getr (pc := 54) X fX7_0 k47 q778 (dl_at t_X7_title 33 rfl) ?_
      refine g_gd fun k57 => ?_
      refine r_getrN (pc := 57) X fX6_21 k57 (nw_in q692 rfl) (dl_at t_X7_title 34 rfl) ?_
      refine g_iload_n (pc := 60) X (j := 3) (i := 3) (q := 3) (x := x3_41) rfl rfl (dl_at t_X7_title 35 rfl) ?_
      refine g_gd fun k61 => ?_
      refine g_iald (pc := 61) X r3_41 k61 (dl_at t_X7_title 36 rfl) fun g61 => ?_
      refine g_lti g61 fun x6_62 r6_62 => ?_
      refine g_istoreN (pc := 62) X (i := 6) (x := x6_62) (b := 5) (w := iv x5_41) (rest := [(0, rv D a0), (1, iv a1), (2, rv D a2), (3, iv x3_41), (4, iv x4_41)]) (Nat.le_of_ble_eq_true rfl) [5, 0, 1, 2, 3, 4] rfl (by decide) rfl rfl (dl_at t_X7_title 37 rfl) ?_
      refine g_aload_n (pc := 64) X (j := 0) (i := 0) (q := 2) (x := a0) rfl rfl (dl_at t_X7_title 38 rfl) ?_
      refine r_getr (pc := 65) X fX7_0 k47 q778 (dl_at t_X7_title 39 rfl) ?_
      refine r_getrN (pc := 68) X fX6_22 k57 (nw_in q695 rfl) (dl_at t_X7_title 40 rfl) ?_
      refine g_iload_n (pc := 71) X (j := 3) (i := 3) (q := 5) (x := x3_41) rfl rfl (dl_at t_X7_title 41 rfl) ?_
      refine g_gd fun k72 => ?_
      refine g_iald (pc := 72) X r3_41 k72 (dl_at t_X7_title 42 rfl) fun g72 => ?_
      refine g_lti g72 fun x7_73 r7_73 => ?_
      refine g_istoreN (pc := 73) X (i := 7) (x := x7_73) (b := 6) (w := iv x6_62) (rest := [(5, iv x5_41), (0, rv D a0), (1, iv a1), (2, rv D a2), (3, iv x3_41), (4, iv x4_41)]) (Nat.le_of_ble_eq_true rfl) [0, 1, 2, 3, 4, 5, 6] rfl (by decide) rfl rfl (dl_at t_X7_title 43 rfl) ?_
      refine g_iload (pc := 75) X (i := 6) (q := 1) (x := x6_62) rfl (dl_at t_X7_title 44 rfl) ?_
      refine g_iconst (pc := 77) X (n := 1) (dl_at t_X7_title 45 rfl) ?_
      refine g_join (γ := Int × Int × Hp) (fun q => r32 q.1 ∧ (q.2.1 = 0 ∨ q.2.1 = 1) ∧ Ext h_41 q.2.2) 216 (fun q => [(0, rv D a0), (1, iv a1), (2, rv D a2), (3, iv x3_41), (4, iv q.1), (5, iv q.2.1)]) (fun q => []) (fun q => q.2.2) (fun q => m_X7_title_j216 x3_41 q.1 q.2.1 q.2.2) ?_ ?_
      · rintro ⟨x4_216, x5_216, h_216⟩ ⟨r4_216, r5_216, E_216⟩
        try dsimp only
        unfold m_X7_title_j216
        refine r_iincN (pc := 216) X (i := 3) (q := 3) (n := 1) (x := x3_41) (b := 2) (w := rv D a2) (rest := [(0, rv D a0), (1, iv a1), (4, iv x4_216), (5, iv x5_216)]) rfl r3_41 (r32_c rfl) (Nat.le_of_ble_eq_true rfl) [2, 0, 1, 4, 5] rfl (by decide) rv_cat rfl (dl_at t_X7_title 113 rfl) fun x3_216 r3_216 => ?_
        refine g_goto (pc := 219) X (off := (-178)) (tgt := 41) rfl (dl_at t_X7_title 114 rfl) ?_
        refine g_ls (ls2 := [(0, rv D a0), (1, iv a1), (2, rv D a2), (3, iv x3_216), (4, iv x4_216), (5, iv x5_216)]) [2, 3, 1, 0, 4, 5] rfl ?_
        exact g_at fun Q hQ => hQ ⟨r3_216, r4_216, r5_216, (E_41.trans E_216)⟩
      intro J216
      refine g_icmpne (pc := 78) X r6_62 (r32_c rfl) (off := 25) (tgt := 103) rfl (dl_at t_X7_title 46 rfl) (fun _ => ?_) (fun _ => ?_)
      · refine g_iload (pc := 103) X (i := 6) (q := 1) (x := x6_62) rfl (dl_at t_X7_title 58 rfl) ?_
        refine g_ifne (pc := 105) X r6_62 (off := 48) (tgt := 153) rfl (dl_at t_X7_title 59 rfl) (fun _ => ?_) (fun _ => ?_)
        · refine g_iload (pc := 153) X (i := 4) (q := 7) (x := x4_41) rfl (dl_at t_X7_title 82 rfl) ?_
          refine g_ifge (pc := 155) X r4_41 (off := 61) (tgt := 216) rfl (dl_at t_X7_title 83 rfl) (fun _ => ?_) (fun _ => ?_)
          · refine g_ls (ls2 := [(0, rv D a0), (1, iv a1), (2, rv D a2), (3, iv x3_41), (4, iv x4_41), (5, iv x5_41)]) [3, 4, 5, 6, 7, 2] rfl ?_
            exact J216 (x4_41, x5_41, h_41) ⟨r4_41, r5_41, (Ext.refl _)⟩
          refine g_aload_n (pc := 158) X (j := 0) (i := 0) (q := 3) (x := a0) rfl rfl (dl_at t_X7_title 84 rfl) ?_
          refine g_aload_n (pc := 159) X (j := 0) (i := 0) (q := 3) (x := a0) rfl rfl (dl_at t_X7_title 85 rfl) ?_
          refine r_getr (pc := 160) X fX7_17 k47 q808 (dl_at t_X7_title 86 rfl) ?_
          refine g_iload_n (pc := 163) X (j := 3) (i := 3) (q := 6) (x := x3_41) rfl rfl (dl_at t_X7_title 87 rfl) ?_
          refine g_gd fun k164 => ?_
          refine g_iald (pc := 164) X r3_41 k164 (dl_at t_X7_title 88 rfl) fun g164 => ?_
          refine r_callRz (pc := 165) X (fun _ hv => s_X7_isMute k47 g164 hv) cw_code q2420 q361 (in_Vk X (As := [iv (h_41 (h_41 a0 17) x3_41)]) kX7 k47 (Or.inl q2417) q2419 qs103 cw_code q2420 ⟨by decide, by decide⟩ rfl (dl_at t_X7_title 89 rfl)) (dl_at t_X7_title 89 rfl) (cat24 (st := []) (Nat.le_of_ble_eq_true rfl)) (Nat.le_of_ble_eq_true rfl) (Nat.le_of_ble_eq_true rfl) fun v165 g165 => ?_
          refine g_ifne (pc := 168) X (r32_z g165) (off := 48) (tgt := 216) rfl (dl_at t_X7_title 90 rfl) (fun _ => ?_) (fun _ => ?_)
          · refine g_ls (ls2 := [(0, rv D a0), (1, iv a1), (2, rv D a2), (3, iv x3_41), (4, iv x4_41), (5, iv x5_41)]) [3, 4, 5, 6, 7, 2] rfl ?_
            exact J216 (x4_41, x5_41, h_41) ⟨r4_41, r5_41, (Ext.refl _)⟩
          refine g_iconst (pc := 171) X (n := 0) (dl_at t_X7_title 91 rfl) ?_
          refine g_ltz (Or.inl rfl) fun x8_172 r8_172 => ?_
          refine g_istore (pc := 172) X (i := 8) (x := x8_172) (rest := [(5, iv x5_41), (0, rv D a0), (1, iv a1), (2, rv D a2), (3, iv x3_41), (4, iv x4_41)]) (Nat.le_of_ble_eq_true rfl) [2, 3, 4, 5, 6, 7] rfl rfl (dl_at t_X7_title 92 rfl) ?_
          refine g_ls (ls2 := [(0, rv D a0), (1, iv a1), (2, rv D a2), (3, iv x3_41), (4, iv x4_41), (5, iv x5_41), (8, iv x8_172)]) [2, 3, 4, 5, 6, 1, 0] rfl ?_
          refine g_loop1F (fun (q : Int × Hp) => [(0, rv D a0), (1, iv a1), (2, rv D a2), (3, iv x3_41), (4, iv x4_41), (5, iv x5_41), (8, iv q.1)]) (fun (q : Int × Hp) => q.2) (fun (q : Int × Hp) => r32 q.1 ∧ Ext h_41 q.2) 216 (fun (y216 : Hp) => [(0, rv D a0), (1, iv a1), (2, rv D a2), (3, iv x3_41), (4, iv x4_41), (5, iv x5_41)]) (fun (y216 : Hp) => y216) (fun (y216 : Hp) => Ext h_41 y216) (x8_172, h_41) ⟨(r32_z r8_172), (Ext.refl _)⟩ ?_ ?_ (fun _ => rfl)
          · rintro ⟨x8_174, h_174⟩ ⟨r8_174, E_174⟩
            try dsimp only
            unfold m_X7_title_l174
            refine g_iload (pc := 174) X (i := 8) (q := 6) (x := x8_174) rfl (dl_at t_X7_title 93 rfl) ?_
            refine g_aload_n (pc := 176) X (j := 0) (i := 0) (q := 0) (x := a0) rfl rfl (dl_at t_X7_title 94 rfl) ?_
            have k177 := kx E_174 (by decide) k47
            refine r_getr (pc := 177) X fX7_0 k177 q778 (dl_at t_X7_title 95 rfl) ?_
            refine g_gd fun k180 => ?_
            refine r_getrN (pc := 180) X fX6_23 k180 (nw_in q698 rfl) (dl_at t_X7_title 96 rfl) ?_
            refine g_iload_n (pc := 183) X (j := 3) (i := 3) (q := 3) (x := x3_41) rfl rfl (dl_at t_X7_title 97 rfl) ?_
            refine g_gd fun k184 => ?_
            refine g_iald (pc := 184) X r3_41 k184 (dl_at t_X7_title 98 rfl) fun g184 => ?_
            refine g_icmpge (pc := 185) X r8_174 g184 (off := 31) (tgt := 216) rfl (dl_at t_X7_title 99 rfl) (fun _ => ?_) (fun _ => ?_)
            · refine g_ls (ls2 := [(0, rv D a0), (1, iv a1), (2, rv D a2), (3, iv x3_41), (4, iv x4_41), (5, iv x5_41)]) [0, 1, 2, 3, 4, 5] rfl ?_
              exact g_at fun Q hQ => hQ E_174
            refine g_aload_n (pc := 188) X (j := 0) (i := 0) (q := 0) (x := a0) rfl rfl (dl_at t_X7_title 100 rfl) ?_
            refine r_callRz (pc := 189) X (fun _ hv => s_X7_isFull k177 hv) cw_code q2449 q361 (in_Vk X (As := []) kX7 k177 (Or.inl q2446) q2448 qs106 cw_code q2449 ⟨by decide, by decide⟩ rfl (dl_at t_X7_title 101 rfl)) (dl_at t_X7_title 101 rfl) (cat24 (st := []) (Nat.le_of_ble_eq_true rfl)) (Nat.le_of_ble_eq_true rfl) (Nat.le_of_ble_eq_true rfl) fun v189 g189 => ?_
            refine g_ifne (pc := 192) X (r32_z g189) (off := 24) (tgt := 216) rfl (dl_at t_X7_title 102 rfl) (fun _ => ?_) (fun _ => ?_)
            · refine g_ls (ls2 := [(0, rv D a0), (1, iv a1), (2, rv D a2), (3, iv x3_41), (4, iv x4_41), (5, iv x5_41)]) [0, 1, 2, 3, 4, 5] rfl ?_
              exact g_at fun Q hQ => hQ E_174
            refine g_aload_n (pc := 195) X (j := 0) (i := 0) (q := 0) (x := a0) rfl rfl (dl_at t_X7_title 103 rfl) ?_
            refine g_aload_n (pc := 196) X (j := 2) (i := 2) (q := 2) (x := a2) rfl rfl (dl_at t_X7_title 104 rfl) ?_
            refine g_aload_n (pc := 197) X (j := 0) (i := 0) (q := 0) (x := a0) rfl rfl (dl_at t_X7_title 105 rfl) ?_
            refine r_getr (pc := 198) X fX7_0 k177 q778 (dl_at t_X7_title 106 rfl) ?_
            refine g_iload_n (pc := 201) X (j := 3) (i := 3) (q := 3) (x := x3_41) rfl rfl (dl_at t_X7_title 107 rfl) ?_
            refine g_iload (pc := 202) X (i := 8) (q := 6) (x := x8_174) rfl (dl_at t_X7_title 108 rfl) ?_
            refine r_callRi (pc := 204) X (fun _ hv => s_X6_byteOf k180 r3_41 r8_174 hv) cw_code q2462 q360 (in_Vk X (As := [iv x3_41, iv x8_174]) kX6 k180 (Or.inr ⟨_, nw_in q2459 rfl⟩) q2461 qs109 cw_code q2462 ⟨by decide, by decide⟩ rfl (dl_at t_X7_title 109 rfl)) (dl_at t_X7_title 109 rfl) (cat24 (st := [rv D a2, rv D a0]) (Nat.le_of_ble_eq_true rfl)) (Nat.le_of_ble_eq_true rfl) (Nat.le_of_ble_eq_true rfl) fun v204 g204 => ?_
            refine r_callTv (pc := 207) X (fun _ hv => s_X7_putTitle k177 g204 hv) cw_code q2457 q361 (in_Vk X (As := [rv D a2, iv v204]) kX7 k177 (Or.inl q2454) q2456 qs108 cw_code q2457 ⟨by decide, by decide⟩ rfl (dl_at t_X7_title 110 rfl)) (dl_at t_X7_title 110 rfl) (cat24 (st := []) (Nat.le_of_ble_eq_true rfl)) (Nat.le_of_ble_eq_true rfl) (Nat.le_of_ble_eq_true rfl) (fun v207 h207 E207 => ?_) (fun _ _ ha _ => gt_at fun Q hQ => gt_out (Q := Q) X rfl ha (hno _) _ Q rfl hQ)
            refine r_iinc (pc := 210) X (i := 8) (q := 6) (n := 1) (x := x8_174) (rest := [(0, rv D a0), (1, iv a1), (2, rv D a2), (3, iv x3_41), (4, iv x4_41), (5, iv x5_41)]) rfl r8_174 (r32_c rfl) (Nat.le_of_ble_eq_true rfl) [0, 1, 2, 3, 4, 5] rfl rfl (dl_at t_X7_title 111 rfl) fun x8_210 r8_210 => ?_
            refine g_goto (pc := 213) X (off := (-39)) (tgt := 174) rfl (dl_at t_X7_title 112 rfl) ?_
            refine g_ls (ls2 := [(0, rv D a0), (1, iv a1), (2, rv D a2), (3, iv x3_41), (4, iv x4_41), (5, iv x5_41), (8, iv x8_210)]) [1, 2, 3, 4, 5, 6, 0] rfl ?_
            exact g_at fun Q hQ => hQ ⟨r8_210, (E_174.trans E207)⟩
          · rintro h_216_1 E_216_1
            try dsimp only [sE]
            exact J216 (x4_41, x5_41, h_216_1) ⟨r4_41, r5_41, E_216_1⟩
        refine g_iload (pc := 108) X (i := 4) (q := 7) (x := x4_41) rfl (dl_at t_X7_title 60 rfl) ?_
        refine g_join (γ := Int) (fun q => r32 q) 138 (fun q => [(0, rv D a0), (1, iv a1), (2, rv D a2), (3, iv x3_41), (4, iv q), (5, iv x5_41), (7, iv x7_73)]) (fun q => []) (fun q => h_41) (fun q => m_X7_title_j138 x7_73 x5_41 a0 a2 x3_41 q h_41) ?_ ?_
        · rintro x4_138 r4_138
          try dsimp only
          unfold m_X7_title_j138
          refine g_iload (pc := 138) X (i := 4) (q := 4) (x := x4_138) rfl (dl_at t_X7_title 75 rfl) ?_
          refine g_ifge (pc := 140) X r4_138 (off := 76) (tgt := 216) rfl (dl_at t_X7_title 76 rfl) (fun _ => ?_) (fun _ => ?_)
          · refine g_ls (ls2 := [(0, rv D a0), (1, iv a1), (2, rv D a2), (3, iv x3_41), (4, iv x4_138), (5, iv x5_41)]) [0, 1, 2, 3, 4, 5] rfl ?_
            exact J216 (x4_138, x5_41, h_41) ⟨r4_138, r5_41, (Ext.refl _)⟩
          refine g_aload_n (pc := 143) X (j := 0) (i := 0) (q := 0) (x := a0) rfl rfl (dl_at t_X7_title 77 rfl) ?_
          refine g_iload (pc := 144) X (i := 7) (q := 6) (x := x7_73) rfl (dl_at t_X7_title 78 rfl) ?_
          refine g_aload_n (pc := 146) X (j := 2) (i := 2) (q := 2) (x := a2) rfl rfl (dl_at t_X7_title 79 rfl) ?_
          refine r_callTv (pc := 147) X (fun _ hv => s_X7_titleLabel k47 r7_73 hv) cw_code q2408 q361 (in_Vk X (As := [iv x7_73, rv D a2]) kX7 k47 (Or.inl q2405) q2407 qs100 cw_code q2408 ⟨by decide, by decide⟩ rfl (dl_at t_X7_title 80 rfl)) (dl_at t_X7_title 80 rfl) (cat24 (st := []) (Nat.le_of_ble_eq_true rfl)) (Nat.le_of_ble_eq_true rfl) (Nat.le_of_ble_eq_true rfl) (fun v147 h147 E147 => ?_) (fun _ _ ha _ => gt_at fun Q hQ => gt_out (Q := Q) X rfl ha (hno _) _ Q rfl hQ)
          refine g_goto (pc := 150) X (off := 66) (tgt := 216) rfl (dl_at t_X7_title 81 rfl) ?_
          refine g_ls (ls2 := [(0, rv D a0), (1, iv a1), (2, rv D a2), (3, iv x3_41), (4, iv x4_138), (5, iv x5_41)]) [0, 1, 2, 3, 4, 5] rfl ?_
          exact J216 (x4_138, x5_41, h147) ⟨r4_138, r5_41, E147⟩
        intro J138
        refine g_ifge (pc := 110) X r4_41 (off := 28) (tgt := 138) rfl (dl_at t_X7_title 61 rfl) (fun _ => ?_) (fun _ => ?_)
        · refine g_ls (ls2 := [(0, rv D a0), (1, iv a1), (2, rv D a2), (3, iv x3_41), (4, iv x4_41), (5, iv x5_41), (7, iv x7_73)]) [3, 4, 5, 6, 7, 2, 0] rfl ?_
          exact J138 x4_41 r4_41
        refine g_aload_n (pc := 113) X (j := 0) (i := 0) (q := 3) (x := a0) rfl rfl (dl_at t_X7_title 62 rfl) ?_
        refine r_getr (pc := 114) X fX7_6 k47 q789 (dl_at t_X7_title 63 rfl) ?_
        refine g_iload (pc := 117) X (i := 7) (q := 0) (x := x7_73) rfl (dl_at t_X7_title 64 rfl) ?_
        refine g_gd fun k119 => ?_
        refine g_zald (pc := 119) X r7_73 k119 (dl_at t_X7_title 65 rfl) fun g119 => ?_
        refine g_join (γ := Unit) (fun q => True) 134 (fun q => [(0, rv D a0), (1, iv a1), (2, rv D a2), (3, iv x3_41), (5, iv x5_41), (7, iv x7_73)]) (fun q => []) (fun q => h_41) (fun q => m_X7_title_j134 x7_73 x5_41 a0 a2 x3_41 h_41) ?_ ?_
        · rintro _ _
          try dsimp only
          unfold m_X7_title_j134
          refine g_iload (pc := 134) X (i := 7) (q := 5) (x := x7_73) rfl (dl_at t_X7_title 73 rfl) ?_
          refine g_istoreN (pc := 136) X (i := 4) (x := x7_73) (b := 3) (w := iv x3_41) (rest := [(0, rv D a0), (1, iv a1), (2, rv D a2), (5, iv x5_41), (7, iv x7_73)]) (Nat.le_of_ble_eq_true rfl) [3, 0, 1, 2, 4, 5] rfl (by decide) rfl rfl (dl_at t_X7_title 74 rfl) ?_
          refine g_ls (ls2 := [(0, rv D a0), (1, iv a1), (2, rv D a2), (3, iv x3_41), (4, iv x7_73), (5, iv x5_41), (7, iv x7_73)]) [2, 3, 4, 1, 0, 5, 6] rfl ?_
          exact J138 x7_73 r7_73
        intro J134
        refine g_ifeq (pc := 120) X (r32_z g119) (off := 14) (tgt := 134) rfl (dl_at t_X7_title 66 rfl) (fun _ => ?_) (fun _ => ?_)
        · refine g_ls (ls2 := [(0, rv D a0), (1, iv a1), (2, rv D a2), (3, iv x3_41), (5, iv x5_41), (7, iv x7_73)]) [3, 4, 5, 6, 2, 0] rfl ?_
          exact J134 () trivial
        refine g_aload_n (pc := 123) X (j := 0) (i := 0) (q := 3) (x := a0) rfl rfl (dl_at t_X7_title 67 rfl) ?_
        refine g_iload (pc := 124) X (i := 7) (q := 0) (x := x7_73) rfl (dl_at t_X7_title 68 rfl) ?_
        refine g_iconst (pc := 126) X (n := 0) (dl_at t_X7_title 69 rfl) ?_
        refine r_callRi (pc := 127) X (fun _ hv => s_X7_property k47 r7_73 (r32_c rfl) hv) cw_code q2332 q361 (in_Vk X (As := [iv x7_73, iv 0]) kX7 k47 (Or.inl q2329) q2331 qs84 cw_code q2332 ⟨by decide, by decide⟩ rfl (dl_at t_X7_title 70 rfl)) (dl_at t_X7_title 70 rfl) (cat24 (st := []) (Nat.le_of_ble_eq_true rfl)) (Nat.le_of_ble_eq_true rfl) (Nat.le_of_ble_eq_true rfl) fun v127 g127 => ?_
        refine g_iconst (pc := 130) X (n := 3) (dl_at t_X7_title 71 rfl) ?_
        refine g_icmpne (pc := 131) X g127 (r32_c rfl) (off := 7) (tgt := 138) rfl (dl_at t_X7_title 72 rfl) (fun _ => ?_) (fun _ => ?_)
        · refine g_ls (ls2 := [(0, rv D a0), (1, iv a1), (2, rv D a2), (3, iv x3_41), (4, iv x4_41), (5, iv x5_41), (7, iv x7_73)]) [3, 4, 5, 6, 7, 2, 0] rfl ?_
          exact J138 x4_41 r4_41
        refine g_ls (ls2 := [(0, rv D a0), (1, iv a1), (2, rv D a2), (3, iv x3_41), (5, iv x5_41), (7, iv x7_73)]) [3, 4, 5, 6, 2, 0] rfl ?_
        exact J134 () trivial
      refine g_iload (pc := 81) X (i := 7) (q := 0) (x := x7_73) rfl (dl_at t_X7_title 47 rfl) ?_
      refine g_iload_n (pc := 83) X (j := 1) (i := 1) (q := 4) (x := a1) rfl rfl (dl_at t_X7_title 48 rfl) ?_
      refine g_join (γ := Int) (fun q => (q = 0 ∨ q = 1)) 90 (fun q => [(0, rv D a0), (1, iv a1), (2, rv D a2), (3, iv x3_41), (4, iv x4_41), (5, iv q), (7, iv x7_73)]) (fun q => []) (fun q => h_41) (fun q => m_X7_title_j90 x7_73 x3_41 x4_41 q h_41) ?_ ?_
      · rintro x5_90 r5_90
        try dsimp only
        unfold m_X7_title_j90
        refine g_iload (pc := 90) X (i := 7) (q := 6) (x := x7_73) rfl (dl_at t_X7_title 52 rfl) ?_
        refine g_iload (pc := 92) X (i := 4) (q := 4) (x := x4_41) rfl (dl_at t_X7_title 53 rfl) ?_
        refine g_icmpne (pc := 94) X r7_73 r4_41 (off := 122) (tgt := 216) rfl (dl_at t_X7_title 54 rfl) (fun _ => ?_) (fun _ => ?_)
        · refine g_ls (ls2 := [(0, rv D a0), (1, iv a1), (2, rv D a2), (3, iv x3_41), (4, iv x4_41), (5, iv x5_90)]) [0, 1, 2, 3, 4, 5] rfl ?_
          exact J216 (x4_41, x5_90, h_41) ⟨r4_41, r5_90, (Ext.refl _)⟩
        refine g_iconst (pc := 97) X (n := (-1)) (dl_at t_X7_title 55 rfl) ?_
        refine g_lti (r32_c rfl) fun x4_98 r4_98 => ?_
        refine g_istoreN (pc := 98) X (i := 4) (x := x4_98) (b := 3) (w := iv x3_41) (rest := [(0, rv D a0), (1, iv a1), (2, rv D a2), (5, iv x5_90)]) (Nat.le_of_ble_eq_true rfl) [3, 0, 1, 2, 5] rfl (by decide) rfl rfl (dl_at t_X7_title 56 rfl) ?_
        refine g_goto (pc := 100) X (off := 116) (tgt := 216) rfl (dl_at t_X7_title 57 rfl) ?_
        refine g_ls (ls2 := [(0, rv D a0), (1, iv a1), (2, rv D a2), (3, iv x3_41), (4, iv x4_98), (5, iv x5_90)]) [2, 3, 4, 1, 0, 5] rfl ?_
        exact J216 (x4_98, x5_90, h_41) ⟨r4_98, r5_90, (Ext.refl _)⟩
      intro J90
      refine g_icmpne (pc := 84) X r7_73 r1 (off := 6) (tgt := 90) rfl (dl_at t_X7_title 49 rfl) (fun _ => ?_) (fun _ => ?_)
      · refine g_ls (ls2 := [(0, rv D a0), (1, iv a1), (2, rv D a2), (3, iv x3_41), (4, iv x4_41), (5, iv x5_41), (7, iv x7_73)]) [3, 4, 5, 6, 7, 2, 0] rfl ?_
        exact J90 x5_41 r5_41
      refine g_iconst (pc := 87) X (n := 0) (dl_at t_X7_title 50 rfl) ?_
      refine g_ltz (Or.inl rfl) fun x5_88 r5_88 => ?_
      refine g_istoreN (pc := 88) X (i := 5) (x := x5_88) (b := 4) (w := iv x4_41) (rest := [(7, iv x7_73), (0, rv D a0), (1, iv a1), (2, rv D a2), (3, iv x3_41)]) (Nat.le_of_ble_eq_true rfl) [7, 0, 3, 4, 5, 6] rfl (by decide) rfl rfl (dl_at t_X7_title 51 rfl) ?_
      refine g_ls (ls2 := [(0, rv D a0), (1, iv a1), (2, rv D a2), (3, iv x3_41), (4, iv x4_41), (5, iv x5_88), (7, iv x7_73)]) [3, 4, 5, 6, 1, 0, 2] rfl ?_
      exact J90 x5_88 r5_88
  exact g_vret (pc := 9) X (v := 0) rfl rfl (dl_at t_X7_title 5 rfl)
def k_X16_compare : List (Nat × Instr × Nat) := [(0, .iconst 0, 1), (1, .istore_n 3, 1), (2, .aload_n 0, 1), (3, .getfield 31, 3), (6, .iload_n 1, 1), (7, .iaload, 1), (8, .aload_n 0, 1), (9, .getfield 31, 3), (12, .iload_n 2, 1), (13, .iaload, 1), (14, .if_icmp .ge 12, 3), (17, .aload_n 0, 1), (18, .getfield 31, 3), (21, .iload_n 1, 1), (22, .iaload, 1), (23, .goto 9, 3), (26, .aload_n 0, 1), (27, .getfield 31, 3), (30, .iload_n 2, 1), (31, .iaload, 1), (32, .istore 4, 2), (34, .iconst 0, 1), (35, .istore 5, 2), (37, .iload 5, 2), (39, .iload 4, 2), (41, .if_icmp .ge 82, 3), (44, .aload_n 0, 1), (45, .getfield 24, 3), (48, .getfield 106, 3), (51, .aload_n 0, 1), (52, .getfield 28, 3), (55, .iload_n 1, 1), (56, .iaload, 1), (57, .iload 5, 2), (59, .iadd, 1), (60, .baload, 1), (61, .istore 6, 2), (63, .aload_n 0, 1), (64, .getfield 24, 3), (67, .getfield 106, 3), (70, .aload_n 0, 1), (71, .getfield 28, 3), (74, .iload_n 2, 1), (75, .iaload, 1), (76, .iload 5, 2), (78, .iadd, 1), (79, .baload, 1), (80, .istore 7, 2), (82, .iload 6, 2), (84, .invokestatic 109, 3), (87, .iload 7, 2), (89, .invokestatic 109, 3), (92, .if_icmp .eq 15, 3), (95, .iload 6, 2), (97, .invokestatic 109, 3), (100, .iload 7, 2), (102, .invokestatic 109, 3), (105, .isub, 1), (106, .ireturn, 1), (107, .iload_n 3, 1), (108, .ifCond .ne 9, 3), (111, .iload 6, 2), (113, .iload 7, 2), (115, .isub, 1), (116, .istore_n 3, 1), (117, .iinc 5 1, 3), (120, .goto (-83), 3), (123, .aload_n 0, 1), (124, .getfield 31, 3), (127, .iload_n 1, 1), (128, .iaload, 1), (129, .aload_n 0, 1), (130, .getfield 31, 3), (133, .iload_n 2, 1), (134, .iaload, 1), (135, .if_icmp .eq 19, 3), (138, .aload_n 0, 1), (139, .getfield 31, 3), (142, .iload_n 1, 1), (143, .iaload, 1), (144, .aload_n 0, 1), (145, .getfield 31, 3), (148, .iload_n 2, 1), (149, .iaload, 1), (150, .isub, 1), (151, .goto 4, 3), (154, .iload_n 3, 1), (155, .ireturn, 1)]
theorem t_X16_compare : ∀ q ∈ k_X16_compare, decode cX16_compare q.1 = .ok q.2 := dl_all (by decide +kernel)
noncomputable def m_X16_compare_j117 (x5_37 x3_117 : Int) : Option ((Int × Int) ⊕ ((Int) ⊕ ((Int)))) :=
  lt_ (w32 (x5_37 + 1)) fun x5_117 =>
  some (.inl (x3_117, x5_117))
noncomputable def m_X16_compare_l37 (a0 a1 a2 s0_32 x3_37 x5_37 : Int) (h : Hp) : Option ((Int × Int) ⊕ ((Int) ⊕ ((Int)))) :=
  if s0_32 ≤ x5_37 then (some (.inr (.inl x3_37)))
  else (gd (h (h a0 4) (-2) = 80) (gd (h (h a0 5) (-2) % 16 = 1 ∧ (0 : Int) ≤ a1 ∧ a1 < h (h a0 5) (-1)) (gd (h (h (h a0 4) 0) (-2) % 16 = 2 ∧ (0 : Int) ≤ (w32 ((h (h a0 5) a1) + x5_37)) ∧ (w32 ((h (h a0 5) a1) + x5_37)) < h (h (h a0 4) 0) (-1)) (lt_ (h (h (h a0 4) 0) (w32 ((h (h a0 5) a1) + x5_37))) fun x6_61 =>
  gd (h (h a0 5) (-2) % 16 = 1 ∧ (0 : Int) ≤ a2 ∧ a2 < h (h a0 5) (-1)) (gd (h (h (h a0 4) 0) (-2) % 16 = 2 ∧ (0 : Int) ≤ (w32 ((h (h a0 5) a2) + x5_37)) ∧ (w32 ((h (h a0 5) a2) + x5_37)) < h (h (h a0 4) 0) (-1)) (lt_ (h (h (h a0 4) 0) (w32 ((h (h a0 5) a2) + x5_37))) fun x7_80 =>
  (m_X1_small x6_61).bind fun v84 =>
  (m_X1_small x7_80).bind fun v89 =>
  if v84 = v89 then (if x3_37 ≠ 0 then (m_X16_compare_j117 x5_37 x3_37)
  else (lt_ (w32 (x6_61 - x7_80)) fun x3_116 =>
  m_X16_compare_j117 x5_37 x3_116))
  else ((m_X1_small x6_61).bind fun v97 =>
  (m_X1_small x7_80).bind fun v102 =>
  some (.inr (.inr (w32 (v97 - v102)))))))))))
noncomputable def m_X16_compare_j32 (x3_1 a2 a0 a1 s0_32 : Int) (h : Hp) : Option (Int) :=
  lt_ 0 fun x5_35 =>
  (lp (fun (q : Int × Int) => m_X16_compare_l37 a0 a1 a2 s0_32 q.1 q.2 h) (x3_1, x5_35)).bind (sE (fun (y123 : Int) => if (h (h a0 6) a1) = (h (h a0 6) a2) then (some y123)
  else (some (w32 ((h (h a0 6) a1) - (h (h a0 6) a2))))) (fun (x : Int) => some x))
noncomputable def m_X16_compare (a0 a1 a2 : Int) (h : Hp) : Option (Int) :=
  lt_ 0 fun x3_1 =>
  gd (h (h a0 6) (-2) % 16 = 1 ∧ (0 : Int) ≤ a1 ∧ a1 < h (h a0 6) (-1)) (gd (h (h a0 6) (-2) % 16 = 1 ∧ (0 : Int) ≤ a2 ∧ a2 < h (h a0 6) (-1)) (if (h (h a0 6) a2) ≤ (h (h a0 6) a1) then (m_X16_compare_j32 x3_1 a2 a0 a1 (h (h a0 6) a2) h)
  else (m_X16_compare_j32 x3_1 a2 a0 a1 (h (h a0 6) a1) h)))
theorem s_X16_compare {l : Launch} [NoTr l] {D : SD} {a0 a1 a2 : Int} {h : Hp} (hk : h a0 (-2) = 256) (r1 : r32 a1) (r2 : r32 a2) {r : Int} (hm : m_X16_compare a0 a1 a2 h = some r) : Sim l D yX16_compare (Cond.code yX16_compare cX16_compare 8 (Option.some Jvm.ClassFile.FieldType.int)) 1 36 [rv D a0, iv a1, iv a2] h 1 ((0, r), h) := by
  refine Sim.of (fin := fun (v : Int) => ((0, v), h)) (lsE := [(0, rv D a0), (1, iv a1), (2, iv a2)]) hm rfl cwS_code (la_r (la_i (la_i la_n))) (ll_r (ll_i (ll_i ll_n))) ?_
  intro p e s m below meth c X hcw hmm hcc hnm hname
  unfold m_X16_compare
  refine g_iconst (pc := 0) X (n := 0) (dl_at t_X16_compare 0 rfl) ?_
  refine g_ltz (Or.inl rfl) fun x3_1 r3_1 => ?_
  refine g_istore_nN (pc := 1) X (j := 3) (i := 3) (x := x3_1) (b := 2) (w := iv a2) (rest := [(0, rv D a0), (1, iv a1)]) rfl (Nat.le_of_ble_eq_true rfl) [2, 0, 1] rfl (by decide) rfl rfl (dl_at t_X16_compare 1 rfl) ?_
  refine g_aload_n (pc := 2) X (j := 0) (i := 0) (q := 2) (x := a0) rfl rfl (dl_at t_X16_compare 2 rfl) ?_
  refine r_getr (pc := 3) X fX16_6 hk q1214 (dl_at t_X16_compare 3 rfl) ?_
  refine g_iload_n (pc := 6) X (j := 1) (i := 1) (q := 3) (x := a1) rfl rfl (dl_at t_X16_compare 4 rfl) ?_
  refine g_gd fun k7 => ?_
  refine g_iald (pc := 7) X r1 k7 (dl_at t_X16_compare 5 rfl) fun g7 => ?_
  refine g_aload_n (pc := 8) X (j := 0) (i := 0) (q := 2) (x := a0) rfl rfl (dl_at t_X16_compare 6 rfl) ?_
  refine r_getr (pc := 9) X fX16_6 hk q1214 (dl_at t_X16_compare 7 rfl) ?_
  refine g_iload_n (pc := 12) X (j := 2) (i := 2) (q := 1) (x := a2) rfl rfl (dl_at t_X16_compare 8 rfl) ?_
  refine g_gd fun k13 => ?_
  refine g_iald (pc := 13) X r2 k13 (dl_at t_X16_compare 9 rfl) fun g13 => ?_
  refine g_join (γ := Int) (fun q => r32 q) 32 (fun q => [(0, rv D a0), (1, iv a1), (2, iv a2), (3, iv x3_1)]) (fun q => [iv q]) (fun q => h) (fun q => m_X16_compare_j32 x3_1 a2 a0 a1 q h) ?_ ?_
  · rintro s0_32 rs0_32
    try dsimp only
    unfold m_X16_compare_j32
    refine g_istoreN (pc := 32) X (i := 4) (x := s0_32) (b := 3) (w := iv x3_1) (rest := [(0, rv D a0), (1, iv a1), (2, iv a2)]) (Nat.le_of_ble_eq_true rfl) [3, 0, 1, 2] rfl (by decide) rfl rfl (dl_at t_X16_compare 20 rfl) ?_
    refine g_iconst (pc := 34) X (n := 0) (dl_at t_X16_compare 21 rfl) ?_
    refine g_ltz (Or.inl rfl) fun x5_35 r5_35 => ?_
    refine g_istoreN (pc := 35) X (i := 5) (x := x5_35) (b := 4) (w := iv s0_32) (rest := [(3, iv x3_1), (0, rv D a0), (1, iv a1), (2, iv a2)]) (Nat.le_of_ble_eq_true rfl) [0, 1, 2, 3, 4] rfl (by decide) rfl rfl (dl_at t_X16_compare 22 rfl) ?_
    refine g_ls (ls2 := [(0, rv D a0), (1, iv a1), (2, iv a2), (3, iv x3_1), (4, iv s0_32), (5, iv x5_35)]) [3, 4, 5, 2, 1, 0] rfl ?_
    refine g_loop1F (fun (q : Int × Int) => [(0, rv D a0), (1, iv a1), (2, iv a2), (3, iv q.1), (4, iv s0_32), (5, iv q.2)]) (fun (q : Int × Int) => h) (fun (q : Int × Int) => r32 q.1 ∧ r32 q.2) 123 (fun (y123 : Int) => [(0, rv D a0), (1, iv a1), (2, iv a2), (3, iv y123)]) (fun (y123 : Int) => h) (fun (y123 : Int) => r32 y123) (x3_1, x5_35) ⟨(r32_z r3_1), (r32_z r5_35)⟩ ?_ ?_ (fun _ => rfl)
    · rintro ⟨x3_37, x5_37⟩ ⟨r3_37, r5_37⟩
      try dsimp only
      unfold m_X16_compare_l37
      refine g_iload (pc := 37) X (i := 5) (q := 5) (x := x5_37) rfl (dl_at t_X16_compare 23 rfl) ?_
      refine g_iload (pc := 39) X (i := 4) (q := 4) (x := s0_32) rfl (dl_at t_X16_compare 24 rfl) ?_
      refine g_icmpge (pc := 41) X r5_37 rs0_32 (off := 82) (tgt := 123) rfl (dl_at t_X16_compare 25 rfl) (fun _ => ?_) (fun _ => ?_)
      · refine g_ls (ls2 := [(0, rv D a0), (1, iv a1), (2, iv a2), (3, iv x3_37)]) [0, 1, 2, 3] rfl ?_
        exact g_at fun Q hQ => hQ r3_37
      refine g_aload_n (pc := 44) X (j := 0) (i := 0) (q := 0) (x := a0) rfl rfl (dl_at t_X16_compare 26 rfl) ?_
      refine r_getr (pc := 45) X fX16_4 hk q1212 (dl_at t_X16_compare 27 rfl) ?_
      refine g_gd fun k48 => ?_
      refine r_getrN (pc := 48) X fX5_0 k48 (nw_in q500 rfl) (dl_at t_X16_compare 28 rfl) ?_
      refine g_aload_n (pc := 51) X (j := 0) (i := 0) (q := 0) (x := a0) rfl rfl (dl_at t_X16_compare 29 rfl) ?_
      refine r_getr (pc := 52) X fX16_5 hk q1213 (dl_at t_X16_compare 30 rfl) ?_
      refine g_iload_n (pc := 55) X (j := 1) (i := 1) (q := 1) (x := a1) rfl rfl (dl_at t_X16_compare 31 rfl) ?_
      refine g_gd fun k56 => ?_
      refine g_iald (pc := 56) X r1 k56 (dl_at t_X16_compare 32 rfl) fun g56 => ?_
      refine g_iload (pc := 57) X (i := 5) (q := 5) (x := x5_37) rfl (dl_at t_X16_compare 33 rfl) ?_
      refine g_iadd (pc := 59) X g56 r5_37 (dl_at t_X16_compare 34 rfl) ?_
      refine g_gd fun k60 => ?_
      refine g_bald (pc := 60) X (r32_w _) k60 (dl_at t_X16_compare 35 rfl) fun g60 => ?_
      refine g_ltb g60 fun x6_61 r6_61 => ?_
      refine g_istoreN (pc := 61) X (i := 6) (x := x6_61) (b := 5) (w := iv x5_37) (rest := [(0, rv D a0), (1, iv a1), (2, iv a2), (3, iv x3_37), (4, iv s0_32)]) (Nat.le_of_ble_eq_true rfl) [5, 0, 1, 2, 3, 4] rfl (by decide) rfl rfl (dl_at t_X16_compare 36 rfl) ?_
      refine g_aload_n (pc := 63) X (j := 0) (i := 0) (q := 2) (x := a0) rfl rfl (dl_at t_X16_compare 37 rfl) ?_
      refine r_getr (pc := 64) X fX16_4 hk q1212 (dl_at t_X16_compare 38 rfl) ?_
      refine r_getrN (pc := 67) X fX5_0 k48 (nw_in q500 rfl) (dl_at t_X16_compare 39 rfl) ?_
      refine g_aload_n (pc := 70) X (j := 0) (i := 0) (q := 2) (x := a0) rfl rfl (dl_at t_X16_compare 40 rfl) ?_
      refine r_getr (pc := 71) X fX16_5 hk q1213 (dl_at t_X16_compare 41 rfl) ?_
      refine g_iload_n (pc := 74) X (j := 2) (i := 2) (q := 4) (x := a2) rfl rfl (dl_at t_X16_compare 42 rfl) ?_
      refine g_gd fun k75 => ?_
      refine g_iald (pc := 75) X r2 k75 (dl_at t_X16_compare 43 rfl) fun g75 => ?_
      refine g_iload (pc := 76) X (i := 5) (q := 1) (x := x5_37) rfl (dl_at t_X16_compare 44 rfl) ?_
      refine g_iadd (pc := 78) X g75 r5_37 (dl_at t_X16_compare 45 rfl) ?_
      refine g_gd fun k79 => ?_
      refine g_bald (pc := 79) X (r32_w _) k79 (dl_at t_X16_compare 46 rfl) fun g79 => ?_
      refine g_ltb g79 fun x7_80 r7_80 => ?_
      refine g_istoreN (pc := 80) X (i := 7) (x := x7_80) (b := 6) (w := iv x6_61) (rest := [(5, iv x5_37), (0, rv D a0), (1, iv a1), (2, iv a2), (3, iv x3_37), (4, iv s0_32)]) (Nat.le_of_ble_eq_true rfl) [0, 1, 2, 3, 4, 5, 6] rfl (by decide) rfl rfl (dl_at t_X16_compare 47 rfl) ?_
      refine g_iload (pc := 82) X (i := 6) (q := 1) (x := x6_61) rfl (dl_at t_X16_compare 48 rfl) ?_
      refine r_callRi (pc := 84) X (fun _ hv => s_X1_small (r32_b r6_61) hv) cw_code q1937 q355 (in_Sc X (As := [iv x6_61]) (Or.inr ⟨_, nw_in q2471 rfl⟩) q1936 q355 q1937 ⟨by decide, by decide⟩ rfl (dl_at t_X16_compare 49 rfl)) (dl_at t_X16_compare 49 rfl) (cat24 (st := []) (Nat.le_of_ble_eq_true rfl)) (Nat.le_of_ble_eq_true rfl) (Nat.le_of_ble_eq_true rfl) fun v84 g84 => ?_
      refine g_iload (pc := 87) X (i := 7) (q := 0) (x := x7_80) rfl (dl_at t_X16_compare 50 rfl) ?_
      refine r_callRi (pc := 89) X (fun _ hv => s_X1_small (r32_b r7_80) hv) cw_code q1937 q355 (in_Sc X (As := [iv x7_80]) (Or.inr ⟨_, nw_in q2471 rfl⟩) q1936 q355 q1937 ⟨by decide, by decide⟩ rfl (dl_at t_X16_compare 51 rfl)) (dl_at t_X16_compare 51 rfl) (cat24 (st := [iv v84]) (Nat.le_of_ble_eq_true rfl)) (Nat.le_of_ble_eq_true rfl) (Nat.le_of_ble_eq_true rfl) fun v89 g89 => ?_
      refine g_icmpeq (pc := 92) X g84 g89 (off := 15) (tgt := 107) rfl (dl_at t_X16_compare 52 rfl) (fun _ => ?_) (fun _ => ?_)
      · refine g_iload_n (pc := 107) X (j := 3) (i := 3) (q := 6) (x := x3_37) rfl rfl (dl_at t_X16_compare 59 rfl) ?_
        refine g_join (γ := Int) (fun q => r32 q) 117 (fun q => [(0, rv D a0), (1, iv a1), (2, iv a2), (3, iv q), (4, iv s0_32), (5, iv x5_37)]) (fun q => []) (fun q => h) (fun q => m_X16_compare_j117 x5_37 q) ?_ ?_
        · rintro x3_117 r3_117
          try dsimp only
          unfold m_X16_compare_j117
          refine r_iincN (pc := 117) X (i := 5) (q := 5) (n := 1) (x := x5_37) (b := 4) (w := iv s0_32) (rest := [(0, rv D a0), (1, iv a1), (2, iv a2), (3, iv x3_117)]) rfl r5_37 (r32_c rfl) (Nat.le_of_ble_eq_true rfl) [4, 0, 1, 2, 3] rfl (by decide) rfl rfl (dl_at t_X16_compare 65 rfl) fun x5_117 r5_117 => ?_
          refine g_goto (pc := 120) X (off := (-83)) (tgt := 37) rfl (dl_at t_X16_compare 66 rfl) ?_
          refine g_ls (ls2 := [(0, rv D a0), (1, iv a1), (2, iv a2), (3, iv x3_117), (4, iv s0_32), (5, iv x5_117)]) [2, 3, 4, 5, 1, 0] rfl ?_
          exact g_at fun Q hQ => hQ ⟨r3_117, r5_117⟩
        intro J117
        refine g_ifne (pc := 108) X r3_37 (off := 9) (tgt := 117) rfl (dl_at t_X16_compare 60 rfl) (fun _ => ?_) (fun _ => ?_)
        · refine g_ls (ls2 := [(0, rv D a0), (1, iv a1), (2, iv a2), (3, iv x3_37), (4, iv s0_32), (5, iv x5_37)]) [3, 4, 5, 6, 7, 2] rfl ?_
          exact J117 x3_37 r3_37
        refine g_iload (pc := 111) X (i := 6) (q := 1) (x := x6_61) rfl (dl_at t_X16_compare 61 rfl) ?_
        refine g_iload (pc := 113) X (i := 7) (q := 0) (x := x7_80) rfl (dl_at t_X16_compare 62 rfl) ?_
        refine g_isub (pc := 115) X (r32_b r6_61) (r32_b r7_80) (dl_at t_X16_compare 63 rfl) ?_
        refine g_lti (r32_w _) fun x3_116 r3_116 => ?_
        refine g_istore_nN (pc := 116) X (j := 3) (i := 3) (x := x3_116) (b := 2) (w := iv a2) (rest := [(5, iv x5_37), (0, rv D a0), (1, iv a1), (4, iv s0_32)]) rfl (Nat.le_of_ble_eq_true rfl) [5, 2, 3, 4, 7] rfl (by decide) rfl rfl (dl_at t_X16_compare 64 rfl) ?_
        refine g_ls (ls2 := [(0, rv D a0), (1, iv a1), (2, iv a2), (3, iv x3_116), (4, iv s0_32), (5, iv x5_37)]) [3, 4, 1, 0, 5, 2] rfl ?_
        exact J117 x3_116 r3_116
      refine g_iload (pc := 95) X (i := 6) (q := 1) (x := x6_61) rfl (dl_at t_X16_compare 53 rfl) ?_
      refine r_callRi (pc := 97) X (fun _ hv => s_X1_small (r32_b r6_61) hv) cw_code q1937 q355 (in_Sc X (As := [iv x6_61]) (Or.inr ⟨_, nw_in q2471 rfl⟩) q1936 q355 q1937 ⟨by decide, by decide⟩ rfl (dl_at t_X16_compare 54 rfl)) (dl_at t_X16_compare 54 rfl) (cat24 (st := []) (Nat.le_of_ble_eq_true rfl)) (Nat.le_of_ble_eq_true rfl) (Nat.le_of_ble_eq_true rfl) fun v97 g97 => ?_
      refine g_iload (pc := 100) X (i := 7) (q := 0) (x := x7_80) rfl (dl_at t_X16_compare 55 rfl) ?_
      refine r_callRi (pc := 102) X (fun _ hv => s_X1_small (r32_b r7_80) hv) cw_code q1937 q355 (in_Sc X (As := [iv x7_80]) (Or.inr ⟨_, nw_in q2471 rfl⟩) q1936 q355 q1937 ⟨by decide, by decide⟩ rfl (dl_at t_X16_compare 56 rfl)) (dl_at t_X16_compare 56 rfl) (cat24 (st := [iv v97]) (Nat.le_of_ble_eq_true rfl)) (Nat.le_of_ble_eq_true rfl) (Nat.le_of_ble_eq_true rfl) fun v102 g102 => ?_
      refine g_isub (pc := 105) X g97 g102 (dl_at t_X16_compare 57 rfl) ?_
      exact g_at fun Q hQ => (g_iret (pc := 106) X (r32_w _) rfl rfl (dl_at t_X16_compare 58 rfl)) _ Q rfl hQ
    · rintro x3_123 r3_123
      try dsimp only [sE]
      refine g_aload_n (pc := 123) X (j := 0) (i := 0) (q := 0) (x := a0) rfl rfl (dl_at t_X16_compare 67 rfl) ?_
      refine r_getr (pc := 124) X fX16_6 hk q1214 (dl_at t_X16_compare 68 rfl) ?_
      refine g_iload_n (pc := 127) X (j := 1) (i := 1) (q := 1) (x := a1) rfl rfl (dl_at t_X16_compare 69 rfl) ?_
      refine g_iald (pc := 128) X r1 k7 (dl_at t_X16_compare 70 rfl) fun g128 => ?_
      refine g_aload_n (pc := 129) X (j := 0) (i := 0) (q := 0) (x := a0) rfl rfl (dl_at t_X16_compare 71 rfl) ?_
      refine r_getr (pc := 130) X fX16_6 hk q1214 (dl_at t_X16_compare 72 rfl) ?_
      refine g_iload_n (pc := 133) X (j := 2) (i := 2) (q := 2) (x := a2) rfl rfl (dl_at t_X16_compare 73 rfl) ?_
      refine g_iald (pc := 134) X r2 k13 (dl_at t_X16_compare 74 rfl) fun g134 => ?_
      refine g_icmpeq (pc := 135) X g128 g134 (off := 19) (tgt := 154) rfl (dl_at t_X16_compare 75 rfl) (fun _ => ?_) (fun _ => ?_)
      · refine g_iload_n (pc := 154) X (j := 3) (i := 3) (q := 3) (x := x3_123) rfl rfl (dl_at t_X16_compare 86 rfl) ?_
        exact g_iret (pc := 155) X r3_123 rfl rfl (dl_at t_X16_compare 87 rfl)
      refine g_aload_n (pc := 138) X (j := 0) (i := 0) (q := 0) (x := a0) rfl rfl (dl_at t_X16_compare 76 rfl) ?_
      refine r_getr (pc := 139) X fX16_6 hk q1214 (dl_at t_X16_compare 77 rfl) ?_
      refine g_iload_n (pc := 142) X (j := 1) (i := 1) (q := 1) (x := a1) rfl rfl (dl_at t_X16_compare 78 rfl) ?_
      refine g_iald (pc := 143) X r1 k7 (dl_at t_X16_compare 79 rfl) fun g143 => ?_
      refine g_aload_n (pc := 144) X (j := 0) (i := 0) (q := 0) (x := a0) rfl rfl (dl_at t_X16_compare 80 rfl) ?_
      refine r_getr (pc := 145) X fX16_6 hk q1214 (dl_at t_X16_compare 81 rfl) ?_
      refine g_iload_n (pc := 148) X (j := 2) (i := 2) (q := 2) (x := a2) rfl rfl (dl_at t_X16_compare 82 rfl) ?_
      refine g_iald (pc := 149) X r2 k13 (dl_at t_X16_compare 83 rfl) fun g149 => ?_
      refine g_isub (pc := 150) X g143 g149 (dl_at t_X16_compare 84 rfl) ?_
      refine g_goto (pc := 151) X (off := 4) (tgt := 155) rfl (dl_at t_X16_compare 85 rfl) ?_
      exact g_iret (pc := 155) X (r32_w _) rfl rfl (dl_at t_X16_compare 87 rfl)
  intro J32
  refine g_icmpge (pc := 14) X g7 g13 (off := 12) (tgt := 26) rfl (dl_at t_X16_compare 10 rfl) (fun _ => ?_) (fun _ => ?_)
  · refine g_aload_n (pc := 26) X (j := 0) (i := 0) (q := 2) (x := a0) rfl rfl (dl_at t_X16_compare 16 rfl) ?_
    refine r_getr (pc := 27) X fX16_6 hk q1214 (dl_at t_X16_compare 17 rfl) ?_
    refine g_iload_n (pc := 30) X (j := 2) (i := 2) (q := 1) (x := a2) rfl rfl (dl_at t_X16_compare 18 rfl) ?_
    refine g_iald (pc := 31) X r2 k13 (dl_at t_X16_compare 19 rfl) fun g31 => ?_
    refine g_ls (ls2 := [(0, rv D a0), (1, iv a1), (2, iv a2), (3, iv x3_1)]) [2, 3, 1, 0] rfl ?_
    exact J32 (h (h a0 6) a2) g31
  refine g_aload_n (pc := 17) X (j := 0) (i := 0) (q := 2) (x := a0) rfl rfl (dl_at t_X16_compare 11 rfl) ?_
  refine r_getr (pc := 18) X fX16_6 hk q1214 (dl_at t_X16_compare 12 rfl) ?_
  refine g_iload_n (pc := 21) X (j := 1) (i := 1) (q := 3) (x := a1) rfl rfl (dl_at t_X16_compare 13 rfl) ?_
  refine g_iald (pc := 22) X r1 k7 (dl_at t_X16_compare 14 rfl) fun g22 => ?_
  refine g_goto (pc := 23) X (off := 9) (tgt := 32) rfl (dl_at t_X16_compare 15 rfl) ?_
  refine g_ls (ls2 := [(0, rv D a0), (1, iv a1), (2, iv a2), (3, iv x3_1)]) [2, 3, 1, 0] rfl ?_
  exact J32 (h (h a0 6) a1) g22
def k_X16_add : List (Nat × Instr × Nat) := [(0, .aload_n 0, 1), (1, .getfield 28, 3), (4, .aload_n 0, 1), (5, .getfield 48, 3), (8, .iload_n 2, 1), (9, .iastore, 1), (10, .aload_n 0, 1), (11, .getfield 31, 3), (14, .aload_n 0, 1), (15, .getfield 48, 3), (18, .aload_n 0, 1), (19, .getfield 24, 3), (22, .getfield 51, 3), (25, .iload_n 2, 1), (26, .isub, 1), (27, .iastore, 1), (28, .iconst 0, 1), (29, .istore_n 3, 1), (30, .iload_n 3, 1), (31, .aload_n 0, 1), (32, .getfield 48, 3), (35, .if_icmp .ge 21, 3), (38, .aload_n 0, 1), (39, .iload_n 3, 1), (40, .aload_n 0, 1), (41, .getfield 48, 3), (44, .invokevirtual 98, 3), (47, .ifCond .eq 9, 3), (50, .iinc 3 1, 3), (53, .goto (-23), 3), (56, .iload_n 3, 1), (57, .aload_n 0, 1), (58, .getfield 48, 3), (61, .if_icmp .ne 34, 3), (64, .aload_n 0, 1), (65, .getfield 48, 3), (68, .sipush 300, 3), (71, .if_icmp .ge 7, 3), (74, .iconst 1, 1), (75, .goto 4, 3), (78, .iconst 0, 1), (79, .invokestatic 102, 3), (82, .aload_n 0, 1), (83, .dup, 1), (84, .getfield 48, 3), (87, .iconst 1, 1), (88, .iadd, 1), (89, .putfield 48, 3), (92, .goto 11, 3), (95, .aload_n 0, 1), (96, .getfield 24, 3), (99, .iload_n 2, 1), (100, .putfield 51, 3), (103, .aload_n 0, 1), (104, .getfield 9, 3), (107, .aload_n 0, 1), (108, .getfield 44, 3), (111, .iload_n 1, 1), (112, .iastore, 1), (113, .aload_n 0, 1), (114, .getfield 15, 3), (117, .aload_n 0, 1), (118, .getfield 44, 3), (121, .iload_n 3, 1), (122, .iastore, 1), (123, .aload_n 0, 1), (124, .dup, 1), (125, .getfield 44, 3), (128, .iconst 1, 1), (129, .iadd, 1), (130, .putfield 44, 3), (133, .return_, 1)]
theorem t_X16_add : ∀ q ∈ k_X16_add, decode cX16_add q.1 = .ok q.2 := dl_all (by decide +kernel)
noncomputable def m_X16_add_l30 (a0 x3_30 : Int) (h27 : Hp) : Option ((Int) ⊕ ((Int))) :=
  if (h27 a0 9) ≤ x3_30 then (some (.inr x3_30))
  else ((m_X16_compare a0 x3_30 (h27 a0 9) h27).bind fun v44 =>
  if v44 = 0 then (some (.inr x3_30))
  else (lt_ (w32 (x3_30 + 1)) fun x3_50 =>
  some (.inl x3_50)))
noncomputable def m_X16_add_j103 (a0 a1 x3_56 : Int) (h_103 : Hp) : Option ((Int × Int) × Hp) :=
  gd (h_103 (h_103 a0 1) (-2) % 16 = 1 ∧ (0 : Int) ≤ (h_103 a0 3) ∧ (h_103 a0 3) < h_103 (h_103 a0 1) (-1)) (pt h_103 (h_103 a0 1) (h_103 a0 3) a1 fun h112 =>
  gd (h112 (h112 a0 2) (-2) % 16 = 1 ∧ (0 : Int) ≤ (h112 a0 3) ∧ (h112 a0 3) < h112 (h112 a0 2) (-1)) (pt h112 (h112 a0 2) (h112 a0 3) x3_56 fun h122 =>
  pt h122 a0 3 (w32 ((h122 a0 3) + 1)) fun h130 =>
  some ((0, 0), h130)))
noncomputable def m_X16_add_j79 (a0 a1 x3_56 s0_79 : Int) (h27 : Hp) : Option ((Int × Int) × Hp) :=
  bT (m_X1_room s0_79 h27) (fun _ h79 =>
  pt h79 a0 9 (w32 ((h79 a0 9) + 1)) fun h89 =>
  m_X16_add_j103 a0 a1 x3_56 h89) (fun a_ h_ => some ((1, a_), h_))
noncomputable def m_X16_add (a0 a1 a2 : Int) (h : Hp) : Option ((Int × Int) × Hp) :=
  gd (h (h a0 5) (-2) % 16 = 1 ∧ (0 : Int) ≤ (h a0 9) ∧ (h a0 9) < h (h a0 5) (-1)) (pt h (h a0 5) (h a0 9) a2 fun h9 =>
  gd (h9 (h9 a0 4) (-2) = 80) (gd (h9 (h9 a0 6) (-2) % 16 = 1 ∧ (0 : Int) ≤ (h9 a0 9) ∧ (h9 a0 9) < h9 (h9 a0 6) (-1)) (pt h9 (h9 a0 6) (h9 a0 9) (w32 ((h9 (h9 a0 4) 1) - a2)) fun h27 =>
  lt_ 0 fun x3_29 =>
  (lp (fun (q : Int) => m_X16_add_l30 a0 q h27) x3_29).bind (fun (y56 : Int) => if y56 ≠ (h27 a0 9) then (gd (h27 (h27 a0 4) (-2) = 80) (pt h27 (h27 a0 4) 1 a2 fun h100 =>
  m_X16_add_j103 a0 a1 y56 h100))
  else (if 300 ≤ (h27 a0 9) then (m_X16_add_j79 a0 a1 y56 0 h27)
  else (m_X16_add_j79 a0 a1 y56 1 h27))))))
theorem s_X16_add {l : Launch} [NoTr l] {D : SD} {a0 a1 a2 : Int} {h : Hp} (hk : h a0 (-2) = 256) (r1 : r32 a1) (r2 : r32 a2) {r : (Int × Int) × Hp} (hm : m_X16_add a0 a1 a2 h = some r) : Sim l D yX16_add (Cond.code yX16_add cX16_add 4 (Option.none : Option Jvm.ClassFile.FieldType)) 10 372 [rv D a0, iv a1, iv a2] h 0 r := by
  refine Sim.of (fin := fun (v : (Int × Int) × Hp) => v) (lsE := [(0, rv D a0), (1, iv a1), (2, iv a2)]) hm rfl cwS_code (la_r (la_i (la_i la_n))) (ll_r (ll_i (ll_i ll_n))) ?_
  intro p e s m below meth c X hcw hmm hcc hnm hname
  have hno := noh hcw hnm hmm hcc
  unfold m_X16_add
  refine g_aload_n (pc := 0) X (j := 0) (i := 0) (q := 0) (x := a0) rfl rfl (dl_at t_X16_add 0 rfl) ?_
  refine r_getr (pc := 1) X fX16_5 hk q1213 (dl_at t_X16_add 1 rfl) ?_
  refine g_aload_n (pc := 4) X (j := 0) (i := 0) (q := 0) (x := a0) rfl rfl (dl_at t_X16_add 2 rfl) ?_
  refine r_geti (pc := 5) X fX16_9 hk q1217 (dl_at t_X16_add 3 rfl) fun g5 => ?_
  refine g_iload_n (pc := 8) X (j := 2) (i := 2) (q := 2) (x := a2) rfl rfl (dl_at t_X16_add 4 rfl) ?_
  refine g_gd fun k9 => ?_
  refine r_iast (pc := 9) X g5 r2 k9 (dl_at t_X16_add 5 rfl) (fun h9 E9 => ?_)
  refine g_aload_n (pc := 10) X (j := 0) (i := 0) (q := 0) (x := a0) rfl rfl (dl_at t_X16_add 6 rfl) ?_
  have k11 := kx E9 (by decide) hk
  refine r_getr (pc := 11) X fX16_6 k11 q1214 (dl_at t_X16_add 7 rfl) ?_
  refine g_aload_n (pc := 14) X (j := 0) (i := 0) (q := 0) (x := a0) rfl rfl (dl_at t_X16_add 8 rfl) ?_
  refine r_geti (pc := 15) X fX16_9 k11 q1217 (dl_at t_X16_add 9 rfl) fun g15 => ?_
  refine g_aload_n (pc := 18) X (j := 0) (i := 0) (q := 0) (x := a0) rfl rfl (dl_at t_X16_add 10 rfl) ?_
  refine r_getr (pc := 19) X fX16_4 k11 q1212 (dl_at t_X16_add 11 rfl) ?_
  refine g_gd fun k22 => ?_
  refine r_getiN (pc := 22) X fX5_1 k22 (nw_in q506 rfl) (dl_at t_X16_add 12 rfl) fun g22 => ?_
  refine g_iload_n (pc := 25) X (j := 2) (i := 2) (q := 2) (x := a2) rfl rfl (dl_at t_X16_add 13 rfl) ?_
  refine g_isub (pc := 26) X g22 r2 (dl_at t_X16_add 14 rfl) ?_
  refine g_gd fun k27 => ?_
  refine r_iast (pc := 27) X g15 (r32_w _) k27 (dl_at t_X16_add 15 rfl) (fun h27 E27 => ?_)
  refine g_iconst (pc := 28) X (n := 0) (dl_at t_X16_add 16 rfl) ?_
  refine g_ltz (Or.inl rfl) fun x3_29 r3_29 => ?_
  refine g_istore_nN (pc := 29) X (j := 3) (i := 3) (x := x3_29) (b := 2) (w := iv a2) (rest := [(0, rv D a0), (1, iv a1)]) rfl (Nat.le_of_ble_eq_true rfl) [2, 0, 1] rfl (by decide) rfl rfl (dl_at t_X16_add 17 rfl) ?_
  refine g_ls (ls2 := [(0, rv D a0), (1, iv a1), (2, iv a2), (3, iv x3_29)]) [2, 3, 1, 0] rfl ?_
  refine g_loop1 (fun (q : Int) => [(0, rv D a0), (1, iv a1), (2, iv a2), (3, iv q)]) (fun (q : Int) => h27) (fun (q : Int) => r32 q) 56 (fun (y56 : Int) => [(0, rv D a0), (1, iv a1), (2, iv a2), (3, iv y56)]) (fun (y56 : Int) => h27) (fun (y56 : Int) => r32 y56) x3_29 (r32_z r3_29) ?_ ?_
  · rintro x3_30 r3_30
    try dsimp only
    unfold m_X16_add_l30
    refine g_iload_n (pc := 30) X (j := 3) (i := 3) (q := 3) (x := x3_30) rfl rfl (dl_at t_X16_add 18 rfl) ?_
    refine g_aload_n (pc := 31) X (j := 0) (i := 0) (q := 0) (x := a0) rfl rfl (dl_at t_X16_add 19 rfl) ?_
    have k32 := kx E27 (by decide) k11
    refine r_geti (pc := 32) X fX16_9 k32 q1217 (dl_at t_X16_add 20 rfl) fun g32 => ?_
    refine g_icmpge (pc := 35) X r3_30 g32 (off := 21) (tgt := 56) rfl (dl_at t_X16_add 21 rfl) (fun _ => ?_) (fun _ => ?_)
    · exact g_at fun Q hQ => hQ r3_30
    refine g_aload_n (pc := 38) X (j := 0) (i := 0) (q := 0) (x := a0) rfl rfl (dl_at t_X16_add 22 rfl) ?_
    refine g_iload_n (pc := 39) X (j := 3) (i := 3) (q := 3) (x := x3_30) rfl rfl (dl_at t_X16_add 23 rfl) ?_
    refine g_aload_n (pc := 40) X (j := 0) (i := 0) (q := 0) (x := a0) rfl rfl (dl_at t_X16_add 24 rfl) ?_
    refine r_geti (pc := 41) X fX16_9 k32 q1217 (dl_at t_X16_add 25 rfl) fun g41 => ?_
    refine r_callRi (pc := 44) X (fun _ hv => s_X16_compare k32 r3_30 g41 hv) cw_code q2470 q370 (in_Vk X (As := [iv x3_30, iv (h27 a0 9)]) kX16 k32 (Or.inl q2467) q2469 qs111 cw_code q2470 ⟨by decide, by decide⟩ rfl (dl_at t_X16_add 26 rfl)) (dl_at t_X16_add 26 rfl) (cat24 (st := []) (Nat.le_of_ble_eq_true rfl)) (Nat.le_of_ble_eq_true rfl) (Nat.le_of_ble_eq_true rfl) fun v44 g44 => ?_
    refine g_ifeq (pc := 47) X g44 (off := 9) (tgt := 56) rfl (dl_at t_X16_add 27 rfl) (fun _ => ?_) (fun _ => ?_)
    · exact g_at fun Q hQ => hQ r3_30
    refine r_iincN (pc := 50) X (i := 3) (q := 3) (n := 1) (x := x3_30) (b := 2) (w := iv a2) (rest := [(0, rv D a0), (1, iv a1)]) rfl r3_30 (r32_c rfl) (Nat.le_of_ble_eq_true rfl) [2, 0, 1] rfl (by decide) rfl rfl (dl_at t_X16_add 28 rfl) fun x3_50 r3_50 => ?_
    refine g_goto (pc := 53) X (off := (-23)) (tgt := 30) rfl (dl_at t_X16_add 29 rfl) ?_
    refine g_ls (ls2 := [(0, rv D a0), (1, iv a1), (2, iv a2), (3, iv x3_50)]) [2, 3, 1, 0] rfl ?_
    exact g_at fun Q hQ => hQ r3_50
  · rintro x3_56 r3_56
    try dsimp only [sE]
    refine g_iload_n (pc := 56) X (j := 3) (i := 3) (q := 3) (x := x3_56) rfl rfl (dl_at t_X16_add 30 rfl) ?_
    refine g_aload_n (pc := 57) X (j := 0) (i := 0) (q := 0) (x := a0) rfl rfl (dl_at t_X16_add 31 rfl) ?_
    have k58 := kx E27 (by decide) k11
    refine r_geti (pc := 58) X fX16_9 k58 q1217 (dl_at t_X16_add 32 rfl) fun g58 => ?_
    refine g_join (γ := Hp) (fun q => Ext h27 q) 103 (fun q => [(0, rv D a0), (1, iv a1), (3, iv x3_56)]) (fun q => []) (fun q => q) (fun q => m_X16_add_j103 a0 a1 x3_56 q) ?_ ?_
    · rintro h_103 E_103
      try dsimp only
      unfold m_X16_add_j103
      refine g_aload_n (pc := 103) X (j := 0) (i := 0) (q := 0) (x := a0) rfl rfl (dl_at t_X16_add 53 rfl) ?_
      have k104 := kx E_103 (by decide) k58
      refine r_getr (pc := 104) X fX16_1 k104 q1207 (dl_at t_X16_add 54 rfl) ?_
      refine g_aload_n (pc := 107) X (j := 0) (i := 0) (q := 0) (x := a0) rfl rfl (dl_at t_X16_add 55 rfl) ?_
      refine r_geti (pc := 108) X fX16_3 k104 q1210 (dl_at t_X16_add 56 rfl) fun g108 => ?_
      refine g_iload_n (pc := 111) X (j := 1) (i := 1) (q := 1) (x := a1) rfl rfl (dl_at t_X16_add 57 rfl) ?_
      refine g_gd fun k112 => ?_
      refine r_iast (pc := 112) X g108 r1 k112 (dl_at t_X16_add 58 rfl) (fun h112 E112 => ?_)
      refine g_aload_n (pc := 113) X (j := 0) (i := 0) (q := 0) (x := a0) rfl rfl (dl_at t_X16_add 59 rfl) ?_
      have k114 := kx E112 (by decide) k104
      refine r_getr (pc := 114) X fX16_2 k114 q1209 (dl_at t_X16_add 60 rfl) ?_
      refine g_aload_n (pc := 117) X (j := 0) (i := 0) (q := 0) (x := a0) rfl rfl (dl_at t_X16_add 61 rfl) ?_
      refine r_geti (pc := 118) X fX16_3 k114 q1210 (dl_at t_X16_add 62 rfl) fun g118 => ?_
      refine g_iload_n (pc := 121) X (j := 3) (i := 3) (q := 2) (x := x3_56) rfl rfl (dl_at t_X16_add 63 rfl) ?_
      refine g_gd fun k122 => ?_
      refine r_iast (pc := 122) X g118 r3_56 k122 (dl_at t_X16_add 64 rfl) (fun h122 E122 => ?_)
      refine g_aload_n (pc := 123) X (j := 0) (i := 0) (q := 0) (x := a0) rfl rfl (dl_at t_X16_add 65 rfl) ?_
      refine g_dup (pc := 124) X rv_cat (dl_at t_X16_add 66 rfl) ?_
      have k125 := kx E122 (by decide) k114
      refine r_geti (pc := 125) X fX16_3 k125 q1210 (dl_at t_X16_add 67 rfl) fun g125 => ?_
      refine g_iconst (pc := 128) X (n := 1) (dl_at t_X16_add 68 rfl) ?_
      refine g_iadd (pc := 129) X g125 (r32_c rfl) (dl_at t_X16_add 69 rfl) ?_
      refine r_puti (pc := 130) X fX16_3 k125 q1210 rfl (dl_at t_X16_add 70 rfl) (r32_w _) (fun h130 E130 => ?_)
      exact g_vret (pc := 133) X (v := 0) rfl rfl (dl_at t_X16_add 71 rfl)
    intro J103
    refine g_icmpne (pc := 61) X r3_56 g58 (off := 34) (tgt := 95) rfl (dl_at t_X16_add 33 rfl) (fun _ => ?_) (fun _ => ?_)
    · refine g_aload_n (pc := 95) X (j := 0) (i := 0) (q := 0) (x := a0) rfl rfl (dl_at t_X16_add 49 rfl) ?_
      refine r_getr (pc := 96) X fX16_4 k58 q1212 (dl_at t_X16_add 50 rfl) ?_
      refine g_iload_n (pc := 99) X (j := 2) (i := 2) (q := 2) (x := a2) rfl rfl (dl_at t_X16_add 51 rfl) ?_
      refine g_gd fun k100 => ?_
      refine r_putiN (pc := 100) X fX5_1 k100 (nw_in q506 rfl) rfl (dl_at t_X16_add 52 rfl) r2 (fun h100 E100 => ?_)
      refine g_ls (ls2 := [(0, rv D a0), (1, iv a1), (3, iv x3_56)]) [0, 1, 3] rfl ?_
      exact J103 h100 E100
    refine g_aload_n (pc := 64) X (j := 0) (i := 0) (q := 0) (x := a0) rfl rfl (dl_at t_X16_add 34 rfl) ?_
    refine r_geti (pc := 65) X fX16_9 k58 q1217 (dl_at t_X16_add 35 rfl) fun g65 => ?_
    refine g_sipush (pc := 68) X (n := 300) rfl (dl_at t_X16_add 36 rfl) ?_
    refine g_join (γ := Int) (fun q => (q = 0 ∨ q = 1)) 79 (fun q => [(0, rv D a0), (1, iv a1), (3, iv x3_56)]) (fun q => [iv q]) (fun q => h27) (fun q => m_X16_add_j79 a0 a1 x3_56 q h27) ?_ ?_
    · rintro s0_79 rs0_79
      try dsimp only
      unfold m_X16_add_j79
      refine r_callTv (pc := 79) X (fun _ hv => s_X1_room rs0_79 hv) cw_code q1653 q355 (in_Sc X (As := [iv s0_79]) (Or.inr ⟨_, nw_in q2472 rfl⟩) q1652 q355 q1653 ⟨by decide, by decide⟩ rfl (dl_at t_X16_add 41 rfl)) (dl_at t_X16_add 41 rfl) (cat24 (st := []) (Nat.le_of_ble_eq_true rfl)) (Nat.le_of_ble_eq_true rfl) (Nat.le_of_ble_eq_true rfl) (fun v79 h79 E79 => ?_) (fun _ _ ha _ => gt_at fun Q hQ => gt_out (Q := Q) X rfl ha (hno _) _ Q rfl hQ)
      refine g_aload_n (pc := 82) X (j := 0) (i := 0) (q := 0) (x := a0) rfl rfl (dl_at t_X16_add 42 rfl) ?_
      refine g_dup (pc := 83) X rv_cat (dl_at t_X16_add 43 rfl) ?_
      have k84 := kx E79 (by decide) k58
      refine r_geti (pc := 84) X fX16_9 k84 q1217 (dl_at t_X16_add 44 rfl) fun g84 => ?_
      refine g_iconst (pc := 87) X (n := 1) (dl_at t_X16_add 45 rfl) ?_
      refine g_iadd (pc := 88) X g84 (r32_c rfl) (dl_at t_X16_add 46 rfl) ?_
      refine r_puti (pc := 89) X fX16_9 k84 q1217 rfl (dl_at t_X16_add 47 rfl) (r32_w _) (fun h89 E89 => ?_)
      refine g_goto (pc := 92) X (off := 11) (tgt := 103) rfl (dl_at t_X16_add 48 rfl) ?_
      exact J103 h89 (E79.trans E89)
    intro J79
    refine g_icmpge (pc := 71) X g65 (r32_c rfl) (off := 7) (tgt := 78) rfl (dl_at t_X16_add 37 rfl) (fun _ => ?_) (fun _ => ?_)
    · refine g_iconst (pc := 78) X (n := 0) (dl_at t_X16_add 40 rfl) ?_
      refine g_ls (ls2 := [(0, rv D a0), (1, iv a1), (3, iv x3_56)]) [0, 1, 3] rfl ?_
      exact J79 0 (Or.inl rfl)
    refine g_iconst (pc := 74) X (n := 1) (dl_at t_X16_add 38 rfl) ?_
    refine g_goto (pc := 75) X (off := 4) (tgt := 79) rfl (dl_at t_X16_add 39 rfl) ?_
    refine g_ls (ls2 := [(0, rv D a0), (1, iv a1), (3, iv x3_56)]) [0, 1, 3] rfl ?_
    exact J79 1 (Or.inr rfl)
def k_X16_sort : List (Nat × Instr × Nat) := [(0, .iconst 0, 1), (1, .istore_n 1, 1), (2, .iload_n 1, 1), (3, .aload_n 0, 1), (4, .getfield 48, 3), (7, .if_icmp .ge 58, 3), (10, .iload_n 1, 1), (11, .istore_n 2, 1), (12, .iload_n 2, 1), (13, .ifCond .le 39, 3), (16, .aload_n 0, 1), (17, .aload_n 0, 1), (18, .getfield 34, 3), (21, .iload_n 2, 1), (22, .iconst 1, 1), (23, .isub, 1), (24, .iaload, 1), (25, .iload_n 1, 1), (26, .invokevirtual 98, 3), (29, .ifCond .le 23, 3), (32, .aload_n 0, 1), (33, .getfield 34, 3), (36, .iload_n 2, 1), (37, .aload_n 0, 1), (38, .getfield 34, 3), (41, .iload_n 2, 1), (42, .iconst 1, 1), (43, .isub, 1), (44, .iaload, 1), (45, .iastore, 1), (46, .iinc 2 (-1), 3), (49, .goto (-37), 3), (52, .aload_n 0, 1), (53, .getfield 34, 3), (56, .iload_n 2, 1), (57, .iload_n 1, 1), (58, .iastore, 1), (59, .iinc 1 1, 3), (62, .goto (-60), 3), (65, .return_, 1)]
theorem t_X16_sort : ∀ q ∈ k_X16_sort, decode cX16_sort q.1 = .ok q.2 := dl_all (by decide +kernel)
noncomputable def m_X16_sort_l12 (a0 x1_2 x2_12 : Int) (h_12 : Hp) : Option ((Int × Hp) ⊕ ((Int × Hp))) :=
  if x2_12 ≤ 0 then (some (.inr (x2_12, h_12)))
  else (gd (h_12 (h_12 a0 7) (-2) % 16 = 1 ∧ (0 : Int) ≤ (w32 (x2_12 - 1)) ∧ (w32 (x2_12 - 1)) < h_12 (h_12 a0 7) (-1)) ((m_X16_compare a0 (h_12 (h_12 a0 7) (w32 (x2_12 - 1))) x1_2 h_12).bind fun v26 =>
  if v26 ≤ 0 then (some (.inr (x2_12, h_12)))
  else (gd (h_12 (h_12 a0 7) (-2) % 16 = 1 ∧ (0 : Int) ≤ x2_12 ∧ x2_12 < h_12 (h_12 a0 7) (-1)) (pt h_12 (h_12 a0 7) x2_12 (h_12 (h_12 a0 7) (w32 (x2_12 - 1))) fun h45 =>
  lt_ (w32 (x2_12 + (-1))) fun x2_46 =>
  some (.inl (x2_46, h45))))))
noncomputable def m_X16_sort_l2 (a0 x1_2 : Int) (h_2 : Hp) : Option ((Int × Hp) ⊕ ((Hp))) :=
  if (h_2 a0 9) ≤ x1_2 then (some (.inr h_2))
  else ((lp (fun (q : Int × Hp) => m_X16_sort_l12 a0 x1_2 q.1 q.2) (x1_2, h_2)).bind (fun (y52 : Int × Hp) => gd (y52.2 (y52.2 a0 7) (-2) % 16 = 1 ∧ (0 : Int) ≤ y52.1 ∧ y52.1 < y52.2 (y52.2 a0 7) (-1)) (pt y52.2 (y52.2 a0 7) y52.1 x1_2 fun h58 =>
  lt_ (w32 (x1_2 + 1)) fun x1_59 =>
  some (.inl (x1_59, h58)))))
noncomputable def m_X16_sort (a0 : Int) (h : Hp) : Option (Hp) :=
  lt_ 0 fun x1_1 =>
  (lp (fun (q : Int × Hp) => m_X16_sort_l2 a0 q.1 q.2) (x1_1, h)).bind (fun (x : Hp) => some x)
theorem s_X16_sort {l : Launch} [NoTr l] {D : SD} {a0 : Int} {h : Hp} (hk : h a0 (-2) = 256) {r : Hp} (hm : m_X16_sort a0 h = some r) : Sim l D yX16_sort (Cond.code yX16_sort cX16_sort 3 (Option.none : Option Jvm.ClassFile.FieldType)) 2 79 [rv D a0] h 0 ((0, 0), r) := by
  refine Sim.of (fin := fun (v : Hp) => ((0, 0), v)) (lsE := [(0, rv D a0)]) hm rfl cwS_code (la_r la_n) (ll_r ll_n) ?_
  intro p e s m below meth c X hcw hmm hcc hnm hname
  unfold m_X16_sort
  refine g_iconst (pc := 0) X (n := 0) (dl_at t_X16_sort 0 rfl) ?_
  refine g_ltz (Or.inl rfl) fun x1_1 r1_1 => ?_
  refine g_istore_nN (pc := 1) X (j := 1) (i := 1) (x := x1_1) (b := 0) (w := rv D a0) (rest := []) rfl (Nat.le_of_ble_eq_true rfl) [0] rfl (by decide) rv_cat rfl (dl_at t_X16_sort 1 rfl) ?_
  refine g_ls (ls2 := [(0, rv D a0), (1, iv x1_1)]) [1, 0] rfl ?_
  refine g_loop0F (fun (q : Int × Hp) => [(0, rv D a0), (1, iv q.1)]) (fun (q : Int × Hp) => q.2) (fun (q : Int × Hp) => r32 q.1 ∧ Ext h q.2) (x1_1, h) ⟨(r32_z r1_1), (Ext.refl _)⟩ ?_ (fun _ => rfl)
  · rintro ⟨x1_2, h_2⟩ ⟨r1_2, E_2⟩
    try dsimp only
    unfold m_X16_sort_l2
    refine g_iload_n (pc := 2) X (j := 1) (i := 1) (q := 1) (x := x1_2) rfl rfl (dl_at t_X16_sort 2 rfl) ?_
    refine g_aload_n (pc := 3) X (j := 0) (i := 0) (q := 0) (x := a0) rfl rfl (dl_at t_X16_sort 3 rfl) ?_
    have k4 := kx E_2 (by decide) hk
    refine r_geti (pc := 4) X fX16_9 k4 q1217 (dl_at t_X16_sort 4 rfl) fun g4 => ?_
    refine g_icmpge (pc := 7) X r1_2 g4 (off := 58) (tgt := 65) rfl (dl_at t_X16_sort 5 rfl) (fun _ => ?_) (fun _ => ?_)
    · exact g_at fun Q hQ => (g_vret (pc := 65) X (v := 0) rfl rfl (dl_at t_X16_sort 39 rfl)) _ Q rfl hQ
    refine g_iload_n (pc := 10) X (j := 1) (i := 1) (q := 1) (x := x1_2) rfl rfl (dl_at t_X16_sort 6 rfl) ?_
    refine g_istore_nN (pc := 11) X (j := 2) (i := 2) (x := x1_2) (b := 1) (w := iv x1_2) (rest := [(0, rv D a0)]) rfl (Nat.le_of_ble_eq_true rfl) [1, 0] rfl (by decide) rfl rfl (dl_at t_X16_sort 7 rfl) ?_
    refine g_ls (ls2 := [(0, rv D a0), (1, iv x1_2), (2, iv x1_2)]) [2, 1, 0] rfl ?_
    refine g_loop1 (fun (q : Int × Hp) => [(0, rv D a0), (1, iv x1_2), (2, iv q.1)]) (fun (q : Int × Hp) => q.2) (fun (q : Int × Hp) => r32 q.1 ∧ Ext h_2 q.2) 52 (fun (y52 : Int × Hp) => [(0, rv D a0), (1, iv x1_2), (2, iv y52.1)]) (fun (y52 : Int × Hp) => y52.2) (fun (y52 : Int × Hp) => r32 y52.1 ∧ Ext h_2 y52.2) (x1_2, h_2) ⟨r1_2, (Ext.refl _)⟩ ?_ ?_
    · rintro ⟨x2_12, h_12⟩ ⟨r2_12, E_12⟩
      try dsimp only
      unfold m_X16_sort_l12
      refine g_iload_n (pc := 12) X (j := 2) (i := 2) (q := 2) (x := x2_12) rfl rfl (dl_at t_X16_sort 8 rfl) ?_
      refine g_ifle (pc := 13) X r2_12 (off := 39) (tgt := 52) rfl (dl_at t_X16_sort 9 rfl) (fun _ => ?_) (fun _ => ?_)
      · exact g_at fun Q hQ => hQ ⟨r2_12, E_12⟩
      refine g_aload_n (pc := 16) X (j := 0) (i := 0) (q := 0) (x := a0) rfl rfl (dl_at t_X16_sort 10 rfl) ?_
      refine g_aload_n (pc := 17) X (j := 0) (i := 0) (q := 0) (x := a0) rfl rfl (dl_at t_X16_sort 11 rfl) ?_
      have k18 := kx E_12 (by decide) k4
      refine r_getr (pc := 18) X fX16_7 k18 q1215 (dl_at t_X16_sort 12 rfl) ?_
      refine g_iload_n (pc := 21) X (j := 2) (i := 2) (q := 2) (x := x2_12) rfl rfl (dl_at t_X16_sort 13 rfl) ?_
      refine g_iconst (pc := 22) X (n := 1) (dl_at t_X16_sort 14 rfl) ?_
      refine g_isub (pc := 23) X r2_12 (r32_c rfl) (dl_at t_X16_sort 15 rfl) ?_
      refine g_gd fun k24 => ?_
      refine g_iald (pc := 24) X (r32_w _) k24 (dl_at t_X16_sort 16 rfl) fun g24 => ?_
      refine g_iload_n (pc := 25) X (j := 1) (i := 1) (q := 1) (x := x1_2) rfl rfl (dl_at t_X16_sort 17 rfl) ?_
      refine r_callRi (pc := 26) X (fun _ hv => s_X16_compare k18 g24 r1_2 hv) cw_code q2470 q370 (in_Vk X (As := [iv (h_12 (h_12 a0 7) (w32 (x2_12 - 1))), iv x1_2]) kX16 k18 (Or.inl q2467) q2469 qs111 cw_code q2470 ⟨by decide, by decide⟩ rfl (dl_at t_X16_sort 18 rfl)) (dl_at t_X16_sort 18 rfl) (cat24 (st := []) (Nat.le_of_ble_eq_true rfl)) (Nat.le_of_ble_eq_true rfl) (Nat.le_of_ble_eq_true rfl) fun v26 g26 => ?_
      refine g_ifle (pc := 29) X g26 (off := 23) (tgt := 52) rfl (dl_at t_X16_sort 19 rfl) (fun _ => ?_) (fun _ => ?_)
      · exact g_at fun Q hQ => hQ ⟨r2_12, E_12⟩
      refine g_aload_n (pc := 32) X (j := 0) (i := 0) (q := 0) (x := a0) rfl rfl (dl_at t_X16_sort 20 rfl) ?_
      refine r_getr (pc := 33) X fX16_7 k18 q1215 (dl_at t_X16_sort 21 rfl) ?_
      refine g_iload_n (pc := 36) X (j := 2) (i := 2) (q := 2) (x := x2_12) rfl rfl (dl_at t_X16_sort 22 rfl) ?_
      refine g_aload_n (pc := 37) X (j := 0) (i := 0) (q := 0) (x := a0) rfl rfl (dl_at t_X16_sort 23 rfl) ?_
      refine r_getr (pc := 38) X fX16_7 k18 q1215 (dl_at t_X16_sort 24 rfl) ?_
      refine g_iload_n (pc := 41) X (j := 2) (i := 2) (q := 2) (x := x2_12) rfl rfl (dl_at t_X16_sort 25 rfl) ?_
      refine g_iconst (pc := 42) X (n := 1) (dl_at t_X16_sort 26 rfl) ?_
      refine g_isub (pc := 43) X r2_12 (r32_c rfl) (dl_at t_X16_sort 27 rfl) ?_
      refine g_iald (pc := 44) X (r32_w _) k24 (dl_at t_X16_sort 28 rfl) fun g44 => ?_
      refine g_gd fun k45 => ?_
      refine r_iast (pc := 45) X r2_12 g44 k45 (dl_at t_X16_sort 29 rfl) (fun h45 E45 => ?_)
      refine r_iincN (pc := 46) X (i := 2) (q := 2) (n := (-1)) (x := x2_12) (b := 1) (w := iv x1_2) (rest := [(0, rv D a0)]) rfl r2_12 (r32_c rfl) (Nat.le_of_ble_eq_true rfl) [1, 0] rfl (by decide) rfl rfl (dl_at t_X16_sort 30 rfl) fun x2_46 r2_46 => ?_
      refine g_goto (pc := 49) X (off := (-37)) (tgt := 12) rfl (dl_at t_X16_sort 31 rfl) ?_
      refine g_ls (ls2 := [(0, rv D a0), (1, iv x1_2), (2, iv x2_46)]) [2, 1, 0] rfl ?_
      exact g_at fun Q hQ => hQ ⟨r2_46, (E_12.trans E45)⟩
    · rintro ⟨x2_52, h_52⟩ ⟨r2_52, E_52⟩
      try dsimp only [sE]
      refine g_aload_n (pc := 52) X (j := 0) (i := 0) (q := 0) (x := a0) rfl rfl (dl_at t_X16_sort 32 rfl) ?_
      have k53 := kx E_52 (by decide) k4
      refine r_getr (pc := 53) X fX16_7 k53 q1215 (dl_at t_X16_sort 33 rfl) ?_
      refine g_iload_n (pc := 56) X (j := 2) (i := 2) (q := 2) (x := x2_52) rfl rfl (dl_at t_X16_sort 34 rfl) ?_
      refine g_iload_n (pc := 57) X (j := 1) (i := 1) (q := 1) (x := x1_2) rfl rfl (dl_at t_X16_sort 35 rfl) ?_
      refine g_gd fun k58 => ?_
      refine r_iast (pc := 58) X r2_52 r1_2 k58 (dl_at t_X16_sort 36 rfl) (fun h58 E58 => ?_)
      refine r_iincN (pc := 59) X (i := 1) (q := 1) (n := 1) (x := x1_2) (b := 0) (w := rv D a0) (rest := []) rfl r1_2 (r32_c rfl) (Nat.le_of_ble_eq_true rfl) [0] rfl (by decide) rv_cat rfl (dl_at t_X16_sort 37 rfl) fun x1_59 r1_59 => ?_
      refine g_goto (pc := 62) X (off := (-60)) (tgt := 2) rfl (dl_at t_X16_sort 38 rfl) ?_
      refine g_ls (ls2 := [(0, rv D a0), (1, iv x1_59)]) [1, 0] rfl ?_
      exact g_at fun Q hQ => hQ ⟨r1_59, (E_2.trans (E_52.trans E58))⟩
def k_X16_find : List (Nat × Instr × Nat) := [(0, .aload_n 0, 1), (1, .aload_n 1, 1), (2, .putfield 40, 3), (5, .aload_n 0, 1), (6, .iconst 0, 1), (7, .putfield 44, 3), (10, .aload_n 0, 1), (11, .iconst 0, 1), (12, .putfield 48, 3), (15, .aload_n 0, 1), (16, .getfield 24, 3), (19, .iconst 0, 1), (20, .putfield 51, 3), (23, .aload_n 0, 1), (24, .getfield 40, 3), (27, .getfield 52, 3), (30, .astore_n 2, 1), (31, .iconst 0, 1), (32, .istore_n 3, 1), (33, .iload_n 3, 1), (34, .aload_n 0, 1), (35, .getfield 40, 3), (38, .getfield 58, 3), (41, .if_icmp .ge 120, 3), (44, .aload_n 0, 1), (45, .getfield 40, 3), (48, .getfield 59, 3), (51, .iload_n 3, 1), (52, .baload, 1), (53, .ifCond .eq 102, 3), (56, .aload_n 0, 1), (57, .getfield 40, 3), (60, .getfield 63, 3), (63, .iload_n 3, 1), (64, .iaload, 1), (65, .bipush 11, 2), (67, .if_icmp .eq 6, 3), (70, .goto 85, 3), (73, .aload_n 0, 1), (74, .getfield 24, 3), (77, .getfield 51, 3), (80, .istore 4, 2), (82, .aload_n 2, 1), (83, .iload_n 3, 1), (84, .ldc 66, 2), (86, .invokevirtual 68, 3), (89, .istore 5, 2), (91, .iload 5, 2), (93, .ifCond .lt 31, 3), (96, .aload_n 0, 1), (97, .getfield 24, 3), (100, .aload_n 2, 1), (101, .getfield 74, 3), (104, .aload_n 2, 1), (105, .getfield 77, 3), (108, .iload 5, 2), (110, .iaload, 1), (111, .aload_n 2, 1), (112, .getfield 80, 3), (115, .iload 5, 2), (117, .iaload, 1), (118, .invokevirtual 83, 3), (121, .goto 15, 3), (124, .aload_n 0, 1), (125, .getfield 40, 3), (128, .iload_n 3, 1), (129, .aload_n 0, 1), (130, .getfield 24, 3), (133, .invokevirtual 87, 3), (136, .aload_n 0, 1), (137, .getfield 24, 3), (140, .getfield 51, 3), (143, .iload 4, 2), (145, .if_icmp .le 10, 3), (148, .aload_n 0, 1), (149, .iload_n 3, 1), (150, .iload 4, 2), (152, .invokevirtual 91, 3), (155, .iinc 3 1, 3), (158, .goto (-125), 3), (161, .aload_n 0, 1), (162, .invokevirtual 95, 3), (165, .return_, 1)]
theorem t_X16_find : ∀ q ∈ k_X16_find, decode cX16_find q.1 = .ok q.2 := dl_all (by decide +kernel)
noncomputable def m_X16_find_j155 (x3_33 : Int) (h_155 : Hp) : Option ((Int × Hp) ⊕ (((Int × Int) × Hp))) :=
  lt_ (w32 (x3_33 + 1)) fun x3_155 =>
  some (.inl (x3_155, h_155))
noncomputable def m_X16_find_j136 (x4_80 x3_33 a0 : Int) (h_136 : Hp) : Option ((Int × Hp) ⊕ (((Int × Int) × Hp))) :=
  gd (h_136 (h_136 a0 4) (-2) = 80) (if (h_136 (h_136 a0 4) 1) ≤ x4_80 then (m_X16_find_j155 x3_33 h_136)
  else (bT (m_X16_add a0 x3_33 x4_80 h_136) (fun _ h152 =>
  m_X16_find_j155 x3_33 h152) (fun a_ h_ => some (.inr ((1, a_), h_)))))
noncomputable def m_X16_find_l33 (a0 x2_30 x3_33 : Int) (h_33 : Hp) : Option ((Int × Hp) ⊕ (((Int × Int) × Hp))) :=
  gd (h_33 (h_33 a0 0) (-2) = 112) (if (h_33 (h_33 a0 0) 2) ≤ x3_33 then ((m_X16_sort a0 h_33).bind fun h162 =>
  some (.inr ((0, 0), h162)))
  else (gd (h_33 (h_33 (h_33 a0 0) 7) (-2) % 16 = 3 ∧ (0 : Int) ≤ x3_33 ∧ x3_33 < h_33 (h_33 (h_33 a0 0) 7) (-1)) (if (h_33 (h_33 (h_33 a0 0) 7) x3_33) = 0 then (m_X16_find_j155 x3_33 h_33)
  else (gd (h_33 (h_33 (h_33 a0 0) 8) (-2) % 16 = 1 ∧ (0 : Int) ≤ x3_33 ∧ x3_33 < h_33 (h_33 (h_33 a0 0) 8) (-1)) (if (h_33 (h_33 (h_33 a0 0) 8) x3_33) = 11 then (gd (h_33 (h_33 a0 4) (-2) = 80) (lt_ (h_33 (h_33 a0 4) 1) fun x4_80 =>
  gd (h_33 x2_30 (-2) = 96) ((m_X6_fieldOf x2_30 x3_33 (-13) h_33).bind fun v86 =>
  if v86 < 0 then (bT (m_X7_title (h_33 a0 0) x3_33 (h_33 a0 4) h_33) (fun _ h133 =>
  m_X16_find_j136 x4_80 x3_33 a0 h133) (fun a_ h_ => some (.inr ((1, a_), h_))))
  else (gd (h_33 (h_33 x2_30 16) (-2) % 16 = 1 ∧ (0 : Int) ≤ v86 ∧ v86 < h_33 (h_33 x2_30 16) (-1)) (gd (h_33 (h_33 x2_30 17) (-2) % 16 = 1 ∧ (0 : Int) ≤ v86 ∧ v86 < h_33 (h_33 x2_30 17) (-1)) (bT (m_X5_addAll (h_33 a0 4) (h_33 x2_30 0) (h_33 (h_33 x2_30 16) v86) (h_33 (h_33 x2_30 17) v86) h_33) (fun _ h118 =>
  m_X16_find_j136 x4_80 x3_33 a0 h118) (fun a_ h_ => some (.inr ((1, a_), h_)))))))))
  else (m_X16_find_j155 x3_33 h_33))))))
noncomputable def m_X16_find (a0 a1 : Int) (h : Hp) : Option ((Int × Int) × Hp) :=
  pt h a0 0 a1 fun h2 =>
  pt h2 a0 3 0 fun h7 =>
  pt h7 a0 9 0 fun h12 =>
  gd (h12 (h12 a0 4) (-2) = 80) (pt h12 (h12 a0 4) 1 0 fun h20 =>
  gd (h20 (h20 a0 0) (-2) = 112) (lt_ (h20 (h20 a0 0) 0) fun x2_30 =>
  lt_ 0 fun x3_32 =>
  (lp (fun (q : Int × Hp) => m_X16_find_l33 a0 x2_30 q.1 q.2) (x3_32, h20)).bind (fun (x : (Int × Int) × Hp) => some x)))
theorem s_X16_find {l : Launch} [NoTr l] {D : SD} {a0 a1 : Int} {h : Hp} (hk : h a0 (-2) = 256) {r : (Int × Int) × Hp} (hm : m_X16_find a0 a1 h = some r) : Sim l D yX16_find (Cond.code yX16_find cX16_find 6 (Option.none : Option Jvm.ClassFile.FieldType)) 41 1558 [rv D a0, rv D a1] h 0 r := by
  refine Sim.of (fin := fun (v : (Int × Int) × Hp) => v) (lsE := [(0, rv D a0), (1, rv D a1)]) hm rfl cwS_code (la_r (la_r la_n)) (ll_r (ll_r ll_n)) ?_
  intro p e s m below meth c X hcw hmm hcc hnm hname
  have hno := noh hcw hnm hmm hcc
  unfold m_X16_find
  refine g_aload_n (pc := 0) X (j := 0) (i := 0) (q := 0) (x := a0) rfl rfl (dl_at t_X16_find 0 rfl) ?_
  refine g_aload_n (pc := 1) X (j := 1) (i := 1) (q := 1) (x := a1) rfl rfl (dl_at t_X16_find 1 rfl) ?_
  refine r_putr (pc := 2) X fX16_0 hk q1206 rfl (dl_at t_X16_find 2 rfl)  (fun h2 E2 => ?_)
  refine g_aload_n (pc := 5) X (j := 0) (i := 0) (q := 0) (x := a0) rfl rfl (dl_at t_X16_find 3 rfl) ?_
  refine g_iconst (pc := 6) X (n := 0) (dl_at t_X16_find 4 rfl) ?_
  have k7 := kx E2 (by decide) hk
  refine r_puti (pc := 7) X fX16_3 k7 q1210 rfl (dl_at t_X16_find 5 rfl) (r32_c rfl) (fun h7 E7 => ?_)
  refine g_aload_n (pc := 10) X (j := 0) (i := 0) (q := 0) (x := a0) rfl rfl (dl_at t_X16_find 6 rfl) ?_
  refine g_iconst (pc := 11) X (n := 0) (dl_at t_X16_find 7 rfl) ?_
  have k12 := kx E7 (by decide) k7
  refine r_puti (pc := 12) X fX16_9 k12 q1217 rfl (dl_at t_X16_find 8 rfl) (r32_c rfl) (fun h12 E12 => ?_)
  refine g_aload_n (pc := 15) X (j := 0) (i := 0) (q := 0) (x := a0) rfl rfl (dl_at t_X16_find 9 rfl) ?_
  have k16 := kx E12 (by decide) k12
  refine r_getr (pc := 16) X fX16_4 k16 q1212 (dl_at t_X16_find 10 rfl) ?_
  refine g_iconst (pc := 19) X (n := 0) (dl_at t_X16_find 11 rfl) ?_
  refine g_gd fun k20 => ?_
  refine r_putiN (pc := 20) X fX5_1 k20 (nw_in q506 rfl) rfl (dl_at t_X16_find 12 rfl) (r32_c rfl) (fun h20 E20 => ?_)
  refine g_aload_n (pc := 23) X (j := 0) (i := 0) (q := 0) (x := a0) rfl rfl (dl_at t_X16_find 13 rfl) ?_
  have k24 := kx E20 (by decide) k16
  refine r_getr (pc := 24) X fX16_0 k24 q1206 (dl_at t_X16_find 14 rfl) ?_
  refine g_gd fun k27 => ?_
  refine r_getrN (pc := 27) X fX7_0 k27 (nw_in q780 rfl) (dl_at t_X16_find 15 rfl) ?_
  refine g_ltr fun x2_30 => ?_
  refine g_astore_n (pc := 30) X (j := 2) (i := 2) (x := x2_30) (rest := [(0, rv D a0)]) rfl (Nat.le_of_ble_eq_true rfl) [0] rfl rfl (dl_at t_X16_find 16 rfl) ?_
  refine g_iconst (pc := 31) X (n := 0) (dl_at t_X16_find 17 rfl) ?_
  refine g_ltz (Or.inl rfl) fun x3_32 r3_32 => ?_
  refine g_istore_nN (pc := 32) X (j := 3) (i := 3) (x := x3_32) (b := 2) (w := rv D x2_30) (rest := [(0, rv D a0)]) rfl (Nat.le_of_ble_eq_true rfl) [0, 1] rfl (by decide) rv_cat rfl (dl_at t_X16_find 18 rfl) ?_
  refine g_ls (ls2 := [(0, rv D a0), (2, rv D x2_30), (3, iv x3_32)]) [2, 1, 0] rfl ?_
  refine g_loop0F (fun (q : Int × Hp) => [(0, rv D a0), (2, rv D x2_30), (3, iv q.1)]) (fun (q : Int × Hp) => q.2) (fun (q : Int × Hp) => r32 q.1 ∧ Ext h20 q.2) (x3_32, h20) ⟨(r32_z r3_32), (Ext.refl _)⟩ ?_ (fun _ => rfl)
  · rintro ⟨x3_33, h_33⟩ ⟨r3_33, E_33⟩
    try dsimp only
    unfold m_X16_find_l33
    refine g_iload_n (pc := 33) X (j := 3) (i := 3) (q := 2) (x := x3_33) rfl rfl (dl_at t_X16_find 19 rfl) ?_
    refine g_aload_n (pc := 34) X (j := 0) (i := 0) (q := 0) (x := a0) rfl rfl (dl_at t_X16_find 20 rfl) ?_
    have k35 := kx E_33 (by decide) k24
    refine r_getr (pc := 35) X fX16_0 k35 q1206 (dl_at t_X16_find 21 rfl) ?_
    refine g_gd fun k38 => ?_
    refine r_getiN (pc := 38) X fX7_2 k38 (nw_in q784 rfl) (dl_at t_X16_find 22 rfl) fun g38 => ?_
    refine g_icmpge (pc := 41) X r3_33 g38 (off := 120) (tgt := 161) rfl (dl_at t_X16_find 23 rfl) (fun _ => ?_) (fun _ => ?_)
    · refine g_aload_n (pc := 161) X (j := 0) (i := 0) (q := 0) (x := a0) rfl rfl (dl_at t_X16_find 80 rfl) ?_
      refine r_callV (pc := 162) X (fun _ hv => s_X16_sort k35 hv) cw_code q2476 q370 (in_Vk X (As := []) kX16 k35 (Or.inl q2473) q2475 qs112 cw_code q2476 ⟨by decide, by decide⟩ rfl (dl_at t_X16_find 81 rfl)) (dl_at t_X16_find 81 rfl) (cat24 (st := []) (Nat.le_of_ble_eq_true rfl)) (Nat.le_of_ble_eq_true rfl) (Nat.le_of_ble_eq_true rfl) fun h162 E162 => ?_
      exact g_at fun Q hQ => (g_vret (pc := 165) X (v := 0) rfl rfl (dl_at t_X16_find 82 rfl)) _ Q rfl hQ
    refine g_aload_n (pc := 44) X (j := 0) (i := 0) (q := 0) (x := a0) rfl rfl (dl_at t_X16_find 24 rfl) ?_
    refine r_getr (pc := 45) X fX16_0 k35 q1206 (dl_at t_X16_find 25 rfl) ?_
    refine r_getrN (pc := 48) X fX7_7 k38 (nw_in q793 rfl) (dl_at t_X16_find 26 rfl) ?_
    refine g_iload_n (pc := 51) X (j := 3) (i := 3) (q := 2) (x := x3_33) rfl rfl (dl_at t_X16_find 27 rfl) ?_
    refine g_gd fun k52 => ?_
    refine g_zald (pc := 52) X r3_33 k52 (dl_at t_X16_find 28 rfl) fun g52 => ?_
    refine g_join (γ := Hp) (fun q => Ext h_33 q) 155 (fun q => [(0, rv D a0), (2, rv D x2_30), (3, iv x3_33)]) (fun q => []) (fun q => q) (fun q => m_X16_find_j155 x3_33 q) ?_ ?_
    · rintro h_155 E_155
      try dsimp only
      unfold m_X16_find_j155
      refine r_iincN (pc := 155) X (i := 3) (q := 2) (n := 1) (x := x3_33) (b := 2) (w := rv D x2_30) (rest := [(0, rv D a0)]) rfl r3_33 (r32_c rfl) (Nat.le_of_ble_eq_true rfl) [1, 0] rfl (by decide) rv_cat rfl (dl_at t_X16_find 78 rfl) fun x3_155 r3_155 => ?_
      refine g_goto (pc := 158) X (off := (-125)) (tgt := 33) rfl (dl_at t_X16_find 79 rfl) ?_
      refine g_ls (ls2 := [(0, rv D a0), (2, rv D x2_30), (3, iv x3_155)]) [2, 1, 0] rfl ?_
      exact g_at fun Q hQ => hQ ⟨r3_155, (E_33.trans E_155)⟩
    intro J155
    refine g_ifeq (pc := 53) X (r32_z g52) (off := 102) (tgt := 155) rfl (dl_at t_X16_find 29 rfl) (fun _ => ?_) (fun _ => ?_)
    · exact J155 h_33 (Ext.refl _)
    refine g_aload_n (pc := 56) X (j := 0) (i := 0) (q := 0) (x := a0) rfl rfl (dl_at t_X16_find 30 rfl) ?_
    refine r_getr (pc := 57) X fX16_0 k35 q1206 (dl_at t_X16_find 31 rfl) ?_
    refine r_getrN (pc := 60) X fX7_8 k38 (nw_in q797 rfl) (dl_at t_X16_find 32 rfl) ?_
    refine g_iload_n (pc := 63) X (j := 3) (i := 3) (q := 2) (x := x3_33) rfl rfl (dl_at t_X16_find 33 rfl) ?_
    refine g_gd fun k64 => ?_
    refine g_iald (pc := 64) X r3_33 k64 (dl_at t_X16_find 34 rfl) fun g64 => ?_
    refine g_bipush (pc := 65) X (n := 11) rfl (dl_at t_X16_find 35 rfl) ?_
    refine g_icmpeq (pc := 67) X g64 (r32_c rfl) (off := 6) (tgt := 73) rfl (dl_at t_X16_find 36 rfl) (fun _ => ?_) (fun _ => ?_)
    · refine g_aload_n (pc := 73) X (j := 0) (i := 0) (q := 0) (x := a0) rfl rfl (dl_at t_X16_find 38 rfl) ?_
      refine r_getr (pc := 74) X fX16_4 k35 q1212 (dl_at t_X16_find 39 rfl) ?_
      refine g_gd fun k77 => ?_
      refine r_getiN (pc := 77) X fX5_1 k77 (nw_in q506 rfl) (dl_at t_X16_find 40 rfl) fun g77 => ?_
      refine g_lti g77 fun x4_80 r4_80 => ?_
      refine g_istoreN (pc := 80) X (i := 4) (x := x4_80) (b := 3) (w := iv x3_33) (rest := [(0, rv D a0), (2, rv D x2_30)]) (Nat.le_of_ble_eq_true rfl) [2, 0, 1] rfl (by decide) rfl rfl (dl_at t_X16_find 41 rfl) ?_
      refine g_aload_n (pc := 82) X (j := 2) (i := 2) (q := 3) (x := x2_30) rfl rfl (dl_at t_X16_find 42 rfl) ?_
      refine g_iload_n (pc := 83) X (j := 3) (i := 3) (q := 1) (x := x3_33) rfl rfl (dl_at t_X16_find 43 rfl) ?_
      refine g_ldcS (pc := 84) X (index := 66) (id := (-13)) 11 rfl rfl (dl_at t_X16_find 44 rfl) ?_
      refine g_gd fun k86 => ?_
      refine r_callRi (pc := 86) X (fun _ hv => s_X6_fieldOf k86 r3_33 hv) cw_code q2394 q360 (in_Vk X (As := [iv x3_33, rv D (-13)]) kX6 k86 (Or.inr ⟨_, nw_in q2391 rfl⟩) q2393 qs97 cw_code q2394 ⟨by decide, by decide⟩ rfl (dl_at t_X16_find 45 rfl)) (dl_at t_X16_find 45 rfl) (cat24 (st := []) (Nat.le_of_ble_eq_true rfl)) (Nat.le_of_ble_eq_true rfl) (Nat.le_of_ble_eq_true rfl) fun v86 g86 => ?_
      refine g_istoreN (pc := 89) X (i := 5) (x := v86) (b := 4) (w := iv x4_80) (rest := [(3, iv x3_33), (0, rv D a0), (2, rv D x2_30)]) (Nat.le_of_ble_eq_true rfl) [0, 1, 2, 3] rfl (by decide) rfl rfl (dl_at t_X16_find 46 rfl) ?_
      refine g_iload (pc := 91) X (i := 5) (q := 0) (x := v86) rfl (dl_at t_X16_find 47 rfl) ?_
      refine g_join (γ := Hp) (fun q => Ext h_33 q) 136 (fun q => [(0, rv D a0), (2, rv D x2_30), (3, iv x3_33), (4, iv x4_80)]) (fun q => []) (fun q => q) (fun q => m_X16_find_j136 x4_80 x3_33 a0 q) ?_ ?_
      · rintro h_136 E_136
        try dsimp only
        unfold m_X16_find_j136
        refine g_aload_n (pc := 136) X (j := 0) (i := 0) (q := 0) (x := a0) rfl rfl (dl_at t_X16_find 69 rfl) ?_
        have k137 := kx E_136 (by decide) k35
        refine r_getr (pc := 137) X fX16_4 k137 q1212 (dl_at t_X16_find 70 rfl) ?_
        refine g_gd fun k140 => ?_
        refine r_getiN (pc := 140) X fX5_1 k140 (nw_in q506 rfl) (dl_at t_X16_find 71 rfl) fun g140 => ?_
        refine g_iload (pc := 143) X (i := 4) (q := 3) (x := x4_80) rfl (dl_at t_X16_find 72 rfl) ?_
        refine g_icmple (pc := 145) X g140 r4_80 (off := 10) (tgt := 155) rfl (dl_at t_X16_find 73 rfl) (fun _ => ?_) (fun _ => ?_)
        · refine g_ls (ls2 := [(0, rv D a0), (2, rv D x2_30), (3, iv x3_33)]) [0, 1, 2] rfl ?_
          exact J155 h_136 E_136
        refine g_aload_n (pc := 148) X (j := 0) (i := 0) (q := 0) (x := a0) rfl rfl (dl_at t_X16_find 74 rfl) ?_
        refine g_iload_n (pc := 149) X (j := 3) (i := 3) (q := 2) (x := x3_33) rfl rfl (dl_at t_X16_find 75 rfl) ?_
        refine g_iload (pc := 150) X (i := 4) (q := 3) (x := x4_80) rfl (dl_at t_X16_find 76 rfl) ?_
        refine r_callTv (pc := 152) X (fun _ hv => s_X16_add k137 r3_33 r4_80 hv) cw_code q2466 q370 (in_Vk X (As := [iv x3_33, iv x4_80]) kX16 k137 (Or.inl q2463) q2465 qs110 cw_code q2466 ⟨by decide, by decide⟩ rfl (dl_at t_X16_find 77 rfl)) (dl_at t_X16_find 77 rfl) (cat24 (st := []) (Nat.le_of_ble_eq_true rfl)) (Nat.le_of_ble_eq_true rfl) (Nat.le_of_ble_eq_true rfl) (fun v152 h152 E152 => ?_) (fun _ _ ha _ => gt_at fun Q hQ => gt_out (Q := Q) X rfl ha (hno _) _ Q rfl hQ)
        refine g_ls (ls2 := [(0, rv D a0), (2, rv D x2_30), (3, iv x3_33)]) [0, 1, 2] rfl ?_
        exact J155 h152 (E_136.trans E152)
      intro J136
      refine g_iflt (pc := 93) X g86 (off := 31) (tgt := 124) rfl (dl_at t_X16_find 48 rfl) (fun _ => ?_) (fun _ => ?_)
      · refine g_aload_n (pc := 124) X (j := 0) (i := 0) (q := 3) (x := a0) rfl rfl (dl_at t_X16_find 63 rfl) ?_
        refine r_getr (pc := 125) X fX16_0 k35 q1206 (dl_at t_X16_find 64 rfl) ?_
        refine g_iload_n (pc := 128) X (j := 3) (i := 3) (q := 2) (x := x3_33) rfl rfl (dl_at t_X16_find 65 rfl) ?_
        refine g_aload_n (pc := 129) X (j := 0) (i := 0) (q := 3) (x := a0) rfl rfl (dl_at t_X16_find 66 rfl) ?_
        refine r_getr (pc := 130) X fX16_4 k35 q1212 (dl_at t_X16_find 67 rfl) ?_
        refine r_callTv (pc := 133) X (fun _ hv => s_X7_title k38 r3_33 hv) cw_code q2404 q361 (in_Vk X (As := [iv x3_33, rv D (h_33 a0 4)]) kX7 k38 (Or.inr ⟨_, nw_in q2401 rfl⟩) q2403 qs99 cw_code q2404 ⟨by decide, by decide⟩ rfl (dl_at t_X16_find 68 rfl)) (dl_at t_X16_find 68 rfl) (cat24 (st := []) (Nat.le_of_ble_eq_true rfl)) (Nat.le_of_ble_eq_true rfl) (Nat.le_of_ble_eq_true rfl) (fun v133 h133 E133 => ?_) (fun _ _ ha _ => gt_at fun Q hQ => gt_out (Q := Q) X rfl ha (hno _) _ Q rfl hQ)
        refine g_ls (ls2 := [(0, rv D a0), (2, rv D x2_30), (3, iv x3_33), (4, iv x4_80)]) [3, 4, 2, 1] rfl ?_
        exact J136 h133 E133
      refine g_aload_n (pc := 96) X (j := 0) (i := 0) (q := 3) (x := a0) rfl rfl (dl_at t_X16_find 49 rfl) ?_
      refine r_getr (pc := 97) X fX16_4 k35 q1212 (dl_at t_X16_find 50 rfl) ?_
      refine g_aload_n (pc := 100) X (j := 2) (i := 2) (q := 4) (x := x2_30) rfl rfl (dl_at t_X16_find 51 rfl) ?_
      refine r_getrN (pc := 101) X fX6_0 k86 (nw_in q646 rfl) (dl_at t_X16_find 52 rfl) ?_
      refine g_aload_n (pc := 104) X (j := 2) (i := 2) (q := 4) (x := x2_30) rfl rfl (dl_at t_X16_find 53 rfl) ?_
      refine r_getrN (pc := 105) X fX6_16 k86 (nw_in q680 rfl) (dl_at t_X16_find 54 rfl) ?_
      refine g_iload (pc := 108) X (i := 5) (q := 0) (x := v86) rfl (dl_at t_X16_find 55 rfl) ?_
      refine g_gd fun k110 => ?_
      refine g_iald (pc := 110) X g86 k110 (dl_at t_X16_find 56 rfl) fun g110 => ?_
      refine g_aload_n (pc := 111) X (j := 2) (i := 2) (q := 4) (x := x2_30) rfl rfl (dl_at t_X16_find 57 rfl) ?_
      refine r_getrN (pc := 112) X fX6_17 k86 (nw_in q683 rfl) (dl_at t_X16_find 58 rfl) ?_
      refine g_iload (pc := 115) X (i := 5) (q := 0) (x := v86) rfl (dl_at t_X16_find 59 rfl) ?_
      refine g_gd fun k117 => ?_
      refine g_iald (pc := 117) X g86 k117 (dl_at t_X16_find 60 rfl) fun g117 => ?_
      refine r_callTv (pc := 118) X (fun _ hv => s_X5_addAll k77 g110 g117 hv) cw_code q2034 q359 (in_Vk X (As := [rv D (h_33 x2_30 0), iv (h_33 (h_33 x2_30 16) v86), iv (h_33 (h_33 x2_30 17) v86)]) kX5 k77 (Or.inr ⟨_, nw_in q2400 rfl⟩) q2033 qs43 cw_code q2034 ⟨by decide, by decide⟩ rfl (dl_at t_X16_find 61 rfl)) (dl_at t_X16_find 61 rfl) (cat24 (st := []) (Nat.le_of_ble_eq_true rfl)) (Nat.le_of_ble_eq_true rfl) (Nat.le_of_ble_eq_true rfl) (fun v118 h118 E118 => ?_) (fun _ _ ha _ => gt_at fun Q hQ => gt_out (Q := Q) X rfl ha (hno _) _ Q rfl hQ)
      refine g_goto (pc := 121) X (off := 15) (tgt := 136) rfl (dl_at t_X16_find 62 rfl) ?_
      refine g_ls (ls2 := [(0, rv D a0), (2, rv D x2_30), (3, iv x3_33), (4, iv x4_80)]) [3, 4, 2, 1] rfl ?_
      exact J136 h118 E118
    refine g_goto (pc := 70) X (off := 85) (tgt := 155) rfl (dl_at t_X16_find 37 rfl) ?_
    exact J155 h_33 (Ext.refl _)
def k_X12_clear : List (Nat × Instr × Nat) := [(0, .aload_n 0, 1), (1, .iconst 0, 1), (2, .putfield 22, 3), (5, .aload_n 0, 1), (6, .iconst 0, 1), (7, .putfield 26, 3), (10, .aload_n 0, 1), (11, .iconst 0, 1), (12, .putfield 30, 3), (15, .return_, 1)]
theorem t_X12_clear : ∀ q ∈ k_X12_clear, decode cX12_clear q.1 = .ok q.2 := dl_all (by decide +kernel)
noncomputable def m_X12_clear (a0 : Int) (h : Hp) : Option (Hp) :=
  pt h a0 3 0 fun h2 =>
  pt h2 a0 4 0 fun h7 =>
  pt h7 a0 6 0 fun h12 =>
  some h12
theorem s_X12_clear {l : Launch} [NoTr l] {D : SD} {a0 : Int} {h : Hp} (hk : h a0 (-2) = 192) {r : Hp} (hm : m_X12_clear a0 h = some r) : Sim l D yX12_clear (Cond.code yX12_clear cX12_clear 1 (Option.none : Option Jvm.ClassFile.FieldType)) 0 0 [rv D a0] h 0 ((0, 0), r) := by
  refine Sim.of (fin := fun (v : Hp) => ((0, 0), v)) (lsE := [(0, rv D a0)]) hm rfl cwS_code (la_r la_n) (ll_r ll_n) ?_
  intro p e s m below meth c X hcw hmm hcc hnm hname
  unfold m_X12_clear
  refine g_aload_n (pc := 0) X (j := 0) (i := 0) (q := 0) (x := a0) rfl rfl (dl_at t_X12_clear 0 rfl) ?_
  refine g_iconst (pc := 1) X (n := 0) (dl_at t_X12_clear 1 rfl) ?_
  refine r_puti (pc := 2) X fX12_3 hk q991 rfl (dl_at t_X12_clear 2 rfl) (r32_c rfl) (fun h2 E2 => ?_)
  refine g_aload_n (pc := 5) X (j := 0) (i := 0) (q := 0) (x := a0) rfl rfl (dl_at t_X12_clear 3 rfl) ?_
  refine g_iconst (pc := 6) X (n := 0) (dl_at t_X12_clear 4 rfl) ?_
  have k7 := kx E2 (by decide) hk
  refine r_putz (pc := 7) X fX12_4 k7 q993 rfl (dl_at t_X12_clear 5 rfl) (Or.inl rfl) (fun h7 E7 => ?_)
  refine g_aload_n (pc := 10) X (j := 0) (i := 0) (q := 0) (x := a0) rfl rfl (dl_at t_X12_clear 6 rfl) ?_
  refine g_iconst (pc := 11) X (n := 0) (dl_at t_X12_clear 7 rfl) ?_
  have k12 := kx E7 (by decide) k7
  refine r_putz (pc := 12) X fX12_6 k12 q996 rfl (dl_at t_X12_clear 8 rfl) (Or.inl rfl) (fun h12 E12 => ?_)
  exact g_vret (pc := 15) X (v := 0) rfl rfl (dl_at t_X12_clear 9 rfl)
def k_X7_isBlock : List (Nat × Instr × Nat) := [(0, .aload_n 0, 1), (1, .getfield 30, 3), (4, .iload_n 1, 1), (5, .iaload, 1), (6, .iconst 1, 1), (7, .if_icmp .eq 44, 3), (10, .aload_n 0, 1), (11, .getfield 30, 3), (14, .iload_n 1, 1), (15, .iaload, 1), (16, .iconst 5, 1), (17, .if_icmp .eq 34, 3), (20, .aload_n 0, 1), (21, .getfield 27, 3), (24, .iload_n 1, 1), (25, .baload, 1), (26, .ifCond .eq 29, 3), (29, .aload_n 0, 1), (30, .getfield 30, 3), (33, .iload_n 1, 1), (34, .iaload, 1), (35, .bipush 8, 2), (37, .if_icmp .eq 14, 3), (40, .aload_n 0, 1), (41, .getfield 30, 3), (44, .iload_n 1, 1), (45, .iaload, 1), (46, .bipush 9, 2), (48, .if_icmp .ne 7, 3), (51, .iconst 1, 1), (52, .goto 4, 3), (55, .iconst 0, 1), (56, .ireturn, 1)]
theorem t_X7_isBlock : ∀ q ∈ k_X7_isBlock, decode cX7_isBlock q.1 = .ok q.2 := dl_all (by decide +kernel)
noncomputable def m_X7_isBlock (a0 a1 : Int) (h : Hp) : Option (Int) :=
  gd (h (h a0 8) (-2) % 16 = 1 ∧ (0 : Int) ≤ a1 ∧ a1 < h (h a0 8) (-1)) (if (h (h a0 8) a1) = 1 then (some 1)
  else (if (h (h a0 8) a1) = 5 then (some 1)
  else (gd (h (h a0 7) (-2) % 16 = 3 ∧ (0 : Int) ≤ a1 ∧ a1 < h (h a0 7) (-1)) (if (h (h a0 7) a1) = 0 then (some 0)
  else (if (h (h a0 8) a1) = 8 then (some 1)
  else (if (h (h a0 8) a1) ≠ 9 then (some 0)
  else (some 1)))))))
theorem s_X7_isBlock {l : Launch} [NoTr l] {D : SD} {a0 a1 : Int} {h : Hp} (hk : h a0 (-2) = 112) (r1 : r32 a1) {r : Int} (hm : m_X7_isBlock a0 a1 h = some r) : Sim l D yX7_isBlock (Cond.code yX7_isBlock cX7_isBlock 2 (Option.some Jvm.ClassFile.FieldType.boolean)) 0 0 [rv D a0, iv a1] h 3 ((0, r), h) := by
  refine Sim.of (fin := fun (v : Int) => ((0, v), h)) (lsE := [(0, rv D a0), (1, iv a1)]) hm rfl cwS_code (la_r (la_i la_n)) (ll_r (ll_i ll_n)) ?_
  intro p e s m below meth c X hcw hmm hcc hnm hname
  unfold m_X7_isBlock
  refine g_aload_n (pc := 0) X (j := 0) (i := 0) (q := 0) (x := a0) rfl rfl (dl_at t_X7_isBlock 0 rfl) ?_
  refine r_getr (pc := 1) X fX7_8 hk q796 (dl_at t_X7_isBlock 1 rfl) ?_
  refine g_iload_n (pc := 4) X (j := 1) (i := 1) (q := 1) (x := a1) rfl rfl (dl_at t_X7_isBlock 2 rfl) ?_
  refine g_gd fun k5 => ?_
  refine g_iald (pc := 5) X r1 k5 (dl_at t_X7_isBlock 3 rfl) fun g5 => ?_
  refine g_iconst (pc := 6) X (n := 1) (dl_at t_X7_isBlock 4 rfl) ?_
  refine g_icmpeq (pc := 7) X g5 (r32_c rfl) (off := 44) (tgt := 51) rfl (dl_at t_X7_isBlock 5 rfl) (fun _ => ?_) (fun _ => ?_)
  · refine g_iconst (pc := 51) X (n := 1) (dl_at t_X7_isBlock 29 rfl) ?_
    refine g_goto (pc := 52) X (off := 4) (tgt := 56) rfl (dl_at t_X7_isBlock 30 rfl) ?_
    exact g_zret (pc := 56) X (Or.inr rfl) rfl rfl (dl_at t_X7_isBlock 32 rfl)
  refine g_aload_n (pc := 10) X (j := 0) (i := 0) (q := 0) (x := a0) rfl rfl (dl_at t_X7_isBlock 6 rfl) ?_
  refine r_getr (pc := 11) X fX7_8 hk q796 (dl_at t_X7_isBlock 7 rfl) ?_
  refine g_iload_n (pc := 14) X (j := 1) (i := 1) (q := 1) (x := a1) rfl rfl (dl_at t_X7_isBlock 8 rfl) ?_
  refine g_iald (pc := 15) X r1 k5 (dl_at t_X7_isBlock 9 rfl) fun g15 => ?_
  refine g_iconst (pc := 16) X (n := 5) (dl_at t_X7_isBlock 10 rfl) ?_
  refine g_icmpeq (pc := 17) X g15 (r32_c rfl) (off := 34) (tgt := 51) rfl (dl_at t_X7_isBlock 11 rfl) (fun _ => ?_) (fun _ => ?_)
  · refine g_iconst (pc := 51) X (n := 1) (dl_at t_X7_isBlock 29 rfl) ?_
    refine g_goto (pc := 52) X (off := 4) (tgt := 56) rfl (dl_at t_X7_isBlock 30 rfl) ?_
    exact g_zret (pc := 56) X (Or.inr rfl) rfl rfl (dl_at t_X7_isBlock 32 rfl)
  refine g_aload_n (pc := 20) X (j := 0) (i := 0) (q := 0) (x := a0) rfl rfl (dl_at t_X7_isBlock 12 rfl) ?_
  refine r_getr (pc := 21) X fX7_7 hk q792 (dl_at t_X7_isBlock 13 rfl) ?_
  refine g_iload_n (pc := 24) X (j := 1) (i := 1) (q := 1) (x := a1) rfl rfl (dl_at t_X7_isBlock 14 rfl) ?_
  refine g_gd fun k25 => ?_
  refine g_zald (pc := 25) X r1 k25 (dl_at t_X7_isBlock 15 rfl) fun g25 => ?_
  refine g_ifeq (pc := 26) X (r32_z g25) (off := 29) (tgt := 55) rfl (dl_at t_X7_isBlock 16 rfl) (fun _ => ?_) (fun _ => ?_)
  · refine g_iconst (pc := 55) X (n := 0) (dl_at t_X7_isBlock 31 rfl) ?_
    exact g_zret (pc := 56) X (Or.inl rfl) rfl rfl (dl_at t_X7_isBlock 32 rfl)
  refine g_aload_n (pc := 29) X (j := 0) (i := 0) (q := 0) (x := a0) rfl rfl (dl_at t_X7_isBlock 17 rfl) ?_
  refine r_getr (pc := 30) X fX7_8 hk q796 (dl_at t_X7_isBlock 18 rfl) ?_
  refine g_iload_n (pc := 33) X (j := 1) (i := 1) (q := 1) (x := a1) rfl rfl (dl_at t_X7_isBlock 19 rfl) ?_
  refine g_iald (pc := 34) X r1 k5 (dl_at t_X7_isBlock 20 rfl) fun g34 => ?_
  refine g_bipush (pc := 35) X (n := 8) rfl (dl_at t_X7_isBlock 21 rfl) ?_
  refine g_icmpeq (pc := 37) X g34 (r32_c rfl) (off := 14) (tgt := 51) rfl (dl_at t_X7_isBlock 22 rfl) (fun _ => ?_) (fun _ => ?_)
  · refine g_iconst (pc := 51) X (n := 1) (dl_at t_X7_isBlock 29 rfl) ?_
    refine g_goto (pc := 52) X (off := 4) (tgt := 56) rfl (dl_at t_X7_isBlock 30 rfl) ?_
    exact g_zret (pc := 56) X (Or.inr rfl) rfl rfl (dl_at t_X7_isBlock 32 rfl)
  refine g_aload_n (pc := 40) X (j := 0) (i := 0) (q := 0) (x := a0) rfl rfl (dl_at t_X7_isBlock 23 rfl) ?_
  refine r_getr (pc := 41) X fX7_8 hk q796 (dl_at t_X7_isBlock 24 rfl) ?_
  refine g_iload_n (pc := 44) X (j := 1) (i := 1) (q := 1) (x := a1) rfl rfl (dl_at t_X7_isBlock 25 rfl) ?_
  refine g_iald (pc := 45) X r1 k5 (dl_at t_X7_isBlock 26 rfl) fun g45 => ?_
  refine g_bipush (pc := 46) X (n := 9) rfl (dl_at t_X7_isBlock 27 rfl) ?_
  refine g_icmpne (pc := 48) X g45 (r32_c rfl) (off := 7) (tgt := 55) rfl (dl_at t_X7_isBlock 28 rfl) (fun _ => ?_) (fun _ => ?_)
  · refine g_iconst (pc := 55) X (n := 0) (dl_at t_X7_isBlock 31 rfl) ?_
    exact g_zret (pc := 56) X (Or.inl rfl) rfl rfl (dl_at t_X7_isBlock 32 rfl)
  refine g_iconst (pc := 51) X (n := 1) (dl_at t_X7_isBlock 29 rfl) ?_
  refine g_goto (pc := 52) X (off := 4) (tgt := 56) rfl (dl_at t_X7_isBlock 30 rfl) ?_
  exact g_zret (pc := 56) X (Or.inr rfl) rfl rfl (dl_at t_X7_isBlock 32 rfl)
def k_X14_property : List (Nat × Instr × Nat) := [(0, .aload_n 0, 1), (1, .getfield 158, 3), (4, .iload_n 1, 1), (5, .iload_n 2, 1), (6, .invokevirtual 279, 3), (9, .ireturn, 1)]
theorem t_X14_property : ∀ q ∈ k_X14_property, decode cX14_property q.1 = .ok q.2 := dl_all (by decide +kernel)
noncomputable def m_X14_property (a0 a1 a2 : Int) (h : Hp) : Option (Int) :=
  gd (h (h a0 2) (-2) = 112) ((m_X7_property (h a0 2) a1 a2 h).bind fun v6 =>
  some v6)
theorem s_X14_property {l : Launch} [NoTr l] {D : SD} {a0 a1 a2 : Int} {h : Hp} (hk : h a0 (-2) = 224) (r1 : r32 a1) (r2 : r32 a2) {r : Int} (hm : m_X14_property a0 a1 a2 h = some r) : Sim l D yX14_property (Cond.code yX14_property cX14_property 3 (Option.some Jvm.ClassFile.FieldType.int)) 2 74 [rv D a0, iv a1, iv a2] h 1 ((0, r), h) := by
  refine Sim.of (fin := fun (v : Int) => ((0, v), h)) (lsE := [(0, rv D a0), (1, iv a1), (2, iv a2)]) hm rfl cwS_code (la_r (la_i (la_i la_n))) (ll_r (ll_i (ll_i ll_n))) ?_
  intro p e s m below meth c X hcw hmm hcc hnm hname
  unfold m_X14_property
  refine g_aload_n (pc := 0) X (j := 0) (i := 0) (q := 0) (x := a0) rfl rfl (dl_at t_X14_property 0 rfl) ?_
  refine r_getr (pc := 1) X fX14_2 hk q1243 (dl_at t_X14_property 1 rfl) ?_
  refine g_iload_n (pc := 4) X (j := 1) (i := 1) (q := 1) (x := a1) rfl rfl (dl_at t_X14_property 2 rfl) ?_
  refine g_iload_n (pc := 5) X (j := 2) (i := 2) (q := 2) (x := a2) rfl rfl (dl_at t_X14_property 3 rfl) ?_
  refine g_gd fun k6 => ?_
  refine r_callRi (pc := 6) X (fun _ hv => s_X7_property k6 r1 r2 hv) cw_code q2332 q361 (in_Vk X (As := [iv a1, iv a2]) kX7 k6 (Or.inr ⟨_, nw_in q2505 rfl⟩) q2331 qs84 cw_code q2332 ⟨by decide, by decide⟩ rfl (dl_at t_X14_property 4 rfl)) (dl_at t_X14_property 4 rfl) (cat24 (st := []) (Nat.le_of_ble_eq_true rfl)) (Nat.le_of_ble_eq_true rfl) (Nat.le_of_ble_eq_true rfl) fun v6 g6 => ?_
  exact g_iret (pc := 9) X g6 rfl rfl (dl_at t_X14_property 5 rfl)
def k_X14_inset : List (Nat × Instr × Nat) := [(0, .iconst 0, 1), (1, .istore_n 2, 1), (2, .iconst 1, 1), (3, .istore_n 3, 1), (4, .iload_n 3, 1), (5, .aload_n 0, 1), (6, .getfield 276, 3), (9, .if_icmp .ge 26, 3), (12, .iload_n 2, 1), (13, .aload_n 0, 1), (14, .aload_n 0, 1), (15, .getfield 154, 3), (18, .getfield 273, 3), (21, .iload_n 3, 1), (22, .iaload, 1), (23, .iload_n 1, 1), (24, .invokevirtual 283, 3), (27, .iadd, 1), (28, .istore_n 2, 1), (29, .iinc 3 1, 3), (32, .goto (-28), 3), (35, .iload_n 2, 1), (36, .ireturn, 1)]
theorem t_X14_inset : ∀ q ∈ k_X14_inset, decode cX14_inset q.1 = .ok q.2 := dl_all (by decide +kernel)
noncomputable def m_X14_inset_l4 (a0 a1 x2_4 x3_4 : Int) (h : Hp) : Option ((Int × Int) ⊕ ((Int))) :=
  if (h a0 44) ≤ x3_4 then (some (.inr x2_4))
  else (gd (h (h a0 0) (-2) = 160) (gd (h (h (h a0 0) 6) (-2) % 16 = 1 ∧ (0 : Int) ≤ x3_4 ∧ x3_4 < h (h (h a0 0) 6) (-1)) ((m_X14_property a0 (h (h (h a0 0) 6) x3_4) a1 h).bind fun v24 =>
  lt_ (w32 (x2_4 + v24)) fun x2_28 =>
  lt_ (w32 (x3_4 + 1)) fun x3_29 =>
  some (.inl (x2_28, x3_29)))))
noncomputable def m_X14_inset (a0 a1 : Int) (h : Hp) : Option (Int) :=
  lt_ 0 fun x2_1 =>
  lt_ 1 fun x3_3 =>
  (lp (fun (q : Int × Int) => m_X14_inset_l4 a0 a1 q.1 q.2 h) (x2_1, x3_3)).bind (fun (x : Int) => some x)
theorem s_X14_inset {l : Launch} [NoTr l] {D : SD} {a0 a1 : Int} {h : Hp} (hk : h a0 (-2) = 224) (r1 : r32 a1) {r : Int} (hm : m_X14_inset a0 a1 h = some r) : Sim l D yX14_inset (Cond.code yX14_inset cX14_inset 4 (Option.some Jvm.ClassFile.FieldType.int)) 3 112 [rv D a0, iv a1] h 1 ((0, r), h) := by
  refine Sim.of (fin := fun (v : Int) => ((0, v), h)) (lsE := [(0, rv D a0), (1, iv a1)]) hm rfl cwS_code (la_r (la_i la_n)) (ll_r (ll_i ll_n)) ?_
  intro p e s m below meth c X hcw hmm hcc hnm hname
  unfold m_X14_inset
  refine g_iconst (pc := 0) X (n := 0) (dl_at t_X14_inset 0 rfl) ?_
  refine g_ltz (Or.inl rfl) fun x2_1 r2_1 => ?_
  refine g_istore_nN (pc := 1) X (j := 2) (i := 2) (x := x2_1) (b := 1) (w := iv a1) (rest := [(0, rv D a0)]) rfl (Nat.le_of_ble_eq_true rfl) [1, 0] rfl (by decide) rfl rfl (dl_at t_X14_inset 1 rfl) ?_
  refine g_iconst (pc := 2) X (n := 1) (dl_at t_X14_inset 2 rfl) ?_
  refine g_ltz (Or.inr rfl) fun x3_3 r3_3 => ?_
  refine g_istore_nN (pc := 3) X (j := 3) (i := 3) (x := x3_3) (b := 2) (w := iv x2_1) (rest := [(1, iv a1), (0, rv D a0)]) rfl (Nat.le_of_ble_eq_true rfl) [0, 1, 2] rfl (by decide) rfl rfl (dl_at t_X14_inset 3 rfl) ?_
  refine g_ls (ls2 := [(0, rv D a0), (1, iv a1), (2, iv x2_1), (3, iv x3_3)]) [3, 2, 1, 0] rfl ?_
  refine g_loop0F (fun (q : Int × Int) => [(0, rv D a0), (1, iv a1), (2, iv q.1), (3, iv q.2)]) (fun (q : Int × Int) => h) (fun (q : Int × Int) => r32 q.1 ∧ r32 q.2) (x2_1, x3_3) ⟨(r32_z r2_1), (r32_z r3_3)⟩ ?_ (fun _ => rfl)
  · rintro ⟨x2_4, x3_4⟩ ⟨r2_4, r3_4⟩
    try dsimp only
    unfold m_X14_inset_l4
    refine g_iload_n (pc := 4) X (j := 3) (i := 3) (q := 3) (x := x3_4) rfl rfl (dl_at t_X14_inset 4 rfl) ?_
    refine g_aload_n (pc := 5) X (j := 0) (i := 0) (q := 0) (x := a0) rfl rfl (dl_at t_X14_inset 5 rfl) ?_
    refine r_geti (pc := 6) X fX14_44 hk q1306 (dl_at t_X14_inset 6 rfl) fun g6 => ?_
    refine g_icmpge (pc := 9) X r3_4 g6 (off := 26) (tgt := 35) rfl (dl_at t_X14_inset 7 rfl) (fun _ => ?_) (fun _ => ?_)
    · refine g_iload_n (pc := 35) X (j := 2) (i := 2) (q := 2) (x := x2_4) rfl rfl (dl_at t_X14_inset 21 rfl) ?_
      exact g_at fun Q hQ => (g_iret (pc := 36) X r2_4 rfl rfl (dl_at t_X14_inset 22 rfl)) _ Q rfl hQ
    refine g_iload_n (pc := 12) X (j := 2) (i := 2) (q := 2) (x := x2_4) rfl rfl (dl_at t_X14_inset 8 rfl) ?_
    refine g_aload_n (pc := 13) X (j := 0) (i := 0) (q := 0) (x := a0) rfl rfl (dl_at t_X14_inset 9 rfl) ?_
    refine g_aload_n (pc := 14) X (j := 0) (i := 0) (q := 0) (x := a0) rfl rfl (dl_at t_X14_inset 10 rfl) ?_
    refine r_getr (pc := 15) X fX14_0 hk q1241 (dl_at t_X14_inset 11 rfl) ?_
    refine g_gd fun k18 => ?_
    refine r_getrN (pc := 18) X fX10_6 k18 (nw_in q1050 rfl) (dl_at t_X14_inset 12 rfl) ?_
    refine g_iload_n (pc := 21) X (j := 3) (i := 3) (q := 3) (x := x3_4) rfl rfl (dl_at t_X14_inset 13 rfl) ?_
    refine g_gd fun k22 => ?_
    refine g_iald (pc := 22) X r3_4 k22 (dl_at t_X14_inset 14 rfl) fun g22 => ?_
    refine g_iload_n (pc := 23) X (j := 1) (i := 1) (q := 1) (x := a1) rfl rfl (dl_at t_X14_inset 15 rfl) ?_
    refine r_callRi (pc := 24) X (fun _ hv => s_X14_property hk g22 r1 hv) cw_code q2504 q368 (in_Vk X (As := [iv (h (h (h a0 0) 6) x3_4), iv a1]) kX14 hk (Or.inl q2501) q2503 qs119 cw_code q2504 ⟨by decide, by decide⟩ rfl (dl_at t_X14_inset 16 rfl)) (dl_at t_X14_inset 16 rfl) (cat24 (st := [iv x2_4]) (Nat.le_of_ble_eq_true rfl)) (Nat.le_of_ble_eq_true rfl) (Nat.le_of_ble_eq_true rfl) fun v24 g24 => ?_
    refine g_iadd (pc := 27) X r2_4 g24 (dl_at t_X14_inset 17 rfl) ?_
    refine g_lti (r32_w _) fun x2_28 r2_28 => ?_
    refine g_istore_nN (pc := 28) X (j := 2) (i := 2) (x := x2_28) (b := 1) (w := iv a1) (rest := [(0, rv D a0), (3, iv x3_4)]) rfl (Nat.le_of_ble_eq_true rfl) [1, 0, 3] rfl (by decide) rfl rfl (dl_at t_X14_inset 18 rfl) ?_
    refine r_iincN (pc := 29) X (i := 3) (q := 3) (n := 1) (x := x3_4) (b := 2) (w := iv x2_28) (rest := [(1, iv a1), (0, rv D a0)]) rfl r3_4 (r32_c rfl) (Nat.le_of_ble_eq_true rfl) [0, 1, 2] rfl (by decide) rfl rfl (dl_at t_X14_inset 19 rfl) fun x3_29 r3_29 => ?_
    refine g_goto (pc := 32) X (off := (-28)) (tgt := 4) rfl (dl_at t_X14_inset 20 rfl) ?_
    refine g_ls (ls2 := [(0, rv D a0), (1, iv a1), (2, iv x2_28), (3, iv x3_29)]) [3, 2, 1, 0] rfl ?_
    exact g_at fun Q hQ => hQ ⟨r2_28, r3_29⟩
def k_X14_block : List (Nat × Instr × Nat) := [(0, .aload_n 0, 1), (1, .getfield 154, 3), (4, .getfield 273, 3), (7, .aload_n 0, 1), (8, .getfield 276, 3), (11, .iconst 1, 1), (12, .isub, 1), (13, .iaload, 1), (14, .ireturn, 1)]
theorem t_X14_block : ∀ q ∈ k_X14_block, decode cX14_block q.1 = .ok q.2 := dl_all (by decide +kernel)
noncomputable def m_X14_block (a0 : Int) (h : Hp) : Option (Int) :=
  gd (h (h a0 0) (-2) = 160) (gd (h (h (h a0 0) 6) (-2) % 16 = 1 ∧ (0 : Int) ≤ (w32 ((h a0 44) - 1)) ∧ (w32 ((h a0 44) - 1)) < h (h (h a0 0) 6) (-1)) (some (h (h (h a0 0) 6) (w32 ((h a0 44) - 1)))))
theorem s_X14_block {l : Launch} [NoTr l] {D : SD} {a0 : Int} {h : Hp} (hk : h a0 (-2) = 224) {r : Int} (hm : m_X14_block a0 h = some r) : Sim l D yX14_block (Cond.code yX14_block cX14_block 1 (Option.some Jvm.ClassFile.FieldType.int)) 0 0 [rv D a0] h 1 ((0, r), h) := by
  refine Sim.of (fin := fun (v : Int) => ((0, v), h)) (lsE := [(0, rv D a0)]) hm rfl cwS_code (la_r la_n) (ll_r ll_n) ?_
  intro p e s m below meth c X hcw hmm hcc hnm hname
  unfold m_X14_block
  refine g_aload_n (pc := 0) X (j := 0) (i := 0) (q := 0) (x := a0) rfl rfl (dl_at t_X14_block 0 rfl) ?_
  refine r_getr (pc := 1) X fX14_0 hk q1241 (dl_at t_X14_block 1 rfl) ?_
  refine g_gd fun k4 => ?_
  refine r_getrN (pc := 4) X fX10_6 k4 (nw_in q1050 rfl) (dl_at t_X14_block 2 rfl) ?_
  refine g_aload_n (pc := 7) X (j := 0) (i := 0) (q := 0) (x := a0) rfl rfl (dl_at t_X14_block 3 rfl) ?_
  refine r_geti (pc := 8) X fX14_44 hk q1306 (dl_at t_X14_block 4 rfl) fun g8 => ?_
  refine g_iconst (pc := 11) X (n := 1) (dl_at t_X14_block 5 rfl) ?_
  refine g_isub (pc := 12) X g8 (r32_c rfl) (dl_at t_X14_block 6 rfl) ?_
  refine g_gd fun k13 => ?_
  refine g_iald (pc := 13) X (r32_w _) k13 (dl_at t_X14_block 7 rfl) fun g13 => ?_
  exact g_iret (pc := 14) X g13 rfl rfl (dl_at t_X14_block 8 rfl)
def k_X28_init : List (Nat × Instr × Nat) := [(0, .aload_n 0, 1), (1, .invokespecial 3, 3), (4, .aload_n 0, 1), (5, .aload_n 1, 1), (6, .putfield 9, 3), (9, .return_, 1)]
theorem t_X28_init : ∀ q ∈ k_X28_init, decode cX28_init q.1 = .ok q.2 := dl_all (by decide +kernel)
noncomputable def m_X28_init (a0 a1 : Int) (h : Hp) : Option (Hp) :=
  pt h a0 0 a1 fun h6 =>
  some h6
theorem s_X28_init {l : Launch} [NoTr l] {D : SD} {a0 a1 : Int} {h : Hp} (hk : h a0 (-2) = 288) {r : Hp} (hm : m_X28_init a0 a1 h = some r) : Sim l D yX28_init (Cond.code yX28_init cX28_init 2 (Option.none : Option Jvm.ClassFile.FieldType)) 1 36 [rv D a0, rv D a1] h 0 ((0, 0), r) := by
  refine Sim.of (fin := fun (v : Hp) => ((0, 0), v)) (lsE := [(0, rv D a0), (1, rv D a1)]) hm rfl cwS_code (la_r (la_r la_n)) (ll_r (ll_r ll_n)) ?_
  intro p e s m below meth c X hcw hmm hcc hnm hname
  unfold m_X28_init
  refine g_aload_n (pc := 0) X (j := 0) (i := 0) (q := 0) (x := a0) rfl rfl (dl_at t_X28_init 0 rfl) ?_
  refine r_oinitK (pc := 1) X hk (by decide) q2527 q406 q407 (Nat.le_of_ble_eq_true rfl) (Nat.le_trans (Nat.add_le_add_right (cat24 (st := []) (Nat.le_of_ble_eq_true rfl)) 12) (Nat.le_of_ble_eq_true rfl)) (dl_at t_X28_init 1 rfl) ?_
  refine g_aload_n (pc := 4) X (j := 0) (i := 0) (q := 0) (x := a0) rfl rfl (dl_at t_X28_init 2 rfl) ?_
  refine g_aload_n (pc := 5) X (j := 1) (i := 1) (q := 1) (x := a1) rfl rfl (dl_at t_X28_init 3 rfl) ?_
  refine r_putrF (pc := 6) X hname fX28_0 hk q2528 rfl rfl (dl_at t_X28_init 4 rfl)  (fun h6 E6 => ?_)
  exact g_vret (pc := 9) X (v := 0) rfl rfl (dl_at t_X28_init 5 rfl)
def k_X28_byteOf : List (Nat × Instr × Nat) := [(0, .aload_n 0, 1), (1, .getfield 9, 3), (4, .getfield 15, 3), (7, .aload_n 0, 1), (8, .getfield 21, 3), (11, .iload_n 1, 1), (12, .iadd, 1), (13, .baload, 1), (14, .ireturn, 1)]
theorem t_X28_byteOf : ∀ q ∈ k_X28_byteOf, decode cX28_byteOf q.1 = .ok q.2 := dl_all (by decide +kernel)
noncomputable def m_X28_byteOf (a0 a1 : Int) (h : Hp) : Option (Int) :=
  gd (h (h a0 0) (-2) = 240) (gd (h (h (h a0 0) 0) (-2) % 16 = 2 ∧ (0 : Int) ≤ (w32 ((h a0 1) + a1)) ∧ (w32 ((h a0 1) + a1)) < h (h (h a0 0) 0) (-1)) (some (h (h (h a0 0) 0) (w32 ((h a0 1) + a1)))))
theorem s_X28_byteOf {l : Launch} [NoTr l] {D : SD} {a0 a1 : Int} {h : Hp} (hk : h a0 (-2) = 288) (r1 : r32 a1) {r : Int} (hm : m_X28_byteOf a0 a1 h = some r) : Sim l D yX28_byteOf (Cond.code yX28_byteOf cX28_byteOf 2 (Option.some Jvm.ClassFile.FieldType.int)) 0 0 [rv D a0, iv a1] h 1 ((0, r), h) := by
  refine Sim.of (fin := fun (v : Int) => ((0, v), h)) (lsE := [(0, rv D a0), (1, iv a1)]) hm rfl cwS_code (la_r (la_i la_n)) (ll_r (ll_i ll_n)) ?_
  intro p e s m below meth c X hcw hmm hcc hnm hname
  unfold m_X28_byteOf
  refine g_aload_n (pc := 0) X (j := 0) (i := 0) (q := 0) (x := a0) rfl rfl (dl_at t_X28_byteOf 0 rfl) ?_
  refine r_getr (pc := 1) X fX28_0 hk q2528 (dl_at t_X28_byteOf 1 rfl) ?_
  refine g_gd fun k4 => ?_
  refine r_getrN (pc := 4) X fX15_0 k4 (nw_in q1128 rfl) (dl_at t_X28_byteOf 2 rfl) ?_
  refine g_aload_n (pc := 7) X (j := 0) (i := 0) (q := 0) (x := a0) rfl rfl (dl_at t_X28_byteOf 3 rfl) ?_
  refine r_geti (pc := 8) X fX28_1 hk q2529 (dl_at t_X28_byteOf 4 rfl) fun g8 => ?_
  refine g_iload_n (pc := 11) X (j := 1) (i := 1) (q := 1) (x := a1) rfl rfl (dl_at t_X28_byteOf 5 rfl) ?_
  refine g_iadd (pc := 12) X g8 r1 (dl_at t_X28_byteOf 6 rfl) ?_
  refine g_gd fun k13 => ?_
  refine g_bald (pc := 13) X (r32_w _) k13 (dl_at t_X28_byteOf 7 rfl) fun g13 => ?_
  exact g_iret (pc := 14) X (r32_b g13) rfl rfl (dl_at t_X28_byteOf 8 rfl)
def k_X1_isLetter : List (Nat × Instr × Nat) := [(0, .iload_n 0, 1), (1, .invokestatic 13, 3), (4, .ifCond .ne 15, 3), (7, .iload_n 0, 1), (8, .bipush 65, 2), (10, .if_icmp .lt 13, 3), (13, .iload_n 0, 1), (14, .bipush 90, 2), (16, .if_icmp .gt 7, 3), (19, .iconst 1, 1), (20, .goto 4, 3), (23, .iconst 0, 1), (24, .ireturn, 1)]
theorem t_X1_isLetter : ∀ q ∈ k_X1_isLetter, decode cX1_isLetter q.1 = .ok q.2 := dl_all (by decide +kernel)
noncomputable def m_X1_isLetter (a0 : Int) : Option (Int) :=
  (m_X1_isSmall a0).bind fun v1 =>
  if v1 ≠ 0 then (some 1)
  else (if a0 < 65 then (some 0)
  else (if 90 < a0 then (some 0)
  else (some 1)))
theorem s_X1_isLetter {l : Launch} [NoTr l] {D : SD} {a0 : Int} {h : Hp} (r0 : r32 a0) {r : Int} (hm : m_X1_isLetter a0 = some r) : Sim l D yX1_isLetter (Cond.code yX1_isLetter cX1_isLetter 1 (Option.some Jvm.ClassFile.FieldType.boolean)) 1 36 [iv a0] h 3 ((0, r), h) := by
  refine Sim.of (fin := fun (v : Int) => ((0, v), h)) (lsE := [(0, iv a0)]) hm rfl cwS_code (la_i la_n) (ll_i ll_n) ?_
  intro p e s m below meth c X hcw hmm hcc hnm hname
  unfold m_X1_isLetter
  refine g_iload_n (pc := 0) X (j := 0) (i := 0) (q := 0) (x := a0) rfl rfl (dl_at t_X1_isLetter 0 rfl) ?_
  refine r_callRz (pc := 1) X (fun _ hv => s_X1_isSmall r0 hv) cw_code q1735 q355 (in_Sc X (As := [iv a0]) (Or.inl q2627) q1734 q355 q1735 ⟨by decide, by decide⟩ rfl (dl_at t_X1_isLetter 1 rfl)) (dl_at t_X1_isLetter 1 rfl) (cat24 (st := []) (Nat.le_of_ble_eq_true rfl)) (Nat.le_of_ble_eq_true rfl) (Nat.le_of_ble_eq_true rfl) fun v1 g1 => ?_
  refine g_ifne (pc := 4) X (r32_z g1) (off := 15) (tgt := 19) rfl (dl_at t_X1_isLetter 2 rfl) (fun _ => ?_) (fun _ => ?_)
  · refine g_iconst (pc := 19) X (n := 1) (dl_at t_X1_isLetter 9 rfl) ?_
    refine g_goto (pc := 20) X (off := 4) (tgt := 24) rfl (dl_at t_X1_isLetter 10 rfl) ?_
    exact g_zret (pc := 24) X (Or.inr rfl) rfl rfl (dl_at t_X1_isLetter 12 rfl)
  refine g_iload_n (pc := 7) X (j := 0) (i := 0) (q := 0) (x := a0) rfl rfl (dl_at t_X1_isLetter 3 rfl) ?_
  refine g_bipush (pc := 8) X (n := 65) rfl (dl_at t_X1_isLetter 4 rfl) ?_
  refine g_icmplt (pc := 10) X r0 (r32_c rfl) (off := 13) (tgt := 23) rfl (dl_at t_X1_isLetter 5 rfl) (fun _ => ?_) (fun _ => ?_)
  · refine g_iconst (pc := 23) X (n := 0) (dl_at t_X1_isLetter 11 rfl) ?_
    exact g_zret (pc := 24) X (Or.inl rfl) rfl rfl (dl_at t_X1_isLetter 12 rfl)
  refine g_iload_n (pc := 13) X (j := 0) (i := 0) (q := 0) (x := a0) rfl rfl (dl_at t_X1_isLetter 6 rfl) ?_
  refine g_bipush (pc := 14) X (n := 90) rfl (dl_at t_X1_isLetter 7 rfl) ?_
  refine g_icmpgt (pc := 16) X r0 (r32_c rfl) (off := 7) (tgt := 23) rfl (dl_at t_X1_isLetter 8 rfl) (fun _ => ?_) (fun _ => ?_)
  · refine g_iconst (pc := 23) X (n := 0) (dl_at t_X1_isLetter 11 rfl) ?_
    exact g_zret (pc := 24) X (Or.inl rfl) rfl rfl (dl_at t_X1_isLetter 12 rfl)
  refine g_iconst (pc := 19) X (n := 1) (dl_at t_X1_isLetter 9 rfl) ?_
  refine g_goto (pc := 20) X (off := 4) (tgt := 24) rfl (dl_at t_X1_isLetter 10 rfl) ?_
  exact g_zret (pc := 24) X (Or.inr rfl) rfl rfl (dl_at t_X1_isLetter 12 rfl)
def k_X9_raise : List (Nat × Instr × Nat) := [(0, .iload_n 1, 1), (1, .iconst 1, 1), (2, .iadd, 1), (3, .aload_n 0, 1), (4, .getfield 69, 3), (7, .if_icmp .ge 14, 3), (10, .aload_n 0, 1), (11, .getfield 31, 3), (14, .iload_n 1, 1), (15, .iconst 1, 1), (16, .iadd, 1), (17, .iaload, 1), (18, .goto 7, 3), (21, .aload_n 0, 1), (22, .getfield 66, 3), (25, .aload_n 0, 1), (26, .getfield 31, 3), (29, .iload_n 1, 1), (30, .iaload, 1), (31, .isub, 1), (32, .istore 4, 2), (34, .iconst 0, 1), (35, .istore 5, 2), (37, .iload 5, 2), (39, .iload 4, 2), (41, .if_icmp .ge 58, 3), (44, .iload_n 2, 1), (45, .iload 5, 2), (47, .iadd, 1), (48, .iload_n 3, 1), (49, .if_icmp .gt 50, 3), (52, .aload_n 0, 1), (53, .getfield 34, 3), (56, .aload_n 0, 1), (57, .getfield 31, 3), (60, .iload_n 1, 1), (61, .iaload, 1), (62, .iload 5, 2), (64, .iadd, 1), (65, .baload, 1), (66, .istore 6, 2), (68, .iload 6, 2), (70, .aload_n 0, 1), (71, .getfield 57, 3), (74, .iload_n 2, 1), (75, .iload 5, 2), (77, .iadd, 1), (78, .iaload, 1), (79, .if_icmp .le 14, 3), (82, .aload_n 0, 1), (83, .getfield 57, 3), (86, .iload_n 2, 1), (87, .iload 5, 2), (89, .iadd, 1), (90, .iload 6, 2), (92, .iastore, 1), (93, .iinc 5 1, 3), (96, .goto (-59), 3), (99, .return_, 1)]
theorem t_X9_raise : ∀ q ∈ k_X9_raise, decode cX9_raise q.1 = .ok q.2 := dl_all (by decide +kernel)
noncomputable def m_X9_raise_j93 (x5_37 : Int) (h_93 : Hp) : Option ((Int × Hp) ⊕ ((Hp))) :=
  lt_ (w32 (x5_37 + 1)) fun x5_93 =>
  some (.inl (x5_93, h_93))
noncomputable def m_X9_raise_l37 (a0 a1 a2 a3 x4_32 x5_37 : Int) (h_37 : Hp) : Option ((Int × Hp) ⊕ ((Hp))) :=
  if x4_32 ≤ x5_37 then (some (.inr h_37))
  else (if a3 < (w32 (a2 + x5_37)) then (some (.inr h_37))
  else (gd (h_37 (h_37 a0 7) (-2) % 16 = 1 ∧ (0 : Int) ≤ a1 ∧ a1 < h_37 (h_37 a0 7) (-1)) (gd (h_37 (h_37 a0 8) (-2) % 16 = 2 ∧ (0 : Int) ≤ (w32 ((h_37 (h_37 a0 7) a1) + x5_37)) ∧ (w32 ((h_37 (h_37 a0 7) a1) + x5_37)) < h_37 (h_37 a0 8) (-1)) (lt_ (h_37 (h_37 a0 8) (w32 ((h_37 (h_37 a0 7) a1) + x5_37))) fun x6_66 =>
  gd (h_37 (h_37 a0 18) (-2) % 16 = 1 ∧ (0 : Int) ≤ (w32 (a2 + x5_37)) ∧ (w32 (a2 + x5_37)) < h_37 (h_37 a0 18) (-1)) (if x6_66 ≤ (h_37 (h_37 a0 18) (w32 (a2 + x5_37))) then (m_X9_raise_j93 x5_37 h_37)
  else (pt h_37 (h_37 a0 18) (w32 (a2 + x5_37)) x6_66 fun h92 =>
  m_X9_raise_j93 x5_37 h92))))))
noncomputable def m_X9_raise_j25 (a0 a1 a2 a3 s0_25 : Int) (h : Hp) : Option (Hp) :=
  gd (h (h a0 7) (-2) % 16 = 1 ∧ (0 : Int) ≤ a1 ∧ a1 < h (h a0 7) (-1)) (lt_ (w32 (s0_25 - (h (h a0 7) a1))) fun x4_32 =>
  lt_ 0 fun x5_35 =>
  (lp (fun (q : Int × Hp) => m_X9_raise_l37 a0 a1 a2 a3 x4_32 q.1 q.2) (x5_35, h)).bind (fun (x : Hp) => some x))
noncomputable def m_X9_raise (a0 a1 a2 a3 : Int) (h : Hp) : Option (Hp) :=
  if (h a0 10) ≤ (w32 (a1 + 1)) then (m_X9_raise_j25 a0 a1 a2 a3 (h a0 9) h)
  else (gd (h (h a0 7) (-2) % 16 = 1 ∧ (0 : Int) ≤ (w32 (a1 + 1)) ∧ (w32 (a1 + 1)) < h (h a0 7) (-1)) (m_X9_raise_j25 a0 a1 a2 a3 (h (h a0 7) (w32 (a1 + 1))) h))
theorem s_X9_raise {l : Launch} [NoTr l] {D : SD} {a0 a1 a2 a3 : Int} {h : Hp} (hk : h a0 (-2) = 144) (r1 : r32 a1) (r2 : r32 a2) (r3 : r32 a3) {r : Hp} (hm : m_X9_raise a0 a1 a2 a3 h = some r) : Sim l D yX9_raise (Cond.code yX9_raise cX9_raise 7 (Option.none : Option Jvm.ClassFile.FieldType)) 0 0 [rv D a0, iv a1, iv a2, iv a3] h 0 ((0, 0), r) := by
  refine Sim.of (fin := fun (v : Hp) => ((0, 0), v)) (lsE := [(0, rv D a0), (1, iv a1), (2, iv a2), (3, iv a3)]) hm rfl cwS_code (la_r (la_i (la_i (la_i la_n)))) (ll_r (ll_i (ll_i (ll_i ll_n)))) ?_
  intro p e s m below meth c X hcw hmm hcc hnm hname
  unfold m_X9_raise
  refine g_iload_n (pc := 0) X (j := 1) (i := 1) (q := 1) (x := a1) rfl rfl (dl_at t_X9_raise 0 rfl) ?_
  refine g_iconst (pc := 1) X (n := 1) (dl_at t_X9_raise 1 rfl) ?_
  refine g_iadd (pc := 2) X r1 (r32_c rfl) (dl_at t_X9_raise 2 rfl) ?_
  refine g_aload_n (pc := 3) X (j := 0) (i := 0) (q := 0) (x := a0) rfl rfl (dl_at t_X9_raise 3 rfl) ?_
  refine r_geti (pc := 4) X fX9_10 hk q903 (dl_at t_X9_raise 4 rfl) fun g4 => ?_
  refine g_join (γ := Int) (fun q => r32 q) 25 (fun q => [(0, rv D a0), (1, iv a1), (2, iv a2), (3, iv a3)]) (fun q => [iv q]) (fun q => h) (fun q => m_X9_raise_j25 a0 a1 a2 a3 q h) ?_ ?_
  · rintro s0_25 rs0_25
    try dsimp only
    unfold m_X9_raise_j25
    refine g_aload_n (pc := 25) X (j := 0) (i := 0) (q := 0) (x := a0) rfl rfl (dl_at t_X9_raise 15 rfl) ?_
    refine r_getr (pc := 26) X fX9_7 hk q900 (dl_at t_X9_raise 16 rfl) ?_
    refine g_iload_n (pc := 29) X (j := 1) (i := 1) (q := 1) (x := a1) rfl rfl (dl_at t_X9_raise 17 rfl) ?_
    refine g_gd fun k30 => ?_
    refine g_iald (pc := 30) X r1 k30 (dl_at t_X9_raise 18 rfl) fun g30 => ?_
    refine g_isub (pc := 31) X rs0_25 g30 (dl_at t_X9_raise 19 rfl) ?_
    refine g_lti (r32_w _) fun x4_32 r4_32 => ?_
    refine g_istoreN (pc := 32) X (i := 4) (x := x4_32) (b := 3) (w := iv a3) (rest := [(0, rv D a0), (1, iv a1), (2, iv a2)]) (Nat.le_of_ble_eq_true rfl) [3, 0, 1, 2] rfl (by decide) rfl rfl (dl_at t_X9_raise 20 rfl) ?_
    refine g_iconst (pc := 34) X (n := 0) (dl_at t_X9_raise 21 rfl) ?_
    refine g_ltz (Or.inl rfl) fun x5_35 r5_35 => ?_
    refine g_istoreN (pc := 35) X (i := 5) (x := x5_35) (b := 4) (w := iv x4_32) (rest := [(3, iv a3), (0, rv D a0), (1, iv a1), (2, iv a2)]) (Nat.le_of_ble_eq_true rfl) [0, 1, 2, 3, 4] rfl (by decide) rfl rfl (dl_at t_X9_raise 22 rfl) ?_
    refine g_ls (ls2 := [(0, rv D a0), (1, iv a1), (2, iv a2), (3, iv a3), (4, iv x4_32), (5, iv x5_35)]) [3, 4, 5, 2, 1, 0] rfl ?_
    refine g_loop0F (fun (q : Int × Hp) => [(0, rv D a0), (1, iv a1), (2, iv a2), (3, iv a3), (4, iv x4_32), (5, iv q.1)]) (fun (q : Int × Hp) => q.2) (fun (q : Int × Hp) => r32 q.1 ∧ Ext h q.2) (x5_35, h) ⟨(r32_z r5_35), (Ext.refl _)⟩ ?_ (fun _ => rfl)
    · rintro ⟨x5_37, h_37⟩ ⟨r5_37, E_37⟩
      try dsimp only
      unfold m_X9_raise_l37
      refine g_iload (pc := 37) X (i := 5) (q := 5) (x := x5_37) rfl (dl_at t_X9_raise 23 rfl) ?_
      refine g_iload (pc := 39) X (i := 4) (q := 4) (x := x4_32) rfl (dl_at t_X9_raise 24 rfl) ?_
      refine g_icmpge (pc := 41) X r5_37 r4_32 (off := 58) (tgt := 99) rfl (dl_at t_X9_raise 25 rfl) (fun _ => ?_) (fun _ => ?_)
      · exact g_at fun Q hQ => (g_vret (pc := 99) X (v := 0) rfl rfl (dl_at t_X9_raise 58 rfl)) _ Q rfl hQ
      refine g_iload_n (pc := 44) X (j := 2) (i := 2) (q := 2) (x := a2) rfl rfl (dl_at t_X9_raise 26 rfl) ?_
      refine g_iload (pc := 45) X (i := 5) (q := 5) (x := x5_37) rfl (dl_at t_X9_raise 27 rfl) ?_
      refine g_iadd (pc := 47) X r2 r5_37 (dl_at t_X9_raise 28 rfl) ?_
      refine g_iload_n (pc := 48) X (j := 3) (i := 3) (q := 3) (x := a3) rfl rfl (dl_at t_X9_raise 29 rfl) ?_
      refine g_icmpgt (pc := 49) X (r32_w _) r3 (off := 50) (tgt := 99) rfl (dl_at t_X9_raise 30 rfl) (fun _ => ?_) (fun _ => ?_)
      · exact g_at fun Q hQ => (g_vret (pc := 99) X (v := 0) rfl rfl (dl_at t_X9_raise 58 rfl)) _ Q rfl hQ
      refine g_aload_n (pc := 52) X (j := 0) (i := 0) (q := 0) (x := a0) rfl rfl (dl_at t_X9_raise 31 rfl) ?_
      have k53 := kx E_37 (by decide) hk
      refine r_getr (pc := 53) X fX9_8 k53 q901 (dl_at t_X9_raise 32 rfl) ?_
      refine g_aload_n (pc := 56) X (j := 0) (i := 0) (q := 0) (x := a0) rfl rfl (dl_at t_X9_raise 33 rfl) ?_
      refine r_getr (pc := 57) X fX9_7 k53 q900 (dl_at t_X9_raise 34 rfl) ?_
      refine g_iload_n (pc := 60) X (j := 1) (i := 1) (q := 1) (x := a1) rfl rfl (dl_at t_X9_raise 35 rfl) ?_
      refine g_gd fun k61 => ?_
      refine g_iald (pc := 61) X r1 k61 (dl_at t_X9_raise 36 rfl) fun g61 => ?_
      refine g_iload (pc := 62) X (i := 5) (q := 5) (x := x5_37) rfl (dl_at t_X9_raise 37 rfl) ?_
      refine g_iadd (pc := 64) X g61 r5_37 (dl_at t_X9_raise 38 rfl) ?_
      refine g_gd fun k65 => ?_
      refine g_bald (pc := 65) X (r32_w _) k65 (dl_at t_X9_raise 39 rfl) fun g65 => ?_
      refine g_ltb g65 fun x6_66 r6_66 => ?_
      refine g_istoreN (pc := 66) X (i := 6) (x := x6_66) (b := 5) (w := iv x5_37) (rest := [(0, rv D a0), (1, iv a1), (2, iv a2), (3, iv a3), (4, iv x4_32)]) (Nat.le_of_ble_eq_true rfl) [5, 0, 1, 2, 3, 4] rfl (by decide) rfl rfl (dl_at t_X9_raise 40 rfl) ?_
      refine g_iload (pc := 68) X (i := 6) (q := 0) (x := x6_66) rfl (dl_at t_X9_raise 41 rfl) ?_
      refine g_aload_n (pc := 70) X (j := 0) (i := 0) (q := 2) (x := a0) rfl rfl (dl_at t_X9_raise 42 rfl) ?_
      refine r_getr (pc := 71) X fX9_18 k53 q913 (dl_at t_X9_raise 43 rfl) ?_
      refine g_iload_n (pc := 74) X (j := 2) (i := 2) (q := 4) (x := a2) rfl rfl (dl_at t_X9_raise 44 rfl) ?_
      refine g_iload (pc := 75) X (i := 5) (q := 1) (x := x5_37) rfl (dl_at t_X9_raise 45 rfl) ?_
      refine g_iadd (pc := 77) X r2 r5_37 (dl_at t_X9_raise 46 rfl) ?_
      refine g_gd fun k78 => ?_
      refine g_iald (pc := 78) X (r32_w _) k78 (dl_at t_X9_raise 47 rfl) fun g78 => ?_
      refine g_join (γ := Hp) (fun q => Ext h_37 q) 93 (fun q => [(0, rv D a0), (1, iv a1), (2, iv a2), (3, iv a3), (4, iv x4_32), (5, iv x5_37)]) (fun q => []) (fun q => q) (fun q => m_X9_raise_j93 x5_37 q) ?_ ?_
      · rintro h_93 E_93
        try dsimp only
        unfold m_X9_raise_j93
        refine r_iincN (pc := 93) X (i := 5) (q := 5) (n := 1) (x := x5_37) (b := 4) (w := iv x4_32) (rest := [(0, rv D a0), (1, iv a1), (2, iv a2), (3, iv a3)]) rfl r5_37 (r32_c rfl) (Nat.le_of_ble_eq_true rfl) [4, 0, 1, 2, 3] rfl (by decide) rfl rfl (dl_at t_X9_raise 56 rfl) fun x5_93 r5_93 => ?_
        refine g_goto (pc := 96) X (off := (-59)) (tgt := 37) rfl (dl_at t_X9_raise 57 rfl) ?_
        refine g_ls (ls2 := [(0, rv D a0), (1, iv a1), (2, iv a2), (3, iv a3), (4, iv x4_32), (5, iv x5_93)]) [2, 3, 4, 5, 1, 0] rfl ?_
        exact g_at fun Q hQ => hQ ⟨r5_93, (E_37.trans E_93)⟩
      intro J93
      refine g_icmple (pc := 79) X (r32_b r6_66) g78 (off := 14) (tgt := 93) rfl (dl_at t_X9_raise 48 rfl) (fun _ => ?_) (fun _ => ?_)
      · refine g_ls (ls2 := [(0, rv D a0), (1, iv a1), (2, iv a2), (3, iv a3), (4, iv x4_32), (5, iv x5_37)]) [2, 3, 4, 5, 6, 1] rfl ?_
        exact J93 h_37 (Ext.refl _)
      refine g_aload_n (pc := 82) X (j := 0) (i := 0) (q := 2) (x := a0) rfl rfl (dl_at t_X9_raise 49 rfl) ?_
      refine r_getr (pc := 83) X fX9_18 k53 q913 (dl_at t_X9_raise 50 rfl) ?_
      refine g_iload_n (pc := 86) X (j := 2) (i := 2) (q := 4) (x := a2) rfl rfl (dl_at t_X9_raise 51 rfl) ?_
      refine g_iload (pc := 87) X (i := 5) (q := 1) (x := x5_37) rfl (dl_at t_X9_raise 52 rfl) ?_
      refine g_iadd (pc := 89) X r2 r5_37 (dl_at t_X9_raise 53 rfl) ?_
      refine g_iload (pc := 90) X (i := 6) (q := 0) (x := x6_66) rfl (dl_at t_X9_raise 54 rfl) ?_
      refine r_iast (pc := 92) X (r32_w _) (r32_b r6_66) k78 (dl_at t_X9_raise 55 rfl) (fun h92 E92 => ?_)
      refine g_ls (ls2 := [(0, rv D a0), (1, iv a1), (2, iv a2), (3, iv a3), (4, iv x4_32), (5, iv x5_37)]) [2, 3, 4, 5, 6, 1] rfl ?_
      exact J93 h92 E92
  intro J25
  refine g_icmpge (pc := 7) X (r32_w _) g4 (off := 14) (tgt := 21) rfl (dl_at t_X9_raise 5 rfl) (fun _ => ?_) (fun _ => ?_)
  · refine g_aload_n (pc := 21) X (j := 0) (i := 0) (q := 0) (x := a0) rfl rfl (dl_at t_X9_raise 13 rfl) ?_
    refine r_geti (pc := 22) X fX9_9 hk q902 (dl_at t_X9_raise 14 rfl) fun g22 => ?_
    exact J25 (h a0 9) g22
  refine g_aload_n (pc := 10) X (j := 0) (i := 0) (q := 0) (x := a0) rfl rfl (dl_at t_X9_raise 6 rfl) ?_
  refine r_getr (pc := 11) X fX9_7 hk q900 (dl_at t_X9_raise 7 rfl) ?_
  refine g_iload_n (pc := 14) X (j := 1) (i := 1) (q := 1) (x := a1) rfl rfl (dl_at t_X9_raise 8 rfl) ?_
  refine g_iconst (pc := 15) X (n := 1) (dl_at t_X9_raise 9 rfl) ?_
  refine g_iadd (pc := 16) X r1 (r32_c rfl) (dl_at t_X9_raise 10 rfl) ?_
  refine g_gd fun k17 => ?_
  refine g_iald (pc := 17) X (r32_w _) k17 (dl_at t_X9_raise 11 rfl) fun g17 => ?_
  refine g_goto (pc := 18) X (off := 7) (tgt := 25) rfl (dl_at t_X9_raise 12 rfl) ?_
  exact J25 (h (h a0 7) (w32 (a1 + 1))) g17
def k_X9_byPatterns : List (Nat × Instr × Nat) := [(0, .iconst 0, 1), (1, .istore 6, 2), (3, .iload 6, 2), (5, .iload_n 3, 1), (6, .if_icmp .gt 17, 3), (9, .aload_n 0, 1), (10, .getfield 57, 3), (13, .iload 6, 2), (15, .iconst 0, 1), (16, .iastore, 1), (17, .iinc 6 1, 3), (20, .goto (-17), 3), (23, .iconst (-1), 1), (24, .istore 6, 2), (26, .iload 6, 2), (28, .iload_n 3, 1), (29, .if_icmp .ge 108, 3), (32, .iconst 0, 1), (33, .istore 7, 2), (35, .iload 6, 2), (37, .istore 8, 2), (39, .iload 7, 2), (41, .ifCond .lt 90, 3), (44, .iload 8, 2), (46, .iload_n 3, 1), (47, .if_icmp .gt 84, 3), (50, .aload_n 0, 1), (51, .iload 7, 2), (53, .iload 8, 2), (55, .ifCond .lt 9, 3), (58, .iload 8, 2), (60, .iload_n 3, 1), (61, .if_icmp .ne 7, 3), (64, .iconst 0, 1), (65, .goto 17, 3), (68, .aload_n 1, 1), (69, .iload_n 2, 1), (70, .iload 8, 2), (72, .iadd, 1), (73, .baload, 1), (74, .invokestatic 111, 3), (77, .bipush 97, 2), (79, .isub, 1), (80, .iconst 1, 1), (81, .iadd, 1), (82, .invokevirtual 122, 3), (85, .istore 7, 2), (87, .iinc 8 1, 3), (90, .iload 7, 2), (92, .ifCond .lt (-53), 3), (95, .aload_n 0, 1), (96, .getfield 28, 3), (99, .iload 7, 2), (101, .iaload, 1), (102, .ifCond .lt (-63), 3), (105, .aload_n 0, 1), (106, .aload_n 0, 1), (107, .getfield 28, 3), (110, .iload 7, 2), (112, .iaload, 1), (113, .iload 6, 2), (115, .ifCond .ge 7, 3), (118, .iconst 0, 1), (119, .goto 5, 3), (122, .iload 6, 2), (124, .iload_n 3, 1), (125, .invokevirtual 129, 3), (128, .goto (-89), 3), (131, .iinc 6 1, 3), (134, .goto (-108), 3), (137, .iconst 1, 1), (138, .istore 6, 2), (140, .iload 6, 2), (142, .iload_n 3, 1), (143, .if_icmp .ge 35, 3), (146, .aload 4, 2), (148, .iload 5, 2), (150, .iload 6, 2), (152, .iadd, 1), (153, .aload_n 0, 1), (154, .getfield 57, 3), (157, .iload 6, 2), (159, .iaload, 1), (160, .iconst 2, 1), (161, .irem, 1), (162, .iconst 1, 1), (163, .if_icmp .ne 7, 3), (166, .iconst 1, 1), (167, .goto 4, 3), (170, .iconst 0, 1), (171, .bastore, 1), (172, .iinc 6 1, 3), (175, .goto (-35), 3), (178, .return_, 1)]
theorem t_X9_byPatterns : ∀ q ∈ k_X9_byPatterns, decode cX9_byPatterns q.1 = .ok q.2 := dl_all (by decide +kernel)
noncomputable def m_X9_byPatterns_l3 (a0 a3 x6_3 : Int) (h_3 : Hp) : Option ((Int × Hp) ⊕ ((Hp))) :=
  if a3 < x6_3 then (some (.inr h_3))
  else (gd (h_3 (h_3 a0 18) (-2) % 16 = 1 ∧ (0 : Int) ≤ x6_3 ∧ x6_3 < h_3 (h_3 a0 18) (-1)) (pt h_3 (h_3 a0 18) x6_3 0 fun h16 =>
  lt_ (w32 (x6_3 + 1)) fun x6_17 =>
  some (.inl (x6_17, h16))))
noncomputable def m_X9_byPatterns_j124 (x8_87 v82 a0 a3 s1_124 s2_124 : Int) (h_39 : Hp) : Option ((Int × Int × Hp) ⊕ ((Hp))) :=
  (m_X9_raise a0 s1_124 s2_124 a3 h_39).bind fun h125 =>
  some (.inl (v82, x8_87, h125))
noncomputable def m_X9_byPatterns_j82 (a0 a3 x6_26 x7_39 x8_39 s2_82 : Int) (h_39 : Hp) : Option ((Int × Int × Hp) ⊕ ((Hp))) :=
  (m_X9_find a0 x7_39 s2_82 h_39).bind fun v82 =>
  lt_ (w32 (x8_39 + 1)) fun x8_87 =>
  if v82 < 0 then (some (.inl (v82, x8_87, h_39)))
  else (gd (h_39 (h_39 a0 5) (-2) % 16 = 1 ∧ (0 : Int) ≤ v82 ∧ v82 < h_39 (h_39 a0 5) (-1)) (if (h_39 (h_39 a0 5) v82) < 0 then (some (.inl (v82, x8_87, h_39)))
  else (if 0 ≤ x6_26 then (m_X9_byPatterns_j124 x8_87 v82 a0 a3 (h_39 (h_39 a0 5) v82) x6_26 h_39)
  else (m_X9_byPatterns_j124 x8_87 v82 a0 a3 (h_39 (h_39 a0 5) v82) 0 h_39))))
noncomputable def m_X9_byPatterns_j64 (a0 a3 x6_26 x7_39 x8_39 : Int) (h_39 : Hp) : Option ((Int × Int × Hp) ⊕ ((Hp))) :=
  m_X9_byPatterns_j82 a0 a3 x6_26 x7_39 x8_39 0 h_39
noncomputable def m_X9_byPatterns_l39 (a0 a1 a2 a3 x6_26 x7_39 x8_39 : Int) (h_39 : Hp) : Option ((Int × Int × Hp) ⊕ ((Hp))) :=
  if x7_39 < 0 then (some (.inr h_39))
  else (if a3 < x8_39 then (some (.inr h_39))
  else (if x8_39 < 0 then (m_X9_byPatterns_j64 a0 a3 x6_26 x7_39 x8_39 h_39)
  else (if x8_39 ≠ a3 then (gd (h_39 a1 (-2) % 16 = 2 ∧ (0 : Int) ≤ (w32 (a2 + x8_39)) ∧ (w32 (a2 + x8_39)) < h_39 a1 (-1)) ((m_X1_small (h_39 a1 (w32 (a2 + x8_39)))).bind fun v74 =>
  m_X9_byPatterns_j82 a0 a3 x6_26 x7_39 x8_39 (w32 ((w32 (v74 - 97)) + 1)) h_39))
  else (m_X9_byPatterns_j64 a0 a3 x6_26 x7_39 x8_39 h_39))))
noncomputable def m_X9_byPatterns_l26 (a0 a1 a2 a3 x6_26 : Int) (h_26 : Hp) : Option ((Int × Hp) ⊕ ((Hp))) :=
  if a3 ≤ x6_26 then (some (.inr h_26))
  else (lt_ 0 fun x7_33 =>
  (lp (fun (q : Int × Int × Hp) => m_X9_byPatterns_l39 a0 a1 a2 a3 x6_26 q.1 q.2.1 q.2.2) (x7_33, x6_26, h_26)).bind (fun (y131 : Hp) => lt_ (w32 (x6_26 + 1)) fun x6_131 =>
  some (.inl (x6_131, y131))))
noncomputable def m_X9_byPatterns_j171 (a4 x6_140 s1_171 s2_171 : Int) (h_140 : Hp) : Option ((Int × Hp) ⊕ ((Hp))) :=
  gd (h_140 a4 (-2) % 16 = 3 ∧ (0 : Int) ≤ s1_171 ∧ s1_171 < h_140 a4 (-1)) (pt h_140 a4 s1_171 s2_171 fun h171 =>
  lt_ (w32 (x6_140 + 1)) fun x6_172 =>
  some (.inl (x6_172, h171)))
noncomputable def m_X9_byPatterns_l140 (a0 a3 a4 a5 x6_140 : Int) (h_140 : Hp) : Option ((Int × Hp) ⊕ ((Hp))) :=
  if a3 ≤ x6_140 then (some (.inr h_140))
  else (gd (h_140 (h_140 a0 18) (-2) % 16 = 1 ∧ (0 : Int) ≤ x6_140 ∧ x6_140 < h_140 (h_140 a0 18) (-1)) (if (Int.tmod (h_140 (h_140 a0 18) x6_140) 2) ≠ 1 then (m_X9_byPatterns_j171 a4 x6_140 (w32 (a5 + x6_140)) 0 h_140)
  else (m_X9_byPatterns_j171 a4 x6_140 (w32 (a5 + x6_140)) 1 h_140)))
noncomputable def m_X9_byPatterns (a0 a1 a2 a3 a4 a5 : Int) (h : Hp) : Option (Hp) :=
  lt_ 0 fun x6_1 =>
  (lp (fun (q : Int × Hp) => m_X9_byPatterns_l3 a0 a3 q.1 q.2) (x6_1, h)).bind (fun (y23 : Hp) => lt_ (-1) fun x6_24 =>
  (lp (fun (q : Int × Hp) => m_X9_byPatterns_l26 a0 a1 a2 a3 q.1 q.2) (x6_24, y23)).bind (fun (y137 : Hp) => lt_ 1 fun x6_138 =>
  (lp (fun (q : Int × Hp) => m_X9_byPatterns_l140 a0 a3 a4 a5 q.1 q.2) (x6_138, y137)).bind (fun (x : Hp) => some x)))
theorem s_X9_byPatterns {l : Launch} [NoTr l] {D : SD} {a0 a1 a2 a3 a4 a5 : Int} {h : Hp} (hk : h a0 (-2) = 144) (r2 : r32 a2) (r3 : r32 a3) (r5 : r32 a5) {r : Hp} (hm : m_X9_byPatterns a0 a1 a2 a3 a4 a5 h = some r) : Sim l D yX9_byPatterns (Cond.code yX9_byPatterns cX9_byPatterns 9 (Option.none : Option Jvm.ClassFile.FieldType)) 1 42 [rv D a0, rv D a1, iv a2, iv a3, rv D a4, iv a5] h 0 ((0, 0), r) := by
  refine Sim.of (fin := fun (v : Hp) => ((0, 0), v)) (lsE := [(0, rv D a0), (1, rv D a1), (2, iv a2), (3, iv a3), (4, rv D a4), (5, iv a5)]) hm rfl cwS_code (la_r (la_r (la_i (la_i (la_r (la_i la_n)))))) (ll_r (ll_r (ll_i (ll_i (ll_r (ll_i ll_n)))))) ?_
  intro p e s m below meth c X hcw hmm hcc hnm hname
  unfold m_X9_byPatterns
  refine g_iconst (pc := 0) X (n := 0) (dl_at t_X9_byPatterns 0 rfl) ?_
  refine g_ltz (Or.inl rfl) fun x6_1 r6_1 => ?_
  refine g_istoreN (pc := 1) X (i := 6) (x := x6_1) (b := 5) (w := iv a5) (rest := [(0, rv D a0), (1, rv D a1), (2, iv a2), (3, iv a3), (4, rv D a4)]) (Nat.le_of_ble_eq_true rfl) [5, 0, 1, 2, 3, 4] rfl (by decide) rfl rfl (dl_at t_X9_byPatterns 1 rfl) ?_
  refine g_ls (ls2 := [(0, rv D a0), (1, rv D a1), (2, iv a2), (3, iv a3), (4, rv D a4), (5, iv a5), (6, iv x6_1)]) [2, 3, 4, 5, 6, 1, 0] rfl ?_
  refine g_loop1 (fun (q : Int × Hp) => [(0, rv D a0), (1, rv D a1), (2, iv a2), (3, iv a3), (4, rv D a4), (5, iv a5), (6, iv q.1)]) (fun (q : Int × Hp) => q.2) (fun (q : Int × Hp) => r32 q.1 ∧ Ext h q.2) 23 (fun (y23 : Hp) => [(0, rv D a0), (1, rv D a1), (2, iv a2), (3, iv a3), (4, rv D a4), (5, iv a5)]) (fun (y23 : Hp) => y23) (fun (y23 : Hp) => Ext h y23) (x6_1, h) ⟨(r32_z r6_1), (Ext.refl _)⟩ ?_ ?_
  · rintro ⟨x6_3, h_3⟩ ⟨r6_3, E_3⟩
    try dsimp only
    unfold m_X9_byPatterns_l3
    refine g_iload (pc := 3) X (i := 6) (q := 6) (x := x6_3) rfl (dl_at t_X9_byPatterns 2 rfl) ?_
    refine g_iload_n (pc := 5) X (j := 3) (i := 3) (q := 3) (x := a3) rfl rfl (dl_at t_X9_byPatterns 3 rfl) ?_
    refine g_icmpgt (pc := 6) X r6_3 r3 (off := 17) (tgt := 23) rfl (dl_at t_X9_byPatterns 4 rfl) (fun _ => ?_) (fun _ => ?_)
    · refine g_ls (ls2 := [(0, rv D a0), (1, rv D a1), (2, iv a2), (3, iv a3), (4, rv D a4), (5, iv a5)]) [0, 1, 2, 3, 4, 5] rfl ?_
      exact g_at fun Q hQ => hQ E_3
    refine g_aload_n (pc := 9) X (j := 0) (i := 0) (q := 0) (x := a0) rfl rfl (dl_at t_X9_byPatterns 5 rfl) ?_
    have k10 := kx E_3 (by decide) hk
    refine r_getr (pc := 10) X fX9_18 k10 q913 (dl_at t_X9_byPatterns 6 rfl) ?_
    refine g_iload (pc := 13) X (i := 6) (q := 6) (x := x6_3) rfl (dl_at t_X9_byPatterns 7 rfl) ?_
    refine g_iconst (pc := 15) X (n := 0) (dl_at t_X9_byPatterns 8 rfl) ?_
    refine g_gd fun k16 => ?_
    refine r_iast (pc := 16) X r6_3 (r32_c rfl) k16 (dl_at t_X9_byPatterns 9 rfl) (fun h16 E16 => ?_)
    refine r_iincN (pc := 17) X (i := 6) (q := 6) (n := 1) (x := x6_3) (b := 5) (w := iv a5) (rest := [(0, rv D a0), (1, rv D a1), (2, iv a2), (3, iv a3), (4, rv D a4)]) rfl r6_3 (r32_c rfl) (Nat.le_of_ble_eq_true rfl) [5, 0, 1, 2, 3, 4] rfl (by decide) rfl rfl (dl_at t_X9_byPatterns 10 rfl) fun x6_17 r6_17 => ?_
    refine g_goto (pc := 20) X (off := (-17)) (tgt := 3) rfl (dl_at t_X9_byPatterns 11 rfl) ?_
    refine g_ls (ls2 := [(0, rv D a0), (1, rv D a1), (2, iv a2), (3, iv a3), (4, rv D a4), (5, iv a5), (6, iv x6_17)]) [2, 3, 4, 5, 6, 1, 0] rfl ?_
    exact g_at fun Q hQ => hQ ⟨r6_17, (E_3.trans E16)⟩
  · rintro h_23 E_23
    try dsimp only [sE]
    refine g_iconst (pc := 23) X (n := (-1)) (dl_at t_X9_byPatterns 12 rfl) ?_
    refine g_lti (r32_c rfl) fun x6_24 r6_24 => ?_
    refine g_istoreN (pc := 24) X (i := 6) (x := x6_24) (b := 5) (w := iv a5) (rest := [(0, rv D a0), (1, rv D a1), (2, iv a2), (3, iv a3), (4, rv D a4)]) (Nat.le_of_ble_eq_true rfl) [5, 0, 1, 2, 3, 4] rfl (by decide) rfl rfl (dl_at t_X9_byPatterns 13 rfl) ?_
    refine g_ls (ls2 := [(0, rv D a0), (1, rv D a1), (2, iv a2), (3, iv a3), (4, rv D a4), (5, iv a5), (6, iv x6_24)]) [2, 3, 4, 5, 6, 1, 0] rfl ?_
    refine g_loop1 (fun (q : Int × Hp) => [(0, rv D a0), (1, rv D a1), (2, iv a2), (3, iv a3), (4, rv D a4), (5, iv a5), (6, iv q.1)]) (fun (q : Int × Hp) => q.2) (fun (q : Int × Hp) => r32 q.1 ∧ Ext h_23 q.2) 137 (fun (y137 : Hp) => [(0, rv D a0), (3, iv a3), (4, rv D a4), (5, iv a5)]) (fun (y137 : Hp) => y137) (fun (y137 : Hp) => Ext h_23 y137) (x6_24, h_23) ⟨r6_24, (Ext.refl _)⟩ ?_ ?_
    · rintro ⟨x6_26, h_26⟩ ⟨r6_26, E_26⟩
      try dsimp only
      unfold m_X9_byPatterns_l26
      refine g_iload (pc := 26) X (i := 6) (q := 6) (x := x6_26) rfl (dl_at t_X9_byPatterns 14 rfl) ?_
      refine g_iload_n (pc := 28) X (j := 3) (i := 3) (q := 3) (x := a3) rfl rfl (dl_at t_X9_byPatterns 15 rfl) ?_
      refine g_icmpge (pc := 29) X r6_26 r3 (off := 108) (tgt := 137) rfl (dl_at t_X9_byPatterns 16 rfl) (fun _ => ?_) (fun _ => ?_)
      · refine g_ls (ls2 := [(0, rv D a0), (3, iv a3), (4, rv D a4), (5, iv a5)]) [0, 3, 4, 5] rfl ?_
        exact g_at fun Q hQ => hQ E_26
      refine g_iconst (pc := 32) X (n := 0) (dl_at t_X9_byPatterns 17 rfl) ?_
      refine g_ltz (Or.inl rfl) fun x7_33 r7_33 => ?_
      refine g_istoreN (pc := 33) X (i := 7) (x := x7_33) (b := 6) (w := iv x6_26) (rest := [(0, rv D a0), (1, rv D a1), (2, iv a2), (3, iv a3), (4, rv D a4), (5, iv a5)]) (Nat.le_of_ble_eq_true rfl) [6, 0, 1, 2, 3, 4, 5] rfl (by decide) rfl rfl (dl_at t_X9_byPatterns 18 rfl) ?_
      refine g_iload (pc := 35) X (i := 6) (q := 1) (x := x6_26) rfl (dl_at t_X9_byPatterns 19 rfl) ?_
      refine g_istoreN (pc := 37) X (i := 8) (x := x6_26) (b := 7) (w := iv x7_33) (rest := [(6, iv x6_26), (0, rv D a0), (1, rv D a1), (2, iv a2), (3, iv a3), (4, rv D a4), (5, iv a5)]) (Nat.le_of_ble_eq_true rfl) [0, 1, 2, 3, 4, 5, 6, 7] rfl (by decide) rfl rfl (dl_at t_X9_byPatterns 20 rfl) ?_
      refine g_ls (ls2 := [(0, rv D a0), (1, rv D a1), (2, iv a2), (3, iv a3), (4, rv D a4), (5, iv a5), (6, iv x6_26), (7, iv x7_33), (8, iv x6_26)]) [3, 4, 5, 6, 7, 8, 2, 1, 0] rfl ?_
      refine g_loop1 (fun (q : Int × Int × Hp) => [(0, rv D a0), (1, rv D a1), (2, iv a2), (3, iv a3), (4, rv D a4), (5, iv a5), (6, iv x6_26), (7, iv q.1), (8, iv q.2.1)]) (fun (q : Int × Int × Hp) => q.2.2) (fun (q : Int × Int × Hp) => r32 q.1 ∧ r32 q.2.1 ∧ Ext h_26 q.2.2) 131 (fun (y131 : Hp) => [(0, rv D a0), (1, rv D a1), (2, iv a2), (3, iv a3), (4, rv D a4), (5, iv a5), (6, iv x6_26)]) (fun (y131 : Hp) => y131) (fun (y131 : Hp) => Ext h_26 y131) (x7_33, x6_26, h_26) ⟨(r32_z r7_33), r6_26, (Ext.refl _)⟩ ?_ ?_
      · rintro ⟨x7_39, x8_39, h_39⟩ ⟨r7_39, r8_39, E_39⟩
        try dsimp only
        unfold m_X9_byPatterns_l39
        refine g_iload (pc := 39) X (i := 7) (q := 7) (x := x7_39) rfl (dl_at t_X9_byPatterns 21 rfl) ?_
        refine g_iflt (pc := 41) X r7_39 (off := 90) (tgt := 131) rfl (dl_at t_X9_byPatterns 22 rfl) (fun _ => ?_) (fun _ => ?_)
        · refine g_ls (ls2 := [(0, rv D a0), (1, rv D a1), (2, iv a2), (3, iv a3), (4, rv D a4), (5, iv a5), (6, iv x6_26)]) [0, 1, 2, 3, 4, 5, 6] rfl ?_
          exact g_at fun Q hQ => hQ E_39
        refine g_iload (pc := 44) X (i := 8) (q := 8) (x := x8_39) rfl (dl_at t_X9_byPatterns 23 rfl) ?_
        refine g_iload_n (pc := 46) X (j := 3) (i := 3) (q := 3) (x := a3) rfl rfl (dl_at t_X9_byPatterns 24 rfl) ?_
        refine g_icmpgt (pc := 47) X r8_39 r3 (off := 84) (tgt := 131) rfl (dl_at t_X9_byPatterns 25 rfl) (fun _ => ?_) (fun _ => ?_)
        · refine g_ls (ls2 := [(0, rv D a0), (1, rv D a1), (2, iv a2), (3, iv a3), (4, rv D a4), (5, iv a5), (6, iv x6_26)]) [0, 1, 2, 3, 4, 5, 6] rfl ?_
          exact g_at fun Q hQ => hQ E_39
        refine g_aload_n (pc := 50) X (j := 0) (i := 0) (q := 0) (x := a0) rfl rfl (dl_at t_X9_byPatterns 26 rfl) ?_
        refine g_iload (pc := 51) X (i := 7) (q := 7) (x := x7_39) rfl (dl_at t_X9_byPatterns 27 rfl) ?_
        refine g_iload (pc := 53) X (i := 8) (q := 8) (x := x8_39) rfl (dl_at t_X9_byPatterns 28 rfl) ?_
        refine g_join (γ := Int) (fun q => r32 q) 82 (fun q => [(0, rv D a0), (1, rv D a1), (2, iv a2), (3, iv a3), (4, rv D a4), (5, iv a5), (6, iv x6_26), (8, iv x8_39)]) (fun q => [iv q, iv x7_39, rv D a0]) (fun q => h_39) (fun q => m_X9_byPatterns_j82 a0 a3 x6_26 x7_39 x8_39 q h_39) ?_ ?_
        · rintro s2_82 rs2_82
          try dsimp only
          unfold m_X9_byPatterns_j82
          have k82 := kx (E_23.trans (E_26.trans E_39)) (by decide) hk
          refine r_callRi (pc := 82) X (fun _ hv => s_X9_find k82 r7_39 rs2_82 hv) cw_code q1949 q363 (in_Vk X (As := [iv x7_39, iv s2_82]) kX9 k82 (Or.inl q1946) q1948 qs30 cw_code q1949 ⟨by decide, by decide⟩ rfl (dl_at t_X9_byPatterns 45 rfl)) (dl_at t_X9_byPatterns 45 rfl) (cat24 (st := []) (Nat.le_of_ble_eq_true rfl)) (Nat.le_of_ble_eq_true rfl) (Nat.le_of_ble_eq_true rfl) fun v82 g82 => ?_
          refine g_istoreN (pc := 85) X (i := 7) (x := v82) (b := 6) (w := iv x6_26) (rest := [(0, rv D a0), (1, rv D a1), (2, iv a2), (3, iv a3), (4, rv D a4), (5, iv a5), (8, iv x8_39)]) (Nat.le_of_ble_eq_true rfl) [6, 0, 1, 2, 3, 4, 5, 7] rfl (by decide) rfl rfl (dl_at t_X9_byPatterns 46 rfl) ?_
          refine r_iincN (pc := 87) X (i := 8) (q := 8) (n := 1) (x := x8_39) (b := 7) (w := iv v82) (rest := [(6, iv x6_26), (0, rv D a0), (1, rv D a1), (2, iv a2), (3, iv a3), (4, rv D a4), (5, iv a5)]) rfl r8_39 (r32_c rfl) (Nat.le_of_ble_eq_true rfl) [0, 1, 2, 3, 4, 5, 6, 7] rfl (by decide) rfl rfl (dl_at t_X9_byPatterns 47 rfl) fun x8_87 r8_87 => ?_
          refine g_iload (pc := 90) X (i := 7) (q := 1) (x := v82) rfl (dl_at t_X9_byPatterns 48 rfl) ?_
          refine g_iflt (pc := 92) X g82 (off := (-53)) (tgt := 39) rfl (dl_at t_X9_byPatterns 49 rfl) (fun _ => ?_) (fun _ => ?_)
          · refine g_ls (ls2 := [(0, rv D a0), (1, rv D a1), (2, iv a2), (3, iv a3), (4, rv D a4), (5, iv a5), (6, iv x6_26), (7, iv v82), (8, iv x8_87)]) [3, 4, 5, 6, 7, 8, 2, 1, 0] rfl ?_
            exact g_at fun Q hQ => hQ ⟨g82, r8_87, E_39⟩
          refine g_aload_n (pc := 95) X (j := 0) (i := 0) (q := 3) (x := a0) rfl rfl (dl_at t_X9_byPatterns 50 rfl) ?_
          refine r_getr (pc := 96) X fX9_5 k82 q898 (dl_at t_X9_byPatterns 51 rfl) ?_
          refine g_iload (pc := 99) X (i := 7) (q := 1) (x := v82) rfl (dl_at t_X9_byPatterns 52 rfl) ?_
          refine g_gd fun k101 => ?_
          refine g_iald (pc := 101) X g82 k101 (dl_at t_X9_byPatterns 53 rfl) fun g101 => ?_
          refine g_iflt (pc := 102) X g101 (off := (-63)) (tgt := 39) rfl (dl_at t_X9_byPatterns 54 rfl) (fun _ => ?_) (fun _ => ?_)
          · refine g_ls (ls2 := [(0, rv D a0), (1, rv D a1), (2, iv a2), (3, iv a3), (4, rv D a4), (5, iv a5), (6, iv x6_26), (7, iv v82), (8, iv x8_87)]) [3, 4, 5, 6, 7, 8, 2, 1, 0] rfl ?_
            exact g_at fun Q hQ => hQ ⟨g82, r8_87, E_39⟩
          refine g_aload_n (pc := 105) X (j := 0) (i := 0) (q := 3) (x := a0) rfl rfl (dl_at t_X9_byPatterns 55 rfl) ?_
          refine g_aload_n (pc := 106) X (j := 0) (i := 0) (q := 3) (x := a0) rfl rfl (dl_at t_X9_byPatterns 56 rfl) ?_
          refine r_getr (pc := 107) X fX9_5 k82 q898 (dl_at t_X9_byPatterns 57 rfl) ?_
          refine g_iload (pc := 110) X (i := 7) (q := 1) (x := v82) rfl (dl_at t_X9_byPatterns 58 rfl) ?_
          refine g_iald (pc := 112) X g82 k101 (dl_at t_X9_byPatterns 59 rfl) fun g112 => ?_
          refine g_iload (pc := 113) X (i := 6) (q := 2) (x := x6_26) rfl (dl_at t_X9_byPatterns 60 rfl) ?_
          refine g_join (γ := Int × Int) (fun q => r32 q.1 ∧ r32 q.2) 124 (fun q => [(0, rv D a0), (1, rv D a1), (2, iv a2), (3, iv a3), (4, rv D a4), (5, iv a5), (6, iv x6_26), (7, iv v82), (8, iv x8_87)]) (fun q => [iv q.2, iv q.1, rv D a0]) (fun q => h_39) (fun q => m_X9_byPatterns_j124 x8_87 v82 a0 a3 q.1 q.2 h_39) ?_ ?_
          · rintro ⟨s1_124, s2_124⟩ ⟨rs1_124, rs2_124⟩
            try dsimp only
            unfold m_X9_byPatterns_j124
            refine g_iload_n (pc := 124) X (j := 3) (i := 3) (q := 3) (x := a3) rfl rfl (dl_at t_X9_byPatterns 65 rfl) ?_
            refine r_callV (pc := 125) X (fun _ hv => s_X9_raise k82 rs1_124 rs2_124 r3 hv) cw_code q2639 q363 (in_Vk X (As := [iv s1_124, iv s2_124, iv a3]) kX9 k82 (Or.inl q2636) q2638 qs129 cw_code q2639 ⟨by decide, by decide⟩ rfl (dl_at t_X9_byPatterns 66 rfl)) (dl_at t_X9_byPatterns 66 rfl) (cat24 (st := []) (Nat.le_of_ble_eq_true rfl)) (Nat.le_of_ble_eq_true rfl) (Nat.le_of_ble_eq_true rfl) fun h125 E125 => ?_
            refine g_goto (pc := 128) X (off := (-89)) (tgt := 39) rfl (dl_at t_X9_byPatterns 67 rfl) ?_
            exact g_at fun Q hQ => hQ ⟨g82, r8_87, (E_39.trans E125)⟩
          intro J124
          refine g_ifge (pc := 115) X r6_26 (off := 7) (tgt := 122) rfl (dl_at t_X9_byPatterns 61 rfl) (fun _ => ?_) (fun _ => ?_)
          · refine g_iload (pc := 122) X (i := 6) (q := 2) (x := x6_26) rfl (dl_at t_X9_byPatterns 64 rfl) ?_
            refine g_ls (ls2 := [(0, rv D a0), (1, rv D a1), (2, iv a2), (3, iv a3), (4, rv D a4), (5, iv a5), (6, iv x6_26), (7, iv v82), (8, iv x8_87)]) [3, 4, 5, 6, 7, 8, 2, 1, 0] rfl ?_
            exact J124 ((h_39 (h_39 a0 5) v82), x6_26) ⟨g112, r6_26⟩
          refine g_iconst (pc := 118) X (n := 0) (dl_at t_X9_byPatterns 62 rfl) ?_
          refine g_goto (pc := 119) X (off := 5) (tgt := 124) rfl (dl_at t_X9_byPatterns 63 rfl) ?_
          refine g_ls (ls2 := [(0, rv D a0), (1, rv D a1), (2, iv a2), (3, iv a3), (4, rv D a4), (5, iv a5), (6, iv x6_26), (7, iv v82), (8, iv x8_87)]) [3, 4, 5, 6, 7, 8, 2, 1, 0] rfl ?_
          exact J124 ((h_39 (h_39 a0 5) v82), 0) ⟨g112, (r32_c rfl)⟩
        intro J82
        refine g_join (γ := Unit) (fun q => True) 64 (fun q => [(0, rv D a0), (1, rv D a1), (2, iv a2), (3, iv a3), (4, rv D a4), (5, iv a5), (6, iv x6_26), (8, iv x8_39)]) (fun q => [iv x7_39, rv D a0]) (fun q => h_39) (fun q => m_X9_byPatterns_j64 a0 a3 x6_26 x7_39 x8_39 h_39) ?_ ?_
        · rintro _ _
          try dsimp only
          unfold m_X9_byPatterns_j64
          refine g_iconst (pc := 64) X (n := 0) (dl_at t_X9_byPatterns 33 rfl) ?_
          refine g_goto (pc := 65) X (off := 17) (tgt := 82) rfl (dl_at t_X9_byPatterns 34 rfl) ?_
          exact J82 0 (r32_c rfl)
        intro J64
        refine g_iflt (pc := 55) X r8_39 (off := 9) (tgt := 64) rfl (dl_at t_X9_byPatterns 29 rfl) (fun _ => ?_) (fun _ => ?_)
        · refine g_ls (ls2 := [(0, rv D a0), (1, rv D a1), (2, iv a2), (3, iv a3), (4, rv D a4), (5, iv a5), (6, iv x6_26), (8, iv x8_39)]) [0, 1, 2, 3, 4, 5, 6, 8] rfl ?_
          exact J64 () trivial
        refine g_iload (pc := 58) X (i := 8) (q := 8) (x := x8_39) rfl (dl_at t_X9_byPatterns 30 rfl) ?_
        refine g_iload_n (pc := 60) X (j := 3) (i := 3) (q := 3) (x := a3) rfl rfl (dl_at t_X9_byPatterns 31 rfl) ?_
        refine g_icmpne (pc := 61) X r8_39 r3 (off := 7) (tgt := 68) rfl (dl_at t_X9_byPatterns 32 rfl) (fun _ => ?_) (fun _ => ?_)
        · refine g_aload_n (pc := 68) X (j := 1) (i := 1) (q := 1) (x := a1) rfl rfl (dl_at t_X9_byPatterns 35 rfl) ?_
          refine g_iload_n (pc := 69) X (j := 2) (i := 2) (q := 2) (x := a2) rfl rfl (dl_at t_X9_byPatterns 36 rfl) ?_
          refine g_iload (pc := 70) X (i := 8) (q := 8) (x := x8_39) rfl (dl_at t_X9_byPatterns 37 rfl) ?_
          refine g_iadd (pc := 72) X r2 r8_39 (dl_at t_X9_byPatterns 38 rfl) ?_
          refine g_gd fun k73 => ?_
          refine g_bald (pc := 73) X (r32_w _) k73 (dl_at t_X9_byPatterns 39 rfl) fun g73 => ?_
          refine r_callRi (pc := 74) X (fun _ hv => s_X1_small (r32_b g73) hv) cw_code q1937 q355 (in_Sc X (As := [iv (h_39 a1 (w32 (a2 + x8_39)))]) (Or.inr ⟨_, nw_in q1935 rfl⟩) q1936 q355 q1937 ⟨by decide, by decide⟩ rfl (dl_at t_X9_byPatterns 40 rfl)) (dl_at t_X9_byPatterns 40 rfl) (cat24 (st := [iv x7_39, rv D a0]) (Nat.le_of_ble_eq_true rfl)) (Nat.le_of_ble_eq_true rfl) (Nat.le_of_ble_eq_true rfl) fun v74 g74 => ?_
          refine g_bipush (pc := 77) X (n := 97) rfl (dl_at t_X9_byPatterns 41 rfl) ?_
          refine g_isub (pc := 79) X g74 (r32_c rfl) (dl_at t_X9_byPatterns 42 rfl) ?_
          refine g_iconst (pc := 80) X (n := 1) (dl_at t_X9_byPatterns 43 rfl) ?_
          refine g_iadd (pc := 81) X (r32_w _) (r32_c rfl) (dl_at t_X9_byPatterns 44 rfl) ?_
          refine g_ls (ls2 := [(0, rv D a0), (1, rv D a1), (2, iv a2), (3, iv a3), (4, rv D a4), (5, iv a5), (6, iv x6_26), (8, iv x8_39)]) [0, 1, 2, 3, 4, 5, 6, 8] rfl ?_
          exact J82 (w32 ((w32 (v74 - 97)) + 1)) (r32_w _)
        refine g_ls (ls2 := [(0, rv D a0), (1, rv D a1), (2, iv a2), (3, iv a3), (4, rv D a4), (5, iv a5), (6, iv x6_26), (8, iv x8_39)]) [0, 1, 2, 3, 4, 5, 6, 8] rfl ?_
        exact J64 () trivial
      · rintro h_131 E_131
        try dsimp only [sE]
        refine r_iincN (pc := 131) X (i := 6) (q := 6) (n := 1) (x := x6_26) (b := 5) (w := iv a5) (rest := [(0, rv D a0), (1, rv D a1), (2, iv a2), (3, iv a3), (4, rv D a4)]) rfl r6_26 (r32_c rfl) (Nat.le_of_ble_eq_true rfl) [5, 0, 1, 2, 3, 4] rfl (by decide) rfl rfl (dl_at t_X9_byPatterns 68 rfl) fun x6_131 r6_131 => ?_
        refine g_goto (pc := 134) X (off := (-108)) (tgt := 26) rfl (dl_at t_X9_byPatterns 69 rfl) ?_
        refine g_ls (ls2 := [(0, rv D a0), (1, rv D a1), (2, iv a2), (3, iv a3), (4, rv D a4), (5, iv a5), (6, iv x6_131)]) [2, 3, 4, 5, 6, 1, 0] rfl ?_
        exact g_at fun Q hQ => hQ ⟨r6_131, (E_26.trans E_131)⟩
    · rintro h_137 E_137
      try dsimp only [sE]
      refine g_iconst (pc := 137) X (n := 1) (dl_at t_X9_byPatterns 70 rfl) ?_
      refine g_ltz (Or.inr rfl) fun x6_138 r6_138 => ?_
      refine g_istoreN (pc := 138) X (i := 6) (x := x6_138) (b := 5) (w := iv a5) (rest := [(0, rv D a0), (3, iv a3), (4, rv D a4)]) (Nat.le_of_ble_eq_true rfl) [3, 0, 1, 2] rfl (by decide) rfl rfl (dl_at t_X9_byPatterns 71 rfl) ?_
      refine g_ls (ls2 := [(0, rv D a0), (3, iv a3), (4, rv D a4), (5, iv a5), (6, iv x6_138)]) [2, 3, 4, 1, 0] rfl ?_
      refine g_loop0F (fun (q : Int × Hp) => [(0, rv D a0), (3, iv a3), (4, rv D a4), (5, iv a5), (6, iv q.1)]) (fun (q : Int × Hp) => q.2) (fun (q : Int × Hp) => r32 q.1 ∧ Ext h_137 q.2) (x6_138, h_137) ⟨(r32_z r6_138), (Ext.refl _)⟩ ?_ (fun _ => rfl)
      · rintro ⟨x6_140, h_140⟩ ⟨r6_140, E_140⟩
        try dsimp only
        unfold m_X9_byPatterns_l140
        refine g_iload (pc := 140) X (i := 6) (q := 4) (x := x6_140) rfl (dl_at t_X9_byPatterns 72 rfl) ?_
        refine g_iload_n (pc := 142) X (j := 3) (i := 3) (q := 1) (x := a3) rfl rfl (dl_at t_X9_byPatterns 73 rfl) ?_
        refine g_icmpge (pc := 143) X r6_140 r3 (off := 35) (tgt := 178) rfl (dl_at t_X9_byPatterns 74 rfl) (fun _ => ?_) (fun _ => ?_)
        · exact g_at fun Q hQ => (g_vret (pc := 178) X (v := 0) rfl rfl (dl_at t_X9_byPatterns 93 rfl)) _ Q rfl hQ
        refine g_aload (pc := 146) X (i := 4) (q := 2) (x := a4) rfl (dl_at t_X9_byPatterns 75 rfl) ?_
        refine g_iload (pc := 148) X (i := 5) (q := 3) (x := a5) rfl (dl_at t_X9_byPatterns 76 rfl) ?_
        refine g_iload (pc := 150) X (i := 6) (q := 4) (x := x6_140) rfl (dl_at t_X9_byPatterns 77 rfl) ?_
        refine g_iadd (pc := 152) X r5 r6_140 (dl_at t_X9_byPatterns 78 rfl) ?_
        refine g_aload_n (pc := 153) X (j := 0) (i := 0) (q := 0) (x := a0) rfl rfl (dl_at t_X9_byPatterns 79 rfl) ?_
        have k154 := kx (E_23.trans (E_137.trans E_140)) (by decide) hk
        refine r_getr (pc := 154) X fX9_18 k154 q913 (dl_at t_X9_byPatterns 80 rfl) ?_
        refine g_iload (pc := 157) X (i := 6) (q := 4) (x := x6_140) rfl (dl_at t_X9_byPatterns 81 rfl) ?_
        refine g_gd fun k159 => ?_
        refine g_iald (pc := 159) X r6_140 k159 (dl_at t_X9_byPatterns 82 rfl) fun g159 => ?_
        refine g_iconst (pc := 160) X (n := 2) (dl_at t_X9_byPatterns 83 rfl) ?_
        refine g_irem (pc := 161) X g159 (r32_c rfl) (by decide) (dl_at t_X9_byPatterns 84 rfl) ?_
        refine g_iconst (pc := 162) X (n := 1) (dl_at t_X9_byPatterns 85 rfl) ?_
        refine g_join (γ := Int × Int) (fun q => r32 q.1 ∧ (q.2 = 0 ∨ q.2 = 1)) 171 (fun q => [(0, rv D a0), (3, iv a3), (4, rv D a4), (5, iv a5), (6, iv x6_140)]) (fun q => [iv q.2, iv q.1, rv D a4]) (fun q => h_140) (fun q => m_X9_byPatterns_j171 a4 x6_140 q.1 q.2 h_140) ?_ ?_
        · rintro ⟨s1_171, s2_171⟩ ⟨rs1_171, rs2_171⟩
          try dsimp only
          unfold m_X9_byPatterns_j171
          refine g_gd fun k171 => ?_
          refine r_zast (pc := 171) X rs1_171 rs2_171 k171 (dl_at t_X9_byPatterns 90 rfl) (fun h171 E171 => ?_)
          refine r_iincN (pc := 172) X (i := 6) (q := 4) (n := 1) (x := x6_140) (b := 5) (w := iv a5) (rest := [(0, rv D a0), (3, iv a3), (4, rv D a4)]) rfl r6_140 (r32_c rfl) (Nat.le_of_ble_eq_true rfl) [3, 0, 1, 2] rfl (by decide) rfl rfl (dl_at t_X9_byPatterns 91 rfl) fun x6_172 r6_172 => ?_
          refine g_goto (pc := 175) X (off := (-35)) (tgt := 140) rfl (dl_at t_X9_byPatterns 92 rfl) ?_
          refine g_ls (ls2 := [(0, rv D a0), (3, iv a3), (4, rv D a4), (5, iv a5), (6, iv x6_172)]) [2, 3, 4, 1, 0] rfl ?_
          exact g_at fun Q hQ => hQ ⟨r6_172, (E_140.trans E171)⟩
        intro J171
        refine g_icmpne (pc := 163) X (r32_tmod g159) (r32_c rfl) (off := 7) (tgt := 170) rfl (dl_at t_X9_byPatterns 86 rfl) (fun _ => ?_) (fun _ => ?_)
        · refine g_iconst (pc := 170) X (n := 0) (dl_at t_X9_byPatterns 89 rfl) ?_
          exact J171 ((w32 (a5 + x6_140)), 0) ⟨(r32_w _), (Or.inl rfl)⟩
        refine g_iconst (pc := 166) X (n := 1) (dl_at t_X9_byPatterns 87 rfl) ?_
        refine g_goto (pc := 167) X (off := 4) (tgt := 171) rfl (dl_at t_X9_byPatterns 88 rfl) ?_
        exact J171 ((w32 (a5 + x6_140)), 1) ⟨(r32_w _), (Or.inr rfl)⟩
def k_X9_places : List (Nat × Instr × Nat) := [(0, .iload 5, 2), (2, .istore 6, 2), (4, .iload 6, 2), (6, .iload 5, 2), (8, .iload_n 3, 1), (9, .iadd, 1), (10, .if_icmp .ge 15, 3), (13, .aload 4, 2), (15, .iload 6, 2), (17, .iconst 0, 1), (18, .bastore, 1), (19, .iinc 6 1, 3), (22, .goto (-18), 3), (25, .iload_n 3, 1), (26, .bipush 30, 2), (28, .if_icmp .gt 13, 3), (31, .aload_n 0, 1), (32, .aload_n 1, 1), (33, .iload_n 2, 1), (34, .iload_n 3, 1), (35, .invokevirtual 108, 3), (38, .goto 4, 3), (41, .iconst (-1), 1), (42, .istore 6, 2), (44, .iload 6, 2), (46, .ifCond .lt 42, 3), (49, .iconst 1, 1), (50, .istore 7, 2), (52, .iload 7, 2), (54, .iload_n 3, 1), (55, .if_icmp .ge 30, 3), (58, .aload 4, 2), (60, .iload 5, 2), (62, .iload 7, 2), (64, .iadd, 1), (65, .aload_n 0, 1), (66, .getfield 41, 3), (69, .bipush 31, 2), (71, .iload 6, 2), (73, .imul, 1), (74, .iload 7, 2), (76, .iadd, 1), (77, .baload, 1), (78, .bastore, 1), (79, .iinc 7 1, 3), (82, .goto (-30), 3), (85, .goto 21, 3), (88, .aload_n 0, 1), (89, .getfield 69, 3), (92, .ifCond .le 14, 3), (95, .aload_n 0, 1), (96, .aload_n 1, 1), (97, .iload_n 2, 1), (98, .iload_n 3, 1), (99, .aload 4, 2), (101, .iload 5, 2), (103, .invokevirtual 125, 3), (106, .iconst 0, 1), (107, .istore 7, 2), (109, .iload 7, 2), (111, .iload_n 3, 1), (112, .if_icmp .ge 38, 3), (115, .iload 7, 2), (117, .aload_n 0, 1), (118, .getfield 11, 3), (121, .if_icmp .lt 14, 3), (124, .iload_n 3, 1), (125, .iload 7, 2), (127, .isub, 1), (128, .aload_n 0, 1), (129, .getfield 15, 3), (132, .if_icmp .ge 12, 3), (135, .aload 4, 2), (137, .iload 5, 2), (139, .iload 7, 2), (141, .iadd, 1), (142, .iconst 0, 1), (143, .bastore, 1), (144, .iinc 7 1, 3), (147, .goto (-38), 3), (150, .return_, 1)]
theorem t_X9_places : ∀ q ∈ k_X9_places, decode cX9_places q.1 = .ok q.2 := dl_all (by decide +kernel)
noncomputable def m_X9_places_l4 (a3 a4 a5 x6_4 : Int) (h_4 : Hp) : Option ((Int × Hp) ⊕ ((Hp))) :=
  if (w32 (a5 + a3)) ≤ x6_4 then (some (.inr h_4))
  else (gd (h_4 a4 (-2) % 16 = 3 ∧ (0 : Int) ≤ x6_4 ∧ x6_4 < h_4 a4 (-1)) (pt h_4 a4 x6_4 0 fun h18 =>
  lt_ (w32 (x6_4 + 1)) fun x6_19 =>
  some (.inl (x6_19, h18))))
noncomputable def m_X9_places_j144 (x7_109 : Int) (h_144 : Hp) : Option ((Int × Hp) ⊕ ((Hp))) :=
  lt_ (w32 (x7_109 + 1)) fun x7_144 =>
  some (.inl (x7_144, h_144))
noncomputable def m_X9_places_j135 (a4 a5 x7_109 : Int) (h_109 : Hp) : Option ((Int × Hp) ⊕ ((Hp))) :=
  gd (h_109 a4 (-2) % 16 = 3 ∧ (0 : Int) ≤ (w32 (a5 + x7_109)) ∧ (w32 (a5 + x7_109)) < h_109 a4 (-1)) (pt h_109 a4 (w32 (a5 + x7_109)) 0 fun h143 =>
  m_X9_places_j144 x7_109 h143)
noncomputable def m_X9_places_l109 (a0 a3 a4 a5 x7_109 : Int) (h_109 : Hp) : Option ((Int × Hp) ⊕ ((Hp))) :=
  if a3 ≤ x7_109 then (some (.inr h_109))
  else (if x7_109 < (h_109 a0 0) then (m_X9_places_j135 a4 a5 x7_109 h_109)
  else (if (h_109 a0 1) ≤ (w32 (a3 - x7_109)) then (m_X9_places_j144 x7_109 h_109)
  else (m_X9_places_j135 a4 a5 x7_109 h_109)))
noncomputable def m_X9_places_j106 (a5 a0 a3 a4 : Int) (h_106 : Hp) : Option (Hp) :=
  lt_ 0 fun x7_107 =>
  (lp (fun (q : Int × Hp) => m_X9_places_l109 a0 a3 a4 a5 q.1 q.2) (x7_107, h_106)).bind (fun (x : Hp) => some x)
noncomputable def m_X9_places_l52 (a0 a3 a4 a5 s0_42 x7_52 : Int) (h_52 : Hp) : Option ((Int × Hp) ⊕ ((Hp))) :=
  if a3 ≤ x7_52 then (some (.inr h_52))
  else (gd (h_52 (h_52 a0 12) (-2) % 16 = 3 ∧ (0 : Int) ≤ (w32 ((w32 (31 * s0_42)) + x7_52)) ∧ (w32 ((w32 (31 * s0_42)) + x7_52)) < h_52 (h_52 a0 12) (-1)) (gd (h_52 a4 (-2) % 16 = 3 ∧ (0 : Int) ≤ (w32 (a5 + x7_52)) ∧ (w32 (a5 + x7_52)) < h_52 a4 (-1)) (pt h_52 a4 (w32 (a5 + x7_52)) (h_52 (h_52 a0 12) (w32 ((w32 (31 * s0_42)) + x7_52))) fun h78 =>
  lt_ (w32 (x7_52 + 1)) fun x7_79 =>
  some (.inl (x7_79, h78)))))
noncomputable def m_X9_places_j42 (a0 a1 a2 a3 a4 a5 s0_42 : Int) (h_25 : Hp) : Option (Hp) :=
  if s0_42 < 0 then (if (h_25 a0 10) ≤ 0 then (m_X9_places_j106 a5 a0 a3 a4 h_25)
  else ((m_X9_byPatterns a0 a1 a2 a3 a4 a5 h_25).bind fun h103 =>
  m_X9_places_j106 a5 a0 a3 a4 h103))
  else (lt_ 1 fun x7_50 =>
  (lp (fun (q : Int × Hp) => m_X9_places_l52 a0 a3 a4 a5 s0_42 q.1 q.2) (x7_50, h_25)).bind (fun (y106 : Hp) => m_X9_places_j106 a5 a0 a3 a4 y106))
noncomputable def m_X9_places (a0 a1 a2 a3 a4 a5 : Int) (h : Hp) : Option (Hp) :=
  (lp (fun (q : Int × Hp) => m_X9_places_l4 a3 a4 a5 q.1 q.2) (a5, h)).bind (fun (y25 : Hp) => if 30 < a3 then (m_X9_places_j42 a0 a1 a2 a3 a4 a5 (-1) y25)
  else ((m_X9_exceptionOf a0 a1 a2 a3 y25).bind fun v35 =>
  m_X9_places_j42 a0 a1 a2 a3 a4 a5 v35 y25))
theorem s_X9_places {l : Launch} [NoTr l] {D : SD} {a0 a1 a2 a3 a4 a5 : Int} {h : Hp} (hk : h a0 (-2) = 144) (r2 : r32 a2) (r3 : r32 a3) (r5 : r32 a5) {r : Hp} (hm : m_X9_places a0 a1 a2 a3 a4 a5 h = some r) : Sim l D yX9_places (Cond.code yX9_places cX9_places 8 (Option.none : Option Jvm.ClassFile.FieldType)) 2 86 [rv D a0, rv D a1, iv a2, iv a3, rv D a4, iv a5] h 0 ((0, 0), r) := by
  refine Sim.of (fin := fun (v : Hp) => ((0, 0), v)) (lsE := [(0, rv D a0), (1, rv D a1), (2, iv a2), (3, iv a3), (4, rv D a4), (5, iv a5)]) hm rfl cwS_code (la_r (la_r (la_i (la_i (la_r (la_i la_n)))))) (ll_r (ll_r (ll_i (ll_i (ll_r (ll_i ll_n)))))) ?_
  intro p e s m below meth c X hcw hmm hcc hnm hname
  unfold m_X9_places
  refine g_iload (pc := 0) X (i := 5) (q := 5) (x := a5) rfl (dl_at t_X9_places 0 rfl) ?_
  refine g_istoreN (pc := 2) X (i := 6) (x := a5) (b := 5) (w := iv a5) (rest := [(0, rv D a0), (1, rv D a1), (2, iv a2), (3, iv a3), (4, rv D a4)]) (Nat.le_of_ble_eq_true rfl) [5, 0, 1, 2, 3, 4] rfl (by decide) rfl rfl (dl_at t_X9_places 1 rfl) ?_
  refine g_ls (ls2 := [(0, rv D a0), (1, rv D a1), (2, iv a2), (3, iv a3), (4, rv D a4), (5, iv a5), (6, iv a5)]) [2, 3, 4, 5, 6, 1, 0] rfl ?_
  refine g_loop1 (fun (q : Int × Hp) => [(0, rv D a0), (1, rv D a1), (2, iv a2), (3, iv a3), (4, rv D a4), (5, iv a5), (6, iv q.1)]) (fun (q : Int × Hp) => q.2) (fun (q : Int × Hp) => r32 q.1 ∧ Ext h q.2) 25 (fun (y25 : Hp) => [(0, rv D a0), (1, rv D a1), (2, iv a2), (3, iv a3), (4, rv D a4), (5, iv a5)]) (fun (y25 : Hp) => y25) (fun (y25 : Hp) => Ext h y25) (a5, h) ⟨r5, (Ext.refl _)⟩ ?_ ?_
  · rintro ⟨x6_4, h_4⟩ ⟨r6_4, E_4⟩
    try dsimp only
    unfold m_X9_places_l4
    refine g_iload (pc := 4) X (i := 6) (q := 6) (x := x6_4) rfl (dl_at t_X9_places 2 rfl) ?_
    refine g_iload (pc := 6) X (i := 5) (q := 5) (x := a5) rfl (dl_at t_X9_places 3 rfl) ?_
    refine g_iload_n (pc := 8) X (j := 3) (i := 3) (q := 3) (x := a3) rfl rfl (dl_at t_X9_places 4 rfl) ?_
    refine g_iadd (pc := 9) X r5 r3 (dl_at t_X9_places 5 rfl) ?_
    refine g_icmpge (pc := 10) X r6_4 (r32_w _) (off := 15) (tgt := 25) rfl (dl_at t_X9_places 6 rfl) (fun _ => ?_) (fun _ => ?_)
    · refine g_ls (ls2 := [(0, rv D a0), (1, rv D a1), (2, iv a2), (3, iv a3), (4, rv D a4), (5, iv a5)]) [0, 1, 2, 3, 4, 5] rfl ?_
      exact g_at fun Q hQ => hQ E_4
    refine g_aload (pc := 13) X (i := 4) (q := 4) (x := a4) rfl (dl_at t_X9_places 7 rfl) ?_
    refine g_iload (pc := 15) X (i := 6) (q := 6) (x := x6_4) rfl (dl_at t_X9_places 8 rfl) ?_
    refine g_iconst (pc := 17) X (n := 0) (dl_at t_X9_places 9 rfl) ?_
    refine g_gd fun k18 => ?_
    refine r_zast (pc := 18) X r6_4 (Or.inl rfl) k18 (dl_at t_X9_places 10 rfl) (fun h18 E18 => ?_)
    refine r_iincN (pc := 19) X (i := 6) (q := 6) (n := 1) (x := x6_4) (b := 5) (w := iv a5) (rest := [(0, rv D a0), (1, rv D a1), (2, iv a2), (3, iv a3), (4, rv D a4)]) rfl r6_4 (r32_c rfl) (Nat.le_of_ble_eq_true rfl) [5, 0, 1, 2, 3, 4] rfl (by decide) rfl rfl (dl_at t_X9_places 11 rfl) fun x6_19 r6_19 => ?_
    refine g_goto (pc := 22) X (off := (-18)) (tgt := 4) rfl (dl_at t_X9_places 12 rfl) ?_
    refine g_ls (ls2 := [(0, rv D a0), (1, rv D a1), (2, iv a2), (3, iv a3), (4, rv D a4), (5, iv a5), (6, iv x6_19)]) [2, 3, 4, 5, 6, 1, 0] rfl ?_
    exact g_at fun Q hQ => hQ ⟨r6_19, (E_4.trans E18)⟩
  · rintro h_25 E_25
    try dsimp only [sE]
    refine g_iload_n (pc := 25) X (j := 3) (i := 3) (q := 3) (x := a3) rfl rfl (dl_at t_X9_places 13 rfl) ?_
    refine g_bipush (pc := 26) X (n := 30) rfl (dl_at t_X9_places 14 rfl) ?_
    refine g_join (γ := Int) (fun q => r32 q) 42 (fun q => [(0, rv D a0), (1, rv D a1), (2, iv a2), (3, iv a3), (4, rv D a4), (5, iv a5)]) (fun q => [iv q]) (fun q => h_25) (fun q => m_X9_places_j42 a0 a1 a2 a3 a4 a5 q h_25) ?_ ?_
    · rintro s0_42 rs0_42
      try dsimp only
      unfold m_X9_places_j42
      refine g_istoreN (pc := 42) X (i := 6) (x := s0_42) (b := 5) (w := iv a5) (rest := [(0, rv D a0), (1, rv D a1), (2, iv a2), (3, iv a3), (4, rv D a4)]) (Nat.le_of_ble_eq_true rfl) [5, 0, 1, 2, 3, 4] rfl (by decide) rfl rfl (dl_at t_X9_places 23 rfl) ?_
      refine g_iload (pc := 44) X (i := 6) (q := 0) (x := s0_42) rfl (dl_at t_X9_places 24 rfl) ?_
      refine g_join (γ := Hp) (fun q => Ext h_25 q) 106 (fun q => [(0, rv D a0), (3, iv a3), (4, rv D a4), (5, iv a5)]) (fun q => []) (fun q => q) (fun q => m_X9_places_j106 a5 a0 a3 a4 q) ?_ ?_
      · rintro h_106 E_106
        try dsimp only
        unfold m_X9_places_j106
        refine g_iconst (pc := 106) X (n := 0) (dl_at t_X9_places 57 rfl) ?_
        refine g_ltz (Or.inl rfl) fun x7_107 r7_107 => ?_
        refine g_istore (pc := 107) X (i := 7) (x := x7_107) (rest := [(0, rv D a0), (3, iv a3), (4, rv D a4), (5, iv a5)]) (Nat.le_of_ble_eq_true rfl) [0, 1, 2, 3] rfl rfl (dl_at t_X9_places 58 rfl) ?_
        refine g_ls (ls2 := [(0, rv D a0), (3, iv a3), (4, rv D a4), (5, iv a5), (7, iv x7_107)]) [1, 2, 3, 4, 0] rfl ?_
        refine g_loop0F (fun (q : Int × Hp) => [(0, rv D a0), (3, iv a3), (4, rv D a4), (5, iv a5), (7, iv q.1)]) (fun (q : Int × Hp) => q.2) (fun (q : Int × Hp) => r32 q.1 ∧ Ext h_106 q.2) (x7_107, h_106) ⟨(r32_z r7_107), (Ext.refl _)⟩ ?_ (fun _ => rfl)
        · rintro ⟨x7_109, h_109⟩ ⟨r7_109, E_109⟩
          try dsimp only
          unfold m_X9_places_l109
          refine g_iload (pc := 109) X (i := 7) (q := 4) (x := x7_109) rfl (dl_at t_X9_places 59 rfl) ?_
          refine g_iload_n (pc := 111) X (j := 3) (i := 3) (q := 1) (x := a3) rfl rfl (dl_at t_X9_places 60 rfl) ?_
          refine g_icmpge (pc := 112) X r7_109 r3 (off := 38) (tgt := 150) rfl (dl_at t_X9_places 61 rfl) (fun _ => ?_) (fun _ => ?_)
          · exact g_at fun Q hQ => (g_vret (pc := 150) X (v := 0) rfl rfl (dl_at t_X9_places 80 rfl)) _ Q rfl hQ
          refine g_iload (pc := 115) X (i := 7) (q := 4) (x := x7_109) rfl (dl_at t_X9_places 62 rfl) ?_
          refine g_aload_n (pc := 117) X (j := 0) (i := 0) (q := 0) (x := a0) rfl rfl (dl_at t_X9_places 63 rfl) ?_
          have k118 := kx (E_25.trans (E_106.trans E_109)) (by decide) hk
          refine r_geti (pc := 118) X fX9_0 k118 q893 (dl_at t_X9_places 64 rfl) fun g118 => ?_
          refine g_join (γ := Hp) (fun q => Ext h_109 q) 144 (fun q => [(0, rv D a0), (3, iv a3), (4, rv D a4), (5, iv a5), (7, iv x7_109)]) (fun q => []) (fun q => q) (fun q => m_X9_places_j144 x7_109 q) ?_ ?_
          · rintro h_144 E_144
            try dsimp only
            unfold m_X9_places_j144
            refine r_iinc (pc := 144) X (i := 7) (q := 4) (n := 1) (x := x7_109) (rest := [(0, rv D a0), (3, iv a3), (4, rv D a4), (5, iv a5)]) rfl r7_109 (r32_c rfl) (Nat.le_of_ble_eq_true rfl) [0, 1, 2, 3] rfl rfl (dl_at t_X9_places 78 rfl) fun x7_144 r7_144 => ?_
            refine g_goto (pc := 147) X (off := (-38)) (tgt := 109) rfl (dl_at t_X9_places 79 rfl) ?_
            refine g_ls (ls2 := [(0, rv D a0), (3, iv a3), (4, rv D a4), (5, iv a5), (7, iv x7_144)]) [1, 2, 3, 4, 0] rfl ?_
            exact g_at fun Q hQ => hQ ⟨r7_144, (E_109.trans E_144)⟩
          intro J144
          refine g_join (γ := Unit) (fun q => True) 135 (fun q => [(0, rv D a0), (3, iv a3), (4, rv D a4), (5, iv a5), (7, iv x7_109)]) (fun q => []) (fun q => h_109) (fun q => m_X9_places_j135 a4 a5 x7_109 h_109) ?_ ?_
          · rintro _ _
            try dsimp only
            unfold m_X9_places_j135
            refine g_aload (pc := 135) X (i := 4) (q := 2) (x := a4) rfl (dl_at t_X9_places 72 rfl) ?_
            refine g_iload (pc := 137) X (i := 5) (q := 3) (x := a5) rfl (dl_at t_X9_places 73 rfl) ?_
            refine g_iload (pc := 139) X (i := 7) (q := 4) (x := x7_109) rfl (dl_at t_X9_places 74 rfl) ?_
            refine g_iadd (pc := 141) X r5 r7_109 (dl_at t_X9_places 75 rfl) ?_
            refine g_iconst (pc := 142) X (n := 0) (dl_at t_X9_places 76 rfl) ?_
            refine g_gd fun k143 => ?_
            refine r_zast (pc := 143) X (r32_w _) (Or.inl rfl) k143 (dl_at t_X9_places 77 rfl) (fun h143 E143 => ?_)
            exact J144 h143 E143
          intro J135
          refine g_icmplt (pc := 121) X r7_109 g118 (off := 14) (tgt := 135) rfl (dl_at t_X9_places 65 rfl) (fun _ => ?_) (fun _ => ?_)
          · exact J135 () trivial
          refine g_iload_n (pc := 124) X (j := 3) (i := 3) (q := 1) (x := a3) rfl rfl (dl_at t_X9_places 66 rfl) ?_
          refine g_iload (pc := 125) X (i := 7) (q := 4) (x := x7_109) rfl (dl_at t_X9_places 67 rfl) ?_
          refine g_isub (pc := 127) X r3 r7_109 (dl_at t_X9_places 68 rfl) ?_
          refine g_aload_n (pc := 128) X (j := 0) (i := 0) (q := 0) (x := a0) rfl rfl (dl_at t_X9_places 69 rfl) ?_
          refine r_geti (pc := 129) X fX9_1 k118 q894 (dl_at t_X9_places 70 rfl) fun g129 => ?_
          refine g_icmpge (pc := 132) X (r32_w _) g129 (off := 12) (tgt := 144) rfl (dl_at t_X9_places 71 rfl) (fun _ => ?_) (fun _ => ?_)
          · exact J144 h_109 (Ext.refl _)
          exact J135 () trivial
      intro J106
      refine g_iflt (pc := 46) X rs0_42 (off := 42) (tgt := 88) rfl (dl_at t_X9_places 25 rfl) (fun _ => ?_) (fun _ => ?_)
      · refine g_aload_n (pc := 88) X (j := 0) (i := 0) (q := 2) (x := a0) rfl rfl (dl_at t_X9_places 47 rfl) ?_
        have k89 := kx E_25 (by decide) hk
        refine r_geti (pc := 89) X fX9_10 k89 q903 (dl_at t_X9_places 48 rfl) fun g89 => ?_
        refine g_ifle (pc := 92) X g89 (off := 14) (tgt := 106) rfl (dl_at t_X9_places 49 rfl) (fun _ => ?_) (fun _ => ?_)
        · refine g_ls (ls2 := [(0, rv D a0), (3, iv a3), (4, rv D a4), (5, iv a5)]) [2, 5, 6, 1] rfl ?_
          exact J106 h_25 (Ext.refl _)
        refine g_aload_n (pc := 95) X (j := 0) (i := 0) (q := 2) (x := a0) rfl rfl (dl_at t_X9_places 50 rfl) ?_
        refine g_aload_n (pc := 96) X (j := 1) (i := 1) (q := 3) (x := a1) rfl rfl (dl_at t_X9_places 51 rfl) ?_
        refine g_iload_n (pc := 97) X (j := 2) (i := 2) (q := 4) (x := a2) rfl rfl (dl_at t_X9_places 52 rfl) ?_
        refine g_iload_n (pc := 98) X (j := 3) (i := 3) (q := 5) (x := a3) rfl rfl (dl_at t_X9_places 53 rfl) ?_
        refine g_aload (pc := 99) X (i := 4) (q := 6) (x := a4) rfl (dl_at t_X9_places 54 rfl) ?_
        refine g_iload (pc := 101) X (i := 5) (q := 1) (x := a5) rfl (dl_at t_X9_places 55 rfl) ?_
        refine r_callV (pc := 103) X (fun _ hv => s_X9_byPatterns k89 r2 r3 r5 hv) cw_code q2635 q363 (in_Vk X (As := [rv D a1, iv a2, iv a3, rv D a4, iv a5]) kX9 k89 (Or.inl q2632) q2634 qs128 cw_code q2635 ⟨by decide, by decide⟩ rfl (dl_at t_X9_places 56 rfl)) (dl_at t_X9_places 56 rfl) (cat24 (st := []) (Nat.le_of_ble_eq_true rfl)) (Nat.le_of_ble_eq_true rfl) (Nat.le_of_ble_eq_true rfl) fun h103 E103 => ?_
        refine g_ls (ls2 := [(0, rv D a0), (3, iv a3), (4, rv D a4), (5, iv a5)]) [2, 5, 6, 1] rfl ?_
        exact J106 h103 E103
      refine g_iconst (pc := 49) X (n := 1) (dl_at t_X9_places 26 rfl) ?_
      refine g_ltz (Or.inr rfl) fun x7_50 r7_50 => ?_
      refine g_istoreN (pc := 50) X (i := 7) (x := x7_50) (b := 6) (w := iv s0_42) (rest := [(5, iv a5), (0, rv D a0), (3, iv a3), (4, rv D a4)]) (Nat.le_of_ble_eq_true rfl) [0, 1, 2, 5, 6] rfl (by decide) rfl rfl (dl_at t_X9_places 27 rfl) ?_
      refine g_ls (ls2 := [(0, rv D a0), (3, iv a3), (4, rv D a4), (5, iv a5), (6, iv s0_42), (7, iv x7_50)]) [3, 4, 5, 2, 1, 0] rfl ?_
      refine g_loop1 (fun (q : Int × Hp) => [(0, rv D a0), (3, iv a3), (4, rv D a4), (5, iv a5), (6, iv s0_42), (7, iv q.1)]) (fun (q : Int × Hp) => q.2) (fun (q : Int × Hp) => r32 q.1 ∧ Ext h_25 q.2) 106 (fun (y106 : Hp) => [(0, rv D a0), (3, iv a3), (4, rv D a4), (5, iv a5)]) (fun (y106 : Hp) => y106) (fun (y106 : Hp) => Ext h_25 y106) (x7_50, h_25) ⟨(r32_z r7_50), (Ext.refl _)⟩ ?_ ?_
      · rintro ⟨x7_52, h_52⟩ ⟨r7_52, E_52⟩
        try dsimp only
        unfold m_X9_places_l52
        refine g_iload (pc := 52) X (i := 7) (q := 5) (x := x7_52) rfl (dl_at t_X9_places 28 rfl) ?_
        refine g_iload_n (pc := 54) X (j := 3) (i := 3) (q := 1) (x := a3) rfl rfl (dl_at t_X9_places 29 rfl) ?_
        refine g_icmpge (pc := 55) X r7_52 r3 (off := 30) (tgt := 85) rfl (dl_at t_X9_places 30 rfl) (fun _ => ?_) (fun _ => ?_)
        · refine g_goto (pc := 85) X (off := 21) (tgt := 106) rfl (dl_at t_X9_places 46 rfl) ?_
          refine g_ls (ls2 := [(0, rv D a0), (3, iv a3), (4, rv D a4), (5, iv a5)]) [0, 1, 2, 3] rfl ?_
          exact g_at fun Q hQ => hQ E_52
        refine g_aload (pc := 58) X (i := 4) (q := 2) (x := a4) rfl (dl_at t_X9_places 31 rfl) ?_
        refine g_iload (pc := 60) X (i := 5) (q := 3) (x := a5) rfl (dl_at t_X9_places 32 rfl) ?_
        refine g_iload (pc := 62) X (i := 7) (q := 5) (x := x7_52) rfl (dl_at t_X9_places 33 rfl) ?_
        refine g_iadd (pc := 64) X r5 r7_52 (dl_at t_X9_places 34 rfl) ?_
        refine g_aload_n (pc := 65) X (j := 0) (i := 0) (q := 0) (x := a0) rfl rfl (dl_at t_X9_places 35 rfl) ?_
        have k66 := kx (E_25.trans E_52) (by decide) hk
        refine r_getr (pc := 66) X fX9_12 k66 q906 (dl_at t_X9_places 36 rfl) ?_
        refine g_bipush (pc := 69) X (n := 31) rfl (dl_at t_X9_places 37 rfl) ?_
        refine g_iload (pc := 71) X (i := 6) (q := 4) (x := s0_42) rfl (dl_at t_X9_places 38 rfl) ?_
        refine g_imul (pc := 73) X (r32_c rfl) rs0_42 (dl_at t_X9_places 39 rfl) ?_
        refine g_iload (pc := 74) X (i := 7) (q := 5) (x := x7_52) rfl (dl_at t_X9_places 40 rfl) ?_
        refine g_iadd (pc := 76) X (r32_w _) r7_52 (dl_at t_X9_places 41 rfl) ?_
        refine g_gd fun k77 => ?_
        refine g_zald (pc := 77) X (r32_w _) k77 (dl_at t_X9_places 42 rfl) fun g77 => ?_
        refine g_gd fun k78 => ?_
        refine r_zast (pc := 78) X (r32_w _) g77 k78 (dl_at t_X9_places 43 rfl) (fun h78 E78 => ?_)
        refine r_iincN (pc := 79) X (i := 7) (q := 5) (n := 1) (x := x7_52) (b := 6) (w := iv s0_42) (rest := [(0, rv D a0), (3, iv a3), (4, rv D a4), (5, iv a5)]) rfl r7_52 (r32_c rfl) (Nat.le_of_ble_eq_true rfl) [4, 0, 1, 2, 3] rfl (by decide) rfl rfl (dl_at t_X9_places 44 rfl) fun x7_79 r7_79 => ?_
        refine g_goto (pc := 82) X (off := (-30)) (tgt := 52) rfl (dl_at t_X9_places 45 rfl) ?_
        refine g_ls (ls2 := [(0, rv D a0), (3, iv a3), (4, rv D a4), (5, iv a5), (6, iv s0_42), (7, iv x7_79)]) [2, 3, 4, 5, 1, 0] rfl ?_
        exact g_at fun Q hQ => hQ ⟨r7_79, (E_52.trans E78)⟩
      · rintro h_106_1 E_106_1
        try dsimp only [sE]
        exact J106 h_106_1 E_106_1
    intro J42
    refine g_icmpgt (pc := 28) X r3 (r32_c rfl) (off := 13) (tgt := 41) rfl (dl_at t_X9_places 15 rfl) (fun _ => ?_) (fun _ => ?_)
    · refine g_iconst (pc := 41) X (n := (-1)) (dl_at t_X9_places 22 rfl) ?_
      exact J42 (-1) (r32_c rfl)
    refine g_aload_n (pc := 31) X (j := 0) (i := 0) (q := 0) (x := a0) rfl rfl (dl_at t_X9_places 16 rfl) ?_
    refine g_aload_n (pc := 32) X (j := 1) (i := 1) (q := 1) (x := a1) rfl rfl (dl_at t_X9_places 17 rfl) ?_
    refine g_iload_n (pc := 33) X (j := 2) (i := 2) (q := 2) (x := a2) rfl rfl (dl_at t_X9_places 18 rfl) ?_
    refine g_iload_n (pc := 34) X (j := 3) (i := 3) (q := 3) (x := a3) rfl rfl (dl_at t_X9_places 19 rfl) ?_
    have k35 := kx E_25 (by decide) hk
    refine r_callRi (pc := 35) X (fun _ hv => s_X9_exceptionOf k35 r2 r3 hv) cw_code q1934 q363 (in_Vk X (As := [rv D a1, iv a2, iv a3]) kX9 k35 (Or.inl q1931) q1933 qs27 cw_code q1934 ⟨by decide, by decide⟩ rfl (dl_at t_X9_places 20 rfl)) (dl_at t_X9_places 20 rfl) (cat24 (st := []) (Nat.le_of_ble_eq_true rfl)) (Nat.le_of_ble_eq_true rfl) (Nat.le_of_ble_eq_true rfl) fun v35 g35 => ?_
    refine g_goto (pc := 38) X (off := 4) (tgt := 42) rfl (dl_at t_X9_places 21 rfl) ?_
    exact J42 v35 g35
def k_X28_findPlaces : List (Nat × Instr × Nat) := [(0, .iconst 0, 1), (1, .istore_n 3, 1), (2, .iload_n 3, 1), (3, .aload_n 0, 1), (4, .getfield 57, 3), (7, .if_icmp .ge 84, 3), (10, .iload_n 3, 1), (11, .istore 4, 2), (13, .iload_n 3, 1), (14, .aload_n 0, 1), (15, .getfield 57, 3), (18, .if_icmp .ge 24, 3), (21, .aload_n 0, 1), (22, .iload_n 3, 1), (23, .invokevirtual 78, 3), (26, .invokestatic 118, 3), (29, .ifCond .eq 13, 3), (32, .aload_n 2, 1), (33, .iload_n 3, 1), (34, .iconst 0, 1), (35, .bastore, 1), (36, .iinc 3 1, 3), (39, .goto (-26), 3), (42, .iload_n 3, 1), (43, .iload 4, 2), (45, .iconst 1, 1), (46, .iadd, 1), (47, .if_icmp .le 28, 3), (50, .aload_n 1, 1), (51, .aload_n 0, 1), (52, .getfield 9, 3), (55, .getfield 15, 3), (58, .aload_n 0, 1), (59, .getfield 21, 3), (62, .iload 4, 2), (64, .iadd, 1), (65, .iload_n 3, 1), (66, .iload 4, 2), (68, .isub, 1), (69, .aload_n 2, 1), (70, .iload 4, 2), (72, .invokevirtual 122, 3), (75, .iload_n 3, 1), (76, .iload 4, 2), (78, .if_icmp .ne 10, 3), (81, .aload_n 2, 1), (82, .iload_n 3, 1), (83, .iconst 0, 1), (84, .bastore, 1), (85, .iinc 3 1, 3), (88, .goto (-86), 3), (91, .return_, 1)]
theorem t_X28_findPlaces : ∀ q ∈ k_X28_findPlaces, decode cX28_findPlaces q.1 = .ok q.2 := dl_all (by decide +kernel)
noncomputable def m_X28_findPlaces_l13 (a0 a2 x3_13 : Int) (h_13 : Hp) : Option ((Int × Hp) ⊕ ((Int × Hp))) :=
  if (h_13 a0 2) ≤ x3_13 then (some (.inr (x3_13, h_13)))
  else ((m_X28_byteOf a0 x3_13 h_13).bind fun v23 =>
  (m_X1_isLetter v23).bind fun v26 =>
  if v26 = 0 then (some (.inr (x3_13, h_13)))
  else (gd (h_13 a2 (-2) % 16 = 3 ∧ (0 : Int) ≤ x3_13 ∧ x3_13 < h_13 a2 (-1)) (pt h_13 a2 x3_13 0 fun h35 =>
  lt_ (w32 (x3_13 + 1)) fun x3_36 =>
  some (.inl (x3_36, h35)))))
noncomputable def m_X28_findPlaces_j75 (a2 x3_42 x3_2 : Int) (h_75 : Hp) : Option ((Int × Hp) ⊕ ((Hp))) :=
  if x3_42 ≠ x3_2 then (some (.inl (x3_42, h_75)))
  else (gd (h_75 a2 (-2) % 16 = 3 ∧ (0 : Int) ≤ x3_42 ∧ x3_42 < h_75 a2 (-1)) (pt h_75 a2 x3_42 0 fun h84 =>
  lt_ (w32 (x3_42 + 1)) fun x3_85 =>
  some (.inl (x3_85, h84))))
noncomputable def m_X28_findPlaces_l2 (a0 a1 a2 x3_2 : Int) (h_2 : Hp) : Option ((Int × Hp) ⊕ ((Hp))) :=
  if (h_2 a0 2) ≤ x3_2 then (some (.inr h_2))
  else ((lp (fun (q : Int × Hp) => m_X28_findPlaces_l13 a0 a2 q.1 q.2) (x3_2, h_2)).bind (fun (y42 : Int × Hp) => if y42.1 ≤ (w32 (x3_2 + 1)) then (m_X28_findPlaces_j75 a2 y42.1 x3_2 y42.2)
  else (gd (y42.2 (y42.2 a0 0) (-2) = 240) (gd (y42.2 a1 (-2) = 144) ((m_X9_places a1 (y42.2 (y42.2 a0 0) 0) (w32 ((y42.2 a0 1) + x3_2)) (w32 (y42.1 - x3_2)) a2 x3_2 y42.2).bind fun h72 =>
  m_X28_findPlaces_j75 a2 y42.1 x3_2 h72)))))
noncomputable def m_X28_findPlaces (a0 a1 a2 : Int) (h : Hp) : Option (Hp) :=
  lt_ 0 fun x3_1 =>
  (lp (fun (q : Int × Hp) => m_X28_findPlaces_l2 a0 a1 a2 q.1 q.2) (x3_1, h)).bind (fun (x : Hp) => some x)
theorem s_X28_findPlaces {l : Launch} [NoTr l] {D : SD} {a0 a1 a2 : Int} {h : Hp} (hk : h a0 (-2) = 288) {r : Hp} (hm : m_X28_findPlaces a0 a1 a2 h = some r) : Sim l D yX28_findPlaces (Cond.code yX28_findPlaces cX28_findPlaces 5 (Option.none : Option Jvm.ClassFile.FieldType)) 3 129 [rv D a0, rv D a1, rv D a2] h 0 ((0, 0), r) := by
  refine Sim.of (fin := fun (v : Hp) => ((0, 0), v)) (lsE := [(0, rv D a0), (1, rv D a1), (2, rv D a2)]) hm rfl cwS_code (la_r (la_r (la_r la_n))) (ll_r (ll_r (ll_r ll_n))) ?_
  intro p e s m below meth c X hcw hmm hcc hnm hname
  unfold m_X28_findPlaces
  refine g_iconst (pc := 0) X (n := 0) (dl_at t_X28_findPlaces 0 rfl) ?_
  refine g_ltz (Or.inl rfl) fun x3_1 r3_1 => ?_
  refine g_istore_nN (pc := 1) X (j := 3) (i := 3) (x := x3_1) (b := 2) (w := rv D a2) (rest := [(0, rv D a0), (1, rv D a1)]) rfl (Nat.le_of_ble_eq_true rfl) [2, 0, 1] rfl (by decide) rv_cat rfl (dl_at t_X28_findPlaces 1 rfl) ?_
  refine g_ls (ls2 := [(0, rv D a0), (1, rv D a1), (2, rv D a2), (3, iv x3_1)]) [2, 3, 1, 0] rfl ?_
  refine g_loop0F (fun (q : Int × Hp) => [(0, rv D a0), (1, rv D a1), (2, rv D a2), (3, iv q.1)]) (fun (q : Int × Hp) => q.2) (fun (q : Int × Hp) => r32 q.1 ∧ Ext h q.2) (x3_1, h) ⟨(r32_z r3_1), (Ext.refl _)⟩ ?_ (fun _ => rfl)
  · rintro ⟨x3_2, h_2⟩ ⟨r3_2, E_2⟩
    try dsimp only
    unfold m_X28_findPlaces_l2
    refine g_iload_n (pc := 2) X (j := 3) (i := 3) (q := 3) (x := x3_2) rfl rfl (dl_at t_X28_findPlaces 2 rfl) ?_
    refine g_aload_n (pc := 3) X (j := 0) (i := 0) (q := 0) (x := a0) rfl rfl (dl_at t_X28_findPlaces 3 rfl) ?_
    have k4 := kx E_2 (by decide) hk
    refine r_geti (pc := 4) X fX28_2 k4 q2532 (dl_at t_X28_findPlaces 4 rfl) fun g4 => ?_
    refine g_icmpge (pc := 7) X r3_2 g4 (off := 84) (tgt := 91) rfl (dl_at t_X28_findPlaces 5 rfl) (fun _ => ?_) (fun _ => ?_)
    · exact g_at fun Q hQ => (g_vret (pc := 91) X (v := 0) rfl rfl (dl_at t_X28_findPlaces 51 rfl)) _ Q rfl hQ
    refine g_iload_n (pc := 10) X (j := 3) (i := 3) (q := 3) (x := x3_2) rfl rfl (dl_at t_X28_findPlaces 6 rfl) ?_
    refine g_istoreN (pc := 11) X (i := 4) (x := x3_2) (b := 3) (w := iv x3_2) (rest := [(0, rv D a0), (1, rv D a1), (2, rv D a2)]) (Nat.le_of_ble_eq_true rfl) [3, 0, 1, 2] rfl (by decide) rfl rfl (dl_at t_X28_findPlaces 7 rfl) ?_
    refine g_ls (ls2 := [(0, rv D a0), (1, rv D a1), (2, rv D a2), (3, iv x3_2), (4, iv x3_2)]) [2, 3, 4, 1, 0] rfl ?_
    refine g_loop1 (fun (q : Int × Hp) => [(0, rv D a0), (1, rv D a1), (2, rv D a2), (3, iv q.1), (4, iv x3_2)]) (fun (q : Int × Hp) => q.2) (fun (q : Int × Hp) => r32 q.1 ∧ Ext h_2 q.2) 42 (fun (y42 : Int × Hp) => [(0, rv D a0), (1, rv D a1), (2, rv D a2), (3, iv y42.1), (4, iv x3_2)]) (fun (y42 : Int × Hp) => y42.2) (fun (y42 : Int × Hp) => r32 y42.1 ∧ Ext h_2 y42.2) (x3_2, h_2) ⟨r3_2, (Ext.refl _)⟩ ?_ ?_
    · rintro ⟨x3_13, h_13⟩ ⟨r3_13, E_13⟩
      try dsimp only
      unfold m_X28_findPlaces_l13
      refine g_iload_n (pc := 13) X (j := 3) (i := 3) (q := 3) (x := x3_13) rfl rfl (dl_at t_X28_findPlaces 8 rfl) ?_
      refine g_aload_n (pc := 14) X (j := 0) (i := 0) (q := 0) (x := a0) rfl rfl (dl_at t_X28_findPlaces 9 rfl) ?_
      have k15 := kx E_13 (by decide) k4
      refine r_geti (pc := 15) X fX28_2 k15 q2532 (dl_at t_X28_findPlaces 10 rfl) fun g15 => ?_
      refine g_icmpge (pc := 18) X r3_13 g15 (off := 24) (tgt := 42) rfl (dl_at t_X28_findPlaces 11 rfl) (fun _ => ?_) (fun _ => ?_)
      · exact g_at fun Q hQ => hQ ⟨r3_13, E_13⟩
      refine g_aload_n (pc := 21) X (j := 0) (i := 0) (q := 0) (x := a0) rfl rfl (dl_at t_X28_findPlaces 12 rfl) ?_
      refine g_iload_n (pc := 22) X (j := 3) (i := 3) (q := 3) (x := x3_13) rfl rfl (dl_at t_X28_findPlaces 13 rfl) ?_
      refine r_callRi (pc := 23) X (fun _ hv => s_X28_byteOf k15 r3_13 hv) cw_code q2623 q396 (in_Vk X (As := [iv x3_13]) kX28 k15 (Or.inl q2620) q2622 qs126 cw_code q2623 ⟨by decide, by decide⟩ rfl (dl_at t_X28_findPlaces 14 rfl)) (dl_at t_X28_findPlaces 14 rfl) (cat24 (st := []) (Nat.le_of_ble_eq_true rfl)) (Nat.le_of_ble_eq_true rfl) (Nat.le_of_ble_eq_true rfl) fun v23 g23 => ?_
      refine r_callRz (pc := 26) X (fun _ hv => s_X1_isLetter g23 hv) cw_code q2626 q355 (in_Sc X (As := [iv v23]) (Or.inr ⟨_, nw_in q2624 rfl⟩) q2625 q355 q2626 ⟨by decide, by decide⟩ rfl (dl_at t_X28_findPlaces 15 rfl)) (dl_at t_X28_findPlaces 15 rfl) (cat24 (st := []) (Nat.le_of_ble_eq_true rfl)) (Nat.le_of_ble_eq_true rfl) (Nat.le_of_ble_eq_true rfl) fun v26 g26 => ?_
      refine g_ifeq (pc := 29) X (r32_z g26) (off := 13) (tgt := 42) rfl (dl_at t_X28_findPlaces 16 rfl) (fun _ => ?_) (fun _ => ?_)
      · exact g_at fun Q hQ => hQ ⟨r3_13, E_13⟩
      refine g_aload_n (pc := 32) X (j := 2) (i := 2) (q := 2) (x := a2) rfl rfl (dl_at t_X28_findPlaces 17 rfl) ?_
      refine g_iload_n (pc := 33) X (j := 3) (i := 3) (q := 3) (x := x3_13) rfl rfl (dl_at t_X28_findPlaces 18 rfl) ?_
      refine g_iconst (pc := 34) X (n := 0) (dl_at t_X28_findPlaces 19 rfl) ?_
      refine g_gd fun k35 => ?_
      refine r_zast (pc := 35) X r3_13 (Or.inl rfl) k35 (dl_at t_X28_findPlaces 20 rfl) (fun h35 E35 => ?_)
      refine r_iincN (pc := 36) X (i := 3) (q := 3) (n := 1) (x := x3_13) (b := 2) (w := rv D a2) (rest := [(0, rv D a0), (1, rv D a1), (4, iv x3_2)]) rfl r3_13 (r32_c rfl) (Nat.le_of_ble_eq_true rfl) [2, 0, 1, 4] rfl (by decide) rv_cat rfl (dl_at t_X28_findPlaces 21 rfl) fun x3_36 r3_36 => ?_
      refine g_goto (pc := 39) X (off := (-26)) (tgt := 13) rfl (dl_at t_X28_findPlaces 22 rfl) ?_
      refine g_ls (ls2 := [(0, rv D a0), (1, rv D a1), (2, rv D a2), (3, iv x3_36), (4, iv x3_2)]) [2, 3, 1, 0, 4] rfl ?_
      exact g_at fun Q hQ => hQ ⟨r3_36, (E_13.trans E35)⟩
    · rintro ⟨x3_42, h_42⟩ ⟨r3_42, E_42⟩
      try dsimp only [sE]
      refine g_iload_n (pc := 42) X (j := 3) (i := 3) (q := 3) (x := x3_42) rfl rfl (dl_at t_X28_findPlaces 23 rfl) ?_
      refine g_iload (pc := 43) X (i := 4) (q := 4) (x := x3_2) rfl (dl_at t_X28_findPlaces 24 rfl) ?_
      refine g_iconst (pc := 45) X (n := 1) (dl_at t_X28_findPlaces 25 rfl) ?_
      refine g_iadd (pc := 46) X r3_2 (r32_c rfl) (dl_at t_X28_findPlaces 26 rfl) ?_
      refine g_join (γ := Hp) (fun q => Ext h_42 q) 75 (fun q => [(0, rv D a0), (1, rv D a1), (2, rv D a2), (3, iv x3_42), (4, iv x3_2)]) (fun q => []) (fun q => q) (fun q => m_X28_findPlaces_j75 a2 x3_42 x3_2 q) ?_ ?_
      · rintro h_75 E_75
        try dsimp only
        unfold m_X28_findPlaces_j75
        refine g_iload_n (pc := 75) X (j := 3) (i := 3) (q := 3) (x := x3_42) rfl rfl (dl_at t_X28_findPlaces 42 rfl) ?_
        refine g_iload (pc := 76) X (i := 4) (q := 4) (x := x3_2) rfl (dl_at t_X28_findPlaces 43 rfl) ?_
        refine g_icmpne (pc := 78) X r3_42 r3_2 (off := 10) (tgt := 88) rfl (dl_at t_X28_findPlaces 44 rfl) (fun _ => ?_) (fun _ => ?_)
        · refine g_goto (pc := 88) X (off := (-86)) (tgt := 2) rfl (dl_at t_X28_findPlaces 50 rfl) ?_
          refine g_ls (ls2 := [(0, rv D a0), (1, rv D a1), (2, rv D a2), (3, iv x3_42)]) [0, 1, 2, 3] rfl ?_
          exact g_at fun Q hQ => hQ ⟨r3_42, (E_2.trans (E_42.trans E_75))⟩
        refine g_aload_n (pc := 81) X (j := 2) (i := 2) (q := 2) (x := a2) rfl rfl (dl_at t_X28_findPlaces 45 rfl) ?_
        refine g_iload_n (pc := 82) X (j := 3) (i := 3) (q := 3) (x := x3_42) rfl rfl (dl_at t_X28_findPlaces 46 rfl) ?_
        refine g_iconst (pc := 83) X (n := 0) (dl_at t_X28_findPlaces 47 rfl) ?_
        refine g_gd fun k84 => ?_
        refine r_zast (pc := 84) X r3_42 (Or.inl rfl) k84 (dl_at t_X28_findPlaces 48 rfl) (fun h84 E84 => ?_)
        refine r_iincN (pc := 85) X (i := 3) (q := 3) (n := 1) (x := x3_42) (b := 2) (w := rv D a2) (rest := [(0, rv D a0), (1, rv D a1)]) rfl r3_42 (r32_c rfl) (Nat.le_of_ble_eq_true rfl) [2, 0, 1] rfl (by decide) rv_cat rfl (dl_at t_X28_findPlaces 49 rfl) fun x3_85 r3_85 => ?_
        refine g_goto (pc := 88) X (off := (-86)) (tgt := 2) rfl (dl_at t_X28_findPlaces 50 rfl) ?_
        refine g_ls (ls2 := [(0, rv D a0), (1, rv D a1), (2, rv D a2), (3, iv x3_85)]) [2, 3, 1, 0] rfl ?_
        exact g_at fun Q hQ => hQ ⟨r3_85, (E_2.trans (E_42.trans (E_75.trans E84)))⟩
      intro J75
      refine g_icmple (pc := 47) X r3_42 (r32_w _) (off := 28) (tgt := 75) rfl (dl_at t_X28_findPlaces 27 rfl) (fun _ => ?_) (fun _ => ?_)
      · exact J75 h_42 (Ext.refl _)
      refine g_aload_n (pc := 50) X (j := 1) (i := 1) (q := 1) (x := a1) rfl rfl (dl_at t_X28_findPlaces 28 rfl) ?_
      refine g_aload_n (pc := 51) X (j := 0) (i := 0) (q := 0) (x := a0) rfl rfl (dl_at t_X28_findPlaces 29 rfl) ?_
      have k52 := kx E_42 (by decide) k4
      refine r_getr (pc := 52) X fX28_0 k52 q2528 (dl_at t_X28_findPlaces 30 rfl) ?_
      refine g_gd fun k55 => ?_
      refine r_getrN (pc := 55) X fX15_0 k55 (nw_in q1128 rfl) (dl_at t_X28_findPlaces 31 rfl) ?_
      refine g_aload_n (pc := 58) X (j := 0) (i := 0) (q := 0) (x := a0) rfl rfl (dl_at t_X28_findPlaces 32 rfl) ?_
      refine r_geti (pc := 59) X fX28_1 k52 q2529 (dl_at t_X28_findPlaces 33 rfl) fun g59 => ?_
      refine g_iload (pc := 62) X (i := 4) (q := 4) (x := x3_2) rfl (dl_at t_X28_findPlaces 34 rfl) ?_
      refine g_iadd (pc := 64) X g59 r3_2 (dl_at t_X28_findPlaces 35 rfl) ?_
      refine g_iload_n (pc := 65) X (j := 3) (i := 3) (q := 3) (x := x3_42) rfl rfl (dl_at t_X28_findPlaces 36 rfl) ?_
      refine g_iload (pc := 66) X (i := 4) (q := 4) (x := x3_2) rfl (dl_at t_X28_findPlaces 37 rfl) ?_
      refine g_isub (pc := 68) X r3_42 r3_2 (dl_at t_X28_findPlaces 38 rfl) ?_
      refine g_aload_n (pc := 69) X (j := 2) (i := 2) (q := 2) (x := a2) rfl rfl (dl_at t_X28_findPlaces 39 rfl) ?_
      refine g_iload (pc := 70) X (i := 4) (q := 4) (x := x3_2) rfl (dl_at t_X28_findPlaces 40 rfl) ?_
      refine g_gd fun k72 => ?_
      refine r_callV (pc := 72) X (fun _ hv => s_X9_places k72 (r32_w _) (r32_w _) r3_2 hv) cw_code q2631 q363 (in_Vk X (As := [rv D (h_42 (h_42 a0 0) 0), iv (w32 ((h_42 a0 1) + x3_2)), iv (w32 (x3_42 - x3_2)), rv D a2, iv x3_2]) kX9 k72 (Or.inr ⟨_, nw_in q2628 rfl⟩) q2630 qs127 cw_code q2631 ⟨by decide, by decide⟩ rfl (dl_at t_X28_findPlaces 41 rfl)) (dl_at t_X28_findPlaces 41 rfl) (cat24 (st := []) (Nat.le_of_ble_eq_true rfl)) (Nat.le_of_ble_eq_true rfl) (Nat.le_of_ble_eq_true rfl) fun h72 E72 => ?_
      exact J75 h72 E72
def k_X28_add : List (Nat × Instr × Nat) := [(0, .aload_n 0, 1), (1, .dup, 1), (2, .getfield 75, 3), (5, .iconst 1, 1), (6, .iadd, 1), (7, .putfield 75, 3), (10, .aload_n 0, 1), (11, .getfield 75, 3), (14, .sipush 600, 3), (17, .if_icmp .gt 7, 3), (20, .iconst 1, 1), (21, .goto 4, 3), (24, .iconst 0, 1), (25, .invokestatic 114, 3), (28, .aload_n 0, 1), (29, .getfield 9, 3), (32, .getfield 32, 3), (35, .aload_n 0, 1), (36, .getfield 9, 3), (39, .getfield 89, 3), (42, .iload_n 1, 1), (43, .iastore, 1), (44, .aload_n 0, 1), (45, .getfield 9, 3), (48, .getfield 38, 3), (51, .aload_n 0, 1), (52, .getfield 9, 3), (55, .getfield 89, 3), (58, .iload_n 2, 1), (59, .iastore, 1), (60, .aload_n 0, 1), (61, .getfield 9, 3), (64, .getfield 41, 3), (67, .aload_n 0, 1), (68, .getfield 9, 3), (71, .getfield 89, 3), (74, .iload_n 3, 1), (75, .iastore, 1), (76, .aload_n 0, 1), (77, .getfield 9, 3), (80, .dup, 1), (81, .getfield 89, 3), (84, .iconst 1, 1), (85, .iadd, 1), (86, .putfield 89, 3), (89, .return_, 1)]
theorem t_X28_add : ∀ q ∈ k_X28_add, decode cX28_add q.1 = .ok q.2 := dl_all (by decide +kernel)
noncomputable def m_X28_add_j25 (a0 a1 a2 a3 s0_25 : Int) (h7 : Hp) : Option ((Int × Int) × Hp) :=
  bT (m_X1_room s0_25 h7) (fun _ h25 =>
  gd (h25 (h25 a0 0) (-2) = 240) (gd (h25 (h25 (h25 a0 0) 4) (-2) % 16 = 1 ∧ (0 : Int) ≤ (h25 (h25 a0 0) 12) ∧ (h25 (h25 a0 0) 12) < h25 (h25 (h25 a0 0) 4) (-1)) (pt h25 (h25 (h25 a0 0) 4) (h25 (h25 a0 0) 12) a1 fun h43 =>
  gd (h43 (h43 a0 0) (-2) = 240) (gd (h43 (h43 (h43 a0 0) 5) (-2) % 16 = 1 ∧ (0 : Int) ≤ (h43 (h43 a0 0) 12) ∧ (h43 (h43 a0 0) 12) < h43 (h43 (h43 a0 0) 5) (-1)) (pt h43 (h43 (h43 a0 0) 5) (h43 (h43 a0 0) 12) a2 fun h59 =>
  gd (h59 (h59 a0 0) (-2) = 240) (gd (h59 (h59 (h59 a0 0) 6) (-2) % 16 = 1 ∧ (0 : Int) ≤ (h59 (h59 a0 0) 12) ∧ (h59 (h59 a0 0) 12) < h59 (h59 (h59 a0 0) 6) (-1)) (pt h59 (h59 (h59 a0 0) 6) (h59 (h59 a0 0) 12) a3 fun h75 =>
  gd (h75 (h75 a0 0) (-2) = 240) (pt h75 (h75 a0 0) 12 (w32 ((h75 (h75 a0 0) 12) + 1)) fun h86 =>
  some ((0, 0), h86))))))))) (fun a_ h_ => some ((1, a_), h_))
noncomputable def m_X28_add (a0 a1 a2 a3 : Int) (h : Hp) : Option ((Int × Int) × Hp) :=
  pt h a0 16 (w32 ((h a0 16) + 1)) fun h7 =>
  if 600 < (h7 a0 16) then (m_X28_add_j25 a0 a1 a2 a3 0 h7)
  else (m_X28_add_j25 a0 a1 a2 a3 1 h7)
theorem s_X28_add {l : Launch} [NoTr l] {D : SD} {a0 a1 a2 a3 : Int} {h : Hp} (hk : h a0 (-2) = 288) (r1 : r32 a1) (r2 : r32 a2) (r3 : r32 a3) {r : (Int × Int) × Hp} (hm : m_X28_add a0 a1 a2 a3 h = some r) : Sim l D yX28_add (Cond.code yX28_add cX28_add 4 (Option.none : Option Jvm.ClassFile.FieldType)) 10 372 [rv D a0, iv a1, iv a2, iv a3] h 0 r := by
  refine Sim.of (fin := fun (v : (Int × Int) × Hp) => v) (lsE := [(0, rv D a0), (1, iv a1), (2, iv a2), (3, iv a3)]) hm rfl cwS_code (la_r (la_i (la_i (la_i la_n)))) (ll_r (ll_i (ll_i (ll_i ll_n)))) ?_
  intro p e s m below meth c X hcw hmm hcc hnm hname
  have hno := noh hcw hnm hmm hcc
  unfold m_X28_add
  refine g_aload_n (pc := 0) X (j := 0) (i := 0) (q := 0) (x := a0) rfl rfl (dl_at t_X28_add 0 rfl) ?_
  refine g_dup (pc := 1) X rv_cat (dl_at t_X28_add 1 rfl) ?_
  refine r_geti (pc := 2) X fX28_16 hk q2558 (dl_at t_X28_add 2 rfl) fun g2 => ?_
  refine g_iconst (pc := 5) X (n := 1) (dl_at t_X28_add 3 rfl) ?_
  refine g_iadd (pc := 6) X g2 (r32_c rfl) (dl_at t_X28_add 4 rfl) ?_
  refine r_puti (pc := 7) X fX28_16 hk q2558 rfl (dl_at t_X28_add 5 rfl) (r32_w _) (fun h7 E7 => ?_)
  refine g_aload_n (pc := 10) X (j := 0) (i := 0) (q := 0) (x := a0) rfl rfl (dl_at t_X28_add 6 rfl) ?_
  have k11 := kx E7 (by decide) hk
  refine r_geti (pc := 11) X fX28_16 k11 q2558 (dl_at t_X28_add 7 rfl) fun g11 => ?_
  refine g_sipush (pc := 14) X (n := 600) rfl (dl_at t_X28_add 8 rfl) ?_
  refine g_join (γ := Int) (fun q => (q = 0 ∨ q = 1)) 25 (fun q => [(0, rv D a0), (1, iv a1), (2, iv a2), (3, iv a3)]) (fun q => [iv q]) (fun q => h7) (fun q => m_X28_add_j25 a0 a1 a2 a3 q h7) ?_ ?_
  · rintro s0_25 rs0_25
    try dsimp only
    unfold m_X28_add_j25
    refine r_callTv (pc := 25) X (fun _ hv => s_X1_room rs0_25 hv) cw_code q1653 q355 (in_Sc X (As := [iv s0_25]) (Or.inr ⟨_, nw_in q2644 rfl⟩) q1652 q355 q1653 ⟨by decide, by decide⟩ rfl (dl_at t_X28_add 13 rfl)) (dl_at t_X28_add 13 rfl) (cat24 (st := []) (Nat.le_of_ble_eq_true rfl)) (Nat.le_of_ble_eq_true rfl) (Nat.le_of_ble_eq_true rfl) (fun v25 h25 E25 => ?_) (fun _ _ ha _ => gt_at fun Q hQ => gt_out (Q := Q) X rfl ha (hno _) _ Q rfl hQ)
    refine g_aload_n (pc := 28) X (j := 0) (i := 0) (q := 0) (x := a0) rfl rfl (dl_at t_X28_add 14 rfl) ?_
    have k29 := kx E25 (by decide) k11
    refine r_getr (pc := 29) X fX28_0 k29 q2528 (dl_at t_X28_add 15 rfl) ?_
    refine g_gd fun k32 => ?_
    refine r_getrN (pc := 32) X fX15_4 k32 (nw_in q1139 rfl) (dl_at t_X28_add 16 rfl) ?_
    refine g_aload_n (pc := 35) X (j := 0) (i := 0) (q := 0) (x := a0) rfl rfl (dl_at t_X28_add 17 rfl) ?_
    refine r_getr (pc := 36) X fX28_0 k29 q2528 (dl_at t_X28_add 18 rfl) ?_
    refine r_getiN (pc := 39) X fX15_12 k32 (nw_in q1155 rfl) (dl_at t_X28_add 19 rfl) fun g39 => ?_
    refine g_iload_n (pc := 42) X (j := 1) (i := 1) (q := 1) (x := a1) rfl rfl (dl_at t_X28_add 20 rfl) ?_
    refine g_gd fun k43 => ?_
    refine r_iast (pc := 43) X g39 r1 k43 (dl_at t_X28_add 21 rfl) (fun h43 E43 => ?_)
    refine g_aload_n (pc := 44) X (j := 0) (i := 0) (q := 0) (x := a0) rfl rfl (dl_at t_X28_add 22 rfl) ?_
    have k45 := kx E43 (by decide) k29
    refine r_getr (pc := 45) X fX28_0 k45 q2528 (dl_at t_X28_add 23 rfl) ?_
    refine g_gd fun k48 => ?_
    refine r_getrN (pc := 48) X fX15_5 k48 (nw_in q1141 rfl) (dl_at t_X28_add 24 rfl) ?_
    refine g_aload_n (pc := 51) X (j := 0) (i := 0) (q := 0) (x := a0) rfl rfl (dl_at t_X28_add 25 rfl) ?_
    refine r_getr (pc := 52) X fX28_0 k45 q2528 (dl_at t_X28_add 26 rfl) ?_
    refine r_getiN (pc := 55) X fX15_12 k48 (nw_in q1155 rfl) (dl_at t_X28_add 27 rfl) fun g55 => ?_
    refine g_iload_n (pc := 58) X (j := 2) (i := 2) (q := 2) (x := a2) rfl rfl (dl_at t_X28_add 28 rfl) ?_
    refine g_gd fun k59 => ?_
    refine r_iast (pc := 59) X g55 r2 k59 (dl_at t_X28_add 29 rfl) (fun h59 E59 => ?_)
    refine g_aload_n (pc := 60) X (j := 0) (i := 0) (q := 0) (x := a0) rfl rfl (dl_at t_X28_add 30 rfl) ?_
    have k61 := kx E59 (by decide) k45
    refine r_getr (pc := 61) X fX28_0 k61 q2528 (dl_at t_X28_add 31 rfl) ?_
    refine g_gd fun k64 => ?_
    refine r_getrN (pc := 64) X fX15_6 k64 (nw_in q1143 rfl) (dl_at t_X28_add 32 rfl) ?_
    refine g_aload_n (pc := 67) X (j := 0) (i := 0) (q := 0) (x := a0) rfl rfl (dl_at t_X28_add 33 rfl) ?_
    refine r_getr (pc := 68) X fX28_0 k61 q2528 (dl_at t_X28_add 34 rfl) ?_
    refine r_getiN (pc := 71) X fX15_12 k64 (nw_in q1155 rfl) (dl_at t_X28_add 35 rfl) fun g71 => ?_
    refine g_iload_n (pc := 74) X (j := 3) (i := 3) (q := 3) (x := a3) rfl rfl (dl_at t_X28_add 36 rfl) ?_
    refine g_gd fun k75 => ?_
    refine r_iast (pc := 75) X g71 r3 k75 (dl_at t_X28_add 37 rfl) (fun h75 E75 => ?_)
    refine g_aload_n (pc := 76) X (j := 0) (i := 0) (q := 0) (x := a0) rfl rfl (dl_at t_X28_add 38 rfl) ?_
    have k77 := kx E75 (by decide) k61
    refine r_getr (pc := 77) X fX28_0 k77 q2528 (dl_at t_X28_add 39 rfl) ?_
    refine g_dup (pc := 80) X rv_cat (dl_at t_X28_add 40 rfl) ?_
    refine g_gd fun k81 => ?_
    refine r_getiN (pc := 81) X fX15_12 k81 (nw_in q1155 rfl) (dl_at t_X28_add 41 rfl) fun g81 => ?_
    refine g_iconst (pc := 84) X (n := 1) (dl_at t_X28_add 42 rfl) ?_
    refine g_iadd (pc := 85) X g81 (r32_c rfl) (dl_at t_X28_add 43 rfl) ?_
    refine r_putiN (pc := 86) X fX15_12 k81 (nw_in q1155 rfl) rfl (dl_at t_X28_add 44 rfl) (r32_w _) (fun h86 E86 => ?_)
    exact g_vret (pc := 89) X (v := 0) rfl rfl (dl_at t_X28_add 45 rfl)
  intro J25
  refine g_icmpgt (pc := 17) X g11 (r32_c rfl) (off := 7) (tgt := 24) rfl (dl_at t_X28_add 9 rfl) (fun _ => ?_) (fun _ => ?_)
  · refine g_iconst (pc := 24) X (n := 0) (dl_at t_X28_add 12 rfl) ?_
    exact J25 0 (Or.inl rfl)
  refine g_iconst (pc := 20) X (n := 1) (dl_at t_X28_add 10 rfl) ?_
  refine g_goto (pc := 21) X (off := 4) (tgt := 25) rfl (dl_at t_X28_add 11 rfl) ?_
  exact J25 1 (Or.inr rfl)
def k_X8_part : List (Nat × Instr × Nat) := [(0, .iload_n 1, 1), (1, .ifCond .ge 18, 3), (4, .iload_n 0, 1), (5, .i2l, 1), (6, .iload_n 1, 1), (7, .ineg, 1), (8, .i2l, 1), (9, .lmul, 1), (10, .ldc2_w 87, 3), (13, .ldiv, 1), (14, .l2i, 1), (15, .ineg, 1), (16, .goto 13, 3), (19, .iload_n 0, 1), (20, .i2l, 1), (21, .iload_n 1, 1), (22, .i2l, 1), (23, .lmul, 1), (24, .ldc2_w 87, 3), (27, .ldiv, 1), (28, .l2i, 1), (29, .ireturn, 1)]
theorem t_X8_part : ∀ q ∈ k_X8_part, decode cX8_part q.1 = .ok q.2 := dl_all (by decide +kernel)
noncomputable def m_X8_part (a0 a1 : Int) : Option (Int) :=
  if 0 ≤ a1 then (some (w32 (w64 (Int.tdiv (w64 (a0 * a1)) 1000))))
  else (some (w32 (-(w32 (w64 (Int.tdiv (w64 (a0 * (w32 (-a1)))) 1000))))))
theorem s_X8_part {l : Launch} [NoTr l] {D : SD} {a0 a1 : Int} {h : Hp} (r0 : r32 a0) (r1 : r32 a1) {r : Int} (hm : m_X8_part a0 a1 = some r) : Sim l D yX8_part (Cond.code yX8_part cX8_part 2 (Option.some Jvm.ClassFile.FieldType.int)) 0 0 [iv a0, iv a1] h 1 ((0, r), h) := by
  refine Sim.of (fin := fun (v : Int) => ((0, v), h)) (lsE := [(0, iv a0), (1, iv a1)]) hm rfl cwS_code (la_i (la_i la_n)) (ll_i (ll_i ll_n)) ?_
  intro p e s m below meth c X hcw hmm hcc hnm hname
  unfold m_X8_part
  refine g_iload_n (pc := 0) X (j := 1) (i := 1) (q := 1) (x := a1) rfl rfl (dl_at t_X8_part 0 rfl) ?_
  refine g_ifge (pc := 1) X r1 (off := 18) (tgt := 19) rfl (dl_at t_X8_part 1 rfl) (fun _ => ?_) (fun _ => ?_)
  · refine g_iload_n (pc := 19) X (j := 0) (i := 0) (q := 0) (x := a0) rfl rfl (dl_at t_X8_part 13 rfl) ?_
    refine g_i2l (pc := 20) X r0 (dl_at t_X8_part 14 rfl) ?_
    refine g_iload_n (pc := 21) X (j := 1) (i := 1) (q := 1) (x := a1) rfl rfl (dl_at t_X8_part 15 rfl) ?_
    refine g_i2l (pc := 22) X r1 (dl_at t_X8_part 16 rfl) ?_
    refine g_lmul (pc := 23) X (r64_of r0) (r64_of r1) (dl_at t_X8_part 17 rfl) ?_
    refine g_ldc2 (pc := 24) X (index := 87) (n := 1000) q2656 (dl_at t_X8_part 18 rfl) ?_
    refine g_ldiv (pc := 27) X (r64_w _) (r64_c rfl) (by decide) (dl_at t_X8_part 19 rfl) ?_
    refine g_l2i (pc := 28) X (r64_w _) (dl_at t_X8_part 20 rfl) ?_
    exact g_iret (pc := 29) X (r32_w _) rfl rfl (dl_at t_X8_part 21 rfl)
  refine g_iload_n (pc := 4) X (j := 0) (i := 0) (q := 0) (x := a0) rfl rfl (dl_at t_X8_part 2 rfl) ?_
  refine g_i2l (pc := 5) X r0 (dl_at t_X8_part 3 rfl) ?_
  refine g_iload_n (pc := 6) X (j := 1) (i := 1) (q := 1) (x := a1) rfl rfl (dl_at t_X8_part 4 rfl) ?_
  refine g_ineg (pc := 7) X r1 (dl_at t_X8_part 5 rfl) ?_
  refine g_i2l (pc := 8) X (r32_w _) (dl_at t_X8_part 6 rfl) ?_
  refine g_lmul (pc := 9) X (r64_of r0) (r64_of (r32_w _)) (dl_at t_X8_part 7 rfl) ?_
  refine g_ldc2 (pc := 10) X (index := 87) (n := 1000) q2656 (dl_at t_X8_part 8 rfl) ?_
  refine g_ldiv (pc := 13) X (r64_w _) (r64_c rfl) (by decide) (dl_at t_X8_part 9 rfl) ?_
  refine g_l2i (pc := 14) X (r64_w _) (dl_at t_X8_part 10 rfl) ?_
  refine g_ineg (pc := 15) X (r32_w _) (dl_at t_X8_part 11 rfl) ?_
  refine g_goto (pc := 16) X (off := 13) (tgt := 29) rfl (dl_at t_X8_part 12 rfl) ?_
  exact g_iret (pc := 29) X (r32_w _) rfl rfl (dl_at t_X8_part 21 rfl)
def k_X8_joins : List (Nat × Instr × Nat) := [(0, .aload_n 0, 1), (1, .getfield 22, 3), (4, .sipush 128, 3), (7, .iload_n 1, 1), (8, .imul, 1), (9, .iload_n 2, 1), (10, .iadd, 1), (11, .iaload, 1), (12, .ifCond .le 7, 3), (15, .iconst 1, 1), (16, .goto 4, 3), (19, .iconst 0, 1), (20, .ireturn, 1)]
theorem t_X8_joins : ∀ q ∈ k_X8_joins, decode cX8_joins q.1 = .ok q.2 := dl_all (by decide +kernel)
noncomputable def m_X8_joins (a0 a1 a2 : Int) (h : Hp) : Option (Int) :=
  gd (h (h a0 3) (-2) % 16 = 1 ∧ (0 : Int) ≤ (w32 ((w32 (128 * a1)) + a2)) ∧ (w32 ((w32 (128 * a1)) + a2)) < h (h a0 3) (-1)) (if (h (h a0 3) (w32 ((w32 (128 * a1)) + a2))) ≤ 0 then (some 0)
  else (some 1))
theorem s_X8_joins {l : Launch} [NoTr l] {D : SD} {a0 a1 a2 : Int} {h : Hp} (hk : h a0 (-2) = 128) (r1 : r32 a1) (r2 : r32 a2) {r : Int} (hm : m_X8_joins a0 a1 a2 h = some r) : Sim l D yX8_joins (Cond.code yX8_joins cX8_joins 3 (Option.some Jvm.ClassFile.FieldType.boolean)) 0 0 [rv D a0, iv a1, iv a2] h 3 ((0, r), h) := by
  refine Sim.of (fin := fun (v : Int) => ((0, v), h)) (lsE := [(0, rv D a0), (1, iv a1), (2, iv a2)]) hm rfl cwS_code (la_r (la_i (la_i la_n))) (ll_r (ll_i (ll_i ll_n))) ?_
  intro p e s m below meth c X hcw hmm hcc hnm hname
  unfold m_X8_joins
  refine g_aload_n (pc := 0) X (j := 0) (i := 0) (q := 0) (x := a0) rfl rfl (dl_at t_X8_joins 0 rfl) ?_
  refine r_getr (pc := 1) X fX8_3 hk q869 (dl_at t_X8_joins 1 rfl) ?_
  refine g_sipush (pc := 4) X (n := 128) rfl (dl_at t_X8_joins 2 rfl) ?_
  refine g_iload_n (pc := 7) X (j := 1) (i := 1) (q := 1) (x := a1) rfl rfl (dl_at t_X8_joins 3 rfl) ?_
  refine g_imul (pc := 8) X (r32_c rfl) r1 (dl_at t_X8_joins 4 rfl) ?_
  refine g_iload_n (pc := 9) X (j := 2) (i := 2) (q := 2) (x := a2) rfl rfl (dl_at t_X8_joins 5 rfl) ?_
  refine g_iadd (pc := 10) X (r32_w _) r2 (dl_at t_X8_joins 6 rfl) ?_
  refine g_gd fun k11 => ?_
  refine g_iald (pc := 11) X (r32_w _) k11 (dl_at t_X8_joins 7 rfl) fun g11 => ?_
  refine g_ifle (pc := 12) X g11 (off := 7) (tgt := 19) rfl (dl_at t_X8_joins 8 rfl) (fun _ => ?_) (fun _ => ?_)
  · refine g_iconst (pc := 19) X (n := 0) (dl_at t_X8_joins 11 rfl) ?_
    exact g_zret (pc := 20) X (Or.inl rfl) rfl rfl (dl_at t_X8_joins 12 rfl)
  refine g_iconst (pc := 15) X (n := 1) (dl_at t_X8_joins 9 rfl) ?_
  refine g_goto (pc := 16) X (off := 4) (tgt := 20) rfl (dl_at t_X8_joins 10 rfl) ?_
  exact g_zret (pc := 20) X (Or.inr rfl) rfl rfl (dl_at t_X8_joins 12 rfl)
def k_X8_width : List (Nat × Instr × Nat) := [(0, .lconst 0, 1), (1, .lstore 5, 2), (3, .iconst (-1), 1), (4, .istore 7, 2), (6, .iconst 0, 1), (7, .istore 8, 2), (9, .iload_n 3, 1), (10, .istore 9, 2), (12, .iload 9, 2), (14, .iload 4, 2), (16, .if_icmp .ge 190, 3), (19, .aload_n 1, 1), (20, .iload 9, 2), (22, .baload, 1), (23, .istore 10, 2), (25, .aload_n 2, 1), (26, .iload 9, 2), (28, .iaload, 1), (29, .istore 11, 2), (31, .iload 7, 2), (33, .ifCond .lt 55, 3), (36, .iload 8, 2), (38, .iload 11, 2), (40, .if_icmp .ne 48, 3), (43, .aload_n 0, 1), (44, .getfield 19, 3), (47, .sipush 128, 3), (50, .iload 7, 2), (52, .imul, 1), (53, .iload 10, 2), (55, .iadd, 1), (56, .iaload, 1), (57, .sipush 1000, 3), (60, .if_icmp .eq 28, 3), (63, .lload 5, 2), (65, .iload 11, 2), (67, .aload_n 0, 1), (68, .getfield 19, 3), (71, .sipush 128, 3), (74, .iload 7, 2), (76, .imul, 1), (77, .iload 10, 2), (79, .iadd, 1), (80, .iaload, 1), (81, .invokestatic 89, 3), (84, .i2l, 1), (85, .ladd, 1), (86, .lstore 5, 2), (88, .iload 9, 2), (90, .iconst 1, 1), (91, .iadd, 1), (92, .iload 4, 2), (94, .if_icmp .ge 33, 3), (97, .aload_n 2, 1), (98, .iload 9, 2), (100, .iconst 1, 1), (101, .iadd, 1), (102, .iaload, 1), (103, .iload 11, 2), (105, .if_icmp .ne 22, 3), (108, .aload_n 0, 1), (109, .iload 10, 2), (111, .aload_n 1, 1), (112, .iload 9, 2), (114, .iconst 1, 1), (115, .iadd, 1), (116, .baload, 1), (117, .invokevirtual 92, 3), (120, .ifCond .eq 7, 3), (123, .iconst 1, 1), (124, .goto 4, 3), (127, .iconst 0, 1), (128, .istore 12, 2), (130, .lload 5, 2), (132, .iload 11, 2), (134, .iload 12, 2), (136, .ifCond .eq 26, 3), (139, .aload_n 0, 1), (140, .getfield 22, 3), (143, .sipush 128, 3), (146, .iload 10, 2), (148, .imul, 1), (149, .aload_n 1, 1), (150, .iload 9, 2), (152, .iconst 1, 1), (153, .iadd, 1), (154, .baload, 1), (155, .iadd, 1), (156, .iaload, 1), (157, .iconst 1, 1), (158, .isub, 1), (159, .goto 10, 3), (162, .aload_n 0, 1), (163, .getfield 9, 3), (166, .iload 10, 2), (168, .iaload, 1), (169, .invokestatic 89, 3), (172, .i2l, 1), (173, .ladd, 1), (174, .lstore 5, 2), (176, .iload 9, 2), (178, .iload 12, 2), (180, .ifCond .eq 7, 3), (183, .iconst 2, 1), (184, .goto 4, 3), (187, .iconst 1, 1), (188, .iadd, 1), (189, .istore 9, 2), (191, .aload_n 1, 1), (192, .iload 9, 2), (194, .iconst 1, 1), (195, .isub, 1), (196, .baload, 1), (197, .istore 7, 2), (199, .iload 11, 2), (201, .istore 8, 2), (203, .goto (-191), 3), (206, .lload 5, 2), (208, .lconst 0, 1), (209, .lcmp, 1), (210, .ifCond .ge 7, 3), (213, .lconst 0, 1), (214, .goto 5, 3), (217, .lload 5, 2), (219, .lreturn, 1)]
theorem t_X8_width : ∀ q ∈ k_X8_width, decode cX8_width q.1 = .ok q.2 := dl_all (by decide +kernel)
noncomputable def m_X8_width_j188 (x5_174 a1 x9_12 x11_29 s1_188 : Int) (h : Hp) : Option ((Int × Int × Int × Int) ⊕ ((Int))) :=
  lt_ (w32 (x9_12 + s1_188)) fun x9_189 =>
  gd (h a1 (-2) % 16 = 2 ∧ (0 : Int) ≤ (w32 (x9_189 - 1)) ∧ (w32 (x9_189 - 1)) < h a1 (-1)) (lt_ (h a1 (w32 (x9_189 - 1))) fun x7_197 =>
  some (.inl (x5_174, x7_197, x11_29, x9_189)))
noncomputable def m_X8_width_j169 (s0_128 x11_29 a1 x5_88 x9_12 s2_169 : Int) (h : Hp) : Option ((Int × Int × Int × Int) ⊕ ((Int))) :=
  (m_X8_part x11_29 s2_169).bind fun v169 =>
  lt_ (w64 (x5_88 + v169)) fun x5_174 =>
  if s0_128 = 0 then (m_X8_width_j188 x5_174 a1 x9_12 x11_29 1 h)
  else (m_X8_width_j188 x5_174 a1 x9_12 x11_29 2 h)
noncomputable def m_X8_width_j128 (a0 a1 x5_88 x9_12 x10_23 x11_29 s0_128 : Int) (h : Hp) : Option ((Int × Int × Int × Int) ⊕ ((Int))) :=
  if s0_128 = 0 then (gd (h (h a0 0) (-2) % 16 = 1 ∧ (0 : Int) ≤ x10_23 ∧ x10_23 < h (h a0 0) (-1)) (m_X8_width_j169 s0_128 x11_29 a1 x5_88 x9_12 (h (h a0 0) x10_23) h))
  else (gd (h a1 (-2) % 16 = 2 ∧ (0 : Int) ≤ (w32 (x9_12 + 1)) ∧ (w32 (x9_12 + 1)) < h a1 (-1)) (gd (h (h a0 3) (-2) % 16 = 1 ∧ (0 : Int) ≤ (w32 ((w32 (128 * x10_23)) + (h a1 (w32 (x9_12 + 1))))) ∧ (w32 ((w32 (128 * x10_23)) + (h a1 (w32 (x9_12 + 1))))) < h (h a0 3) (-1)) (m_X8_width_j169 s0_128 x11_29 a1 x5_88 x9_12 (w32 ((h (h a0 3) (w32 ((w32 (128 * x10_23)) + (h a1 (w32 (x9_12 + 1)))))) - 1)) h)))
noncomputable def m_X8_width_j127 (a0 a1 x5_88 x9_12 x10_23 x11_29 : Int) (h : Hp) : Option ((Int × Int × Int × Int) ⊕ ((Int))) :=
  m_X8_width_j128 a0 a1 x5_88 x9_12 x10_23 x11_29 0 h
noncomputable def m_X8_width_j88 (x11_29 x10_23 x9_12 a0 a1 a2 a4 x5_88 : Int) (h : Hp) : Option ((Int × Int × Int × Int) ⊕ ((Int))) :=
  if a4 ≤ (w32 (x9_12 + 1)) then (m_X8_width_j127 a0 a1 x5_88 x9_12 x10_23 x11_29 h)
  else (gd (h a2 (-2) % 16 = 1 ∧ (0 : Int) ≤ (w32 (x9_12 + 1)) ∧ (w32 (x9_12 + 1)) < h a2 (-1)) (if (h a2 (w32 (x9_12 + 1))) ≠ x11_29 then (m_X8_width_j127 a0 a1 x5_88 x9_12 x10_23 x11_29 h)
  else (gd (h a1 (-2) % 16 = 2 ∧ (0 : Int) ≤ (w32 (x9_12 + 1)) ∧ (w32 (x9_12 + 1)) < h a1 (-1)) ((m_X8_joins a0 x10_23 (h a1 (w32 (x9_12 + 1))) h).bind fun v117 =>
  if v117 = 0 then (m_X8_width_j127 a0 a1 x5_88 x9_12 x10_23 x11_29 h)
  else (m_X8_width_j128 a0 a1 x5_88 x9_12 x10_23 x11_29 1 h)))))
noncomputable def m_X8_width_l12 (a0 a1 a2 a4 x5_12 x7_12 x8_12 x9_12 : Int) (h : Hp) : Option ((Int × Int × Int × Int) ⊕ ((Int))) :=
  if a4 ≤ x9_12 then (some (.inr x5_12))
  else (gd (h a1 (-2) % 16 = 2 ∧ (0 : Int) ≤ x9_12 ∧ x9_12 < h a1 (-1)) (lt_ (h a1 x9_12) fun x10_23 =>
  gd (h a2 (-2) % 16 = 1 ∧ (0 : Int) ≤ x9_12 ∧ x9_12 < h a2 (-1)) (lt_ (h a2 x9_12) fun x11_29 =>
  if x7_12 < 0 then (m_X8_width_j88 x11_29 x10_23 x9_12 a0 a1 a2 a4 x5_12 h)
  else (if x8_12 ≠ x11_29 then (m_X8_width_j88 x11_29 x10_23 x9_12 a0 a1 a2 a4 x5_12 h)
  else (gd (h (h a0 2) (-2) % 16 = 1 ∧ (0 : Int) ≤ (w32 ((w32 (128 * x7_12)) + x10_23)) ∧ (w32 ((w32 (128 * x7_12)) + x10_23)) < h (h a0 2) (-1)) (if (h (h a0 2) (w32 ((w32 (128 * x7_12)) + x10_23))) = 1000 then (m_X8_width_j88 x11_29 x10_23 x9_12 a0 a1 a2 a4 x5_12 h)
  else ((m_X8_part x11_29 (h (h a0 2) (w32 ((w32 (128 * x7_12)) + x10_23)))).bind fun v81 =>
  lt_ (w64 (x5_12 + v81)) fun x5_86 =>
  m_X8_width_j88 x11_29 x10_23 x9_12 a0 a1 a2 a4 x5_86 h)))))))
noncomputable def m_X8_width (a0 a1 a2 a3 a4 : Int) (h : Hp) : Option (Int) :=
  lt_ 0 fun x5_1 =>
  lt_ (-1) fun x7_4 =>
  lt_ 0 fun x8_7 =>
  (lp (fun (q : Int × Int × Int × Int) => m_X8_width_l12 a0 a1 a2 a4 q.1 q.2.1 q.2.2.1 q.2.2.2 h) (x5_1, x7_4, x8_7, a3)).bind (fun (y206 : Int) => if 0 ≤ (lcmp_ y206 0) then (some y206)
  else (some 0))
theorem s_X8_width {l : Launch} [NoTr l] {D : SD} {a0 a1 a2 a3 a4 : Int} {h : Hp} (hk : h a0 (-2) = 128) (r3 : r32 a3) (r4 : r32 a4) {r : Int} (hm : m_X8_width a0 a1 a2 a3 a4 h = some r) : Sim l D yX8_width (Cond.code yX8_width cX8_width 13 (Option.some Jvm.ClassFile.FieldType.long)) 1 38 [rv D a0, rv D a1, rv D a2, iv a3, iv a4] h 4 ((0, r), h) := by
  refine Sim.of (fin := fun (v : Int) => ((0, v), h)) (lsE := [(0, rv D a0), (1, rv D a1), (2, rv D a2), (3, iv a3), (4, iv a4)]) hm rfl cwS_code (la_r (la_r (la_r (la_i (la_i la_n))))) (ll_r (ll_r (ll_r (ll_i (ll_i ll_n))))) ?_
  intro p e s m below meth c X hcw hmm hcc hnm hname
  unfold m_X8_width
  refine g_lconst0 (pc := 0) X (dl_at t_X8_width 0 rfl) ?_
  refine g_ltl (r64_c rfl) fun x5_1 r5_1 => ?_
  refine g_lstoreN (pc := 1) X (i := 5) (x := x5_1) (b := 4) (w := iv a4) (rest := [(0, rv D a0), (1, rv D a1), (2, rv D a2), (3, iv a3)]) (Nat.le_of_ble_eq_true rfl) [4, 0, 1, 2, 3] rfl (by decide) (by decide) rfl rfl (dl_at t_X8_width 1 rfl) ?_
  refine g_iconst (pc := 3) X (n := (-1)) (dl_at t_X8_width 2 rfl) ?_
  refine g_lti (r32_c rfl) fun x7_4 r7_4 => ?_
  refine g_istore (pc := 4) X (i := 7) (x := x7_4) (rest := [(5, jv x5_1), (4, iv a4), (0, rv D a0), (1, rv D a1), (2, rv D a2), (3, iv a3)]) (Nat.le_of_ble_eq_true rfl) [0, 1, 2, 3, 4, 5] rfl rfl (dl_at t_X8_width 3 rfl) ?_
  refine g_iconst (pc := 6) X (n := 0) (dl_at t_X8_width 4 rfl) ?_
  refine g_ltz (Or.inl rfl) fun x8_7 r8_7 => ?_
  refine g_istoreN (pc := 7) X (i := 8) (x := x8_7) (b := 7) (w := iv x7_4) (rest := [(5, jv x5_1), (4, iv a4), (0, rv D a0), (1, rv D a1), (2, rv D a2), (3, iv a3)]) (Nat.le_of_ble_eq_true rfl) [0, 1, 2, 3, 4, 5, 6] rfl (by decide) rfl rfl (dl_at t_X8_width 5 rfl) ?_
  refine g_iload_n (pc := 9) X (j := 3) (i := 3) (q := 7) (x := a3) rfl rfl (dl_at t_X8_width 6 rfl) ?_
  refine g_istoreN (pc := 10) X (i := 9) (x := a3) (b := 8) (w := iv x8_7) (rest := [(7, iv x7_4), (5, jv x5_1), (4, iv a4), (0, rv D a0), (1, rv D a1), (2, rv D a2)]) (Nat.le_of_ble_eq_true rfl) [0, 1, 2, 3, 4, 5, 6] rfl (by decide) rfl rfl (dl_at t_X8_width 7 rfl) ?_
  refine g_ls (ls2 := [(0, rv D a0), (1, rv D a1), (2, rv D a2), (4, iv a4), (5, jv x5_1), (7, iv x7_4), (8, iv x8_7), (9, iv a3)]) [5, 6, 7, 4, 3, 2, 1, 0] rfl ?_
  refine g_loop1 (fun (q : Int × Int × Int × Int) => [(0, rv D a0), (1, rv D a1), (2, rv D a2), (4, iv a4), (5, jv q.1), (7, iv q.2.1), (8, iv q.2.2.1), (9, iv q.2.2.2)]) (fun (q : Int × Int × Int × Int) => h) (fun (q : Int × Int × Int × Int) => r64 q.1 ∧ r32 q.2.1 ∧ r32 q.2.2.1 ∧ r32 q.2.2.2) 206 (fun (y206 : Int) => [(5, jv y206)]) (fun (y206 : Int) => h) (fun (y206 : Int) => r64 y206) (x5_1, x7_4, x8_7, a3) ⟨r5_1, r7_4, (r32_z r8_7), r3⟩ ?_ ?_
  · rintro ⟨x5_12, x7_12, x8_12, x9_12⟩ ⟨r5_12, r7_12, r8_12, r9_12⟩
    try dsimp only
    unfold m_X8_width_l12
    refine g_iload (pc := 12) X (i := 9) (q := 7) (x := x9_12) rfl (dl_at t_X8_width 8 rfl) ?_
    refine g_iload (pc := 14) X (i := 4) (q := 3) (x := a4) rfl (dl_at t_X8_width 9 rfl) ?_
    refine g_icmpge (pc := 16) X r9_12 r4 (off := 190) (tgt := 206) rfl (dl_at t_X8_width 10 rfl) (fun _ => ?_) (fun _ => ?_)
    · refine g_ls (ls2 := [(5, jv x5_12)]) [4] rfl ?_
      exact g_at fun Q hQ => hQ r5_12
    refine g_aload_n (pc := 19) X (j := 1) (i := 1) (q := 1) (x := a1) rfl rfl (dl_at t_X8_width 11 rfl) ?_
    refine g_iload (pc := 20) X (i := 9) (q := 7) (x := x9_12) rfl (dl_at t_X8_width 12 rfl) ?_
    refine g_gd fun k22 => ?_
    refine g_bald (pc := 22) X r9_12 k22 (dl_at t_X8_width 13 rfl) fun g22 => ?_
    refine g_ltb g22 fun x10_23 r10_23 => ?_
    refine g_istoreN (pc := 23) X (i := 10) (x := x10_23) (b := 9) (w := iv x9_12) (rest := [(0, rv D a0), (1, rv D a1), (2, rv D a2), (4, iv a4), (5, jv x5_12), (7, iv x7_12), (8, iv x8_12)]) (Nat.le_of_ble_eq_true rfl) [7, 0, 1, 2, 3, 4, 5, 6] rfl (by decide) rfl rfl (dl_at t_X8_width 14 rfl) ?_
    refine g_aload_n (pc := 25) X (j := 2) (i := 2) (q := 4) (x := a2) rfl rfl (dl_at t_X8_width 15 rfl) ?_
    refine g_iload (pc := 26) X (i := 9) (q := 1) (x := x9_12) rfl (dl_at t_X8_width 16 rfl) ?_
    refine g_gd fun k28 => ?_
    refine g_iald (pc := 28) X r9_12 k28 (dl_at t_X8_width 17 rfl) fun g28 => ?_
    refine g_lti g28 fun x11_29 r11_29 => ?_
    refine g_istoreN (pc := 29) X (i := 11) (x := x11_29) (b := 10) (w := iv x10_23) (rest := [(9, iv x9_12), (0, rv D a0), (1, rv D a1), (2, rv D a2), (4, iv a4), (5, jv x5_12), (7, iv x7_12), (8, iv x8_12)]) (Nat.le_of_ble_eq_true rfl) [0, 1, 2, 3, 4, 5, 6, 7, 8] rfl (by decide) rfl rfl (dl_at t_X8_width 18 rfl) ?_
    refine g_iload (pc := 31) X (i := 7) (q := 8) (x := x7_12) rfl (dl_at t_X8_width 19 rfl) ?_
    refine g_join (γ := Int) (fun q => r64 q) 88 (fun q => [(0, rv D a0), (1, rv D a1), (2, rv D a2), (4, iv a4), (5, jv q), (9, iv x9_12), (10, iv x10_23), (11, iv x11_29)]) (fun q => []) (fun q => h) (fun q => m_X8_width_j88 x11_29 x10_23 x9_12 a0 a1 a2 a4 q h) ?_ ?_
    · rintro x5_88 r5_88
      try dsimp only
      unfold m_X8_width_j88
      refine g_iload (pc := 88) X (i := 9) (q := 5) (x := x9_12) rfl (dl_at t_X8_width 48 rfl) ?_
      refine g_iconst (pc := 90) X (n := 1) (dl_at t_X8_width 49 rfl) ?_
      refine g_iadd (pc := 91) X r9_12 (r32_c rfl) (dl_at t_X8_width 50 rfl) ?_
      refine g_iload (pc := 92) X (i := 4) (q := 3) (x := a4) rfl (dl_at t_X8_width 51 rfl) ?_
      refine g_join (γ := Int) (fun q => (q = 0 ∨ q = 1)) 128 (fun q => [(0, rv D a0), (1, rv D a1), (2, rv D a2), (4, iv a4), (5, jv x5_88), (9, iv x9_12), (10, iv x10_23), (11, iv x11_29)]) (fun q => [iv q]) (fun q => h) (fun q => m_X8_width_j128 a0 a1 x5_88 x9_12 x10_23 x11_29 q h) ?_ ?_
      · rintro s0_128 rs0_128
        try dsimp only
        unfold m_X8_width_j128
        refine g_istoreN (pc := 128) X (i := 12) (x := s0_128) (b := 11) (w := iv x11_29) (rest := [(0, rv D a0), (1, rv D a1), (2, rv D a2), (4, iv a4), (5, jv x5_88), (9, iv x9_12), (10, iv x10_23)]) (Nat.le_of_ble_eq_true rfl) [7, 0, 1, 2, 3, 4, 5, 6] rfl (by decide) rfl rfl (dl_at t_X8_width 72 rfl) ?_
        refine g_lload (pc := 130) X (i := 5) (q := 6) (x := x5_88) rfl (dl_at t_X8_width 73 rfl) ?_
        refine g_iload (pc := 132) X (i := 11) (q := 1) (x := x11_29) rfl (dl_at t_X8_width 74 rfl) ?_
        refine g_iload (pc := 134) X (i := 12) (q := 0) (x := s0_128) rfl (dl_at t_X8_width 75 rfl) ?_
        refine g_join (γ := Int) (fun q => r32 q) 169 (fun q => [(0, rv D a0), (1, rv D a1), (2, rv D a2), (4, iv a4), (9, iv x9_12), (11, iv x11_29), (12, iv s0_128)]) (fun q => [iv q, iv x11_29, jv x5_88]) (fun q => h) (fun q => m_X8_width_j169 s0_128 x11_29 a1 x5_88 x9_12 q h) ?_ ?_
        · rintro s2_169 rs2_169
          try dsimp only
          unfold m_X8_width_j169
          refine r_callRi (pc := 169) X (fun _ hv => s_X8_part r11_29 rs2_169 hv) cw_code q2655 q362 (in_Sc X (As := [iv x11_29, iv s2_169]) (Or.inl q2653) q2654 q362 q2655 ⟨by decide, by decide⟩ rfl (dl_at t_X8_width 96 rfl)) (dl_at t_X8_width 96 rfl) (cat24 (st := [jv x5_88]) (Nat.le_of_ble_eq_true rfl)) (Nat.le_of_ble_eq_true rfl) (Nat.le_of_ble_eq_true rfl) fun v169 g169 => ?_
          refine g_i2l (pc := 172) X g169 (dl_at t_X8_width 97 rfl) ?_
          refine g_ladd (pc := 173) X r5_88 (r64_of g169) (dl_at t_X8_width 98 rfl) ?_
          refine g_ltl (r64_w _) fun x5_174 r5_174 => ?_
          refine g_lstoreN (pc := 174) X (i := 5) (x := x5_174) (b := 4) (w := iv a4) (rest := [(0, rv D a0), (1, rv D a1), (2, rv D a2), (9, iv x9_12), (11, iv x11_29), (12, iv s0_128)]) (Nat.le_of_ble_eq_true rfl) [3, 0, 1, 2, 4, 5, 6] rfl (by decide) (by decide) rfl rfl (dl_at t_X8_width 99 rfl) ?_
          refine g_iload (pc := 176) X (i := 9) (q := 5) (x := x9_12) rfl (dl_at t_X8_width 100 rfl) ?_
          refine g_iload (pc := 178) X (i := 12) (q := 7) (x := s0_128) rfl (dl_at t_X8_width 101 rfl) ?_
          refine g_join (γ := Int) (fun q => r32 q) 188 (fun q => [(0, rv D a0), (1, rv D a1), (2, rv D a2), (4, iv a4), (5, jv x5_174), (11, iv x11_29)]) (fun q => [iv q, iv x9_12]) (fun q => h) (fun q => m_X8_width_j188 x5_174 a1 x9_12 x11_29 q h) ?_ ?_
          · rintro s1_188 rs1_188
            try dsimp only
            unfold m_X8_width_j188
            refine g_iadd (pc := 188) X r9_12 rs1_188 (dl_at t_X8_width 106 rfl) ?_
            refine g_lti (r32_w _) fun x9_189 r9_189 => ?_
            refine g_istore (pc := 189) X (i := 9) (x := x9_189) (rest := [(0, rv D a0), (1, rv D a1), (2, rv D a2), (4, iv a4), (5, jv x5_174), (11, iv x11_29)]) (Nat.le_of_ble_eq_true rfl) [0, 1, 2, 3, 4, 5] rfl rfl (dl_at t_X8_width 107 rfl) ?_
            refine g_aload_n (pc := 191) X (j := 1) (i := 1) (q := 2) (x := a1) rfl rfl (dl_at t_X8_width 108 rfl) ?_
            refine g_iload (pc := 192) X (i := 9) (q := 0) (x := x9_189) rfl (dl_at t_X8_width 109 rfl) ?_
            refine g_iconst (pc := 194) X (n := 1) (dl_at t_X8_width 110 rfl) ?_
            refine g_isub (pc := 195) X r9_189 (r32_c rfl) (dl_at t_X8_width 111 rfl) ?_
            refine g_gd fun k196 => ?_
            refine g_bald (pc := 196) X (r32_w _) k196 (dl_at t_X8_width 112 rfl) fun g196 => ?_
            refine g_ltb g196 fun x7_197 r7_197 => ?_
            refine g_istore (pc := 197) X (i := 7) (x := x7_197) (rest := [(9, iv x9_189), (0, rv D a0), (1, rv D a1), (2, rv D a2), (4, iv a4), (5, jv x5_174), (11, iv x11_29)]) (Nat.le_of_ble_eq_true rfl) [0, 1, 2, 3, 4, 5, 6] rfl rfl (dl_at t_X8_width 113 rfl) ?_
            refine g_iload (pc := 199) X (i := 11) (q := 7) (x := x11_29) rfl (dl_at t_X8_width 114 rfl) ?_
            refine g_istoreN (pc := 201) X (i := 8) (x := x11_29) (b := 7) (w := iv x7_197) (rest := [(9, iv x9_189), (0, rv D a0), (1, rv D a1), (2, rv D a2), (4, iv a4), (5, jv x5_174)]) (Nat.le_of_ble_eq_true rfl) [0, 1, 2, 3, 4, 5, 6] rfl (by decide) rfl rfl (dl_at t_X8_width 115 rfl) ?_
            refine g_goto (pc := 203) X (off := (-191)) (tgt := 12) rfl (dl_at t_X8_width 116 rfl) ?_
            refine g_ls (ls2 := [(0, rv D a0), (1, rv D a1), (2, rv D a2), (4, iv a4), (5, jv x5_174), (7, iv x7_197), (8, iv x11_29), (9, iv x9_189)]) [3, 4, 5, 6, 7, 1, 0, 2] rfl ?_
            exact g_at fun Q hQ => hQ ⟨r5_174, (r32_b r7_197), r11_29, r9_189⟩
          intro J188
          refine g_ifeq (pc := 180) X (r32_z rs0_128) (off := 7) (tgt := 187) rfl (dl_at t_X8_width 102 rfl) (fun _ => ?_) (fun _ => ?_)
          · refine g_iconst (pc := 187) X (n := 1) (dl_at t_X8_width 105 rfl) ?_
            refine g_ls (ls2 := [(0, rv D a0), (1, rv D a1), (2, rv D a2), (4, iv a4), (5, jv x5_174), (11, iv x11_29)]) [2, 3, 4, 1, 0, 6] rfl ?_
            exact J188 1 (r32_c rfl)
          refine g_iconst (pc := 183) X (n := 2) (dl_at t_X8_width 103 rfl) ?_
          refine g_goto (pc := 184) X (off := 4) (tgt := 188) rfl (dl_at t_X8_width 104 rfl) ?_
          refine g_ls (ls2 := [(0, rv D a0), (1, rv D a1), (2, rv D a2), (4, iv a4), (5, jv x5_174), (11, iv x11_29)]) [2, 3, 4, 1, 0, 6] rfl ?_
          exact J188 2 (r32_c rfl)
        intro J169
        refine g_ifeq (pc := 136) X (r32_z rs0_128) (off := 26) (tgt := 162) rfl (dl_at t_X8_width 76 rfl) (fun _ => ?_) (fun _ => ?_)
        · refine g_aload_n (pc := 162) X (j := 0) (i := 0) (q := 2) (x := a0) rfl rfl (dl_at t_X8_width 92 rfl) ?_
          refine r_getr (pc := 163) X fX8_0 hk q866 (dl_at t_X8_width 93 rfl) ?_
          refine g_iload (pc := 166) X (i := 10) (q := 8) (x := x10_23) rfl (dl_at t_X8_width 94 rfl) ?_
          refine g_gd fun k168 => ?_
          refine g_iald (pc := 168) X (r32_b r10_23) k168 (dl_at t_X8_width 95 rfl) fun g168 => ?_
          refine g_ls (ls2 := [(0, rv D a0), (1, rv D a1), (2, rv D a2), (4, iv a4), (9, iv x9_12), (11, iv x11_29), (12, iv s0_128)]) [2, 3, 4, 5, 7, 1, 0] rfl ?_
          exact J169 (h (h a0 0) x10_23) g168
        refine g_aload_n (pc := 139) X (j := 0) (i := 0) (q := 2) (x := a0) rfl rfl (dl_at t_X8_width 77 rfl) ?_
        refine r_getr (pc := 140) X fX8_3 hk q869 (dl_at t_X8_width 78 rfl) ?_
        refine g_sipush (pc := 143) X (n := 128) rfl (dl_at t_X8_width 79 rfl) ?_
        refine g_iload (pc := 146) X (i := 10) (q := 8) (x := x10_23) rfl (dl_at t_X8_width 80 rfl) ?_
        refine g_imul (pc := 148) X (r32_c rfl) (r32_b r10_23) (dl_at t_X8_width 81 rfl) ?_
        refine g_aload_n (pc := 149) X (j := 1) (i := 1) (q := 3) (x := a1) rfl rfl (dl_at t_X8_width 82 rfl) ?_
        refine g_iload (pc := 150) X (i := 9) (q := 7) (x := x9_12) rfl (dl_at t_X8_width 83 rfl) ?_
        refine g_iconst (pc := 152) X (n := 1) (dl_at t_X8_width 84 rfl) ?_
        refine g_iadd (pc := 153) X r9_12 (r32_c rfl) (dl_at t_X8_width 85 rfl) ?_
        refine g_gd fun k154 => ?_
        refine g_bald (pc := 154) X (r32_w _) k154 (dl_at t_X8_width 86 rfl) fun g154 => ?_
        refine g_iadd (pc := 155) X (r32_w _) (r32_b g154) (dl_at t_X8_width 87 rfl) ?_
        refine g_gd fun k156 => ?_
        refine g_iald (pc := 156) X (r32_w _) k156 (dl_at t_X8_width 88 rfl) fun g156 => ?_
        refine g_iconst (pc := 157) X (n := 1) (dl_at t_X8_width 89 rfl) ?_
        refine g_isub (pc := 158) X g156 (r32_c rfl) (dl_at t_X8_width 90 rfl) ?_
        refine g_goto (pc := 159) X (off := 10) (tgt := 169) rfl (dl_at t_X8_width 91 rfl) ?_
        refine g_ls (ls2 := [(0, rv D a0), (1, rv D a1), (2, rv D a2), (4, iv a4), (9, iv x9_12), (11, iv x11_29), (12, iv s0_128)]) [2, 3, 4, 5, 7, 1, 0] rfl ?_
        exact J169 (w32 ((h (h a0 3) (w32 ((w32 (128 * x10_23)) + (h a1 (w32 (x9_12 + 1)))))) - 1)) (r32_w _)
      intro J128
      refine g_join (γ := Unit) (fun q => True) 127 (fun q => [(0, rv D a0), (1, rv D a1), (2, rv D a2), (4, iv a4), (5, jv x5_88), (9, iv x9_12), (10, iv x10_23), (11, iv x11_29)]) (fun q => []) (fun q => h) (fun q => m_X8_width_j127 a0 a1 x5_88 x9_12 x10_23 x11_29 h) ?_ ?_
      · rintro _ _
        try dsimp only
        unfold m_X8_width_j127
        refine g_iconst (pc := 127) X (n := 0) (dl_at t_X8_width 71 rfl) ?_
        exact J128 0 (Or.inl rfl)
      intro J127
      refine g_icmpge (pc := 94) X (r32_w _) r4 (off := 33) (tgt := 127) rfl (dl_at t_X8_width 52 rfl) (fun _ => ?_) (fun _ => ?_)
      · exact J127 () trivial
      refine g_aload_n (pc := 97) X (j := 2) (i := 2) (q := 2) (x := a2) rfl rfl (dl_at t_X8_width 53 rfl) ?_
      refine g_iload (pc := 98) X (i := 9) (q := 5) (x := x9_12) rfl (dl_at t_X8_width 54 rfl) ?_
      refine g_iconst (pc := 100) X (n := 1) (dl_at t_X8_width 55 rfl) ?_
      refine g_iadd (pc := 101) X r9_12 (r32_c rfl) (dl_at t_X8_width 56 rfl) ?_
      refine g_gd fun k102 => ?_
      refine g_iald (pc := 102) X (r32_w _) k102 (dl_at t_X8_width 57 rfl) fun g102 => ?_
      refine g_iload (pc := 103) X (i := 11) (q := 7) (x := x11_29) rfl (dl_at t_X8_width 58 rfl) ?_
      refine g_icmpne (pc := 105) X g102 r11_29 (off := 22) (tgt := 127) rfl (dl_at t_X8_width 59 rfl) (fun _ => ?_) (fun _ => ?_)
      · exact J127 () trivial
      refine g_aload_n (pc := 108) X (j := 0) (i := 0) (q := 0) (x := a0) rfl rfl (dl_at t_X8_width 60 rfl) ?_
      refine g_iload (pc := 109) X (i := 10) (q := 6) (x := x10_23) rfl (dl_at t_X8_width 61 rfl) ?_
      refine g_aload_n (pc := 111) X (j := 1) (i := 1) (q := 1) (x := a1) rfl rfl (dl_at t_X8_width 62 rfl) ?_
      refine g_iload (pc := 112) X (i := 9) (q := 5) (x := x9_12) rfl (dl_at t_X8_width 63 rfl) ?_
      refine g_iconst (pc := 114) X (n := 1) (dl_at t_X8_width 64 rfl) ?_
      refine g_iadd (pc := 115) X r9_12 (r32_c rfl) (dl_at t_X8_width 65 rfl) ?_
      refine g_gd fun k116 => ?_
      refine g_bald (pc := 116) X (r32_w _) k116 (dl_at t_X8_width 66 rfl) fun g116 => ?_
      refine r_callRz (pc := 117) X (fun _ hv => s_X8_joins hk (r32_b r10_23) (r32_b g116) hv) cw_code q2660 q362 (in_Vk X (As := [iv x10_23, iv (h a1 (w32 (x9_12 + 1)))]) kX8 hk (Or.inl q2657) q2659 qs133 cw_code q2660 ⟨by decide, by decide⟩ rfl (dl_at t_X8_width 67 rfl)) (dl_at t_X8_width 67 rfl) (cat24 (st := []) (Nat.le_of_ble_eq_true rfl)) (Nat.le_of_ble_eq_true rfl) (Nat.le_of_ble_eq_true rfl) fun v117 g117 => ?_
      refine g_ifeq (pc := 120) X (r32_z g117) (off := 7) (tgt := 127) rfl (dl_at t_X8_width 68 rfl) (fun _ => ?_) (fun _ => ?_)
      · exact J127 () trivial
      refine g_iconst (pc := 123) X (n := 1) (dl_at t_X8_width 69 rfl) ?_
      refine g_goto (pc := 124) X (off := 4) (tgt := 128) rfl (dl_at t_X8_width 70 rfl) ?_
      exact J128 1 (Or.inr rfl)
    intro J88
    refine g_iflt (pc := 33) X r7_12 (off := 55) (tgt := 88) rfl (dl_at t_X8_width 20 rfl) (fun _ => ?_) (fun _ => ?_)
    · refine g_ls (ls2 := [(0, rv D a0), (1, rv D a1), (2, rv D a2), (4, iv a4), (5, jv x5_12), (9, iv x9_12), (10, iv x10_23), (11, iv x11_29)]) [3, 4, 5, 6, 7, 2, 1, 0] rfl ?_
      exact J88 x5_12 r5_12
    refine g_iload (pc := 36) X (i := 8) (q := 9) (x := x8_12) rfl (dl_at t_X8_width 21 rfl) ?_
    refine g_iload (pc := 38) X (i := 11) (q := 0) (x := x11_29) rfl (dl_at t_X8_width 22 rfl) ?_
    refine g_icmpne (pc := 40) X r8_12 r11_29 (off := 48) (tgt := 88) rfl (dl_at t_X8_width 23 rfl) (fun _ => ?_) (fun _ => ?_)
    · refine g_ls (ls2 := [(0, rv D a0), (1, rv D a1), (2, rv D a2), (4, iv a4), (5, jv x5_12), (9, iv x9_12), (10, iv x10_23), (11, iv x11_29)]) [3, 4, 5, 6, 7, 2, 1, 0] rfl ?_
      exact J88 x5_12 r5_12
    refine g_aload_n (pc := 43) X (j := 0) (i := 0) (q := 3) (x := a0) rfl rfl (dl_at t_X8_width 24 rfl) ?_
    refine r_getr (pc := 44) X fX8_2 hk q868 (dl_at t_X8_width 25 rfl) ?_
    refine g_sipush (pc := 47) X (n := 128) rfl (dl_at t_X8_width 26 rfl) ?_
    refine g_iload (pc := 50) X (i := 7) (q := 8) (x := x7_12) rfl (dl_at t_X8_width 27 rfl) ?_
    refine g_imul (pc := 52) X (r32_c rfl) r7_12 (dl_at t_X8_width 28 rfl) ?_
    refine g_iload (pc := 53) X (i := 10) (q := 1) (x := x10_23) rfl (dl_at t_X8_width 29 rfl) ?_
    refine g_iadd (pc := 55) X (r32_w _) (r32_b r10_23) (dl_at t_X8_width 30 rfl) ?_
    refine g_gd fun k56 => ?_
    refine g_iald (pc := 56) X (r32_w _) k56 (dl_at t_X8_width 31 rfl) fun g56 => ?_
    refine g_sipush (pc := 57) X (n := 1000) rfl (dl_at t_X8_width 32 rfl) ?_
    refine g_icmpeq (pc := 60) X g56 (r32_c rfl) (off := 28) (tgt := 88) rfl (dl_at t_X8_width 33 rfl) (fun _ => ?_) (fun _ => ?_)
    · refine g_ls (ls2 := [(0, rv D a0), (1, rv D a1), (2, rv D a2), (4, iv a4), (5, jv x5_12), (9, iv x9_12), (10, iv x10_23), (11, iv x11_29)]) [3, 4, 5, 6, 7, 2, 1, 0] rfl ?_
      exact J88 x5_12 r5_12
    refine g_lload (pc := 63) X (i := 5) (q := 7) (x := x5_12) rfl (dl_at t_X8_width 34 rfl) ?_
    refine g_iload (pc := 65) X (i := 11) (q := 0) (x := x11_29) rfl (dl_at t_X8_width 35 rfl) ?_
    refine g_aload_n (pc := 67) X (j := 0) (i := 0) (q := 3) (x := a0) rfl rfl (dl_at t_X8_width 36 rfl) ?_
    refine r_getr (pc := 68) X fX8_2 hk q868 (dl_at t_X8_width 37 rfl) ?_
    refine g_sipush (pc := 71) X (n := 128) rfl (dl_at t_X8_width 38 rfl) ?_
    refine g_iload (pc := 74) X (i := 7) (q := 8) (x := x7_12) rfl (dl_at t_X8_width 39 rfl) ?_
    refine g_imul (pc := 76) X (r32_c rfl) r7_12 (dl_at t_X8_width 40 rfl) ?_
    refine g_iload (pc := 77) X (i := 10) (q := 1) (x := x10_23) rfl (dl_at t_X8_width 41 rfl) ?_
    refine g_iadd (pc := 79) X (r32_w _) (r32_b r10_23) (dl_at t_X8_width 42 rfl) ?_
    refine g_iald (pc := 80) X (r32_w _) k56 (dl_at t_X8_width 43 rfl) fun g80 => ?_
    refine r_callRi (pc := 81) X (fun _ hv => s_X8_part r11_29 g80 hv) cw_code q2655 q362 (in_Sc X (As := [iv x11_29, iv (h (h a0 2) (w32 ((w32 (128 * x7_12)) + x10_23)))]) (Or.inl q2653) q2654 q362 q2655 ⟨by decide, by decide⟩ rfl (dl_at t_X8_width 44 rfl)) (dl_at t_X8_width 44 rfl) (cat24 (st := [jv x5_12]) (Nat.le_of_ble_eq_true rfl)) (Nat.le_of_ble_eq_true rfl) (Nat.le_of_ble_eq_true rfl) fun v81 g81 => ?_
    refine g_i2l (pc := 84) X g81 (dl_at t_X8_width 45 rfl) ?_
    refine g_ladd (pc := 85) X r5_12 (r64_of g81) (dl_at t_X8_width 46 rfl) ?_
    refine g_ltl (r64_w _) fun x5_86 r5_86 => ?_
    refine g_lstoreN (pc := 86) X (i := 5) (x := x5_86) (b := 4) (w := iv a4) (rest := [(11, iv x11_29), (10, iv x10_23), (9, iv x9_12), (0, rv D a0), (1, rv D a1), (2, rv D a2)]) (Nat.le_of_ble_eq_true rfl) [6, 0, 1, 2, 3, 4, 5] rfl (by decide) (by decide) rfl rfl (dl_at t_X8_width 47 rfl) ?_
    refine g_ls (ls2 := [(0, rv D a0), (1, rv D a1), (2, rv D a2), (4, iv a4), (5, jv x5_86), (9, iv x9_12), (10, iv x10_23), (11, iv x11_29)]) [5, 6, 7, 1, 0, 4, 3, 2] rfl ?_
    exact J88 x5_86 r5_86
  · rintro x5_206 r5_206
    try dsimp only [sE]
    refine g_lload (pc := 206) X (i := 5) (q := 0) (x := x5_206) rfl (dl_at t_X8_width 117 rfl) ?_
    refine g_lconst0 (pc := 208) X (dl_at t_X8_width 118 rfl) ?_
    refine g_lcmp (pc := 209) X r5_206 (r64_c rfl) (dl_at t_X8_width 119 rfl) ?_
    refine g_ifge (pc := 210) X (r32_lcmp _ _) (off := 7) (tgt := 217) rfl (dl_at t_X8_width 120 rfl) (fun _ => ?_) (fun _ => ?_)
    · refine g_lload (pc := 217) X (i := 5) (q := 0) (x := x5_206) rfl (dl_at t_X8_width 123 rfl) ?_
      exact g_lret (pc := 219) X r5_206 rfl rfl (dl_at t_X8_width 124 rfl)
    refine g_lconst0 (pc := 213) X (dl_at t_X8_width 121 rfl) ?_
    refine g_goto (pc := 214) X (off := 5) (tgt := 219) rfl (dl_at t_X8_width 122 rfl) ?_
    exact g_lret (pc := 219) X (r64_c rfl) rfl rfl (dl_at t_X8_width 124 rfl)
def k_X28_sizeOf : List (Nat × Instr × Nat) := [(0, .aload_n 0, 1), (1, .getfield 9, 3), (4, .getfield 25, 3), (7, .aload_n 0, 1), (8, .getfield 21, 3), (11, .iload_n 1, 1), (12, .iadd, 1), (13, .iaload, 1), (14, .ireturn, 1)]
theorem t_X28_sizeOf : ∀ q ∈ k_X28_sizeOf, decode cX28_sizeOf q.1 = .ok q.2 := dl_all (by decide +kernel)
noncomputable def m_X28_sizeOf (a0 a1 : Int) (h : Hp) : Option (Int) :=
  gd (h (h a0 0) (-2) = 240) (gd (h (h (h a0 0) 1) (-2) % 16 = 1 ∧ (0 : Int) ≤ (w32 ((h a0 1) + a1)) ∧ (w32 ((h a0 1) + a1)) < h (h (h a0 0) 1) (-1)) (some (h (h (h a0 0) 1) (w32 ((h a0 1) + a1)))))
theorem s_X28_sizeOf {l : Launch} [NoTr l] {D : SD} {a0 a1 : Int} {h : Hp} (hk : h a0 (-2) = 288) (r1 : r32 a1) {r : Int} (hm : m_X28_sizeOf a0 a1 h = some r) : Sim l D yX28_sizeOf (Cond.code yX28_sizeOf cX28_sizeOf 2 (Option.some Jvm.ClassFile.FieldType.int)) 0 0 [rv D a0, iv a1] h 1 ((0, r), h) := by
  refine Sim.of (fin := fun (v : Int) => ((0, v), h)) (lsE := [(0, rv D a0), (1, iv a1)]) hm rfl cwS_code (la_r (la_i la_n)) (ll_r (ll_i ll_n)) ?_
  intro p e s m below meth c X hcw hmm hcc hnm hname
  unfold m_X28_sizeOf
  refine g_aload_n (pc := 0) X (j := 0) (i := 0) (q := 0) (x := a0) rfl rfl (dl_at t_X28_sizeOf 0 rfl) ?_
  refine r_getr (pc := 1) X fX28_0 hk q2528 (dl_at t_X28_sizeOf 1 rfl) ?_
  refine g_gd fun k4 => ?_
  refine r_getrN (pc := 4) X fX15_1 k4 (nw_in q1131 rfl) (dl_at t_X28_sizeOf 2 rfl) ?_
  refine g_aload_n (pc := 7) X (j := 0) (i := 0) (q := 0) (x := a0) rfl rfl (dl_at t_X28_sizeOf 3 rfl) ?_
  refine r_geti (pc := 8) X fX28_1 hk q2529 (dl_at t_X28_sizeOf 4 rfl) fun g8 => ?_
  refine g_iload_n (pc := 11) X (j := 1) (i := 1) (q := 1) (x := a1) rfl rfl (dl_at t_X28_sizeOf 5 rfl) ?_
  refine g_iadd (pc := 12) X g8 r1 (dl_at t_X28_sizeOf 6 rfl) ?_
  refine g_gd fun k13 => ?_
  refine g_iald (pc := 13) X (r32_w _) k13 (dl_at t_X28_sizeOf 7 rfl) fun g13 => ?_
  exact g_iret (pc := 14) X g13 rfl rfl (dl_at t_X28_sizeOf 8 rfl)
def k_X8_width_2 : List (Nat × Instr × Nat) := [(0, .iload_n 2, 1), (1, .aload_n 0, 1), (2, .getfield 9, 3), (5, .iload_n 1, 1), (6, .iaload, 1), (7, .invokestatic 89, 3), (10, .ireturn, 1)]
theorem t_X8_width_2 : ∀ q ∈ k_X8_width_2, decode cX8_width_2 q.1 = .ok q.2 := dl_all (by decide +kernel)
noncomputable def m_X8_width_2 (a0 a1 a2 : Int) (h : Hp) : Option (Int) :=
  gd (h (h a0 0) (-2) % 16 = 1 ∧ (0 : Int) ≤ a1 ∧ a1 < h (h a0 0) (-1)) ((m_X8_part a2 (h (h a0 0) a1)).bind fun v7 =>
  some v7)
theorem s_X8_width_2 {l : Launch} [NoTr l] {D : SD} {a0 a1 a2 : Int} {h : Hp} (hk : h a0 (-2) = 128) (r1 : r32 a1) (r2 : r32 a2) {r : Int} (hm : m_X8_width_2 a0 a1 a2 h = some r) : Sim l D yX8_width_2 (Cond.code yX8_width_2 cX8_width_2 3 (Option.some Jvm.ClassFile.FieldType.int)) 1 37 [rv D a0, iv a1, iv a2] h 1 ((0, r), h) := by
  refine Sim.of (fin := fun (v : Int) => ((0, v), h)) (lsE := [(0, rv D a0), (1, iv a1), (2, iv a2)]) hm rfl cwS_code (la_r (la_i (la_i la_n))) (ll_r (ll_i (ll_i ll_n))) ?_
  intro p e s m below meth c X hcw hmm hcc hnm hname
  unfold m_X8_width_2
  refine g_iload_n (pc := 0) X (j := 2) (i := 2) (q := 2) (x := a2) rfl rfl (dl_at t_X8_width_2 0 rfl) ?_
  refine g_aload_n (pc := 1) X (j := 0) (i := 0) (q := 0) (x := a0) rfl rfl (dl_at t_X8_width_2 1 rfl) ?_
  refine r_getr (pc := 2) X fX8_0 hk q866 (dl_at t_X8_width_2 2 rfl) ?_
  refine g_iload_n (pc := 5) X (j := 1) (i := 1) (q := 1) (x := a1) rfl rfl (dl_at t_X8_width_2 3 rfl) ?_
  refine g_gd fun k6 => ?_
  refine g_iald (pc := 6) X r1 k6 (dl_at t_X8_width_2 4 rfl) fun g6 => ?_
  refine r_callRi (pc := 7) X (fun _ hv => s_X8_part r2 g6 hv) cw_code q2655 q362 (in_Sc X (As := [iv a2, iv (h (h a0 0) a1)]) (Or.inl q2653) q2654 q362 q2655 ⟨by decide, by decide⟩ rfl (dl_at t_X8_width_2 5 rfl)) (dl_at t_X8_width_2 5 rfl) (cat24 (st := []) (Nat.le_of_ble_eq_true rfl)) (Nat.le_of_ble_eq_true rfl) (Nat.le_of_ble_eq_true rfl) fun v7 g7 => ?_
  exact g_iret (pc := 10) X g7 rfl rfl (dl_at t_X8_width_2 6 rfl)
def k_X28_measure : List (Nat × Instr × Nat) := [(0, .iconst 0, 1), (1, .istore_n 2, 1), (2, .aload_n 0, 1), (3, .getfield 9, 3), (6, .getfield 44, 3), (9, .aload_n 0, 1), (10, .getfield 35, 3), (13, .lconst 0, 1), (14, .lastore, 1), (15, .aload_n 0, 1), (16, .getfield 9, 3), (19, .getfield 48, 3), (22, .aload_n 0, 1), (23, .getfield 35, 3), (26, .lconst 0, 1), (27, .lastore, 1), (28, .aload_n 0, 1), (29, .getfield 9, 3), (32, .getfield 128, 3), (35, .aload_n 0, 1), (36, .getfield 35, 3), (39, .lconst 0, 1), (40, .lastore, 1), (41, .aload_n 0, 1), (42, .getfield 9, 3), (45, .getfield 131, 3), (48, .aload_n 0, 1), (49, .getfield 35, 3), (52, .lconst 0, 1), (53, .lastore, 1), (54, .aload_n 0, 1), (55, .getfield 35, 3), (58, .iconst 1, 1), (59, .iadd, 1), (60, .istore_n 3, 1), (61, .iload_n 3, 1), (62, .aload_n 0, 1), (63, .getfield 35, 3), (66, .aload_n 0, 1), (67, .getfield 75, 3), (70, .iadd, 1), (71, .if_icmp .gt 276, 3), (74, .aload_n 0, 1), (75, .getfield 9, 3), (78, .getfield 44, 3), (81, .iload_n 3, 1), (82, .aload_n 0, 1), (83, .getfield 9, 3), (86, .getfield 44, 3), (89, .iload_n 3, 1), (90, .iconst 1, 1), (91, .isub, 1), (92, .laload, 1), (93, .aload_n 1, 1), (94, .aload_n 0, 1), (95, .getfield 9, 3), (98, .getfield 15, 3), (101, .aload_n 0, 1), (102, .getfield 9, 3), (105, .getfield 25, 3), (108, .aload_n 0, 1), (109, .getfield 21, 3), (112, .iload_n 2, 1), (113, .iadd, 1), (114, .aload_n 0, 1), (115, .getfield 21, 3), (118, .aload_n 0, 1), (119, .getfield 9, 3), (122, .getfield 38, 3), (125, .iload_n 3, 1), (126, .iaload, 1), (127, .iadd, 1), (128, .invokevirtual 134, 3), (131, .ladd, 1), (132, .lastore, 1), (133, .aload_n 0, 1), (134, .getfield 9, 3), (137, .getfield 48, 3), (140, .iload_n 3, 1), (141, .aload_n 0, 1), (142, .getfield 9, 3), (145, .getfield 48, 3), (148, .iload_n 3, 1), (149, .iconst 1, 1), (150, .isub, 1), (151, .laload, 1), (152, .lastore, 1), (153, .aload_n 0, 1), (154, .getfield 9, 3), (157, .getfield 128, 3), (160, .iload_n 3, 1), (161, .aload_n 0, 1), (162, .getfield 9, 3), (165, .getfield 128, 3), (168, .iload_n 3, 1), (169, .iconst 1, 1), (170, .isub, 1), (171, .laload, 1), (172, .lastore, 1), (173, .aload_n 0, 1), (174, .getfield 9, 3), (177, .getfield 131, 3), (180, .iload_n 3, 1), (181, .aload_n 0, 1), (182, .getfield 9, 3), (185, .getfield 131, 3), (188, .iload_n 3, 1), (189, .iconst 1, 1), (190, .isub, 1), (191, .laload, 1), (192, .lastore, 1), (193, .aload_n 0, 1), (194, .getfield 9, 3), (197, .getfield 139, 3), (200, .iload_n 3, 1), (201, .iconst 0, 1), (202, .iastore, 1), (203, .aload_n 0, 1), (204, .getfield 9, 3), (207, .getfield 32, 3), (210, .iload_n 3, 1), (211, .iaload, 1), (212, .ifCond .ne 76, 3), (215, .aload_n 1, 1), (216, .bipush 32, 2), (218, .aload_n 0, 1), (219, .aload_n 0, 1), (220, .getfield 9, 3), (223, .getfield 38, 3), (226, .iload_n 3, 1), (227, .iaload, 1), (228, .invokevirtual 82, 3), (231, .invokevirtual 142, 3), (234, .istore 4, 2), (236, .aload_n 0, 1), (237, .getfield 9, 3), (240, .getfield 48, 3), (243, .iload_n 3, 1), (244, .dup2, 1), (245, .laload, 1), (246, .iload 4, 2), (248, .i2l, 1), (249, .ladd, 1), (250, .lastore, 1), (251, .aload_n 0, 1), (252, .getfield 9, 3), (255, .getfield 128, 3), (258, .iload_n 3, 1), (259, .dup2, 1), (260, .laload, 1), (261, .iload 4, 2), (263, .iconst 2, 1), (264, .idiv, 1), (265, .i2l, 1), (266, .ladd, 1), (267, .lastore, 1), (268, .aload_n 0, 1), (269, .getfield 9, 3), (272, .getfield 131, 3), (275, .iload_n 3, 1), (276, .dup2, 1), (277, .laload, 1), (278, .iload 4, 2), (280, .iconst 3, 1), (281, .idiv, 1), (282, .i2l, 1), (283, .ladd, 1), (284, .lastore, 1), (285, .goto 46, 3), (288, .aload_n 0, 1), (289, .getfield 9, 3), (292, .getfield 32, 3), (295, .iload_n 3, 1), (296, .iaload, 1), (297, .iconst 1, 1), (298, .if_icmp .ne 33, 3), (301, .aload_n 0, 1), (302, .getfield 9, 3), (305, .getfield 139, 3), (308, .iload_n 3, 1), (309, .aload_n 1, 1), (310, .bipush 45, 2), (312, .aload_n 0, 1), (313, .aload_n 0, 1), (314, .getfield 9, 3), (317, .getfield 38, 3), (320, .iload_n 3, 1), (321, .iaload, 1), (322, .iconst 1, 1), (323, .isub, 1), (324, .invokevirtual 82, 3), (327, .invokevirtual 142, 3), (330, .iastore, 1), (331, .aload_n 0, 1), (332, .getfield 9, 3), (335, .getfield 41, 3), (338, .iload_n 3, 1), (339, .iaload, 1), (340, .istore_n 2, 1), (341, .iinc 3 1, 3), (344, .goto (-283), 3), (347, .return_, 1)]
theorem t_X28_measure : ∀ q ∈ k_X28_measure, decode cX28_measure q.1 = .ok q.2 := dl_all (by decide +kernel)
noncomputable def m_X28_measure_j331 (a0 x3_61 : Int) (h_331 : Hp) : Option ((Int × Int × Hp) ⊕ ((Hp))) :=
  gd (h_331 (h_331 a0 0) (-2) = 240) (gd (h_331 (h_331 (h_331 a0 0) 6) (-2) % 16 = 1 ∧ (0 : Int) ≤ x3_61 ∧ x3_61 < h_331 (h_331 (h_331 a0 0) 6) (-1)) (lt_ (h_331 (h_331 (h_331 a0 0) 6) x3_61) fun x2_340 =>
  lt_ (w32 (x3_61 + 1)) fun x3_341 =>
  some (.inl (x2_340, x3_341, h_331))))
noncomputable def m_X28_measure_l61 (a0 a1 x2_61 x3_61 : Int) (h_61 : Hp) : Option ((Int × Int × Hp) ⊕ ((Hp))) :=
  if (w32 ((h_61 a0 15) + (h_61 a0 16))) < x3_61 then (some (.inr h_61))
  else (gd (h_61 (h_61 a0 0) (-2) = 240) (gd (h_61 (h_61 (h_61 a0 0) 8) (-2) % 16 = 4 ∧ (0 : Int) ≤ (w32 (x3_61 - 1)) ∧ (w32 (x3_61 - 1)) < h_61 (h_61 (h_61 a0 0) 8) (-1)) (gd (h_61 (h_61 (h_61 a0 0) 5) (-2) % 16 = 1 ∧ (0 : Int) ≤ x3_61 ∧ x3_61 < h_61 (h_61 (h_61 a0 0) 5) (-1)) (gd (h_61 a1 (-2) = 128) ((m_X8_width a1 (h_61 (h_61 a0 0) 0) (h_61 (h_61 a0 0) 1) (w32 ((h_61 a0 1) + x2_61)) (w32 ((h_61 a0 1) + (h_61 (h_61 (h_61 a0 0) 5) x3_61))) h_61).bind fun v128 =>
  gd (h_61 (h_61 (h_61 a0 0) 8) (-2) % 16 = 4 ∧ (0 : Int) ≤ x3_61 ∧ x3_61 < h_61 (h_61 (h_61 a0 0) 8) (-1)) (pt h_61 (h_61 (h_61 a0 0) 8) x3_61 (w64 ((h_61 (h_61 (h_61 a0 0) 8) (w32 (x3_61 - 1))) + v128)) fun h132 =>
  gd (h132 (h132 a0 0) (-2) = 240) (gd (h132 (h132 (h132 a0 0) 9) (-2) % 16 = 4 ∧ (0 : Int) ≤ (w32 (x3_61 - 1)) ∧ (w32 (x3_61 - 1)) < h132 (h132 (h132 a0 0) 9) (-1)) (gd (h132 (h132 (h132 a0 0) 9) (-2) % 16 = 4 ∧ (0 : Int) ≤ x3_61 ∧ x3_61 < h132 (h132 (h132 a0 0) 9) (-1)) (pt h132 (h132 (h132 a0 0) 9) x3_61 (h132 (h132 (h132 a0 0) 9) (w32 (x3_61 - 1))) fun h152 =>
  gd (h152 (h152 a0 0) (-2) = 240) (gd (h152 (h152 (h152 a0 0) 10) (-2) % 16 = 4 ∧ (0 : Int) ≤ (w32 (x3_61 - 1)) ∧ (w32 (x3_61 - 1)) < h152 (h152 (h152 a0 0) 10) (-1)) (gd (h152 (h152 (h152 a0 0) 10) (-2) % 16 = 4 ∧ (0 : Int) ≤ x3_61 ∧ x3_61 < h152 (h152 (h152 a0 0) 10) (-1)) (pt h152 (h152 (h152 a0 0) 10) x3_61 (h152 (h152 (h152 a0 0) 10) (w32 (x3_61 - 1))) fun h172 =>
  gd (h172 (h172 a0 0) (-2) = 240) (gd (h172 (h172 (h172 a0 0) 11) (-2) % 16 = 4 ∧ (0 : Int) ≤ (w32 (x3_61 - 1)) ∧ (w32 (x3_61 - 1)) < h172 (h172 (h172 a0 0) 11) (-1)) (gd (h172 (h172 (h172 a0 0) 11) (-2) % 16 = 4 ∧ (0 : Int) ≤ x3_61 ∧ x3_61 < h172 (h172 (h172 a0 0) 11) (-1)) (pt h172 (h172 (h172 a0 0) 11) x3_61 (h172 (h172 (h172 a0 0) 11) (w32 (x3_61 - 1))) fun h192 =>
  gd (h192 (h192 a0 0) (-2) = 240) (gd (h192 (h192 (h192 a0 0) 7) (-2) % 16 = 1 ∧ (0 : Int) ≤ x3_61 ∧ x3_61 < h192 (h192 (h192 a0 0) 7) (-1)) (pt h192 (h192 (h192 a0 0) 7) x3_61 0 fun h202 =>
  gd (h202 (h202 a0 0) (-2) = 240) (gd (h202 (h202 (h202 a0 0) 4) (-2) % 16 = 1 ∧ (0 : Int) ≤ x3_61 ∧ x3_61 < h202 (h202 (h202 a0 0) 4) (-1)) (if (h202 (h202 (h202 a0 0) 4) x3_61) ≠ 0 then (if (h202 (h202 (h202 a0 0) 4) x3_61) ≠ 1 then (m_X28_measure_j331 a0 x3_61 h202)
  else (gd (h202 (h202 (h202 a0 0) 5) (-2) % 16 = 1 ∧ (0 : Int) ≤ x3_61 ∧ x3_61 < h202 (h202 (h202 a0 0) 5) (-1)) ((m_X28_sizeOf a0 (w32 ((h202 (h202 (h202 a0 0) 5) x3_61) - 1)) h202).bind fun v324 =>
  (m_X8_width_2 a1 45 v324 h202).bind fun v327 =>
  gd (h202 (h202 (h202 a0 0) 7) (-2) % 16 = 1 ∧ (0 : Int) ≤ x3_61 ∧ x3_61 < h202 (h202 (h202 a0 0) 7) (-1)) (pt h202 (h202 (h202 a0 0) 7) x3_61 v327 fun h330 =>
  m_X28_measure_j331 a0 x3_61 h330))))
  else (gd (h202 (h202 (h202 a0 0) 5) (-2) % 16 = 1 ∧ (0 : Int) ≤ x3_61 ∧ x3_61 < h202 (h202 (h202 a0 0) 5) (-1)) ((m_X28_sizeOf a0 (h202 (h202 (h202 a0 0) 5) x3_61) h202).bind fun v228 =>
  (m_X8_width_2 a1 32 v228 h202).bind fun v231 =>
  gd (h202 (h202 (h202 a0 0) 9) (-2) % 16 = 4 ∧ (0 : Int) ≤ x3_61 ∧ x3_61 < h202 (h202 (h202 a0 0) 9) (-1)) (pt h202 (h202 (h202 a0 0) 9) x3_61 (w64 ((h202 (h202 (h202 a0 0) 9) x3_61) + v231)) fun h250 =>
  gd (h250 (h250 a0 0) (-2) = 240) (gd (h250 (h250 (h250 a0 0) 10) (-2) % 16 = 4 ∧ (0 : Int) ≤ x3_61 ∧ x3_61 < h250 (h250 (h250 a0 0) 10) (-1)) (pt h250 (h250 (h250 a0 0) 10) x3_61 (w64 ((h250 (h250 (h250 a0 0) 10) x3_61) + (w32 (Int.tdiv v231 2)))) fun h267 =>
  gd (h267 (h267 a0 0) (-2) = 240) (gd (h267 (h267 (h267 a0 0) 11) (-2) % 16 = 4 ∧ (0 : Int) ≤ x3_61 ∧ x3_61 < h267 (h267 (h267 a0 0) 11) (-1)) (pt h267 (h267 (h267 a0 0) 11) x3_61 (w64 ((h267 (h267 (h267 a0 0) 11) x3_61) + (w32 (Int.tdiv v231 3)))) fun h284 =>
  m_X28_measure_j331 a0 x3_61 h284))))))))))))))))))))))))))
noncomputable def m_X28_measure (a0 a1 : Int) (h : Hp) : Option (Hp) :=
  lt_ 0 fun x2_1 =>
  gd (h (h a0 0) (-2) = 240) (gd (h (h (h a0 0) 8) (-2) % 16 = 4 ∧ (0 : Int) ≤ (h a0 15) ∧ (h a0 15) < h (h (h a0 0) 8) (-1)) (pt h (h (h a0 0) 8) (h a0 15) 0 fun h14 =>
  gd (h14 (h14 a0 0) (-2) = 240) (gd (h14 (h14 (h14 a0 0) 9) (-2) % 16 = 4 ∧ (0 : Int) ≤ (h14 a0 15) ∧ (h14 a0 15) < h14 (h14 (h14 a0 0) 9) (-1)) (pt h14 (h14 (h14 a0 0) 9) (h14 a0 15) 0 fun h27 =>
  gd (h27 (h27 a0 0) (-2) = 240) (gd (h27 (h27 (h27 a0 0) 10) (-2) % 16 = 4 ∧ (0 : Int) ≤ (h27 a0 15) ∧ (h27 a0 15) < h27 (h27 (h27 a0 0) 10) (-1)) (pt h27 (h27 (h27 a0 0) 10) (h27 a0 15) 0 fun h40 =>
  gd (h40 (h40 a0 0) (-2) = 240) (gd (h40 (h40 (h40 a0 0) 11) (-2) % 16 = 4 ∧ (0 : Int) ≤ (h40 a0 15) ∧ (h40 a0 15) < h40 (h40 (h40 a0 0) 11) (-1)) (pt h40 (h40 (h40 a0 0) 11) (h40 a0 15) 0 fun h53 =>
  lt_ (w32 ((h53 a0 15) + 1)) fun x3_60 =>
  (lp (fun (q : Int × Int × Hp) => m_X28_measure_l61 a0 a1 q.1 q.2.1 q.2.2) (x2_1, x3_60, h53)).bind (fun (x : Hp) => some x)))))))))
theorem s_X28_measure {l : Launch} [NoTr l] {D : SD} {a0 a1 : Int} {h : Hp} (hk : h a0 (-2) = 288) {r : Hp} (hm : m_X28_measure a0 a1 h = some r) : Sim l D yX28_measure (Cond.code yX28_measure cX28_measure 5 (Option.none : Option Jvm.ClassFile.FieldType)) 2 86 [rv D a0, rv D a1] h 0 ((0, 0), r) := by
  refine Sim.of (fin := fun (v : Hp) => ((0, 0), v)) (lsE := [(0, rv D a0), (1, rv D a1)]) hm rfl cwS_code (la_r (la_r la_n)) (ll_r (ll_r ll_n)) ?_
  intro p e s m below meth c X hcw hmm hcc hnm hname
  unfold m_X28_measure
  refine g_iconst (pc := 0) X (n := 0) (dl_at t_X28_measure 0 rfl) ?_
  refine g_ltz (Or.inl rfl) fun x2_1 r2_1 => ?_
  refine g_istore_nN (pc := 1) X (j := 2) (i := 2) (x := x2_1) (b := 1) (w := rv D a1) (rest := [(0, rv D a0)]) rfl (Nat.le_of_ble_eq_true rfl) [1, 0] rfl (by decide) rv_cat rfl (dl_at t_X28_measure 1 rfl) ?_
  refine g_aload_n (pc := 2) X (j := 0) (i := 0) (q := 2) (x := a0) rfl rfl (dl_at t_X28_measure 2 rfl) ?_
  refine r_getr (pc := 3) X fX28_0 hk q2528 (dl_at t_X28_measure 3 rfl) ?_
  refine g_gd fun k6 => ?_
  refine r_getrN (pc := 6) X fX15_8 k6 (nw_in q1147 rfl) (dl_at t_X28_measure 4 rfl) ?_
  refine g_aload_n (pc := 9) X (j := 0) (i := 0) (q := 2) (x := a0) rfl rfl (dl_at t_X28_measure 5 rfl) ?_
  refine r_geti (pc := 10) X fX28_15 hk q2557 (dl_at t_X28_measure 6 rfl) fun g10 => ?_
  refine g_lconst0 (pc := 13) X (dl_at t_X28_measure 7 rfl) ?_
  refine g_gd fun k14 => ?_
  refine r_last (pc := 14) X g10 (r64_c rfl) k14 (dl_at t_X28_measure 8 rfl) (fun h14 E14 => ?_)
  refine g_aload_n (pc := 15) X (j := 0) (i := 0) (q := 2) (x := a0) rfl rfl (dl_at t_X28_measure 9 rfl) ?_
  have k16 := kx E14 (by decide) hk
  refine r_getr (pc := 16) X fX28_0 k16 q2528 (dl_at t_X28_measure 10 rfl) ?_
  refine g_gd fun k19 => ?_
  refine r_getrN (pc := 19) X fX15_9 k19 (nw_in q1149 rfl) (dl_at t_X28_measure 11 rfl) ?_
  refine g_aload_n (pc := 22) X (j := 0) (i := 0) (q := 2) (x := a0) rfl rfl (dl_at t_X28_measure 12 rfl) ?_
  refine r_geti (pc := 23) X fX28_15 k16 q2557 (dl_at t_X28_measure 13 rfl) fun g23 => ?_
  refine g_lconst0 (pc := 26) X (dl_at t_X28_measure 14 rfl) ?_
  refine g_gd fun k27 => ?_
  refine r_last (pc := 27) X g23 (r64_c rfl) k27 (dl_at t_X28_measure 15 rfl) (fun h27 E27 => ?_)
  refine g_aload_n (pc := 28) X (j := 0) (i := 0) (q := 2) (x := a0) rfl rfl (dl_at t_X28_measure 16 rfl) ?_
  have k29 := kx E27 (by decide) k16
  refine r_getr (pc := 29) X fX28_0 k29 q2528 (dl_at t_X28_measure 17 rfl) ?_
  refine g_gd fun k32 => ?_
  refine r_getrN (pc := 32) X fX15_10 k32 (nw_in q1151 rfl) (dl_at t_X28_measure 18 rfl) ?_
  refine g_aload_n (pc := 35) X (j := 0) (i := 0) (q := 2) (x := a0) rfl rfl (dl_at t_X28_measure 19 rfl) ?_
  refine r_geti (pc := 36) X fX28_15 k29 q2557 (dl_at t_X28_measure 20 rfl) fun g36 => ?_
  refine g_lconst0 (pc := 39) X (dl_at t_X28_measure 21 rfl) ?_
  refine g_gd fun k40 => ?_
  refine r_last (pc := 40) X g36 (r64_c rfl) k40 (dl_at t_X28_measure 22 rfl) (fun h40 E40 => ?_)
  refine g_aload_n (pc := 41) X (j := 0) (i := 0) (q := 2) (x := a0) rfl rfl (dl_at t_X28_measure 23 rfl) ?_
  have k42 := kx E40 (by decide) k29
  refine r_getr (pc := 42) X fX28_0 k42 q2528 (dl_at t_X28_measure 24 rfl) ?_
  refine g_gd fun k45 => ?_
  refine r_getrN (pc := 45) X fX15_11 k45 (nw_in q1153 rfl) (dl_at t_X28_measure 25 rfl) ?_
  refine g_aload_n (pc := 48) X (j := 0) (i := 0) (q := 2) (x := a0) rfl rfl (dl_at t_X28_measure 26 rfl) ?_
  refine r_geti (pc := 49) X fX28_15 k42 q2557 (dl_at t_X28_measure 27 rfl) fun g49 => ?_
  refine g_lconst0 (pc := 52) X (dl_at t_X28_measure 28 rfl) ?_
  refine g_gd fun k53 => ?_
  refine r_last (pc := 53) X g49 (r64_c rfl) k53 (dl_at t_X28_measure 29 rfl) (fun h53 E53 => ?_)
  refine g_aload_n (pc := 54) X (j := 0) (i := 0) (q := 2) (x := a0) rfl rfl (dl_at t_X28_measure 30 rfl) ?_
  have k55 := kx E53 (by decide) k42
  refine r_geti (pc := 55) X fX28_15 k55 q2557 (dl_at t_X28_measure 31 rfl) fun g55 => ?_
  refine g_iconst (pc := 58) X (n := 1) (dl_at t_X28_measure 32 rfl) ?_
  refine g_iadd (pc := 59) X g55 (r32_c rfl) (dl_at t_X28_measure 33 rfl) ?_
  refine g_lti (r32_w _) fun x3_60 r3_60 => ?_
  refine g_istore_nN (pc := 60) X (j := 3) (i := 3) (x := x3_60) (b := 2) (w := iv x2_1) (rest := [(1, rv D a1), (0, rv D a0)]) rfl (Nat.le_of_ble_eq_true rfl) [0, 1, 2] rfl (by decide) rfl rfl (dl_at t_X28_measure 34 rfl) ?_
  refine g_ls (ls2 := [(0, rv D a0), (1, rv D a1), (2, iv x2_1), (3, iv x3_60)]) [3, 2, 1, 0] rfl ?_
  refine g_loop0F (fun (q : Int × Int × Hp) => [(0, rv D a0), (1, rv D a1), (2, iv q.1), (3, iv q.2.1)]) (fun (q : Int × Int × Hp) => q.2.2) (fun (q : Int × Int × Hp) => r32 q.1 ∧ r32 q.2.1 ∧ Ext h53 q.2.2) (x2_1, x3_60, h53) ⟨(r32_z r2_1), r3_60, (Ext.refl _)⟩ ?_ (fun _ => rfl)
  · rintro ⟨x2_61, x3_61, h_61⟩ ⟨r2_61, r3_61, E_61⟩
    try dsimp only
    unfold m_X28_measure_l61
    refine g_iload_n (pc := 61) X (j := 3) (i := 3) (q := 3) (x := x3_61) rfl rfl (dl_at t_X28_measure 35 rfl) ?_
    refine g_aload_n (pc := 62) X (j := 0) (i := 0) (q := 0) (x := a0) rfl rfl (dl_at t_X28_measure 36 rfl) ?_
    have k63 := kx E_61 (by decide) k55
    refine r_geti (pc := 63) X fX28_15 k63 q2557 (dl_at t_X28_measure 37 rfl) fun g63 => ?_
    refine g_aload_n (pc := 66) X (j := 0) (i := 0) (q := 0) (x := a0) rfl rfl (dl_at t_X28_measure 38 rfl) ?_
    refine r_geti (pc := 67) X fX28_16 k63 q2558 (dl_at t_X28_measure 39 rfl) fun g67 => ?_
    refine g_iadd (pc := 70) X g63 g67 (dl_at t_X28_measure 40 rfl) ?_
    refine g_icmpgt (pc := 71) X r3_61 (r32_w _) (off := 276) (tgt := 347) rfl (dl_at t_X28_measure 41 rfl) (fun _ => ?_) (fun _ => ?_)
    · exact g_at fun Q hQ => (g_vret (pc := 347) X (v := 0) rfl rfl (dl_at t_X28_measure 201 rfl)) _ Q rfl hQ
    refine g_aload_n (pc := 74) X (j := 0) (i := 0) (q := 0) (x := a0) rfl rfl (dl_at t_X28_measure 42 rfl) ?_
    refine r_getr (pc := 75) X fX28_0 k63 q2528 (dl_at t_X28_measure 43 rfl) ?_
    refine g_gd fun k78 => ?_
    refine r_getrN (pc := 78) X fX15_8 k78 (nw_in q1147 rfl) (dl_at t_X28_measure 44 rfl) ?_
    refine g_iload_n (pc := 81) X (j := 3) (i := 3) (q := 3) (x := x3_61) rfl rfl (dl_at t_X28_measure 45 rfl) ?_
    refine g_aload_n (pc := 82) X (j := 0) (i := 0) (q := 0) (x := a0) rfl rfl (dl_at t_X28_measure 46 rfl) ?_
    refine r_getr (pc := 83) X fX28_0 k63 q2528 (dl_at t_X28_measure 47 rfl) ?_
    refine r_getrN (pc := 86) X fX15_8 k78 (nw_in q1147 rfl) (dl_at t_X28_measure 48 rfl) ?_
    refine g_iload_n (pc := 89) X (j := 3) (i := 3) (q := 3) (x := x3_61) rfl rfl (dl_at t_X28_measure 49 rfl) ?_
    refine g_iconst (pc := 90) X (n := 1) (dl_at t_X28_measure 50 rfl) ?_
    refine g_isub (pc := 91) X r3_61 (r32_c rfl) (dl_at t_X28_measure 51 rfl) ?_
    refine g_gd fun k92 => ?_
    refine g_lald (pc := 92) X (r32_w _) k92 (dl_at t_X28_measure 52 rfl) fun g92 => ?_
    refine g_aload_n (pc := 93) X (j := 1) (i := 1) (q := 1) (x := a1) rfl rfl (dl_at t_X28_measure 53 rfl) ?_
    refine g_aload_n (pc := 94) X (j := 0) (i := 0) (q := 0) (x := a0) rfl rfl (dl_at t_X28_measure 54 rfl) ?_
    refine r_getr (pc := 95) X fX28_0 k63 q2528 (dl_at t_X28_measure 55 rfl) ?_
    refine r_getrN (pc := 98) X fX15_0 k78 (nw_in q1128 rfl) (dl_at t_X28_measure 56 rfl) ?_
    refine g_aload_n (pc := 101) X (j := 0) (i := 0) (q := 0) (x := a0) rfl rfl (dl_at t_X28_measure 57 rfl) ?_
    refine r_getr (pc := 102) X fX28_0 k63 q2528 (dl_at t_X28_measure 58 rfl) ?_
    refine r_getrN (pc := 105) X fX15_1 k78 (nw_in q1131 rfl) (dl_at t_X28_measure 59 rfl) ?_
    refine g_aload_n (pc := 108) X (j := 0) (i := 0) (q := 0) (x := a0) rfl rfl (dl_at t_X28_measure 60 rfl) ?_
    refine r_geti (pc := 109) X fX28_1 k63 q2529 (dl_at t_X28_measure 61 rfl) fun g109 => ?_
    refine g_iload_n (pc := 112) X (j := 2) (i := 2) (q := 2) (x := x2_61) rfl rfl (dl_at t_X28_measure 62 rfl) ?_
    refine g_iadd (pc := 113) X g109 r2_61 (dl_at t_X28_measure 63 rfl) ?_
    refine g_aload_n (pc := 114) X (j := 0) (i := 0) (q := 0) (x := a0) rfl rfl (dl_at t_X28_measure 64 rfl) ?_
    refine r_geti (pc := 115) X fX28_1 k63 q2529 (dl_at t_X28_measure 65 rfl) fun g115 => ?_
    refine g_aload_n (pc := 118) X (j := 0) (i := 0) (q := 0) (x := a0) rfl rfl (dl_at t_X28_measure 66 rfl) ?_
    refine r_getr (pc := 119) X fX28_0 k63 q2528 (dl_at t_X28_measure 67 rfl) ?_
    refine r_getrN (pc := 122) X fX15_5 k78 (nw_in q1141 rfl) (dl_at t_X28_measure 68 rfl) ?_
    refine g_iload_n (pc := 125) X (j := 3) (i := 3) (q := 3) (x := x3_61) rfl rfl (dl_at t_X28_measure 69 rfl) ?_
    refine g_gd fun k126 => ?_
    refine g_iald (pc := 126) X r3_61 k126 (dl_at t_X28_measure 70 rfl) fun g126 => ?_
    refine g_iadd (pc := 127) X g115 g126 (dl_at t_X28_measure 71 rfl) ?_
    refine g_gd fun k128 => ?_
    refine r_callRl (pc := 128) X (fun _ hv => s_X8_width k128 (r32_w _) (r32_w _) hv) cw_code q2652 q362 (in_Vk X (As := [rv D (h_61 (h_61 a0 0) 0), rv D (h_61 (h_61 a0 0) 1), iv (w32 ((h_61 a0 1) + x2_61)), iv (w32 ((h_61 a0 1) + (h_61 (h_61 (h_61 a0 0) 5) x3_61)))]) kX8 k128 (Or.inr ⟨_, nw_in q2649 rfl⟩) q2651 qs132 cw_code q2652 ⟨by decide, by decide⟩ rfl (dl_at t_X28_measure 72 rfl)) (dl_at t_X28_measure 72 rfl) (cat24 (st := [jv (h_61 (h_61 (h_61 a0 0) 8) (w32 (x3_61 - 1))), iv x3_61, rv D (h_61 (h_61 a0 0) 8)]) (Nat.le_of_ble_eq_true rfl)) (Nat.le_of_ble_eq_true rfl) (Nat.le_of_ble_eq_true rfl) fun v128 g128 => ?_
    refine g_ladd (pc := 131) X g92 g128 (dl_at t_X28_measure 73 rfl) ?_
    refine g_gd fun k132 => ?_
    refine r_last (pc := 132) X r3_61 (r64_w _) k132 (dl_at t_X28_measure 74 rfl) (fun h132 E132 => ?_)
    refine g_aload_n (pc := 133) X (j := 0) (i := 0) (q := 0) (x := a0) rfl rfl (dl_at t_X28_measure 75 rfl) ?_
    have k134 := kx E132 (by decide) k63
    refine r_getr (pc := 134) X fX28_0 k134 q2528 (dl_at t_X28_measure 76 rfl) ?_
    refine g_gd fun k137 => ?_
    refine r_getrN (pc := 137) X fX15_9 k137 (nw_in q1149 rfl) (dl_at t_X28_measure 77 rfl) ?_
    refine g_iload_n (pc := 140) X (j := 3) (i := 3) (q := 3) (x := x3_61) rfl rfl (dl_at t_X28_measure 78 rfl) ?_
    refine g_aload_n (pc := 141) X (j := 0) (i := 0) (q := 0) (x := a0) rfl rfl (dl_at t_X28_measure 79 rfl) ?_
    refine r_getr (pc := 142) X fX28_0 k134 q2528 (dl_at t_X28_measure 80 rfl) ?_
    refine r_getrN (pc := 145) X fX15_9 k137 (nw_in q1149 rfl) (dl_at t_X28_measure 81 rfl) ?_
    refine g_iload_n (pc := 148) X (j := 3) (i := 3) (q := 3) (x := x3_61) rfl rfl (dl_at t_X28_measure 82 rfl) ?_
    refine g_iconst (pc := 149) X (n := 1) (dl_at t_X28_measure 83 rfl) ?_
    refine g_isub (pc := 150) X r3_61 (r32_c rfl) (dl_at t_X28_measure 84 rfl) ?_
    refine g_gd fun k151 => ?_
    refine g_lald (pc := 151) X (r32_w _) k151 (dl_at t_X28_measure 85 rfl) fun g151 => ?_
    refine g_gd fun k152 => ?_
    refine r_last (pc := 152) X r3_61 g151 k152 (dl_at t_X28_measure 86 rfl) (fun h152 E152 => ?_)
    refine g_aload_n (pc := 153) X (j := 0) (i := 0) (q := 0) (x := a0) rfl rfl (dl_at t_X28_measure 87 rfl) ?_
    have k154 := kx E152 (by decide) k134
    refine r_getr (pc := 154) X fX28_0 k154 q2528 (dl_at t_X28_measure 88 rfl) ?_
    refine g_gd fun k157 => ?_
    refine r_getrN (pc := 157) X fX15_10 k157 (nw_in q1151 rfl) (dl_at t_X28_measure 89 rfl) ?_
    refine g_iload_n (pc := 160) X (j := 3) (i := 3) (q := 3) (x := x3_61) rfl rfl (dl_at t_X28_measure 90 rfl) ?_
    refine g_aload_n (pc := 161) X (j := 0) (i := 0) (q := 0) (x := a0) rfl rfl (dl_at t_X28_measure 91 rfl) ?_
    refine r_getr (pc := 162) X fX28_0 k154 q2528 (dl_at t_X28_measure 92 rfl) ?_
    refine r_getrN (pc := 165) X fX15_10 k157 (nw_in q1151 rfl) (dl_at t_X28_measure 93 rfl) ?_
    refine g_iload_n (pc := 168) X (j := 3) (i := 3) (q := 3) (x := x3_61) rfl rfl (dl_at t_X28_measure 94 rfl) ?_
    refine g_iconst (pc := 169) X (n := 1) (dl_at t_X28_measure 95 rfl) ?_
    refine g_isub (pc := 170) X r3_61 (r32_c rfl) (dl_at t_X28_measure 96 rfl) ?_
    refine g_gd fun k171 => ?_
    refine g_lald (pc := 171) X (r32_w _) k171 (dl_at t_X28_measure 97 rfl) fun g171 => ?_
    refine g_gd fun k172 => ?_
    refine r_last (pc := 172) X r3_61 g171 k172 (dl_at t_X28_measure 98 rfl) (fun h172 E172 => ?_)
    refine g_aload_n (pc := 173) X (j := 0) (i := 0) (q := 0) (x := a0) rfl rfl (dl_at t_X28_measure 99 rfl) ?_
    have k174 := kx E172 (by decide) k154
    refine r_getr (pc := 174) X fX28_0 k174 q2528 (dl_at t_X28_measure 100 rfl) ?_
    refine g_gd fun k177 => ?_
    refine r_getrN (pc := 177) X fX15_11 k177 (nw_in q1153 rfl) (dl_at t_X28_measure 101 rfl) ?_
    refine g_iload_n (pc := 180) X (j := 3) (i := 3) (q := 3) (x := x3_61) rfl rfl (dl_at t_X28_measure 102 rfl) ?_
    refine g_aload_n (pc := 181) X (j := 0) (i := 0) (q := 0) (x := a0) rfl rfl (dl_at t_X28_measure 103 rfl) ?_
    refine r_getr (pc := 182) X fX28_0 k174 q2528 (dl_at t_X28_measure 104 rfl) ?_
    refine r_getrN (pc := 185) X fX15_11 k177 (nw_in q1153 rfl) (dl_at t_X28_measure 105 rfl) ?_
    refine g_iload_n (pc := 188) X (j := 3) (i := 3) (q := 3) (x := x3_61) rfl rfl (dl_at t_X28_measure 106 rfl) ?_
    refine g_iconst (pc := 189) X (n := 1) (dl_at t_X28_measure 107 rfl) ?_
    refine g_isub (pc := 190) X r3_61 (r32_c rfl) (dl_at t_X28_measure 108 rfl) ?_
    refine g_gd fun k191 => ?_
    refine g_lald (pc := 191) X (r32_w _) k191 (dl_at t_X28_measure 109 rfl) fun g191 => ?_
    refine g_gd fun k192 => ?_
    refine r_last (pc := 192) X r3_61 g191 k192 (dl_at t_X28_measure 110 rfl) (fun h192 E192 => ?_)
    refine g_aload_n (pc := 193) X (j := 0) (i := 0) (q := 0) (x := a0) rfl rfl (dl_at t_X28_measure 111 rfl) ?_
    have k194 := kx E192 (by decide) k174
    refine r_getr (pc := 194) X fX28_0 k194 q2528 (dl_at t_X28_measure 112 rfl) ?_
    refine g_gd fun k197 => ?_
    refine r_getrN (pc := 197) X fX15_7 k197 (nw_in q1145 rfl) (dl_at t_X28_measure 113 rfl) ?_
    refine g_iload_n (pc := 200) X (j := 3) (i := 3) (q := 3) (x := x3_61) rfl rfl (dl_at t_X28_measure 114 rfl) ?_
    refine g_iconst (pc := 201) X (n := 0) (dl_at t_X28_measure 115 rfl) ?_
    refine g_gd fun k202 => ?_
    refine r_iast (pc := 202) X r3_61 (r32_c rfl) k202 (dl_at t_X28_measure 116 rfl) (fun h202 E202 => ?_)
    refine g_aload_n (pc := 203) X (j := 0) (i := 0) (q := 0) (x := a0) rfl rfl (dl_at t_X28_measure 117 rfl) ?_
    have k204 := kx E202 (by decide) k194
    refine r_getr (pc := 204) X fX28_0 k204 q2528 (dl_at t_X28_measure 118 rfl) ?_
    refine g_gd fun k207 => ?_
    refine r_getrN (pc := 207) X fX15_4 k207 (nw_in q1139 rfl) (dl_at t_X28_measure 119 rfl) ?_
    refine g_iload_n (pc := 210) X (j := 3) (i := 3) (q := 3) (x := x3_61) rfl rfl (dl_at t_X28_measure 120 rfl) ?_
    refine g_gd fun k211 => ?_
    refine g_iald (pc := 211) X r3_61 k211 (dl_at t_X28_measure 121 rfl) fun g211 => ?_
    refine g_join (γ := Hp) (fun q => Ext h202 q) 331 (fun q => [(0, rv D a0), (1, rv D a1), (3, iv x3_61)]) (fun q => []) (fun q => q) (fun q => m_X28_measure_j331 a0 x3_61 q) ?_ ?_
    · rintro h_331 E_331
      try dsimp only
      unfold m_X28_measure_j331
      refine g_aload_n (pc := 331) X (j := 0) (i := 0) (q := 0) (x := a0) rfl rfl (dl_at t_X28_measure 193 rfl) ?_
      have k332 := kx E_331 (by decide) k204
      refine r_getr (pc := 332) X fX28_0 k332 q2528 (dl_at t_X28_measure 194 rfl) ?_
      refine g_gd fun k335 => ?_
      refine r_getrN (pc := 335) X fX15_6 k335 (nw_in q1143 rfl) (dl_at t_X28_measure 195 rfl) ?_
      refine g_iload_n (pc := 338) X (j := 3) (i := 3) (q := 2) (x := x3_61) rfl rfl (dl_at t_X28_measure 196 rfl) ?_
      refine g_gd fun k339 => ?_
      refine g_iald (pc := 339) X r3_61 k339 (dl_at t_X28_measure 197 rfl) fun g339 => ?_
      refine g_lti g339 fun x2_340 r2_340 => ?_
      refine g_istore_nN (pc := 340) X (j := 2) (i := 2) (x := x2_340) (b := 1) (w := rv D a1) (rest := [(0, rv D a0), (3, iv x3_61)]) rfl (Nat.le_of_ble_eq_true rfl) [1, 0, 2] rfl (by decide) rv_cat rfl (dl_at t_X28_measure 198 rfl) ?_
      refine r_iincN (pc := 341) X (i := 3) (q := 3) (n := 1) (x := x3_61) (b := 2) (w := iv x2_340) (rest := [(1, rv D a1), (0, rv D a0)]) rfl r3_61 (r32_c rfl) (Nat.le_of_ble_eq_true rfl) [0, 1, 2] rfl (by decide) rfl rfl (dl_at t_X28_measure 199 rfl) fun x3_341 r3_341 => ?_
      refine g_goto (pc := 344) X (off := (-283)) (tgt := 61) rfl (dl_at t_X28_measure 200 rfl) ?_
      refine g_ls (ls2 := [(0, rv D a0), (1, rv D a1), (2, iv x2_340), (3, iv x3_341)]) [3, 2, 1, 0] rfl ?_
      exact g_at fun Q hQ => hQ ⟨r2_340, r3_341, (E_61.trans (E132.trans (E152.trans (E172.trans (E192.trans (E202.trans E_331))))))⟩
    intro J331
    refine g_ifne (pc := 212) X g211 (off := 76) (tgt := 288) rfl (dl_at t_X28_measure 122 rfl) (fun _ => ?_) (fun _ => ?_)
    · refine g_aload_n (pc := 288) X (j := 0) (i := 0) (q := 0) (x := a0) rfl rfl (dl_at t_X28_measure 169 rfl) ?_
      refine r_getr (pc := 289) X fX28_0 k204 q2528 (dl_at t_X28_measure 170 rfl) ?_
      refine r_getrN (pc := 292) X fX15_4 k207 (nw_in q1139 rfl) (dl_at t_X28_measure 171 rfl) ?_
      refine g_iload_n (pc := 295) X (j := 3) (i := 3) (q := 3) (x := x3_61) rfl rfl (dl_at t_X28_measure 172 rfl) ?_
      refine g_iald (pc := 296) X r3_61 k211 (dl_at t_X28_measure 173 rfl) fun g296 => ?_
      refine g_iconst (pc := 297) X (n := 1) (dl_at t_X28_measure 174 rfl) ?_
      refine g_icmpne (pc := 298) X g296 (r32_c rfl) (off := 33) (tgt := 331) rfl (dl_at t_X28_measure 175 rfl) (fun _ => ?_) (fun _ => ?_)
      · refine g_ls (ls2 := [(0, rv D a0), (1, rv D a1), (3, iv x3_61)]) [0, 1, 3] rfl ?_
        exact J331 h202 (Ext.refl _)
      refine g_aload_n (pc := 301) X (j := 0) (i := 0) (q := 0) (x := a0) rfl rfl (dl_at t_X28_measure 176 rfl) ?_
      refine r_getr (pc := 302) X fX28_0 k204 q2528 (dl_at t_X28_measure 177 rfl) ?_
      refine r_getrN (pc := 305) X fX15_7 k207 (nw_in q1145 rfl) (dl_at t_X28_measure 178 rfl) ?_
      refine g_iload_n (pc := 308) X (j := 3) (i := 3) (q := 3) (x := x3_61) rfl rfl (dl_at t_X28_measure 179 rfl) ?_
      refine g_aload_n (pc := 309) X (j := 1) (i := 1) (q := 1) (x := a1) rfl rfl (dl_at t_X28_measure 180 rfl) ?_
      refine g_bipush (pc := 310) X (n := 45) rfl (dl_at t_X28_measure 181 rfl) ?_
      refine g_aload_n (pc := 312) X (j := 0) (i := 0) (q := 0) (x := a0) rfl rfl (dl_at t_X28_measure 182 rfl) ?_
      refine g_aload_n (pc := 313) X (j := 0) (i := 0) (q := 0) (x := a0) rfl rfl (dl_at t_X28_measure 183 rfl) ?_
      refine r_getr (pc := 314) X fX28_0 k204 q2528 (dl_at t_X28_measure 184 rfl) ?_
      refine r_getrN (pc := 317) X fX15_5 k207 (nw_in q1141 rfl) (dl_at t_X28_measure 185 rfl) ?_
      refine g_iload_n (pc := 320) X (j := 3) (i := 3) (q := 3) (x := x3_61) rfl rfl (dl_at t_X28_measure 186 rfl) ?_
      refine g_gd fun k321 => ?_
      refine g_iald (pc := 321) X r3_61 k321 (dl_at t_X28_measure 187 rfl) fun g321 => ?_
      refine g_iconst (pc := 322) X (n := 1) (dl_at t_X28_measure 188 rfl) ?_
      refine g_isub (pc := 323) X g321 (r32_c rfl) (dl_at t_X28_measure 189 rfl) ?_
      refine r_callRi (pc := 324) X (fun _ hv => s_X28_sizeOf k204 (r32_w _) hv) cw_code q2664 q396 (in_Vk X (As := [iv (w32 ((h202 (h202 (h202 a0 0) 5) x3_61) - 1))]) kX28 k204 (Or.inl q2661) q2663 qs134 cw_code q2664 ⟨by decide, by decide⟩ rfl (dl_at t_X28_measure 190 rfl)) (dl_at t_X28_measure 190 rfl) (cat24 (st := [iv 45, rv D a1, iv x3_61, rv D (h202 (h202 a0 0) 7)]) (Nat.le_of_ble_eq_true rfl)) (Nat.le_of_ble_eq_true rfl) (Nat.le_of_ble_eq_true rfl) fun v324 g324 => ?_
      have k327 := kx (E132.trans (E152.trans (E172.trans (E192.trans E202)))) (by decide) k128
      refine r_callRi (pc := 327) X (fun _ hv => s_X8_width_2 k327 (r32_c rfl) g324 hv) cw_code q2668 q362 (in_Vk X (As := [iv 45, iv v324]) kX8 k327 (Or.inr ⟨_, nw_in q2665 rfl⟩) q2667 qs135 cw_code q2668 ⟨by decide, by decide⟩ rfl (dl_at t_X28_measure 191 rfl)) (dl_at t_X28_measure 191 rfl) (cat24 (st := [iv x3_61, rv D (h202 (h202 a0 0) 7)]) (Nat.le_of_ble_eq_true rfl)) (Nat.le_of_ble_eq_true rfl) (Nat.le_of_ble_eq_true rfl) fun v327 g327 => ?_
      refine g_gd fun k330 => ?_
      refine r_iast (pc := 330) X r3_61 g327 k330 (dl_at t_X28_measure 192 rfl) (fun h330 E330 => ?_)
      refine g_ls (ls2 := [(0, rv D a0), (1, rv D a1), (3, iv x3_61)]) [0, 1, 3] rfl ?_
      exact J331 h330 E330
    refine g_aload_n (pc := 215) X (j := 1) (i := 1) (q := 1) (x := a1) rfl rfl (dl_at t_X28_measure 123 rfl) ?_
    refine g_bipush (pc := 216) X (n := 32) rfl (dl_at t_X28_measure 124 rfl) ?_
    refine g_aload_n (pc := 218) X (j := 0) (i := 0) (q := 0) (x := a0) rfl rfl (dl_at t_X28_measure 125 rfl) ?_
    refine g_aload_n (pc := 219) X (j := 0) (i := 0) (q := 0) (x := a0) rfl rfl (dl_at t_X28_measure 126 rfl) ?_
    refine r_getr (pc := 220) X fX28_0 k204 q2528 (dl_at t_X28_measure 127 rfl) ?_
    refine r_getrN (pc := 223) X fX15_5 k207 (nw_in q1141 rfl) (dl_at t_X28_measure 128 rfl) ?_
    refine g_iload_n (pc := 226) X (j := 3) (i := 3) (q := 3) (x := x3_61) rfl rfl (dl_at t_X28_measure 129 rfl) ?_
    refine g_gd fun k227 => ?_
    refine g_iald (pc := 227) X r3_61 k227 (dl_at t_X28_measure 130 rfl) fun g227 => ?_
    refine r_callRi (pc := 228) X (fun _ hv => s_X28_sizeOf k204 g227 hv) cw_code q2664 q396 (in_Vk X (As := [iv (h202 (h202 (h202 a0 0) 5) x3_61)]) kX28 k204 (Or.inl q2661) q2663 qs134 cw_code q2664 ⟨by decide, by decide⟩ rfl (dl_at t_X28_measure 131 rfl)) (dl_at t_X28_measure 131 rfl) (cat24 (st := [iv 32, rv D a1]) (Nat.le_of_ble_eq_true rfl)) (Nat.le_of_ble_eq_true rfl) (Nat.le_of_ble_eq_true rfl) fun v228 g228 => ?_
    have k231 := kx (E132.trans (E152.trans (E172.trans (E192.trans E202)))) (by decide) k128
    refine r_callRi (pc := 231) X (fun _ hv => s_X8_width_2 k231 (r32_c rfl) g228 hv) cw_code q2668 q362 (in_Vk X (As := [iv 32, iv v228]) kX8 k231 (Or.inr ⟨_, nw_in q2665 rfl⟩) q2667 qs135 cw_code q2668 ⟨by decide, by decide⟩ rfl (dl_at t_X28_measure 132 rfl)) (dl_at t_X28_measure 132 rfl) (cat24 (st := []) (Nat.le_of_ble_eq_true rfl)) (Nat.le_of_ble_eq_true rfl) (Nat.le_of_ble_eq_true rfl) fun v231 g231 => ?_
    refine g_istoreN (pc := 234) X (i := 4) (x := v231) (b := 3) (w := iv x3_61) (rest := [(0, rv D a0), (1, rv D a1)]) (Nat.le_of_ble_eq_true rfl) [3, 0, 1] rfl (by decide) rfl rfl (dl_at t_X28_measure 133 rfl) ?_
    refine g_aload_n (pc := 236) X (j := 0) (i := 0) (q := 2) (x := a0) rfl rfl (dl_at t_X28_measure 134 rfl) ?_
    refine r_getr (pc := 237) X fX28_0 k204 q2528 (dl_at t_X28_measure 135 rfl) ?_
    refine r_getrN (pc := 240) X fX15_9 k207 (nw_in q1149 rfl) (dl_at t_X28_measure 136 rfl) ?_
    refine g_iload_n (pc := 243) X (j := 3) (i := 3) (q := 1) (x := x3_61) rfl rfl (dl_at t_X28_measure 137 rfl) ?_
    refine g_dup2 (pc := 244) X rfl rv_cat (dl_at t_X28_measure 138 rfl) ?_
    refine g_gd fun k245 => ?_
    refine g_lald (pc := 245) X r3_61 k245 (dl_at t_X28_measure 139 rfl) fun g245 => ?_
    refine g_iload (pc := 246) X (i := 4) (q := 0) (x := v231) rfl (dl_at t_X28_measure 140 rfl) ?_
    refine g_i2l (pc := 248) X g231 (dl_at t_X28_measure 141 rfl) ?_
    refine g_ladd (pc := 249) X g245 (r64_of g231) (dl_at t_X28_measure 142 rfl) ?_
    refine r_last (pc := 250) X r3_61 (r64_w _) k245 (dl_at t_X28_measure 143 rfl) (fun h250 E250 => ?_)
    refine g_aload_n (pc := 251) X (j := 0) (i := 0) (q := 2) (x := a0) rfl rfl (dl_at t_X28_measure 144 rfl) ?_
    have k252 := kx E250 (by decide) k204
    refine r_getr (pc := 252) X fX28_0 k252 q2528 (dl_at t_X28_measure 145 rfl) ?_
    refine g_gd fun k255 => ?_
    refine r_getrN (pc := 255) X fX15_10 k255 (nw_in q1151 rfl) (dl_at t_X28_measure 146 rfl) ?_
    refine g_iload_n (pc := 258) X (j := 3) (i := 3) (q := 1) (x := x3_61) rfl rfl (dl_at t_X28_measure 147 rfl) ?_
    refine g_dup2 (pc := 259) X rfl rv_cat (dl_at t_X28_measure 148 rfl) ?_
    refine g_gd fun k260 => ?_
    refine g_lald (pc := 260) X r3_61 k260 (dl_at t_X28_measure 149 rfl) fun g260 => ?_
    refine g_iload (pc := 261) X (i := 4) (q := 0) (x := v231) rfl (dl_at t_X28_measure 150 rfl) ?_
    refine g_iconst (pc := 263) X (n := 2) (dl_at t_X28_measure 151 rfl) ?_
    refine g_idiv (pc := 264) X g231 (r32_c rfl) (by decide) (dl_at t_X28_measure 152 rfl) ?_
    refine g_i2l (pc := 265) X (r32_w _) (dl_at t_X28_measure 153 rfl) ?_
    refine g_ladd (pc := 266) X g260 (r64_of (r32_w _)) (dl_at t_X28_measure 154 rfl) ?_
    refine r_last (pc := 267) X r3_61 (r64_w _) k260 (dl_at t_X28_measure 155 rfl) (fun h267 E267 => ?_)
    refine g_aload_n (pc := 268) X (j := 0) (i := 0) (q := 2) (x := a0) rfl rfl (dl_at t_X28_measure 156 rfl) ?_
    have k269 := kx E267 (by decide) k252
    refine r_getr (pc := 269) X fX28_0 k269 q2528 (dl_at t_X28_measure 157 rfl) ?_
    refine g_gd fun k272 => ?_
    refine r_getrN (pc := 272) X fX15_11 k272 (nw_in q1153 rfl) (dl_at t_X28_measure 158 rfl) ?_
    refine g_iload_n (pc := 275) X (j := 3) (i := 3) (q := 1) (x := x3_61) rfl rfl (dl_at t_X28_measure 159 rfl) ?_
    refine g_dup2 (pc := 276) X rfl rv_cat (dl_at t_X28_measure 160 rfl) ?_
    refine g_gd fun k277 => ?_
    refine g_lald (pc := 277) X r3_61 k277 (dl_at t_X28_measure 161 rfl) fun g277 => ?_
    refine g_iload (pc := 278) X (i := 4) (q := 0) (x := v231) rfl (dl_at t_X28_measure 162 rfl) ?_
    refine g_iconst (pc := 280) X (n := 3) (dl_at t_X28_measure 163 rfl) ?_
    refine g_idiv (pc := 281) X g231 (r32_c rfl) (by decide) (dl_at t_X28_measure 164 rfl) ?_
    refine g_i2l (pc := 282) X (r32_w _) (dl_at t_X28_measure 165 rfl) ?_
    refine g_ladd (pc := 283) X g277 (r64_of (r32_w _)) (dl_at t_X28_measure 166 rfl) ?_
    refine r_last (pc := 284) X r3_61 (r64_w _) k277 (dl_at t_X28_measure 167 rfl) (fun h284 E284 => ?_)
    refine g_goto (pc := 285) X (off := 46) (tgt := 331) rfl (dl_at t_X28_measure 168 rfl) ?_
    refine g_ls (ls2 := [(0, rv D a0), (1, rv D a1), (3, iv x3_61)]) [2, 3, 1] rfl ?_
    exact J331 h284 (E250.trans (E267.trans E284))
def k_X28_prepare : List (Nat × Instr × Nat) := [(0, .aload_n 0, 1), (1, .aload_n 0, 1), (2, .getfield 9, 3), (5, .getfield 89, 3), (8, .putfield 35, 3), (11, .aload_n 0, 1), (12, .getfield 9, 3), (15, .dup, 1), (16, .getfield 89, 3), (19, .iconst 1, 1), (20, .iadd, 1), (21, .putfield 89, 3), (24, .aload_n 0, 1), (25, .iconst 0, 1), (26, .putfield 75, 3), (29, .aload_n 0, 1), (30, .getfield 92, 3), (33, .ifCond .eq 12, 3), (36, .aload_n 0, 1), (37, .aload_n 2, 1), (38, .aload_n 3, 1), (39, .getfield 96, 3), (42, .invokevirtual 102, 3), (45, .iconst 0, 1), (46, .istore 4, 2), (48, .iload 4, 2), (50, .aload_n 0, 1), (51, .getfield 57, 3), (54, .if_icmp .ge 90, 3), (57, .aload_n 0, 1), (58, .iload 4, 2), (60, .invokevirtual 78, 3), (63, .bipush 32, 2), (65, .if_icmp .ne 17, 3), (68, .aload_n 0, 1), (69, .iconst 0, 1), (70, .iload 4, 2), (72, .iload 4, 2), (74, .iconst 1, 1), (75, .iadd, 1), (76, .invokevirtual 106, 3), (79, .goto 59, 3), (82, .iload 4, 2), (84, .ifCond .le 28, 3), (87, .aload_n 0, 1), (88, .iload 4, 2), (90, .iconst 1, 1), (91, .isub, 1), (92, .invokevirtual 78, 3), (95, .bipush 45, 2), (97, .if_icmp .ne 15, 3), (100, .aload_n 0, 1), (101, .iconst 2, 1), (102, .iload 4, 2), (104, .iload 4, 2), (106, .invokevirtual 106, 3), (109, .goto 29, 3), (112, .aload_n 0, 1), (113, .getfield 92, 3), (116, .ifCond .eq 22, 3), (119, .aload_n 3, 1), (120, .getfield 96, 3), (123, .iload 4, 2), (125, .baload, 1), (126, .ifCond .eq 12, 3), (129, .aload_n 0, 1), (130, .iconst 1, 1), (131, .iload 4, 2), (133, .iload 4, 2), (135, .invokevirtual 106, 3), (138, .iinc 4 1, 3), (141, .goto (-93), 3), (144, .aload_n 0, 1), (145, .iconst 3, 1), (146, .aload_n 0, 1), (147, .getfield 57, 3), (150, .aload_n 0, 1), (151, .getfield 57, 3), (154, .invokevirtual 106, 3), (157, .aload_n 0, 1), (158, .aload_n 1, 1), (159, .invokevirtual 110, 3), (162, .return_, 1)]
theorem t_X28_prepare : ∀ q ∈ k_X28_prepare, decode cX28_prepare q.1 = .ok q.2 := dl_all (by decide +kernel)
noncomputable def m_X28_prepare_j138 (x4_48 : Int) (h_138 : Hp) : Option ((Int × Hp) ⊕ ((Hp) ⊕ (((Int × Int) × Hp)))) :=
  lt_ (w32 (x4_48 + 1)) fun x4_138 =>
  some (.inl (x4_138, h_138))
noncomputable def m_X28_prepare_j112 (a0 a3 x4_48 : Int) (h_48 : Hp) : Option ((Int × Hp) ⊕ ((Hp) ⊕ (((Int × Int) × Hp)))) :=
  if (h_48 a0 14) = 0 then (m_X28_prepare_j138 x4_48 h_48)
  else (gd (h_48 a3 (-2) = 176) (gd (h_48 (h_48 a3 0) (-2) % 16 = 3 ∧ (0 : Int) ≤ x4_48 ∧ x4_48 < h_48 (h_48 a3 0) (-1)) (if (h_48 (h_48 a3 0) x4_48) = 0 then (m_X28_prepare_j138 x4_48 h_48)
  else (bT (m_X28_add a0 1 x4_48 x4_48 h_48) (fun _ h135 =>
  m_X28_prepare_j138 x4_48 h135) (fun a_ h_ => some (.inr (.inr ((1, a_), h_))))))))
noncomputable def m_X28_prepare_l48 (a0 a3 x4_48 : Int) (h_48 : Hp) : Option ((Int × Hp) ⊕ ((Hp) ⊕ (((Int × Int) × Hp)))) :=
  if (h_48 a0 2) ≤ x4_48 then (some (.inr (.inl h_48)))
  else ((m_X28_byteOf a0 x4_48 h_48).bind fun v60 =>
  if v60 ≠ 32 then (if x4_48 ≤ 0 then (m_X28_prepare_j112 a0 a3 x4_48 h_48)
  else ((m_X28_byteOf a0 (w32 (x4_48 - 1)) h_48).bind fun v92 =>
  if v92 ≠ 45 then (m_X28_prepare_j112 a0 a3 x4_48 h_48)
  else (bT (m_X28_add a0 2 x4_48 x4_48 h_48) (fun _ h106 =>
  m_X28_prepare_j138 x4_48 h106) (fun a_ h_ => some (.inr (.inr ((1, a_), h_)))))))
  else (bT (m_X28_add a0 0 x4_48 (w32 (x4_48 + 1)) h_48) (fun _ h76 =>
  m_X28_prepare_j138 x4_48 h76) (fun a_ h_ => some (.inr (.inr ((1, a_), h_))))))
noncomputable def m_X28_prepare_j45 (a0 a1 a3 : Int) (h_45 : Hp) : Option ((Int × Int) × Hp) :=
  lt_ 0 fun x4_46 =>
  (lp (fun (q : Int × Hp) => m_X28_prepare_l48 a0 a3 q.1 q.2) (x4_46, h_45)).bind (sE (fun (y144 : Hp) => bT (m_X28_add a0 3 (y144 a0 2) (y144 a0 2) y144) (fun _ h154 =>
  (m_X28_measure a0 a1 h154).bind fun h159 =>
  some ((0, 0), h159)) (fun a_ h_ => some ((1, a_), h_))) (fun (x : (Int × Int) × Hp) => some x))
noncomputable def m_X28_prepare (a0 a1 a2 a3 : Int) (h : Hp) : Option ((Int × Int) × Hp) :=
  gd (h (h a0 0) (-2) = 240) (pt h a0 15 (h (h a0 0) 12) fun h8 =>
  gd (h8 (h8 a0 0) (-2) = 240) (pt h8 (h8 a0 0) 12 (w32 ((h8 (h8 a0 0) 12) + 1)) fun h21 =>
  pt h21 a0 16 0 fun h26 =>
  if (h26 a0 14) = 0 then (m_X28_prepare_j45 a0 a1 a3 h26)
  else (gd (h26 a3 (-2) = 176) ((m_X28_findPlaces a0 a2 (h26 a3 0) h26).bind fun h42 =>
  m_X28_prepare_j45 a0 a1 a3 h42))))
theorem s_X28_prepare {l : Launch} [NoTr l] {D : SD} {a0 a1 a2 a3 : Int} {h : Hp} (hk : h a0 (-2) = 288) {r : (Int × Int) × Hp} (hm : m_X28_prepare a0 a1 a2 a3 h = some r) : Sim l D yX28_prepare (Cond.code yX28_prepare cX28_prepare 5 (Option.none : Option Jvm.ClassFile.FieldType)) 11 411 [rv D a0, rv D a1, rv D a2, rv D a3] h 0 r := by
  refine Sim.of (fin := fun (v : (Int × Int) × Hp) => v) (lsE := [(0, rv D a0), (1, rv D a1), (2, rv D a2), (3, rv D a3)]) hm rfl cwS_code (la_r (la_r (la_r (la_r la_n)))) (ll_r (ll_r (ll_r (ll_r ll_n)))) ?_
  intro p e s m below meth c X hcw hmm hcc hnm hname
  have hno := noh hcw hnm hmm hcc
  unfold m_X28_prepare
  refine g_aload_n (pc := 0) X (j := 0) (i := 0) (q := 0) (x := a0) rfl rfl (dl_at t_X28_prepare 0 rfl) ?_
  refine g_aload_n (pc := 1) X (j := 0) (i := 0) (q := 0) (x := a0) rfl rfl (dl_at t_X28_prepare 1 rfl) ?_
  refine r_getr (pc := 2) X fX28_0 hk q2528 (dl_at t_X28_prepare 2 rfl) ?_
  refine g_gd fun k5 => ?_
  refine r_getiN (pc := 5) X fX15_12 k5 (nw_in q1155 rfl) (dl_at t_X28_prepare 3 rfl) fun g5 => ?_
  refine r_puti (pc := 8) X fX28_15 hk q2557 rfl (dl_at t_X28_prepare 4 rfl) g5 (fun h8 E8 => ?_)
  refine g_aload_n (pc := 11) X (j := 0) (i := 0) (q := 0) (x := a0) rfl rfl (dl_at t_X28_prepare 5 rfl) ?_
  have k12 := kx E8 (by decide) hk
  refine r_getr (pc := 12) X fX28_0 k12 q2528 (dl_at t_X28_prepare 6 rfl) ?_
  refine g_dup (pc := 15) X rv_cat (dl_at t_X28_prepare 7 rfl) ?_
  refine g_gd fun k16 => ?_
  refine r_getiN (pc := 16) X fX15_12 k16 (nw_in q1155 rfl) (dl_at t_X28_prepare 8 rfl) fun g16 => ?_
  refine g_iconst (pc := 19) X (n := 1) (dl_at t_X28_prepare 9 rfl) ?_
  refine g_iadd (pc := 20) X g16 (r32_c rfl) (dl_at t_X28_prepare 10 rfl) ?_
  refine r_putiN (pc := 21) X fX15_12 k16 (nw_in q1155 rfl) rfl (dl_at t_X28_prepare 11 rfl) (r32_w _) (fun h21 E21 => ?_)
  refine g_aload_n (pc := 24) X (j := 0) (i := 0) (q := 0) (x := a0) rfl rfl (dl_at t_X28_prepare 12 rfl) ?_
  refine g_iconst (pc := 25) X (n := 0) (dl_at t_X28_prepare 13 rfl) ?_
  have k26 := kx E21 (by decide) k12
  refine r_puti (pc := 26) X fX28_16 k26 q2558 rfl (dl_at t_X28_prepare 14 rfl) (r32_c rfl) (fun h26 E26 => ?_)
  refine g_aload_n (pc := 29) X (j := 0) (i := 0) (q := 0) (x := a0) rfl rfl (dl_at t_X28_prepare 15 rfl) ?_
  have k30 := kx E26 (by decide) k26
  refine r_getz (pc := 30) X fX28_14 k30 q2555 (dl_at t_X28_prepare 16 rfl) fun g30 => ?_
  refine g_join (γ := Hp) (fun q => Ext h26 q) 45 (fun q => [(0, rv D a0), (1, rv D a1), (3, rv D a3)]) (fun q => []) (fun q => q) (fun q => m_X28_prepare_j45 a0 a1 a3 q) ?_ ?_
  · rintro h_45 E_45
    try dsimp only
    unfold m_X28_prepare_j45
    refine g_iconst (pc := 45) X (n := 0) (dl_at t_X28_prepare 23 rfl) ?_
    refine g_ltz (Or.inl rfl) fun x4_46 r4_46 => ?_
    refine g_istoreN (pc := 46) X (i := 4) (x := x4_46) (b := 3) (w := rv D a3) (rest := [(0, rv D a0), (1, rv D a1)]) (Nat.le_of_ble_eq_true rfl) [2, 0, 1] rfl (by decide) rv_cat rfl (dl_at t_X28_prepare 24 rfl) ?_
    refine g_ls (ls2 := [(0, rv D a0), (1, rv D a1), (3, rv D a3), (4, iv x4_46)]) [2, 3, 1, 0] rfl ?_
    refine g_loop1F (fun (q : Int × Hp) => [(0, rv D a0), (1, rv D a1), (3, rv D a3), (4, iv q.1)]) (fun (q : Int × Hp) => q.2) (fun (q : Int × Hp) => r32 q.1 ∧ Ext h_45 q.2) 144 (fun (y144 : Hp) => [(0, rv D a0), (1, rv D a1)]) (fun (y144 : Hp) => y144) (fun (y144 : Hp) => Ext h_45 y144) (x4_46, h_45) ⟨(r32_z r4_46), (Ext.refl _)⟩ ?_ ?_ (fun _ => rfl)
    · rintro ⟨x4_48, h_48⟩ ⟨r4_48, E_48⟩
      try dsimp only
      unfold m_X28_prepare_l48
      refine g_iload (pc := 48) X (i := 4) (q := 3) (x := x4_48) rfl (dl_at t_X28_prepare 25 rfl) ?_
      refine g_aload_n (pc := 50) X (j := 0) (i := 0) (q := 0) (x := a0) rfl rfl (dl_at t_X28_prepare 26 rfl) ?_
      have k51 := kx (E_45.trans E_48) (by decide) k30
      refine r_geti (pc := 51) X fX28_2 k51 q2532 (dl_at t_X28_prepare 27 rfl) fun g51 => ?_
      refine g_icmpge (pc := 54) X r4_48 g51 (off := 90) (tgt := 144) rfl (dl_at t_X28_prepare 28 rfl) (fun _ => ?_) (fun _ => ?_)
      · refine g_ls (ls2 := [(0, rv D a0), (1, rv D a1)]) [0, 1] rfl ?_
        exact g_at fun Q hQ => hQ E_48
      refine g_aload_n (pc := 57) X (j := 0) (i := 0) (q := 0) (x := a0) rfl rfl (dl_at t_X28_prepare 29 rfl) ?_
      refine g_iload (pc := 58) X (i := 4) (q := 3) (x := x4_48) rfl (dl_at t_X28_prepare 30 rfl) ?_
      refine r_callRi (pc := 60) X (fun _ hv => s_X28_byteOf k51 r4_48 hv) cw_code q2623 q396 (in_Vk X (As := [iv x4_48]) kX28 k51 (Or.inl q2620) q2622 qs126 cw_code q2623 ⟨by decide, by decide⟩ rfl (dl_at t_X28_prepare 31 rfl)) (dl_at t_X28_prepare 31 rfl) (cat24 (st := []) (Nat.le_of_ble_eq_true rfl)) (Nat.le_of_ble_eq_true rfl) (Nat.le_of_ble_eq_true rfl) fun v60 g60 => ?_
      refine g_bipush (pc := 63) X (n := 32) rfl (dl_at t_X28_prepare 32 rfl) ?_
      refine g_join (γ := Hp) (fun q => Ext h_48 q) 138 (fun q => [(0, rv D a0), (1, rv D a1), (3, rv D a3), (4, iv x4_48)]) (fun q => []) (fun q => q) (fun q => m_X28_prepare_j138 x4_48 q) ?_ ?_
      · rintro h_138 E_138
        try dsimp only
        unfold m_X28_prepare_j138
        refine r_iincN (pc := 138) X (i := 4) (q := 3) (n := 1) (x := x4_48) (b := 3) (w := rv D a3) (rest := [(0, rv D a0), (1, rv D a1)]) rfl r4_48 (r32_c rfl) (Nat.le_of_ble_eq_true rfl) [2, 0, 1] rfl (by decide) rv_cat rfl (dl_at t_X28_prepare 70 rfl) fun x4_138 r4_138 => ?_
        refine g_goto (pc := 141) X (off := (-93)) (tgt := 48) rfl (dl_at t_X28_prepare 71 rfl) ?_
        refine g_ls (ls2 := [(0, rv D a0), (1, rv D a1), (3, rv D a3), (4, iv x4_138)]) [2, 3, 1, 0] rfl ?_
        exact g_at fun Q hQ => hQ ⟨r4_138, (E_48.trans E_138)⟩
      intro J138
      refine g_icmpne (pc := 65) X g60 (r32_c rfl) (off := 17) (tgt := 82) rfl (dl_at t_X28_prepare 33 rfl) (fun _ => ?_) (fun _ => ?_)
      · refine g_iload (pc := 82) X (i := 4) (q := 3) (x := x4_48) rfl (dl_at t_X28_prepare 42 rfl) ?_
        refine g_join (γ := Unit) (fun q => True) 112 (fun q => [(0, rv D a0), (1, rv D a1), (3, rv D a3), (4, iv x4_48)]) (fun q => []) (fun q => h_48) (fun q => m_X28_prepare_j112 a0 a3 x4_48 h_48) ?_ ?_
        · rintro _ _
          try dsimp only
          unfold m_X28_prepare_j112
          refine g_aload_n (pc := 112) X (j := 0) (i := 0) (q := 0) (x := a0) rfl rfl (dl_at t_X28_prepare 57 rfl) ?_
          refine r_getz (pc := 113) X fX28_14 k51 q2555 (dl_at t_X28_prepare 58 rfl) fun g113 => ?_
          refine g_ifeq (pc := 116) X (r32_z g113) (off := 22) (tgt := 138) rfl (dl_at t_X28_prepare 59 rfl) (fun _ => ?_) (fun _ => ?_)
          · exact J138 h_48 (Ext.refl _)
          refine g_aload_n (pc := 119) X (j := 3) (i := 3) (q := 2) (x := a3) rfl rfl (dl_at t_X28_prepare 60 rfl) ?_
          refine g_gd fun k120 => ?_
          refine r_getrN (pc := 120) X fX11_0 k120 (nw_in q966 rfl) (dl_at t_X28_prepare 61 rfl) ?_
          refine g_iload (pc := 123) X (i := 4) (q := 3) (x := x4_48) rfl (dl_at t_X28_prepare 62 rfl) ?_
          refine g_gd fun k125 => ?_
          refine g_zald (pc := 125) X r4_48 k125 (dl_at t_X28_prepare 63 rfl) fun g125 => ?_
          refine g_ifeq (pc := 126) X (r32_z g125) (off := 12) (tgt := 138) rfl (dl_at t_X28_prepare 64 rfl) (fun _ => ?_) (fun _ => ?_)
          · exact J138 h_48 (Ext.refl _)
          refine g_aload_n (pc := 129) X (j := 0) (i := 0) (q := 0) (x := a0) rfl rfl (dl_at t_X28_prepare 65 rfl) ?_
          refine g_iconst (pc := 130) X (n := 1) (dl_at t_X28_prepare 66 rfl) ?_
          refine g_iload (pc := 131) X (i := 4) (q := 3) (x := x4_48) rfl (dl_at t_X28_prepare 67 rfl) ?_
          refine g_iload (pc := 133) X (i := 4) (q := 3) (x := x4_48) rfl (dl_at t_X28_prepare 68 rfl) ?_
          refine r_callTv (pc := 135) X (fun _ hv => s_X28_add k51 (r32_c rfl) r4_48 r4_48 hv) cw_code q2643 q396 (in_Vk X (As := [iv 1, iv x4_48, iv x4_48]) kX28 k51 (Or.inl q2640) q2642 qs130 cw_code q2643 ⟨by decide, by decide⟩ rfl (dl_at t_X28_prepare 69 rfl)) (dl_at t_X28_prepare 69 rfl) (cat24 (st := []) (Nat.le_of_ble_eq_true rfl)) (Nat.le_of_ble_eq_true rfl) (Nat.le_of_ble_eq_true rfl) (fun v135 h135 E135 => ?_) (fun _ _ ha _ => gt_at fun Q hQ => gt_out (Q := Q) X rfl ha (hno _) _ Q rfl hQ)
          exact J138 h135 E135
        intro J112
        refine g_ifle (pc := 84) X r4_48 (off := 28) (tgt := 112) rfl (dl_at t_X28_prepare 43 rfl) (fun _ => ?_) (fun _ => ?_)
        · exact J112 () trivial
        refine g_aload_n (pc := 87) X (j := 0) (i := 0) (q := 0) (x := a0) rfl rfl (dl_at t_X28_prepare 44 rfl) ?_
        refine g_iload (pc := 88) X (i := 4) (q := 3) (x := x4_48) rfl (dl_at t_X28_prepare 45 rfl) ?_
        refine g_iconst (pc := 90) X (n := 1) (dl_at t_X28_prepare 46 rfl) ?_
        refine g_isub (pc := 91) X r4_48 (r32_c rfl) (dl_at t_X28_prepare 47 rfl) ?_
        refine r_callRi (pc := 92) X (fun _ hv => s_X28_byteOf k51 (r32_w _) hv) cw_code q2623 q396 (in_Vk X (As := [iv (w32 (x4_48 - 1))]) kX28 k51 (Or.inl q2620) q2622 qs126 cw_code q2623 ⟨by decide, by decide⟩ rfl (dl_at t_X28_prepare 48 rfl)) (dl_at t_X28_prepare 48 rfl) (cat24 (st := []) (Nat.le_of_ble_eq_true rfl)) (Nat.le_of_ble_eq_true rfl) (Nat.le_of_ble_eq_true rfl) fun v92 g92 => ?_
        refine g_bipush (pc := 95) X (n := 45) rfl (dl_at t_X28_prepare 49 rfl) ?_
        refine g_icmpne (pc := 97) X g92 (r32_c rfl) (off := 15) (tgt := 112) rfl (dl_at t_X28_prepare 50 rfl) (fun _ => ?_) (fun _ => ?_)
        · exact J112 () trivial
        refine g_aload_n (pc := 100) X (j := 0) (i := 0) (q := 0) (x := a0) rfl rfl (dl_at t_X28_prepare 51 rfl) ?_
        refine g_iconst (pc := 101) X (n := 2) (dl_at t_X28_prepare 52 rfl) ?_
        refine g_iload (pc := 102) X (i := 4) (q := 3) (x := x4_48) rfl (dl_at t_X28_prepare 53 rfl) ?_
        refine g_iload (pc := 104) X (i := 4) (q := 3) (x := x4_48) rfl (dl_at t_X28_prepare 54 rfl) ?_
        refine r_callTv (pc := 106) X (fun _ hv => s_X28_add k51 (r32_c rfl) r4_48 r4_48 hv) cw_code q2643 q396 (in_Vk X (As := [iv 2, iv x4_48, iv x4_48]) kX28 k51 (Or.inl q2640) q2642 qs130 cw_code q2643 ⟨by decide, by decide⟩ rfl (dl_at t_X28_prepare 55 rfl)) (dl_at t_X28_prepare 55 rfl) (cat24 (st := []) (Nat.le_of_ble_eq_true rfl)) (Nat.le_of_ble_eq_true rfl) (Nat.le_of_ble_eq_true rfl) (fun v106 h106 E106 => ?_) (fun _ _ ha _ => gt_at fun Q hQ => gt_out (Q := Q) X rfl ha (hno _) _ Q rfl hQ)
        refine g_goto (pc := 109) X (off := 29) (tgt := 138) rfl (dl_at t_X28_prepare 56 rfl) ?_
        exact J138 h106 E106
      refine g_aload_n (pc := 68) X (j := 0) (i := 0) (q := 0) (x := a0) rfl rfl (dl_at t_X28_prepare 34 rfl) ?_
      refine g_iconst (pc := 69) X (n := 0) (dl_at t_X28_prepare 35 rfl) ?_
      refine g_iload (pc := 70) X (i := 4) (q := 3) (x := x4_48) rfl (dl_at t_X28_prepare 36 rfl) ?_
      refine g_iload (pc := 72) X (i := 4) (q := 3) (x := x4_48) rfl (dl_at t_X28_prepare 37 rfl) ?_
      refine g_iconst (pc := 74) X (n := 1) (dl_at t_X28_prepare 38 rfl) ?_
      refine g_iadd (pc := 75) X r4_48 (r32_c rfl) (dl_at t_X28_prepare 39 rfl) ?_
      refine r_callTv (pc := 76) X (fun _ hv => s_X28_add k51 (r32_c rfl) r4_48 (r32_w _) hv) cw_code q2643 q396 (in_Vk X (As := [iv 0, iv x4_48, iv (w32 (x4_48 + 1))]) kX28 k51 (Or.inl q2640) q2642 qs130 cw_code q2643 ⟨by decide, by decide⟩ rfl (dl_at t_X28_prepare 40 rfl)) (dl_at t_X28_prepare 40 rfl) (cat24 (st := []) (Nat.le_of_ble_eq_true rfl)) (Nat.le_of_ble_eq_true rfl) (Nat.le_of_ble_eq_true rfl) (fun v76 h76 E76 => ?_) (fun _ _ ha _ => gt_at fun Q hQ => gt_out (Q := Q) X rfl ha (hno _) _ Q rfl hQ)
      refine g_goto (pc := 79) X (off := 59) (tgt := 138) rfl (dl_at t_X28_prepare 41 rfl) ?_
      exact J138 h76 E76
    · rintro h_144 E_144
      try dsimp only [sE]
      refine g_aload_n (pc := 144) X (j := 0) (i := 0) (q := 0) (x := a0) rfl rfl (dl_at t_X28_prepare 72 rfl) ?_
      refine g_iconst (pc := 145) X (n := 3) (dl_at t_X28_prepare 73 rfl) ?_
      refine g_aload_n (pc := 146) X (j := 0) (i := 0) (q := 0) (x := a0) rfl rfl (dl_at t_X28_prepare 74 rfl) ?_
      have k147 := kx (E_45.trans E_144) (by decide) k30
      refine r_geti (pc := 147) X fX28_2 k147 q2532 (dl_at t_X28_prepare 75 rfl) fun g147 => ?_
      refine g_aload_n (pc := 150) X (j := 0) (i := 0) (q := 0) (x := a0) rfl rfl (dl_at t_X28_prepare 76 rfl) ?_
      refine r_geti (pc := 151) X fX28_2 k147 q2532 (dl_at t_X28_prepare 77 rfl) fun g151 => ?_
      refine r_callTv (pc := 154) X (fun _ hv => s_X28_add k147 (r32_c rfl) g147 g151 hv) cw_code q2643 q396 (in_Vk X (As := [iv 3, iv (h_144 a0 2), iv (h_144 a0 2)]) kX28 k147 (Or.inl q2640) q2642 qs130 cw_code q2643 ⟨by decide, by decide⟩ rfl (dl_at t_X28_prepare 78 rfl)) (dl_at t_X28_prepare 78 rfl) (cat24 (st := []) (Nat.le_of_ble_eq_true rfl)) (Nat.le_of_ble_eq_true rfl) (Nat.le_of_ble_eq_true rfl) (fun v154 h154 E154 => ?_) (fun _ _ ha _ => gt_at fun Q hQ => gt_out (Q := Q) X rfl ha (hno _) _ Q rfl hQ)
      refine g_aload_n (pc := 157) X (j := 0) (i := 0) (q := 0) (x := a0) rfl rfl (dl_at t_X28_prepare 79 rfl) ?_
      refine g_aload_n (pc := 158) X (j := 1) (i := 1) (q := 1) (x := a1) rfl rfl (dl_at t_X28_prepare 80 rfl) ?_
      have k159 := kx E154 (by decide) k147
      refine r_callV (pc := 159) X (fun _ hv => s_X28_measure k159 hv) cw_code q2648 q396 (in_Vk X (As := [rv D a1]) kX28 k159 (Or.inl q2645) q2647 qs131 cw_code q2648 ⟨by decide, by decide⟩ rfl (dl_at t_X28_prepare 81 rfl)) (dl_at t_X28_prepare 81 rfl) (cat24 (st := []) (Nat.le_of_ble_eq_true rfl)) (Nat.le_of_ble_eq_true rfl) (Nat.le_of_ble_eq_true rfl) fun h159 E159 => ?_
      exact g_vret (pc := 162) X (v := 0) rfl rfl (dl_at t_X28_prepare 82 rfl)
  intro J45
  refine g_ifeq (pc := 33) X (r32_z g30) (off := 12) (tgt := 45) rfl (dl_at t_X28_prepare 17 rfl) (fun _ => ?_) (fun _ => ?_)
  · refine g_ls (ls2 := [(0, rv D a0), (1, rv D a1), (3, rv D a3)]) [0, 1, 3] rfl ?_
    exact J45 h26 (Ext.refl _)
  refine g_aload_n (pc := 36) X (j := 0) (i := 0) (q := 0) (x := a0) rfl rfl (dl_at t_X28_prepare 18 rfl) ?_
  refine g_aload_n (pc := 37) X (j := 2) (i := 2) (q := 2) (x := a2) rfl rfl (dl_at t_X28_prepare 19 rfl) ?_
  refine g_aload_n (pc := 38) X (j := 3) (i := 3) (q := 3) (x := a3) rfl rfl (dl_at t_X28_prepare 20 rfl) ?_
  refine g_gd fun k39 => ?_
  refine r_getrN (pc := 39) X fX11_0 k39 (nw_in q966 rfl) (dl_at t_X28_prepare 21 rfl) ?_
  refine r_callV (pc := 42) X (fun _ hv => s_X28_findPlaces k30 hv) cw_code q2619 q396 (in_Vk X (As := [rv D a2, rv D (h26 a3 0)]) kX28 k30 (Or.inl q2616) q2618 qs125 cw_code q2619 ⟨by decide, by decide⟩ rfl (dl_at t_X28_prepare 22 rfl)) (dl_at t_X28_prepare 22 rfl) (cat24 (st := []) (Nat.le_of_ble_eq_true rfl)) (Nat.le_of_ble_eq_true rfl) (Nat.le_of_ble_eq_true rfl) fun h42 E42 => ?_
  refine g_ls (ls2 := [(0, rv D a0), (1, rv D a1), (3, rv D a3)]) [0, 1, 3] rfl ?_
  exact J45 h42 E42
def k_X14_paragraph : List (Nat × Instr × Nat) := [(0, .aload_n 0, 1), (1, .getfield 189, 3), (4, .sipush 1200, 3), (7, .if_icmp .ge 25, 3), (10, .aload_n 0, 1), (11, .getfield 12, 3), (14, .getfield 292, 3), (17, .aload_n 1, 1), (18, .getfield 295, 3), (21, .iadd, 1), (22, .sipush 24000, 3), (25, .if_icmp .gt 7, 3), (28, .iconst 1, 1), (29, .goto 4, 3), (32, .iconst 0, 1), (33, .invokestatic 296, 3), (36, .aload_n 0, 1), (37, .getfield 20, 3), (40, .aload_n 0, 1), (41, .getfield 189, 3), (44, .aaload, 1), (45, .ifnonnull 23, 3), (48, .aload_n 0, 1), (49, .getfield 20, 3), (52, .aload_n 0, 1), (53, .getfield 189, 3), (56, .new 18, 3), (59, .dup, 1), (60, .aload_n 0, 1), (61, .getfield 12, 3), (64, .invokespecial 300, 3), (67, .aastore, 1), (68, .aload_n 0, 1), (69, .getfield 20, 3), (72, .aload_n 0, 1), (73, .getfield 189, 3), (76, .aaload, 1), (77, .astore_n 3, 1), (78, .aload_n 0, 1), (79, .dup, 1), (80, .getfield 189, 3), (83, .iconst 1, 1), (84, .iadd, 1), (85, .putfield 189, 3), (88, .aload_n 3, 1), (89, .aload_n 0, 1), (90, .getfield 12, 3), (93, .getfield 292, 3), (96, .putfield 303, 3), (99, .aload_n 1, 1), (100, .getfield 306, 3), (103, .iconst 0, 1), (104, .aload_n 0, 1), (105, .getfield 12, 3), (108, .getfield 307, 3), (111, .aload_n 0, 1), (112, .getfield 12, 3), (115, .getfield 292, 3), (118, .aload_n 1, 1), (119, .getfield 295, 3), (122, .invokestatic 310, 3), (125, .aload_n 1, 1), (126, .getfield 316, 3), (129, .iconst 0, 1), (130, .aload_n 0, 1), (131, .getfield 12, 3), (134, .getfield 319, 3), (137, .aload_n 0, 1), (138, .getfield 12, 3), (141, .getfield 292, 3), (144, .aload_n 1, 1), (145, .getfield 295, 3), (148, .invokestatic 310, 3), (151, .aload_n 1, 1), (152, .getfield 320, 3), (155, .iconst 0, 1), (156, .aload_n 0, 1), (157, .getfield 12, 3), (160, .getfield 323, 3), (163, .aload_n 0, 1), (164, .getfield 12, 3), (167, .getfield 292, 3), (170, .aload_n 1, 1), (171, .getfield 295, 3), (174, .invokestatic 310, 3), (177, .aload_n 3, 1), (178, .aload_n 1, 1), (179, .getfield 295, 3), (182, .putfield 324, 3), (185, .aload_n 0, 1), (186, .getfield 12, 3), (189, .dup, 1), (190, .getfield 292, 3), (193, .aload_n 1, 1), (194, .getfield 295, 3), (197, .iadd, 1), (198, .putfield 292, 3), (201, .aload_n 3, 1), (202, .iload_n 2, 1), (203, .putfield 327, 3), (206, .aload_n 3, 1), (207, .iconst 0, 1), (208, .putfield 330, 3), (211, .aload_n 3, 1), (212, .iconst 0, 1), (213, .putfield 333, 3), (216, .aload_n 3, 1), (217, .aload_n 0, 1), (218, .iload_n 2, 1), (219, .iconst 2, 1), (220, .invokevirtual 283, 3), (223, .putfield 336, 3), (226, .aload_n 3, 1), (227, .aload_n 0, 1), (228, .iload_n 2, 1), (229, .bipush 8, 2), (231, .invokevirtual 283, 3), (234, .putfield 339, 3), (237, .aload_n 3, 1), (238, .aload_n 0, 1), (239, .iload_n 2, 1), (240, .bipush 10, 2), (242, .invokevirtual 283, 3), (245, .putfield 342, 3), (248, .aload_n 3, 1), (249, .aload_n 0, 1), (250, .iload_n 2, 1), (251, .bipush 11, 2), (253, .invokevirtual 283, 3), (256, .putfield 345, 3), (259, .aload_n 3, 1), (260, .aload_n 0, 1), (261, .iload_n 2, 1), (262, .bipush 12, 2), (264, .invokevirtual 283, 3), (267, .putfield 348, 3), (270, .aload_n 3, 1), (271, .aload_n 0, 1), (272, .iload_n 2, 1), (273, .bipush 13, 2), (275, .invokevirtual 283, 3), (278, .iconst 1, 1), (279, .if_icmp .ne 7, 3), (282, .iconst 1, 1), (283, .goto 4, 3), (286, .iconst 0, 1), (287, .putfield 351, 3), (290, .aload_n 3, 1), (291, .aload_n 0, 1), (292, .iload_n 2, 1), (293, .bipush 14, 2), (295, .invokevirtual 283, 3), (298, .iconst 1, 1), (299, .if_icmp .ne 7, 3), (302, .iconst 1, 1), (303, .goto 4, 3), (306, .iconst 0, 1), (307, .putfield 354, 3), (310, .aload_n 3, 1), (311, .aload_n 0, 1), (312, .iload_n 2, 1), (313, .bipush 9, 2), (315, .invokevirtual 283, 3), (318, .iconst 1, 1), (319, .if_icmp .ne 7, 3), (322, .iconst 1, 1), (323, .goto 4, 3), (326, .iconst 0, 1), (327, .putfield 357, 3), (330, .aload_n 3, 1), (331, .aload_n 0, 1), (332, .getfield 174, 3), (335, .aload_n 0, 1), (336, .getfield 178, 3), (339, .aload_n 0, 1), (340, .getfield 154, 3), (343, .getfield 359, 3), (346, .invokevirtual 363, 3), (349, .aload_n 1, 1), (350, .invokevirtual 367, 3), (353, .aload_n 3, 1), (354, .areturn, 1)]
theorem t_X14_paragraph : ∀ q ∈ k_X14_paragraph, decode cX14_paragraph q.1 = .ok q.2 := dl_all (by decide +kernel)
noncomputable def m_X14_paragraph_j327 (a0 a1 x3_77 s1_327 : Int) (h307 : Hp) : Option ((Int × Int) × Hp) :=
  pt h307 x3_77 14 s1_327 fun h327 =>
  gd (h327 (h327 a0 0) (-2) = 160) (bT (m_X28_prepare x3_77 (h327 a0 4) (h327 a0 5) (h327 (h327 a0 0) 0) h327) (fun _ h346 =>
  (m_X12_clear a1 h346).bind fun h350 =>
  some ((0, x3_77), h350)) (fun a_ h_ => some ((1, a_), h_)))
noncomputable def m_X14_paragraph_j307 (a0 a1 a2 x3_77 s1_307 : Int) (h287 : Hp) : Option ((Int × Int) × Hp) :=
  pt h287 x3_77 13 s1_307 fun h307 =>
  (m_X14_property a0 a2 9 h307).bind fun v315 =>
  if v315 ≠ 1 then (m_X14_paragraph_j327 a0 a1 x3_77 0 h307)
  else (m_X14_paragraph_j327 a0 a1 x3_77 1 h307)
noncomputable def m_X14_paragraph_j287 (x3_77 a2 a0 a1 s1_287 : Int) (h267 : Hp) : Option ((Int × Int) × Hp) :=
  pt h267 x3_77 12 s1_287 fun h287 =>
  (m_X14_property a0 a2 14 h287).bind fun v295 =>
  if v295 ≠ 1 then (m_X14_paragraph_j307 a0 a1 a2 x3_77 0 h287)
  else (m_X14_paragraph_j307 a0 a1 a2 x3_77 1 h287)
noncomputable def m_X14_paragraph_j68 (a0 a1 a2 : Int) (h_68 : Hp) : Option ((Int × Int) × Hp) :=
  gd (h_68 (h_68 a0 8) (-2) % 16 = 9 ∧ (0 : Int) ≤ (h_68 a0 9) ∧ (h_68 a0 9) < h_68 (h_68 a0 8) (-1)) (lt_ (h_68 (h_68 a0 8) (h_68 a0 9)) fun x3_77 =>
  pt h_68 a0 9 (w32 ((h_68 a0 9) + 1)) fun h85 =>
  gd (h85 (h85 a0 1) (-2) = 240) (gd (h85 x3_77 (-2) = 288) (pt h85 x3_77 1 (h85 (h85 a0 1) 3) fun h96 =>
  gd (h96 a1 (-2) = 192) (gd (h96 (h96 a0 1) (-2) = 240) ((x_acp (h96 a1 0) 0 (h96 (h96 a0 1) 0) (h96 (h96 a0 1) 3) (h96 a1 3) h96).bind fun h122 =>
  gd (h122 (h122 a0 1) (-2) = 240) ((x_acp (h122 a1 1) 0 (h122 (h122 a0 1) 1) (h122 (h122 a0 1) 3) (h122 a1 3) h122).bind fun h148 =>
  gd (h148 (h148 a0 1) (-2) = 240) ((x_acp (h148 a1 2) 0 (h148 (h148 a0 1) 2) (h148 (h148 a0 1) 3) (h148 a1 3) h148).bind fun h174 =>
  pt h174 x3_77 2 (h174 a1 3) fun h182 =>
  gd (h182 (h182 a0 1) (-2) = 240) (pt h182 (h182 a0 1) 3 (w32 ((h182 (h182 a0 1) 3) + (h182 a1 3))) fun h198 =>
  pt h198 x3_77 3 a2 fun h203 =>
  pt h203 x3_77 5 0 fun h208 =>
  pt h208 x3_77 6 0 fun h213 =>
  (m_X14_property a0 a2 2 h213).bind fun v220 =>
  pt h213 x3_77 7 v220 fun h223 =>
  (m_X14_property a0 a2 8 h223).bind fun v231 =>
  pt h223 x3_77 8 v231 fun h234 =>
  (m_X14_property a0 a2 10 h234).bind fun v242 =>
  pt h234 x3_77 9 v242 fun h245 =>
  (m_X14_property a0 a2 11 h245).bind fun v253 =>
  pt h245 x3_77 10 v253 fun h256 =>
  (m_X14_property a0 a2 12 h256).bind fun v264 =>
  pt h256 x3_77 11 v264 fun h267 =>
  (m_X14_property a0 a2 13 h267).bind fun v275 =>
  if v275 ≠ 1 then (m_X14_paragraph_j287 x3_77 a2 a0 a1 0 h267)
  else (m_X14_paragraph_j287 x3_77 a2 a0 a1 1 h267)))))))))
noncomputable def m_X14_paragraph_j33 (a0 a1 a2 s0_33 : Int) (h : Hp) : Option ((Int × Int) × Hp) :=
  bT (m_X1_room s0_33 h) (fun _ h33 =>
  gd (h33 (h33 a0 8) (-2) % 16 = 9 ∧ (0 : Int) ≤ (h33 a0 9) ∧ (h33 a0 9) < h33 (h33 a0 8) (-1)) (if (h33 (h33 a0 8) (h33 a0 9)) ≠ 0 then (m_X14_paragraph_j68 a0 a1 a2 h33)
  else (al h33 288 21 fun a56 h56 =>
  (m_X28_init a56 (h56 a0 1) h56).bind fun h64 =>
  pt h64 (h33 a0 8) (h33 a0 9) a56 fun h67 =>
  m_X14_paragraph_j68 a0 a1 a2 h67))) (fun a_ h_ => some ((1, a_), h_))
noncomputable def m_X14_paragraph_j32 (a0 a1 a2 : Int) (h : Hp) : Option ((Int × Int) × Hp) :=
  m_X14_paragraph_j33 a0 a1 a2 0 h
noncomputable def m_X14_paragraph (a0 a1 a2 : Int) (h : Hp) : Option ((Int × Int) × Hp) :=
  if 1200 ≤ (h a0 9) then (m_X14_paragraph_j32 a0 a1 a2 h)
  else (gd (h (h a0 1) (-2) = 240) (gd (h a1 (-2) = 192) (if 24000 < (w32 ((h (h a0 1) 3) + (h a1 3))) then (m_X14_paragraph_j32 a0 a1 a2 h)
  else (m_X14_paragraph_j33 a0 a1 a2 1 h))))
theorem s_X14_paragraph {l : Launch} [NoTr l] {D : SD} {a0 a1 a2 : Int} {h : Hp} (hk : h a0 (-2) = 224) (r2 : r32 a2) {r : (Int × Int) × Hp} (hm : m_X14_paragraph a0 a1 a2 h = some r) : Sim l D yX14_paragraph (Cond.code yX14_paragraph cX14_paragraph 4 (Option.some (Jvm.ClassFile.FieldType.object "ScholarsPress$Paragraph"))) 12 451 [rv D a0, rv D a1, iv a2] h 5 r := by
  refine Sim.of (fin := fun (v : (Int × Int) × Hp) => v) (lsE := [(0, rv D a0), (1, rv D a1), (2, iv a2)]) hm rfl cwS_code (la_r (la_r (la_i la_n))) (ll_r (ll_r (ll_i ll_n))) ?_
  intro p e s m below meth c X hcw hmm hcc hnm hname
  have hno := noh hcw hnm hmm hcc
  unfold m_X14_paragraph
  refine g_aload_n (pc := 0) X (j := 0) (i := 0) (q := 0) (x := a0) rfl rfl (dl_at t_X14_paragraph 0 rfl) ?_
  refine r_geti (pc := 1) X fX14_9 hk q1255 (dl_at t_X14_paragraph 1 rfl) fun g1 => ?_
  refine g_sipush (pc := 4) X (n := 1200) rfl (dl_at t_X14_paragraph 2 rfl) ?_
  refine g_join (γ := Int) (fun q => (q = 0 ∨ q = 1)) 33 (fun q => [(0, rv D a0), (1, rv D a1), (2, iv a2)]) (fun q => [iv q]) (fun q => h) (fun q => m_X14_paragraph_j33 a0 a1 a2 q h) ?_ ?_
  · rintro s0_33 rs0_33
    try dsimp only
    unfold m_X14_paragraph_j33
    refine r_callTv (pc := 33) X (fun _ hv => s_X1_room rs0_33 hv) cw_code q1653 q355 (in_Sc X (As := [iv s0_33]) (Or.inr ⟨_, nw_in q2522 rfl⟩) q1652 q355 q1653 ⟨by decide, by decide⟩ rfl (dl_at t_X14_paragraph 15 rfl)) (dl_at t_X14_paragraph 15 rfl) (cat24 (st := []) (Nat.le_of_ble_eq_true rfl)) (Nat.le_of_ble_eq_true rfl) (Nat.le_of_ble_eq_true rfl) (fun v33 h33 E33 => ?_) (fun _ _ ha _ => gt_at fun Q hQ => gt_out (Q := Q) X rfl ha (hno _) _ Q rfl hQ)
    refine g_aload_n (pc := 36) X (j := 0) (i := 0) (q := 0) (x := a0) rfl rfl (dl_at t_X14_paragraph 16 rfl) ?_
    have k37 := kx E33 (by decide) hk
    refine r_getr (pc := 37) X fX14_8 k37 q1252 (dl_at t_X14_paragraph 17 rfl) ?_
    refine g_aload_n (pc := 40) X (j := 0) (i := 0) (q := 0) (x := a0) rfl rfl (dl_at t_X14_paragraph 18 rfl) ?_
    refine r_geti (pc := 41) X fX14_9 k37 q1255 (dl_at t_X14_paragraph 19 rfl) fun g41 => ?_
    refine g_gd fun k44 => ?_
    refine g_aald (pc := 44) X 9 (Nat.le_of_ble_eq_true rfl) (Nat.le_of_ble_eq_true rfl) g41 rfl k44 (dl_at t_X14_paragraph 20 rfl) ?_
    refine g_join (γ := Hp) (fun q => Ext h33 q) 68 (fun q => [(0, rv D a0), (1, rv D a1), (2, iv a2)]) (fun q => []) (fun q => q) (fun q => m_X14_paragraph_j68 a0 a1 a2 q) ?_ ?_
    · rintro h_68 E_68
      try dsimp only
      unfold m_X14_paragraph_j68
      refine g_aload_n (pc := 68) X (j := 0) (i := 0) (q := 0) (x := a0) rfl rfl (dl_at t_X14_paragraph 32 rfl) ?_
      have k69 := kx E_68 (by decide) k37
      refine r_getr (pc := 69) X fX14_8 k69 q1252 (dl_at t_X14_paragraph 33 rfl) ?_
      refine g_aload_n (pc := 72) X (j := 0) (i := 0) (q := 0) (x := a0) rfl rfl (dl_at t_X14_paragraph 34 rfl) ?_
      refine r_geti (pc := 73) X fX14_9 k69 q1255 (dl_at t_X14_paragraph 35 rfl) fun g73 => ?_
      refine g_gd fun k76 => ?_
      refine g_aald (pc := 76) X 9 (Nat.le_of_ble_eq_true rfl) (Nat.le_of_ble_eq_true rfl) g73 rfl k76 (dl_at t_X14_paragraph 36 rfl) ?_
      refine g_ltr fun x3_77 => ?_
      refine g_astore_nN (pc := 77) X (j := 3) (i := 3) (x := x3_77) (b := 2) (w := iv a2) (rest := [(0, rv D a0), (1, rv D a1)]) rfl (Nat.le_of_ble_eq_true rfl) [2, 0, 1] rfl (by decide) rfl rfl (dl_at t_X14_paragraph 37 rfl) ?_
      refine g_aload_n (pc := 78) X (j := 0) (i := 0) (q := 2) (x := a0) rfl rfl (dl_at t_X14_paragraph 38 rfl) ?_
      refine g_dup (pc := 79) X rv_cat (dl_at t_X14_paragraph 39 rfl) ?_
      refine r_geti (pc := 80) X fX14_9 k69 q1255 (dl_at t_X14_paragraph 40 rfl) fun g80 => ?_
      refine g_iconst (pc := 83) X (n := 1) (dl_at t_X14_paragraph 41 rfl) ?_
      refine g_iadd (pc := 84) X g80 (r32_c rfl) (dl_at t_X14_paragraph 42 rfl) ?_
      refine r_puti (pc := 85) X fX14_9 k69 q1255 rfl (dl_at t_X14_paragraph 43 rfl) (r32_w _) (fun h85 E85 => ?_)
      refine g_aload_n (pc := 88) X (j := 3) (i := 3) (q := 0) (x := x3_77) rfl rfl (dl_at t_X14_paragraph 44 rfl) ?_
      refine g_aload_n (pc := 89) X (j := 0) (i := 0) (q := 2) (x := a0) rfl rfl (dl_at t_X14_paragraph 45 rfl) ?_
      have k90 := kx E85 (by decide) k69
      refine r_getr (pc := 90) X fX14_1 k90 q1242 (dl_at t_X14_paragraph 46 rfl) ?_
      refine g_gd fun k93 => ?_
      refine r_getiN (pc := 93) X fX15_3 k93 (nw_in q1137 rfl) (dl_at t_X14_paragraph 47 rfl) fun g93 => ?_
      refine g_gd fun k96 => ?_
      refine r_putiN (pc := 96) X fX28_1 k96 (nw_in q2530 rfl) rfl (dl_at t_X14_paragraph 48 rfl) g93 (fun h96 E96 => ?_)
      refine g_aload_n (pc := 99) X (j := 1) (i := 1) (q := 3) (x := a1) rfl rfl (dl_at t_X14_paragraph 49 rfl) ?_
      refine g_gd fun k100 => ?_
      refine r_getrN (pc := 100) X fX12_0 k100 (nw_in q986 rfl) (dl_at t_X14_paragraph 50 rfl) ?_
      refine g_iconst (pc := 103) X (n := 0) (dl_at t_X14_paragraph 51 rfl) ?_
      refine g_aload_n (pc := 104) X (j := 0) (i := 0) (q := 2) (x := a0) rfl rfl (dl_at t_X14_paragraph 52 rfl) ?_
      have k105 := kx E96 (by decide) k90
      refine r_getr (pc := 105) X fX14_1 k105 q1242 (dl_at t_X14_paragraph 53 rfl) ?_
      refine g_gd fun k108 => ?_
      refine r_getrN (pc := 108) X fX15_0 k108 (nw_in q1129 rfl) (dl_at t_X14_paragraph 54 rfl) ?_
      refine g_aload_n (pc := 111) X (j := 0) (i := 0) (q := 2) (x := a0) rfl rfl (dl_at t_X14_paragraph 55 rfl) ?_
      refine r_getr (pc := 112) X fX14_1 k105 q1242 (dl_at t_X14_paragraph 56 rfl) ?_
      refine r_getiN (pc := 115) X fX15_3 k108 (nw_in q1137 rfl) (dl_at t_X14_paragraph 57 rfl) fun g115 => ?_
      refine g_aload_n (pc := 118) X (j := 1) (i := 1) (q := 3) (x := a1) rfl rfl (dl_at t_X14_paragraph 58 rfl) ?_
      refine r_getiN (pc := 119) X fX12_3 k100 (nw_in q992 rfl) (dl_at t_X14_paragraph 59 rfl) fun g119 => ?_
      refine r_acp (pc := 122) X (r32_c rfl) g115 g119 q2611 q2133 q2132 q393 (cat24 (st := []) (Nat.le_of_ble_eq_true rfl)) (Nat.le_of_ble_eq_true rfl) (Nat.le_of_ble_eq_true rfl) (dl_at t_X14_paragraph 60 rfl) fun h122 E122 => ?_
      refine g_aload_n (pc := 125) X (j := 1) (i := 1) (q := 3) (x := a1) rfl rfl (dl_at t_X14_paragraph 61 rfl) ?_
      have k126 := kx E122 (by decide) k100
      refine r_getrN (pc := 126) X fX12_1 k126 (nw_in q988 rfl) (dl_at t_X14_paragraph 62 rfl) ?_
      refine g_iconst (pc := 129) X (n := 0) (dl_at t_X14_paragraph 63 rfl) ?_
      refine g_aload_n (pc := 130) X (j := 0) (i := 0) (q := 2) (x := a0) rfl rfl (dl_at t_X14_paragraph 64 rfl) ?_
      have k131 := kx E122 (by decide) k105
      refine r_getr (pc := 131) X fX14_1 k131 q1242 (dl_at t_X14_paragraph 65 rfl) ?_
      refine g_gd fun k134 => ?_
      refine r_getrN (pc := 134) X fX15_1 k134 (nw_in q1132 rfl) (dl_at t_X14_paragraph 66 rfl) ?_
      refine g_aload_n (pc := 137) X (j := 0) (i := 0) (q := 2) (x := a0) rfl rfl (dl_at t_X14_paragraph 67 rfl) ?_
      refine r_getr (pc := 138) X fX14_1 k131 q1242 (dl_at t_X14_paragraph 68 rfl) ?_
      refine r_getiN (pc := 141) X fX15_3 k134 (nw_in q1137 rfl) (dl_at t_X14_paragraph 69 rfl) fun g141 => ?_
      refine g_aload_n (pc := 144) X (j := 1) (i := 1) (q := 3) (x := a1) rfl rfl (dl_at t_X14_paragraph 70 rfl) ?_
      refine r_getiN (pc := 145) X fX12_3 k126 (nw_in q992 rfl) (dl_at t_X14_paragraph 71 rfl) fun g145 => ?_
      refine r_acp (pc := 148) X (r32_c rfl) g141 g145 q2611 q2133 q2132 q393 (cat24 (st := []) (Nat.le_of_ble_eq_true rfl)) (Nat.le_of_ble_eq_true rfl) (Nat.le_of_ble_eq_true rfl) (dl_at t_X14_paragraph 72 rfl) fun h148 E148 => ?_
      refine g_aload_n (pc := 151) X (j := 1) (i := 1) (q := 3) (x := a1) rfl rfl (dl_at t_X14_paragraph 73 rfl) ?_
      have k152 := kx E148 (by decide) k126
      refine r_getrN (pc := 152) X fX12_2 k152 (nw_in q990 rfl) (dl_at t_X14_paragraph 74 rfl) ?_
      refine g_iconst (pc := 155) X (n := 0) (dl_at t_X14_paragraph 75 rfl) ?_
      refine g_aload_n (pc := 156) X (j := 0) (i := 0) (q := 2) (x := a0) rfl rfl (dl_at t_X14_paragraph 76 rfl) ?_
      have k157 := kx E148 (by decide) k131
      refine r_getr (pc := 157) X fX14_1 k157 q1242 (dl_at t_X14_paragraph 77 rfl) ?_
      refine g_gd fun k160 => ?_
      refine r_getrN (pc := 160) X fX15_2 k160 (nw_in q1135 rfl) (dl_at t_X14_paragraph 78 rfl) ?_
      refine g_aload_n (pc := 163) X (j := 0) (i := 0) (q := 2) (x := a0) rfl rfl (dl_at t_X14_paragraph 79 rfl) ?_
      refine r_getr (pc := 164) X fX14_1 k157 q1242 (dl_at t_X14_paragraph 80 rfl) ?_
      refine r_getiN (pc := 167) X fX15_3 k160 (nw_in q1137 rfl) (dl_at t_X14_paragraph 81 rfl) fun g167 => ?_
      refine g_aload_n (pc := 170) X (j := 1) (i := 1) (q := 3) (x := a1) rfl rfl (dl_at t_X14_paragraph 82 rfl) ?_
      refine r_getiN (pc := 171) X fX12_3 k152 (nw_in q992 rfl) (dl_at t_X14_paragraph 83 rfl) fun g171 => ?_
      refine r_acp (pc := 174) X (r32_c rfl) g167 g171 q2611 q2133 q2132 q393 (cat24 (st := []) (Nat.le_of_ble_eq_true rfl)) (Nat.le_of_ble_eq_true rfl) (Nat.le_of_ble_eq_true rfl) (dl_at t_X14_paragraph 84 rfl) fun h174 E174 => ?_
      refine g_aload_n (pc := 177) X (j := 3) (i := 3) (q := 0) (x := x3_77) rfl rfl (dl_at t_X14_paragraph 85 rfl) ?_
      refine g_aload_n (pc := 178) X (j := 1) (i := 1) (q := 3) (x := a1) rfl rfl (dl_at t_X14_paragraph 86 rfl) ?_
      have k179 := kx E174 (by decide) k152
      refine r_getiN (pc := 179) X fX12_3 k179 (nw_in q992 rfl) (dl_at t_X14_paragraph 87 rfl) fun g179 => ?_
      have k182 := kx (E96.trans (E122.trans (E148.trans E174))) (by decide) k96
      refine r_putiN (pc := 182) X fX28_2 k182 (nw_in q2533 rfl) rfl (dl_at t_X14_paragraph 88 rfl) g179 (fun h182 E182 => ?_)
      refine g_aload_n (pc := 185) X (j := 0) (i := 0) (q := 2) (x := a0) rfl rfl (dl_at t_X14_paragraph 89 rfl) ?_
      have k186 := kx (E174.trans E182) (by decide) k157
      refine r_getr (pc := 186) X fX14_1 k186 q1242 (dl_at t_X14_paragraph 90 rfl) ?_
      refine g_dup (pc := 189) X rv_cat (dl_at t_X14_paragraph 91 rfl) ?_
      refine g_gd fun k190 => ?_
      refine r_getiN (pc := 190) X fX15_3 k190 (nw_in q1137 rfl) (dl_at t_X14_paragraph 92 rfl) fun g190 => ?_
      refine g_aload_n (pc := 193) X (j := 1) (i := 1) (q := 3) (x := a1) rfl rfl (dl_at t_X14_paragraph 93 rfl) ?_
      have k194 := kx E182 (by decide) k179
      refine r_getiN (pc := 194) X fX12_3 k194 (nw_in q992 rfl) (dl_at t_X14_paragraph 94 rfl) fun g194 => ?_
      refine g_iadd (pc := 197) X g190 g194 (dl_at t_X14_paragraph 95 rfl) ?_
      refine r_putiN (pc := 198) X fX15_3 k190 (nw_in q1137 rfl) rfl (dl_at t_X14_paragraph 96 rfl) (r32_w _) (fun h198 E198 => ?_)
      refine g_aload_n (pc := 201) X (j := 3) (i := 3) (q := 0) (x := x3_77) rfl rfl (dl_at t_X14_paragraph 97 rfl) ?_
      refine g_iload_n (pc := 202) X (j := 2) (i := 2) (q := 1) (x := a2) rfl rfl (dl_at t_X14_paragraph 98 rfl) ?_
      have k203 := kx (E182.trans E198) (by decide) k182
      refine r_putiN (pc := 203) X fX28_3 k203 (nw_in q2535 rfl) rfl (dl_at t_X14_paragraph 99 rfl) r2 (fun h203 E203 => ?_)
      refine g_aload_n (pc := 206) X (j := 3) (i := 3) (q := 0) (x := x3_77) rfl rfl (dl_at t_X14_paragraph 100 rfl) ?_
      refine g_iconst (pc := 207) X (n := 0) (dl_at t_X14_paragraph 101 rfl) ?_
      have k208 := kx E203 (by decide) k203
      refine r_putiN (pc := 208) X fX28_5 k208 (nw_in q2541 rfl) rfl (dl_at t_X14_paragraph 102 rfl) (r32_c rfl) (fun h208 E208 => ?_)
      refine g_aload_n (pc := 211) X (j := 3) (i := 3) (q := 0) (x := x3_77) rfl rfl (dl_at t_X14_paragraph 103 rfl) ?_
      refine g_iconst (pc := 212) X (n := 0) (dl_at t_X14_paragraph 104 rfl) ?_
      have k213 := kx E208 (by decide) k208
      refine r_putiN (pc := 213) X fX28_6 k213 (nw_in q2544 rfl) rfl (dl_at t_X14_paragraph 105 rfl) (r32_c rfl) (fun h213 E213 => ?_)
      refine g_aload_n (pc := 216) X (j := 3) (i := 3) (q := 0) (x := x3_77) rfl rfl (dl_at t_X14_paragraph 106 rfl) ?_
      refine g_aload_n (pc := 217) X (j := 0) (i := 0) (q := 2) (x := a0) rfl rfl (dl_at t_X14_paragraph 107 rfl) ?_
      refine g_iload_n (pc := 218) X (j := 2) (i := 2) (q := 1) (x := a2) rfl rfl (dl_at t_X14_paragraph 108 rfl) ?_
      refine g_iconst (pc := 219) X (n := 2) (dl_at t_X14_paragraph 109 rfl) ?_
      have k220 := kx (E198.trans (E203.trans (E208.trans E213))) (by decide) k186
      refine r_callRi (pc := 220) X (fun _ hv => s_X14_property k220 r2 (r32_c rfl) hv) cw_code q2504 q368 (in_Vk X (As := [iv a2, iv 2]) kX14 k220 (Or.inl q2501) q2503 qs119 cw_code q2504 ⟨by decide, by decide⟩ rfl (dl_at t_X14_paragraph 110 rfl)) (dl_at t_X14_paragraph 110 rfl) (cat24 (st := [rv D x3_77]) (Nat.le_of_ble_eq_true rfl)) (Nat.le_of_ble_eq_true rfl) (Nat.le_of_ble_eq_true rfl) fun v220 g220 => ?_
      have k223 := kx E213 (by decide) k213
      refine r_putiN (pc := 223) X fX28_7 k223 (nw_in q2546 rfl) rfl (dl_at t_X14_paragraph 111 rfl) g220 (fun h223 E223 => ?_)
      refine g_aload_n (pc := 226) X (j := 3) (i := 3) (q := 0) (x := x3_77) rfl rfl (dl_at t_X14_paragraph 112 rfl) ?_
      refine g_aload_n (pc := 227) X (j := 0) (i := 0) (q := 2) (x := a0) rfl rfl (dl_at t_X14_paragraph 113 rfl) ?_
      refine g_iload_n (pc := 228) X (j := 2) (i := 2) (q := 1) (x := a2) rfl rfl (dl_at t_X14_paragraph 114 rfl) ?_
      refine g_bipush (pc := 229) X (n := 8) rfl (dl_at t_X14_paragraph 115 rfl) ?_
      have k231 := kx E223 (by decide) k220
      refine r_callRi (pc := 231) X (fun _ hv => s_X14_property k231 r2 (r32_c rfl) hv) cw_code q2504 q368 (in_Vk X (As := [iv a2, iv 8]) kX14 k231 (Or.inl q2501) q2503 qs119 cw_code q2504 ⟨by decide, by decide⟩ rfl (dl_at t_X14_paragraph 116 rfl)) (dl_at t_X14_paragraph 116 rfl) (cat24 (st := [rv D x3_77]) (Nat.le_of_ble_eq_true rfl)) (Nat.le_of_ble_eq_true rfl) (Nat.le_of_ble_eq_true rfl) fun v231 g231 => ?_
      have k234 := kx E223 (by decide) k223
      refine r_putiN (pc := 234) X fX28_8 k234 (nw_in q2548 rfl) rfl (dl_at t_X14_paragraph 117 rfl) g231 (fun h234 E234 => ?_)
      refine g_aload_n (pc := 237) X (j := 3) (i := 3) (q := 0) (x := x3_77) rfl rfl (dl_at t_X14_paragraph 118 rfl) ?_
      refine g_aload_n (pc := 238) X (j := 0) (i := 0) (q := 2) (x := a0) rfl rfl (dl_at t_X14_paragraph 119 rfl) ?_
      refine g_iload_n (pc := 239) X (j := 2) (i := 2) (q := 1) (x := a2) rfl rfl (dl_at t_X14_paragraph 120 rfl) ?_
      refine g_bipush (pc := 240) X (n := 10) rfl (dl_at t_X14_paragraph 121 rfl) ?_
      have k242 := kx E234 (by decide) k231
      refine r_callRi (pc := 242) X (fun _ hv => s_X14_property k242 r2 (r32_c rfl) hv) cw_code q2504 q368 (in_Vk X (As := [iv a2, iv 10]) kX14 k242 (Or.inl q2501) q2503 qs119 cw_code q2504 ⟨by decide, by decide⟩ rfl (dl_at t_X14_paragraph 122 rfl)) (dl_at t_X14_paragraph 122 rfl) (cat24 (st := [rv D x3_77]) (Nat.le_of_ble_eq_true rfl)) (Nat.le_of_ble_eq_true rfl) (Nat.le_of_ble_eq_true rfl) fun v242 g242 => ?_
      have k245 := kx E234 (by decide) k234
      refine r_putiN (pc := 245) X fX28_9 k245 (nw_in q2550 rfl) rfl (dl_at t_X14_paragraph 123 rfl) g242 (fun h245 E245 => ?_)
      refine g_aload_n (pc := 248) X (j := 3) (i := 3) (q := 0) (x := x3_77) rfl rfl (dl_at t_X14_paragraph 124 rfl) ?_
      refine g_aload_n (pc := 249) X (j := 0) (i := 0) (q := 2) (x := a0) rfl rfl (dl_at t_X14_paragraph 125 rfl) ?_
      refine g_iload_n (pc := 250) X (j := 2) (i := 2) (q := 1) (x := a2) rfl rfl (dl_at t_X14_paragraph 126 rfl) ?_
      refine g_bipush (pc := 251) X (n := 11) rfl (dl_at t_X14_paragraph 127 rfl) ?_
      have k253 := kx E245 (by decide) k242
      refine r_callRi (pc := 253) X (fun _ hv => s_X14_property k253 r2 (r32_c rfl) hv) cw_code q2504 q368 (in_Vk X (As := [iv a2, iv 11]) kX14 k253 (Or.inl q2501) q2503 qs119 cw_code q2504 ⟨by decide, by decide⟩ rfl (dl_at t_X14_paragraph 128 rfl)) (dl_at t_X14_paragraph 128 rfl) (cat24 (st := [rv D x3_77]) (Nat.le_of_ble_eq_true rfl)) (Nat.le_of_ble_eq_true rfl) (Nat.le_of_ble_eq_true rfl) fun v253 g253 => ?_
      have k256 := kx E245 (by decide) k245
      refine r_putiN (pc := 256) X fX28_10 k256 (nw_in q2551 rfl) rfl (dl_at t_X14_paragraph 129 rfl) g253 (fun h256 E256 => ?_)
      refine g_aload_n (pc := 259) X (j := 3) (i := 3) (q := 0) (x := x3_77) rfl rfl (dl_at t_X14_paragraph 130 rfl) ?_
      refine g_aload_n (pc := 260) X (j := 0) (i := 0) (q := 2) (x := a0) rfl rfl (dl_at t_X14_paragraph 131 rfl) ?_
      refine g_iload_n (pc := 261) X (j := 2) (i := 2) (q := 1) (x := a2) rfl rfl (dl_at t_X14_paragraph 132 rfl) ?_
      refine g_bipush (pc := 262) X (n := 12) rfl (dl_at t_X14_paragraph 133 rfl) ?_
      have k264 := kx E256 (by decide) k253
      refine r_callRi (pc := 264) X (fun _ hv => s_X14_property k264 r2 (r32_c rfl) hv) cw_code q2504 q368 (in_Vk X (As := [iv a2, iv 12]) kX14 k264 (Or.inl q2501) q2503 qs119 cw_code q2504 ⟨by decide, by decide⟩ rfl (dl_at t_X14_paragraph 134 rfl)) (dl_at t_X14_paragraph 134 rfl) (cat24 (st := [rv D x3_77]) (Nat.le_of_ble_eq_true rfl)) (Nat.le_of_ble_eq_true rfl) (Nat.le_of_ble_eq_true rfl) fun v264 g264 => ?_
      have k267 := kx E256 (by decide) k256
      refine r_putiN (pc := 267) X fX28_11 k267 (nw_in q2552 rfl) rfl (dl_at t_X14_paragraph 135 rfl) g264 (fun h267 E267 => ?_)
      refine g_aload_n (pc := 270) X (j := 3) (i := 3) (q := 0) (x := x3_77) rfl rfl (dl_at t_X14_paragraph 136 rfl) ?_
      refine g_aload_n (pc := 271) X (j := 0) (i := 0) (q := 2) (x := a0) rfl rfl (dl_at t_X14_paragraph 137 rfl) ?_
      refine g_iload_n (pc := 272) X (j := 2) (i := 2) (q := 1) (x := a2) rfl rfl (dl_at t_X14_paragraph 138 rfl) ?_
      refine g_bipush (pc := 273) X (n := 13) rfl (dl_at t_X14_paragraph 139 rfl) ?_
      have k275 := kx E267 (by decide) k264
      refine r_callRi (pc := 275) X (fun _ hv => s_X14_property k275 r2 (r32_c rfl) hv) cw_code q2504 q368 (in_Vk X (As := [iv a2, iv 13]) kX14 k275 (Or.inl q2501) q2503 qs119 cw_code q2504 ⟨by decide, by decide⟩ rfl (dl_at t_X14_paragraph 140 rfl)) (dl_at t_X14_paragraph 140 rfl) (cat24 (st := [rv D x3_77]) (Nat.le_of_ble_eq_true rfl)) (Nat.le_of_ble_eq_true rfl) (Nat.le_of_ble_eq_true rfl) fun v275 g275 => ?_
      refine g_iconst (pc := 278) X (n := 1) (dl_at t_X14_paragraph 141 rfl) ?_
      refine g_join (γ := Int) (fun q => (q = 0 ∨ q = 1)) 287 (fun q => [(0, rv D a0), (1, rv D a1), (2, iv a2), (3, rv D x3_77)]) (fun q => [iv q, rv D x3_77]) (fun q => h267) (fun q => m_X14_paragraph_j287 x3_77 a2 a0 a1 q h267) ?_ ?_
      · rintro s1_287 rs1_287
        try dsimp only
        unfold m_X14_paragraph_j287
        have k287 := kx E267 (by decide) k267
        refine r_putzN (pc := 287) X fX28_12 k287 (nw_in q2553 rfl) rfl (dl_at t_X14_paragraph 146 rfl) rs1_287 (fun h287 E287 => ?_)
        refine g_aload_n (pc := 290) X (j := 3) (i := 3) (q := 3) (x := x3_77) rfl rfl (dl_at t_X14_paragraph 147 rfl) ?_
        refine g_aload_n (pc := 291) X (j := 0) (i := 0) (q := 0) (x := a0) rfl rfl (dl_at t_X14_paragraph 148 rfl) ?_
        refine g_iload_n (pc := 292) X (j := 2) (i := 2) (q := 2) (x := a2) rfl rfl (dl_at t_X14_paragraph 149 rfl) ?_
        refine g_bipush (pc := 293) X (n := 14) rfl (dl_at t_X14_paragraph 150 rfl) ?_
        have k295 := kx E287 (by decide) k275
        refine r_callRi (pc := 295) X (fun _ hv => s_X14_property k295 r2 (r32_c rfl) hv) cw_code q2504 q368 (in_Vk X (As := [iv a2, iv 14]) kX14 k295 (Or.inl q2501) q2503 qs119 cw_code q2504 ⟨by decide, by decide⟩ rfl (dl_at t_X14_paragraph 151 rfl)) (dl_at t_X14_paragraph 151 rfl) (cat24 (st := [rv D x3_77]) (Nat.le_of_ble_eq_true rfl)) (Nat.le_of_ble_eq_true rfl) (Nat.le_of_ble_eq_true rfl) fun v295 g295 => ?_
        refine g_iconst (pc := 298) X (n := 1) (dl_at t_X14_paragraph 152 rfl) ?_
        refine g_join (γ := Int) (fun q => (q = 0 ∨ q = 1)) 307 (fun q => [(0, rv D a0), (1, rv D a1), (2, iv a2), (3, rv D x3_77)]) (fun q => [iv q, rv D x3_77]) (fun q => h287) (fun q => m_X14_paragraph_j307 a0 a1 a2 x3_77 q h287) ?_ ?_
        · rintro s1_307 rs1_307
          try dsimp only
          unfold m_X14_paragraph_j307
          have k307 := kx E287 (by decide) k287
          refine r_putzN (pc := 307) X fX28_13 k307 (nw_in q2554 rfl) rfl (dl_at t_X14_paragraph 157 rfl) rs1_307 (fun h307 E307 => ?_)
          refine g_aload_n (pc := 310) X (j := 3) (i := 3) (q := 3) (x := x3_77) rfl rfl (dl_at t_X14_paragraph 158 rfl) ?_
          refine g_aload_n (pc := 311) X (j := 0) (i := 0) (q := 0) (x := a0) rfl rfl (dl_at t_X14_paragraph 159 rfl) ?_
          refine g_iload_n (pc := 312) X (j := 2) (i := 2) (q := 2) (x := a2) rfl rfl (dl_at t_X14_paragraph 160 rfl) ?_
          refine g_bipush (pc := 313) X (n := 9) rfl (dl_at t_X14_paragraph 161 rfl) ?_
          have k315 := kx E307 (by decide) k295
          refine r_callRi (pc := 315) X (fun _ hv => s_X14_property k315 r2 (r32_c rfl) hv) cw_code q2504 q368 (in_Vk X (As := [iv a2, iv 9]) kX14 k315 (Or.inl q2501) q2503 qs119 cw_code q2504 ⟨by decide, by decide⟩ rfl (dl_at t_X14_paragraph 162 rfl)) (dl_at t_X14_paragraph 162 rfl) (cat24 (st := [rv D x3_77]) (Nat.le_of_ble_eq_true rfl)) (Nat.le_of_ble_eq_true rfl) (Nat.le_of_ble_eq_true rfl) fun v315 g315 => ?_
          refine g_iconst (pc := 318) X (n := 1) (dl_at t_X14_paragraph 163 rfl) ?_
          refine g_join (γ := Int) (fun q => (q = 0 ∨ q = 1)) 327 (fun q => [(0, rv D a0), (1, rv D a1), (3, rv D x3_77)]) (fun q => [iv q, rv D x3_77]) (fun q => h307) (fun q => m_X14_paragraph_j327 a0 a1 x3_77 q h307) ?_ ?_
          · rintro s1_327 rs1_327
            try dsimp only
            unfold m_X14_paragraph_j327
            have k327 := kx E307 (by decide) k307
            refine r_putzN (pc := 327) X fX28_14 k327 (nw_in q2556 rfl) rfl (dl_at t_X14_paragraph 168 rfl) rs1_327 (fun h327 E327 => ?_)
            refine g_aload_n (pc := 330) X (j := 3) (i := 3) (q := 2) (x := x3_77) rfl rfl (dl_at t_X14_paragraph 169 rfl) ?_
            refine g_aload_n (pc := 331) X (j := 0) (i := 0) (q := 0) (x := a0) rfl rfl (dl_at t_X14_paragraph 170 rfl) ?_
            have k332 := kx E327 (by decide) k315
            refine r_getr (pc := 332) X fX14_4 k332 q1247 (dl_at t_X14_paragraph 171 rfl) ?_
            refine g_aload_n (pc := 335) X (j := 0) (i := 0) (q := 0) (x := a0) rfl rfl (dl_at t_X14_paragraph 172 rfl) ?_
            refine r_getr (pc := 336) X fX14_5 k332 q1248 (dl_at t_X14_paragraph 173 rfl) ?_
            refine g_aload_n (pc := 339) X (j := 0) (i := 0) (q := 0) (x := a0) rfl rfl (dl_at t_X14_paragraph 174 rfl) ?_
            refine r_getr (pc := 340) X fX14_0 k332 q1241 (dl_at t_X14_paragraph 175 rfl) ?_
            refine g_gd fun k343 => ?_
            refine r_getrN (pc := 343) X fX10_0 k343 (nw_in q1037 rfl) (dl_at t_X14_paragraph 176 rfl) ?_
            have k346 := kx E327 (by decide) k327
            refine r_callTv (pc := 346) X (fun _ hv => s_X28_prepare k346 hv) cw_code q2615 q396 (in_Vk X (As := [rv D (h327 a0 4), rv D (h327 a0 5), rv D (h327 (h327 a0 0) 0)]) kX28 k346 (Or.inr ⟨_, nw_in q2612 rfl⟩) q2614 qs124 cw_code q2615 ⟨by decide, by decide⟩ rfl (dl_at t_X14_paragraph 177 rfl)) (dl_at t_X14_paragraph 177 rfl) (cat24 (st := []) (Nat.le_of_ble_eq_true rfl)) (Nat.le_of_ble_eq_true rfl) (Nat.le_of_ble_eq_true rfl) (fun v346 h346 E346 => ?_) (fun _ _ ha _ => gt_at fun Q hQ => gt_out (Q := Q) X rfl ha (hno _) _ Q rfl hQ)
            refine g_aload_n (pc := 349) X (j := 1) (i := 1) (q := 1) (x := a1) rfl rfl (dl_at t_X14_paragraph 178 rfl) ?_
            have k350 := kx (E198.trans (E203.trans (E208.trans (E213.trans (E223.trans (E234.trans (E245.trans (E256.trans (E267.trans (E287.trans (E307.trans (E327.trans E346)))))))))))) (by decide) k194
            refine r_callV (pc := 350) X (fun _ hv => s_X12_clear k350 hv) cw_code q2480 q366 (in_Vk X (As := []) kX12 k350 (Or.inr ⟨_, nw_in q2477 rfl⟩) q2479 qs113 cw_code q2480 ⟨by decide, by decide⟩ rfl (dl_at t_X14_paragraph 179 rfl)) (dl_at t_X14_paragraph 179 rfl) (cat24 (st := []) (Nat.le_of_ble_eq_true rfl)) (Nat.le_of_ble_eq_true rfl) (Nat.le_of_ble_eq_true rfl) fun h350 E350 => ?_
            refine g_aload_n (pc := 353) X (j := 3) (i := 3) (q := 2) (x := x3_77) rfl rfl (dl_at t_X14_paragraph 180 rfl) ?_
            exact g_aret (pc := 354) X (Or.inl ⟨_, rfl⟩) rfl rfl (dl_at t_X14_paragraph 181 rfl)
          intro J327
          refine g_icmpne (pc := 319) X g315 (r32_c rfl) (off := 7) (tgt := 326) rfl (dl_at t_X14_paragraph 164 rfl) (fun _ => ?_) (fun _ => ?_)
          · refine g_iconst (pc := 326) X (n := 0) (dl_at t_X14_paragraph 167 rfl) ?_
            refine g_ls (ls2 := [(0, rv D a0), (1, rv D a1), (3, rv D x3_77)]) [0, 1, 3] rfl ?_
            exact J327 0 (Or.inl rfl)
          refine g_iconst (pc := 322) X (n := 1) (dl_at t_X14_paragraph 165 rfl) ?_
          refine g_goto (pc := 323) X (off := 4) (tgt := 327) rfl (dl_at t_X14_paragraph 166 rfl) ?_
          refine g_ls (ls2 := [(0, rv D a0), (1, rv D a1), (3, rv D x3_77)]) [0, 1, 3] rfl ?_
          exact J327 1 (Or.inr rfl)
        intro J307
        refine g_icmpne (pc := 299) X g295 (r32_c rfl) (off := 7) (tgt := 306) rfl (dl_at t_X14_paragraph 153 rfl) (fun _ => ?_) (fun _ => ?_)
        · refine g_iconst (pc := 306) X (n := 0) (dl_at t_X14_paragraph 156 rfl) ?_
          exact J307 0 (Or.inl rfl)
        refine g_iconst (pc := 302) X (n := 1) (dl_at t_X14_paragraph 154 rfl) ?_
        refine g_goto (pc := 303) X (off := 4) (tgt := 307) rfl (dl_at t_X14_paragraph 155 rfl) ?_
        exact J307 1 (Or.inr rfl)
      intro J287
      refine g_icmpne (pc := 279) X g275 (r32_c rfl) (off := 7) (tgt := 286) rfl (dl_at t_X14_paragraph 142 rfl) (fun _ => ?_) (fun _ => ?_)
      · refine g_iconst (pc := 286) X (n := 0) (dl_at t_X14_paragraph 145 rfl) ?_
        refine g_ls (ls2 := [(0, rv D a0), (1, rv D a1), (2, iv a2), (3, rv D x3_77)]) [2, 3, 1, 0] rfl ?_
        exact J287 0 (Or.inl rfl)
      refine g_iconst (pc := 282) X (n := 1) (dl_at t_X14_paragraph 143 rfl) ?_
      refine g_goto (pc := 283) X (off := 4) (tgt := 287) rfl (dl_at t_X14_paragraph 144 rfl) ?_
      refine g_ls (ls2 := [(0, rv D a0), (1, rv D a1), (2, iv a2), (3, rv D x3_77)]) [2, 3, 1, 0] rfl ?_
      exact J287 1 (Or.inr rfl)
    intro J68
    refine g_ifnonnull (pc := 45) X (off := 23) (tgt := 68) rfl (dl_at t_X14_paragraph 21 rfl) (fun _ => ?_) (fun _ => ?_)
    · exact J68 h33 (Ext.refl _)
    refine g_aload_n (pc := 48) X (j := 0) (i := 0) (q := 0) (x := a0) rfl rfl (dl_at t_X14_paragraph 22 rfl) ?_
    refine r_getr (pc := 49) X fX14_8 k37 q1252 (dl_at t_X14_paragraph 23 rfl) ?_
    refine g_aload_n (pc := 52) X (j := 0) (i := 0) (q := 0) (x := a0) rfl rfl (dl_at t_X14_paragraph 24 rfl) ?_
    refine r_geti (pc := 53) X fX14_9 k37 q1255 (dl_at t_X14_paragraph 25 rfl) fun g53 => ?_
    refine r_new (pc := 56) X kX28 q1195 (dl_at t_X14_paragraph 26 rfl) fun a56 h56 p56 k56 E56 => ?_
    refine g_dup (pc := 59) X rv_cat (dl_at t_X14_paragraph 27 rfl) ?_
    refine g_aload_n (pc := 60) X (j := 0) (i := 0) (q := 0) (x := a0) rfl rfl (dl_at t_X14_paragraph 28 rfl) ?_
    have k61 := kx E56 (by decide) k37
    refine r_getr (pc := 61) X fX14_1 k61 q1242 (dl_at t_X14_paragraph 29 rfl) ?_
    refine r_callV (pc := 64) X (fun _ hv => s_X28_init k56 hv) cw_code q2526 q396 (in_I X (As := [rv D (h56 a0 1)]) (Int.ne_of_gt p56) rfl (Or.inr ⟨_, nw_in q2524 rfl⟩) q2525 q2526 ⟨by decide, by decide⟩ rfl (dl_at t_X14_paragraph 30 rfl)) (dl_at t_X14_paragraph 30 rfl) (cat24 (st := [rv D a56, iv (h33 a0 9), rv D (h33 a0 8)]) (Nat.le_of_ble_eq_true rfl)) (Nat.le_of_ble_eq_true rfl) (Nat.le_of_ble_eq_true rfl) fun h64 E64 => ?_
    have k67 := kx E64 (by decide) k56
    have k67_1 := ka (E56.trans E64) (by decide) k44
    refine r_aast (pc := 67) X 9 (Nat.le_of_ble_eq_true rfl) (Nat.le_of_ble_eq_true rfl) g53 rfl rfl k67 k67_1 (dl_at t_X14_paragraph 31 rfl) (fun h67 E67 => ?_)
    exact J68 h67 (E56.trans (E64.trans E67))
  intro J33
  refine g_join (γ := Unit) (fun q => True) 32 (fun q => [(0, rv D a0), (1, rv D a1), (2, iv a2)]) (fun q => []) (fun q => h) (fun q => m_X14_paragraph_j32 a0 a1 a2 h) ?_ ?_
  · rintro _ _
    try dsimp only
    unfold m_X14_paragraph_j32
    refine g_iconst (pc := 32) X (n := 0) (dl_at t_X14_paragraph 14 rfl) ?_
    exact J33 0 (Or.inl rfl)
  intro J32
  refine g_icmpge (pc := 7) X g1 (r32_c rfl) (off := 25) (tgt := 32) rfl (dl_at t_X14_paragraph 3 rfl) (fun _ => ?_) (fun _ => ?_)
  · exact J32 () trivial
  refine g_aload_n (pc := 10) X (j := 0) (i := 0) (q := 0) (x := a0) rfl rfl (dl_at t_X14_paragraph 4 rfl) ?_
  refine r_getr (pc := 11) X fX14_1 hk q1242 (dl_at t_X14_paragraph 5 rfl) ?_
  refine g_gd fun k14 => ?_
  refine r_getiN (pc := 14) X fX15_3 k14 (nw_in q1137 rfl) (dl_at t_X14_paragraph 6 rfl) fun g14 => ?_
  refine g_aload_n (pc := 17) X (j := 1) (i := 1) (q := 1) (x := a1) rfl rfl (dl_at t_X14_paragraph 7 rfl) ?_
  refine g_gd fun k18 => ?_
  refine r_getiN (pc := 18) X fX12_3 k18 (nw_in q992 rfl) (dl_at t_X14_paragraph 8 rfl) fun g18 => ?_
  refine g_iadd (pc := 21) X g14 g18 (dl_at t_X14_paragraph 9 rfl) ?_
  refine g_sipush (pc := 22) X (n := 24000) rfl (dl_at t_X14_paragraph 10 rfl) ?_
  refine g_icmpgt (pc := 25) X (r32_w _) (r32_c rfl) (off := 7) (tgt := 32) rfl (dl_at t_X14_paragraph 11 rfl) (fun _ => ?_) (fun _ => ?_)
  · exact J32 () trivial
  refine g_iconst (pc := 28) X (n := 1) (dl_at t_X14_paragraph 12 rfl) ?_
  refine g_goto (pc := 29) X (off := 4) (tgt := 33) rfl (dl_at t_X14_paragraph 13 rfl) ?_
  exact J33 1 (Or.inr rfl)
def k_X14_flowParagraph : List (Nat × Instr × Nat) := [(0, .aload_n 0, 1), (1, .aload_n 1, 1), (2, .iload_n 2, 1), (3, .invokevirtual 368, 3), (6, .astore_n 3, 1), (7, .aload_n 0, 1), (8, .getfield 24, 3), (11, .aload_n 0, 1), (12, .getfield 193, 3), (15, .aload_n 3, 1), (16, .aastore, 1), (17, .aload_n 0, 1), (18, .dup, 1), (19, .getfield 193, 3), (22, .iconst 1, 1), (23, .iadd, 1), (24, .putfield 193, 3), (27, .aload_n 3, 1), (28, .areturn, 1)]
theorem t_X14_flowParagraph : ∀ q ∈ k_X14_flowParagraph, decode cX14_flowParagraph q.1 = .ok q.2 := dl_all (by decide +kernel)
noncomputable def m_X14_flowParagraph (a0 a1 a2 : Int) (h : Hp) : Option ((Int × Int) × Hp) :=
  bT (m_X14_paragraph a0 a1 a2 h) (fun v3 h3 =>
  gd (h3 v3 (-2) = 288) (gd (h3 (h3 a0 10) (-2) % 16 = 9 ∧ (0 : Int) ≤ (h3 a0 11) ∧ (h3 a0 11) < h3 (h3 a0 10) (-1)) (pt h3 (h3 a0 10) (h3 a0 11) v3 fun h16 =>
  pt h16 a0 11 (w32 ((h16 a0 11) + 1)) fun h24 =>
  some ((0, v3), h24)))) (fun a_ h_ => some ((1, a_), h_))
theorem s_X14_flowParagraph {l : Launch} [NoTr l] {D : SD} {a0 a1 a2 : Int} {h : Hp} (hk : h a0 (-2) = 224) (r2 : r32 a2) {r : (Int × Int) × Hp} (hm : m_X14_flowParagraph a0 a1 a2 h = some r) : Sim l D yX14_flowParagraph (Cond.code yX14_flowParagraph cX14_flowParagraph 4 (Option.some (Jvm.ClassFile.FieldType.object "ScholarsPress$Paragraph"))) 13 490 [rv D a0, rv D a1, iv a2] h 5 r := by
  refine Sim.of (fin := fun (v : (Int × Int) × Hp) => v) (lsE := [(0, rv D a0), (1, rv D a1), (2, iv a2)]) hm rfl cwS_code (la_r (la_r (la_i la_n))) (ll_r (ll_r (ll_i ll_n))) ?_
  intro p e s m below meth c X hcw hmm hcc hnm hname
  have hno := noh hcw hnm hmm hcc
  unfold m_X14_flowParagraph
  refine g_aload_n (pc := 0) X (j := 0) (i := 0) (q := 0) (x := a0) rfl rfl (dl_at t_X14_flowParagraph 0 rfl) ?_
  refine g_aload_n (pc := 1) X (j := 1) (i := 1) (q := 1) (x := a1) rfl rfl (dl_at t_X14_flowParagraph 1 rfl) ?_
  refine g_iload_n (pc := 2) X (j := 2) (i := 2) (q := 2) (x := a2) rfl rfl (dl_at t_X14_flowParagraph 2 rfl) ?_
  refine r_callTr (pc := 3) X (fun _ hv => s_X14_paragraph hk r2 hv) cw_code q2521 q368 (in_Vk X (As := [rv D a1, iv a2]) kX14 hk (Or.inl q2518) q2520 qs123 cw_code q2521 ⟨by decide, by decide⟩ rfl (dl_at t_X14_flowParagraph 3 rfl)) (dl_at t_X14_flowParagraph 3 rfl) (cat24 (st := []) (Nat.le_of_ble_eq_true rfl)) (Nat.le_of_ble_eq_true rfl) (Nat.le_of_ble_eq_true rfl) (fun v3 h3 E3 => ?_) (fun _ _ ha _ => gt_at fun Q hQ => gt_out (Q := Q) X rfl ha (hno _) _ Q rfl hQ)
  refine g_astore_n (pc := 6) X (j := 3) (i := 3) (x := v3) (rest := [(0, rv D a0)]) rfl (Nat.le_of_ble_eq_true rfl) [0] rfl rfl (dl_at t_X14_flowParagraph 4 rfl) ?_
  refine g_aload_n (pc := 7) X (j := 0) (i := 0) (q := 1) (x := a0) rfl rfl (dl_at t_X14_flowParagraph 5 rfl) ?_
  have k8 := kx E3 (by decide) hk
  refine r_getr (pc := 8) X fX14_10 k8 q1256 (dl_at t_X14_flowParagraph 6 rfl) ?_
  refine g_aload_n (pc := 11) X (j := 0) (i := 0) (q := 1) (x := a0) rfl rfl (dl_at t_X14_flowParagraph 7 rfl) ?_
  refine r_geti (pc := 12) X fX14_11 k8 q1258 (dl_at t_X14_flowParagraph 8 rfl) fun g12 => ?_
  refine g_aload_n (pc := 15) X (j := 3) (i := 3) (q := 0) (x := v3) rfl rfl (dl_at t_X14_flowParagraph 9 rfl) ?_
  refine g_gd fun k16 => ?_
  refine g_gd fun k16_1 => ?_
  refine r_aast (pc := 16) X 9 (Nat.le_of_ble_eq_true rfl) (Nat.le_of_ble_eq_true rfl) g12 rfl rfl k16 k16_1 (dl_at t_X14_flowParagraph 10 rfl) (fun h16 E16 => ?_)
  refine g_aload_n (pc := 17) X (j := 0) (i := 0) (q := 1) (x := a0) rfl rfl (dl_at t_X14_flowParagraph 11 rfl) ?_
  refine g_dup (pc := 18) X rv_cat (dl_at t_X14_flowParagraph 12 rfl) ?_
  have k19 := kx E16 (by decide) k8
  refine r_geti (pc := 19) X fX14_11 k19 q1258 (dl_at t_X14_flowParagraph 13 rfl) fun g19 => ?_
  refine g_iconst (pc := 22) X (n := 1) (dl_at t_X14_flowParagraph 14 rfl) ?_
  refine g_iadd (pc := 23) X g19 (r32_c rfl) (dl_at t_X14_flowParagraph 15 rfl) ?_
  refine r_puti (pc := 24) X fX14_11 k19 q1258 rfl (dl_at t_X14_flowParagraph 16 rfl) (r32_w _) (fun h24 E24 => ?_)
  refine g_aload_n (pc := 27) X (j := 3) (i := 3) (q := 0) (x := v3) rfl rfl (dl_at t_X14_flowParagraph 17 rfl) ?_
  exact g_aret (pc := 28) X (Or.inl ⟨_, rfl⟩) rfl rfl (dl_at t_X14_flowParagraph 18 rfl)
def k_X14_fullWidth : List (Nat × Instr × Nat) := [(0, .aload_n 0, 1), (1, .getfield 168, 3), (4, .getfield 284, 3), (7, .iload_n 1, 1), (8, .isub, 1), (9, .aload_n 0, 1), (10, .iconst 5, 1), (11, .invokevirtual 289, 3), (14, .isub, 1), (15, .istore_n 2, 1), (16, .iload_n 2, 1), (17, .sipush 1000, 3), (20, .if_icmp .ge 9, 3), (23, .sipush 1000, 3), (26, .goto 4, 3), (29, .iload_n 2, 1), (30, .ireturn, 1)]
theorem t_X14_fullWidth : ∀ q ∈ k_X14_fullWidth, decode cX14_fullWidth q.1 = .ok q.2 := dl_all (by decide +kernel)
noncomputable def m_X14_fullWidth (a0 a1 : Int) (h : Hp) : Option (Int) :=
  gd (h (h a0 3) (-2) = 48) ((m_X14_inset a0 5 h).bind fun v11 =>
  lt_ (w32 ((w32 ((h (h a0 3) 23) - a1)) - v11)) fun x2_15 =>
  if 1000 ≤ x2_15 then (some x2_15)
  else (some 1000))
theorem s_X14_fullWidth {l : Launch} [NoTr l] {D : SD} {a0 a1 : Int} {h : Hp} (hk : h a0 (-2) = 224) (r1 : r32 a1) {r : Int} (hm : m_X14_fullWidth a0 a1 h = some r) : Sim l D yX14_fullWidth (Cond.code yX14_fullWidth cX14_fullWidth 3 (Option.some Jvm.ClassFile.FieldType.int)) 4 151 [rv D a0, iv a1] h 1 ((0, r), h) := by
  refine Sim.of (fin := fun (v : Int) => ((0, v), h)) (lsE := [(0, rv D a0), (1, iv a1)]) hm rfl cwS_code (la_r (la_i la_n)) (ll_r (ll_i ll_n)) ?_
  intro p e s m below meth c X hcw hmm hcc hnm hname
  unfold m_X14_fullWidth
  refine g_aload_n (pc := 0) X (j := 0) (i := 0) (q := 0) (x := a0) rfl rfl (dl_at t_X14_fullWidth 0 rfl) ?_
  refine r_getr (pc := 1) X fX14_3 hk q1245 (dl_at t_X14_fullWidth 1 rfl) ?_
  refine g_gd fun k4 => ?_
  refine r_getiN (pc := 4) X fX3_23 k4 (nw_in q565 rfl) (dl_at t_X14_fullWidth 2 rfl) fun g4 => ?_
  refine g_iload_n (pc := 7) X (j := 1) (i := 1) (q := 1) (x := a1) rfl rfl (dl_at t_X14_fullWidth 3 rfl) ?_
  refine g_isub (pc := 8) X g4 r1 (dl_at t_X14_fullWidth 4 rfl) ?_
  refine g_aload_n (pc := 9) X (j := 0) (i := 0) (q := 0) (x := a0) rfl rfl (dl_at t_X14_fullWidth 5 rfl) ?_
  refine g_iconst (pc := 10) X (n := 5) (dl_at t_X14_fullWidth 6 rfl) ?_
  refine r_callRi (pc := 11) X (fun _ hv => s_X14_inset hk (r32_c rfl) hv) cw_code q2500 q368 (in_Vk X (As := [iv 5]) kX14 hk (Or.inl q2497) q2499 qs118 cw_code q2500 ⟨by decide, by decide⟩ rfl (dl_at t_X14_fullWidth 7 rfl)) (dl_at t_X14_fullWidth 7 rfl) (cat24 (st := [iv (w32 ((h (h a0 3) 23) - a1))]) (Nat.le_of_ble_eq_true rfl)) (Nat.le_of_ble_eq_true rfl) (Nat.le_of_ble_eq_true rfl) fun v11 g11 => ?_
  refine g_isub (pc := 14) X (r32_w _) g11 (dl_at t_X14_fullWidth 8 rfl) ?_
  refine g_lti (r32_w _) fun x2_15 r2_15 => ?_
  refine g_istore_n (pc := 15) X (j := 2) (i := 2) (x := x2_15) (rest := []) rfl (Nat.le_of_ble_eq_true rfl) [] rfl rfl (dl_at t_X14_fullWidth 9 rfl) ?_
  refine g_iload_n (pc := 16) X (j := 2) (i := 2) (q := 0) (x := x2_15) rfl rfl (dl_at t_X14_fullWidth 10 rfl) ?_
  refine g_sipush (pc := 17) X (n := 1000) rfl (dl_at t_X14_fullWidth 11 rfl) ?_
  refine g_icmpge (pc := 20) X r2_15 (r32_c rfl) (off := 9) (tgt := 29) rfl (dl_at t_X14_fullWidth 12 rfl) (fun _ => ?_) (fun _ => ?_)
  · refine g_iload_n (pc := 29) X (j := 2) (i := 2) (q := 0) (x := x2_15) rfl rfl (dl_at t_X14_fullWidth 15 rfl) ?_
    exact g_iret (pc := 30) X r2_15 rfl rfl (dl_at t_X14_fullWidth 16 rfl)
  refine g_sipush (pc := 23) X (n := 1000) rfl (dl_at t_X14_fullWidth 13 rfl) ?_
  refine g_goto (pc := 26) X (off := 4) (tgt := 30) rfl (dl_at t_X14_fullWidth 14 rfl) ?_
  exact g_iret (pc := 30) X (r32_c rfl) rfl rfl (dl_at t_X14_fullWidth 16 rfl)
def k_X14_item : List (Nat × Instr × Nat) := [(0, .aload_n 0, 1), (1, .getfield 59, 3), (4, .aload_n 0, 1), (5, .getfield 202, 3), (8, .iload_n 1, 1), (9, .iastore, 1), (10, .aload_n 0, 1), (11, .getfield 62, 3), (14, .aload_n 0, 1), (15, .getfield 202, 3), (18, .aload_n 0, 1), (19, .getfield 372, 3), (22, .iastore, 1), (23, .aload_n 0, 1), (24, .dup, 1), (25, .getfield 202, 3), (28, .iconst 1, 1), (29, .iadd, 1), (30, .putfield 202, 3), (33, .aload_n 0, 1), (34, .iconst 0, 1), (35, .putfield 372, 3), (38, .return_, 1)]
theorem t_X14_item : ∀ q ∈ k_X14_item, decode cX14_item q.1 = .ok q.2 := dl_all (by decide +kernel)
noncomputable def m_X14_item (a0 a1 : Int) (h : Hp) : Option (Hp) :=
  gd (h (h a0 24) (-2) % 16 = 1 ∧ (0 : Int) ≤ (h a0 26) ∧ (h a0 26) < h (h a0 24) (-1)) (pt h (h a0 24) (h a0 26) a1 fun h9 =>
  gd (h9 (h9 a0 25) (-2) % 16 = 1 ∧ (0 : Int) ≤ (h9 a0 26) ∧ (h9 a0 26) < h9 (h9 a0 25) (-1)) (pt h9 (h9 a0 25) (h9 a0 26) (h9 a0 45) fun h22 =>
  pt h22 a0 26 (w32 ((h22 a0 26) + 1)) fun h30 =>
  pt h30 a0 45 0 fun h35 =>
  some h35))
theorem s_X14_item {l : Launch} [NoTr l] {D : SD} {a0 a1 : Int} {h : Hp} (hk : h a0 (-2) = 224) (r1 : r32 a1) {r : Hp} (hm : m_X14_item a0 a1 h = some r) : Sim l D yX14_item (Cond.code yX14_item cX14_item 2 (Option.none : Option Jvm.ClassFile.FieldType)) 0 0 [rv D a0, iv a1] h 0 ((0, 0), r) := by
  refine Sim.of (fin := fun (v : Hp) => ((0, 0), v)) (lsE := [(0, rv D a0), (1, iv a1)]) hm rfl cwS_code (la_r (la_i la_n)) (ll_r (ll_i ll_n)) ?_
  intro p e s m below meth c X hcw hmm hcc hnm hname
  unfold m_X14_item
  refine g_aload_n (pc := 0) X (j := 0) (i := 0) (q := 0) (x := a0) rfl rfl (dl_at t_X14_item 0 rfl) ?_
  refine r_getr (pc := 1) X fX14_24 hk q1277 (dl_at t_X14_item 1 rfl) ?_
  refine g_aload_n (pc := 4) X (j := 0) (i := 0) (q := 0) (x := a0) rfl rfl (dl_at t_X14_item 2 rfl) ?_
  refine r_geti (pc := 5) X fX14_26 hk q1279 (dl_at t_X14_item 3 rfl) fun g5 => ?_
  refine g_iload_n (pc := 8) X (j := 1) (i := 1) (q := 1) (x := a1) rfl rfl (dl_at t_X14_item 4 rfl) ?_
  refine g_gd fun k9 => ?_
  refine r_iast (pc := 9) X g5 r1 k9 (dl_at t_X14_item 5 rfl) (fun h9 E9 => ?_)
  refine g_aload_n (pc := 10) X (j := 0) (i := 0) (q := 0) (x := a0) rfl rfl (dl_at t_X14_item 6 rfl) ?_
  have k11 := kx E9 (by decide) hk
  refine r_getr (pc := 11) X fX14_25 k11 q1278 (dl_at t_X14_item 7 rfl) ?_
  refine g_aload_n (pc := 14) X (j := 0) (i := 0) (q := 0) (x := a0) rfl rfl (dl_at t_X14_item 8 rfl) ?_
  refine r_geti (pc := 15) X fX14_26 k11 q1279 (dl_at t_X14_item 9 rfl) fun g15 => ?_
  refine g_aload_n (pc := 18) X (j := 0) (i := 0) (q := 0) (x := a0) rfl rfl (dl_at t_X14_item 10 rfl) ?_
  refine r_geti (pc := 19) X fX14_45 k11 q1307 (dl_at t_X14_item 11 rfl) fun g19 => ?_
  refine g_gd fun k22 => ?_
  refine r_iast (pc := 22) X g15 g19 k22 (dl_at t_X14_item 12 rfl) (fun h22 E22 => ?_)
  refine g_aload_n (pc := 23) X (j := 0) (i := 0) (q := 0) (x := a0) rfl rfl (dl_at t_X14_item 13 rfl) ?_
  refine g_dup (pc := 24) X rv_cat (dl_at t_X14_item 14 rfl) ?_
  have k25 := kx E22 (by decide) k11
  refine r_geti (pc := 25) X fX14_26 k25 q1279 (dl_at t_X14_item 15 rfl) fun g25 => ?_
  refine g_iconst (pc := 28) X (n := 1) (dl_at t_X14_item 16 rfl) ?_
  refine g_iadd (pc := 29) X g25 (r32_c rfl) (dl_at t_X14_item 17 rfl) ?_
  refine r_puti (pc := 30) X fX14_26 k25 q1279 rfl (dl_at t_X14_item 18 rfl) (r32_w _) (fun h30 E30 => ?_)
  refine g_aload_n (pc := 33) X (j := 0) (i := 0) (q := 0) (x := a0) rfl rfl (dl_at t_X14_item 19 rfl) ?_
  refine g_iconst (pc := 34) X (n := 0) (dl_at t_X14_item 20 rfl) ?_
  have k35 := kx E30 (by decide) k25
  refine r_puti (pc := 35) X fX14_45 k35 q1307 rfl (dl_at t_X14_item 21 rfl) (r32_c rfl) (fun h35 E35 => ?_)
  exact g_vret (pc := 38) X (v := 0) rfl rfl (dl_at t_X14_item 22 rfl)
def k_X14_flushAs : List (Nat × Instr × Nat) := [(0, .aload_n 0, 1), (1, .invokevirtual 383, 3), (4, .istore_n 2, 1), (5, .aload_n 0, 1), (6, .aload_n 0, 1), (7, .getfield 154, 3), (10, .getfield 375, 3), (13, .iload_n 2, 1), (14, .invokevirtual 387, 3), (17, .astore_n 3, 1), (18, .aload_n 3, 1), (19, .iload_n 1, 1), (20, .putfield 330, 3), (23, .aload_n 3, 1), (24, .aload_n 0, 1), (25, .iload_n 1, 1), (26, .invokevirtual 390, 3), (29, .putfield 393, 3), (32, .aload_n 3, 1), (33, .aload_n 0, 1), (34, .iload_n 2, 1), (35, .iconst 3, 1), (36, .invokevirtual 283, 3), (39, .putfield 333, 3), (42, .aload_n 0, 1), (43, .aload_n 0, 1), (44, .getfield 193, 3), (47, .iconst 1, 1), (48, .isub, 1), (49, .invokevirtual 394, 3), (52, .return_, 1)]
theorem t_X14_flushAs : ∀ q ∈ k_X14_flushAs, decode cX14_flushAs q.1 = .ok q.2 := dl_all (by decide +kernel)
noncomputable def m_X14_flushAs (a0 a1 : Int) (h : Hp) : Option ((Int × Int) × Hp) :=
  (m_X14_block a0 h).bind fun v1 =>
  gd (h (h a0 0) (-2) = 160) (bT (m_X14_flowParagraph a0 (h (h a0 0) 1) v1 h) (fun v14 h14 =>
  gd (h14 v14 (-2) = 288) (pt h14 v14 5 a1 fun h20 =>
  (m_X14_fullWidth a0 a1 h20).bind fun v26 =>
  pt h20 v14 4 v26 fun h29 =>
  (m_X14_property a0 v1 3 h29).bind fun v36 =>
  pt h29 v14 6 v36 fun h39 =>
  (m_X14_item a0 (w32 ((h39 a0 11) - 1)) h39).bind fun h49 =>
  some ((0, 0), h49))) (fun a_ h_ => some ((1, a_), h_)))
theorem s_X14_flushAs {l : Launch} [NoTr l] {D : SD} {a0 a1 : Int} {h : Hp} (hk : h a0 (-2) = 224) (r1 : r32 a1) {r : (Int × Int) × Hp} (hm : m_X14_flushAs a0 a1 h = some r) : Sim l D yX14_flushAs (Cond.code yX14_flushAs cX14_flushAs 4 (Option.none : Option Jvm.ClassFile.FieldType)) 14 529 [rv D a0, iv a1] h 0 r := by
  refine Sim.of (fin := fun (v : (Int × Int) × Hp) => v) (lsE := [(0, rv D a0), (1, iv a1)]) hm rfl cwS_code (la_r (la_i la_n)) (ll_r (ll_i ll_n)) ?_
  intro p e s m below meth c X hcw hmm hcc hnm hname
  have hno := noh hcw hnm hmm hcc
  unfold m_X14_flushAs
  refine g_aload_n (pc := 0) X (j := 0) (i := 0) (q := 0) (x := a0) rfl rfl (dl_at t_X14_flushAs 0 rfl) ?_
  refine r_callRi (pc := 1) X (fun _ hv => s_X14_block hk hv) cw_code q2513 q368 (in_Vk X (As := []) kX14 hk (Or.inl q2510) q2512 qs121 cw_code q2513 ⟨by decide, by decide⟩ rfl (dl_at t_X14_flushAs 1 rfl)) (dl_at t_X14_flushAs 1 rfl) (cat24 (st := []) (Nat.le_of_ble_eq_true rfl)) (Nat.le_of_ble_eq_true rfl) (Nat.le_of_ble_eq_true rfl) fun v1 g1 => ?_
  refine g_istore_nN (pc := 4) X (j := 2) (i := 2) (x := v1) (b := 1) (w := iv a1) (rest := [(0, rv D a0)]) rfl (Nat.le_of_ble_eq_true rfl) [1, 0] rfl (by decide) rfl rfl (dl_at t_X14_flushAs 2 rfl) ?_
  refine g_aload_n (pc := 5) X (j := 0) (i := 0) (q := 2) (x := a0) rfl rfl (dl_at t_X14_flushAs 3 rfl) ?_
  refine g_aload_n (pc := 6) X (j := 0) (i := 0) (q := 2) (x := a0) rfl rfl (dl_at t_X14_flushAs 4 rfl) ?_
  refine r_getr (pc := 7) X fX14_0 hk q1241 (dl_at t_X14_flushAs 5 rfl) ?_
  refine g_gd fun k10 => ?_
  refine r_getrN (pc := 10) X fX10_1 k10 (nw_in q1039 rfl) (dl_at t_X14_flushAs 6 rfl) ?_
  refine g_iload_n (pc := 13) X (j := 2) (i := 2) (q := 0) (x := v1) rfl rfl (dl_at t_X14_flushAs 7 rfl) ?_
  refine r_callTr (pc := 14) X (fun _ hv => s_X14_flowParagraph hk g1 hv) cw_code q2517 q368 (in_Vk X (As := [rv D (h (h a0 0) 1), iv v1]) kX14 hk (Or.inl q2514) q2516 qs122 cw_code q2517 ⟨by decide, by decide⟩ rfl (dl_at t_X14_flushAs 8 rfl)) (dl_at t_X14_flushAs 8 rfl) (cat24 (st := []) (Nat.le_of_ble_eq_true rfl)) (Nat.le_of_ble_eq_true rfl) (Nat.le_of_ble_eq_true rfl) (fun v14 h14 E14 => ?_) (fun _ _ ha _ => gt_at fun Q hQ => gt_out (Q := Q) X rfl ha (hno _) _ Q rfl hQ)
  refine g_astore_nN (pc := 17) X (j := 3) (i := 3) (x := v14) (b := 2) (w := iv v1) (rest := [(1, iv a1), (0, rv D a0)]) rfl (Nat.le_of_ble_eq_true rfl) [0, 1, 2] rfl (by decide) rfl rfl (dl_at t_X14_flushAs 9 rfl) ?_
  refine g_aload_n (pc := 18) X (j := 3) (i := 3) (q := 0) (x := v14) rfl rfl (dl_at t_X14_flushAs 10 rfl) ?_
  refine g_iload_n (pc := 19) X (j := 1) (i := 1) (q := 2) (x := a1) rfl rfl (dl_at t_X14_flushAs 11 rfl) ?_
  refine g_gd fun k20 => ?_
  refine r_putiN (pc := 20) X fX28_5 k20 (nw_in q2541 rfl) rfl (dl_at t_X14_flushAs 12 rfl) r1 (fun h20 E20 => ?_)
  refine g_aload_n (pc := 23) X (j := 3) (i := 3) (q := 0) (x := v14) rfl rfl (dl_at t_X14_flushAs 13 rfl) ?_
  refine g_aload_n (pc := 24) X (j := 0) (i := 0) (q := 3) (x := a0) rfl rfl (dl_at t_X14_flushAs 14 rfl) ?_
  refine g_iload_n (pc := 25) X (j := 1) (i := 1) (q := 2) (x := a1) rfl rfl (dl_at t_X14_flushAs 15 rfl) ?_
  have k26 := kx (E14.trans E20) (by decide) hk
  refine r_callRi (pc := 26) X (fun _ hv => s_X14_fullWidth k26 r1 hv) cw_code q2672 q368 (in_Vk X (As := [iv a1]) kX14 k26 (Or.inl q2669) q2671 qs136 cw_code q2672 ⟨by decide, by decide⟩ rfl (dl_at t_X14_flushAs 16 rfl)) (dl_at t_X14_flushAs 16 rfl) (cat24 (st := [rv D v14]) (Nat.le_of_ble_eq_true rfl)) (Nat.le_of_ble_eq_true rfl) (Nat.le_of_ble_eq_true rfl) fun v26 g26 => ?_
  have k29 := kx E20 (by decide) k20
  refine r_putiN (pc := 29) X fX28_4 k29 (nw_in q2539 rfl) rfl (dl_at t_X14_flushAs 17 rfl) g26 (fun h29 E29 => ?_)
  refine g_aload_n (pc := 32) X (j := 3) (i := 3) (q := 0) (x := v14) rfl rfl (dl_at t_X14_flushAs 18 rfl) ?_
  refine g_aload_n (pc := 33) X (j := 0) (i := 0) (q := 3) (x := a0) rfl rfl (dl_at t_X14_flushAs 19 rfl) ?_
  refine g_iload_n (pc := 34) X (j := 2) (i := 2) (q := 1) (x := v1) rfl rfl (dl_at t_X14_flushAs 20 rfl) ?_
  refine g_iconst (pc := 35) X (n := 3) (dl_at t_X14_flushAs 21 rfl) ?_
  have k36 := kx E29 (by decide) k26
  refine r_callRi (pc := 36) X (fun _ hv => s_X14_property k36 g1 (r32_c rfl) hv) cw_code q2504 q368 (in_Vk X (As := [iv v1, iv 3]) kX14 k36 (Or.inl q2501) q2503 qs119 cw_code q2504 ⟨by decide, by decide⟩ rfl (dl_at t_X14_flushAs 22 rfl)) (dl_at t_X14_flushAs 22 rfl) (cat24 (st := [rv D v14]) (Nat.le_of_ble_eq_true rfl)) (Nat.le_of_ble_eq_true rfl) (Nat.le_of_ble_eq_true rfl) fun v36 g36 => ?_
  have k39 := kx E29 (by decide) k29
  refine r_putiN (pc := 39) X fX28_6 k39 (nw_in q2544 rfl) rfl (dl_at t_X14_flushAs 23 rfl) g36 (fun h39 E39 => ?_)
  refine g_aload_n (pc := 42) X (j := 0) (i := 0) (q := 3) (x := a0) rfl rfl (dl_at t_X14_flushAs 24 rfl) ?_
  refine g_aload_n (pc := 43) X (j := 0) (i := 0) (q := 3) (x := a0) rfl rfl (dl_at t_X14_flushAs 25 rfl) ?_
  have k44 := kx E39 (by decide) k36
  refine r_geti (pc := 44) X fX14_11 k44 q1258 (dl_at t_X14_flushAs 26 rfl) fun g44 => ?_
  refine g_iconst (pc := 47) X (n := 1) (dl_at t_X14_flushAs 27 rfl) ?_
  refine g_isub (pc := 48) X g44 (r32_c rfl) (dl_at t_X14_flushAs 28 rfl) ?_
  refine r_callV (pc := 49) X (fun _ hv => s_X14_item k44 (r32_w _) hv) cw_code q2676 q368 (in_Vk X (As := [iv (w32 ((h39 a0 11) - 1))]) kX14 k44 (Or.inl q2673) q2675 qs137 cw_code q2676 ⟨by decide, by decide⟩ rfl (dl_at t_X14_flushAs 29 rfl)) (dl_at t_X14_flushAs 29 rfl) (cat24 (st := []) (Nat.le_of_ble_eq_true rfl)) (Nat.le_of_ble_eq_true rfl) (Nat.le_of_ble_eq_true rfl) fun h49 E49 => ?_
  exact g_vret (pc := 52) X (v := 0) rfl rfl (dl_at t_X14_flushAs 30 rfl)
def k_X14_flush : List (Nat × Instr × Nat) := [(0, .aload_n 0, 1), (1, .getfield 154, 3), (4, .getfield 375, 3), (7, .getfield 250, 3), (10, .ifCond .eq 15, 3), (13, .aload_n 0, 1), (14, .aload_n 0, 1), (15, .iconst 4, 1), (16, .invokevirtual 289, 3), (19, .invokevirtual 379, 3), (22, .goto 13, 3), (25, .aload_n 0, 1), (26, .getfield 154, 3), (29, .getfield 375, 3), (32, .invokevirtual 367, 3), (35, .return_, 1)]
theorem t_X14_flush : ∀ q ∈ k_X14_flush, decode cX14_flush q.1 = .ok q.2 := dl_all (by decide +kernel)
noncomputable def m_X14_flush (a0 : Int) (h : Hp) : Option ((Int × Int) × Hp) :=
  gd (h (h a0 0) (-2) = 160) (gd (h (h (h a0 0) 1) (-2) = 192) (if (h (h (h a0 0) 1) 6) = 0 then ((m_X12_clear (h (h a0 0) 1) h).bind fun h32 =>
  some ((0, 0), h32))
  else ((m_X14_inset a0 4 h).bind fun v16 =>
  bT (m_X14_flushAs a0 v16 h) (fun _ h19 =>
  some ((0, 0), h19)) (fun a_ h_ => some ((1, a_), h_)))))
theorem s_X14_flush {l : Launch} [NoTr l] {D : SD} {a0 : Int} {h : Hp} (hk : h a0 (-2) = 224) {r : (Int × Int) × Hp} (hm : m_X14_flush a0 h = some r) : Sim l D yX14_flush (Cond.code yX14_flush cX14_flush 1 (Option.none : Option Jvm.ClassFile.FieldType)) 15 568 [rv D a0] h 0 r := by
  refine Sim.of (fin := fun (v : (Int × Int) × Hp) => v) (lsE := [(0, rv D a0)]) hm rfl cwS_code (la_r la_n) (ll_r ll_n) ?_
  intro p e s m below meth c X hcw hmm hcc hnm hname
  have hno := noh hcw hnm hmm hcc
  unfold m_X14_flush
  refine g_aload_n (pc := 0) X (j := 0) (i := 0) (q := 0) (x := a0) rfl rfl (dl_at t_X14_flush 0 rfl) ?_
  refine r_getr (pc := 1) X fX14_0 hk q1241 (dl_at t_X14_flush 1 rfl) ?_
  refine g_gd fun k4 => ?_
  refine r_getrN (pc := 4) X fX10_1 k4 (nw_in q1039 rfl) (dl_at t_X14_flush 2 rfl) ?_
  refine g_gd fun k7 => ?_
  refine r_getzN (pc := 7) X fX12_6 k7 (nw_in q997 rfl) (dl_at t_X14_flush 3 rfl) fun g7 => ?_
  refine g_ifeq (pc := 10) X (r32_z g7) (off := 15) (tgt := 25) rfl (dl_at t_X14_flush 4 rfl) (fun _ => ?_) (fun _ => ?_)
  · refine g_aload_n (pc := 25) X (j := 0) (i := 0) (q := 0) (x := a0) rfl rfl (dl_at t_X14_flush 11 rfl) ?_
    refine r_getr (pc := 26) X fX14_0 hk q1241 (dl_at t_X14_flush 12 rfl) ?_
    refine r_getrN (pc := 29) X fX10_1 k4 (nw_in q1039 rfl) (dl_at t_X14_flush 13 rfl) ?_
    refine r_callV (pc := 32) X (fun _ hv => s_X12_clear k7 hv) cw_code q2480 q366 (in_Vk X (As := []) kX12 k7 (Or.inr ⟨_, nw_in q2477 rfl⟩) q2479 qs113 cw_code q2480 ⟨by decide, by decide⟩ rfl (dl_at t_X14_flush 14 rfl)) (dl_at t_X14_flush 14 rfl) (cat24 (st := []) (Nat.le_of_ble_eq_true rfl)) (Nat.le_of_ble_eq_true rfl) (Nat.le_of_ble_eq_true rfl) fun h32 E32 => ?_
    exact g_vret (pc := 35) X (v := 0) rfl rfl (dl_at t_X14_flush 15 rfl)
  refine g_aload_n (pc := 13) X (j := 0) (i := 0) (q := 0) (x := a0) rfl rfl (dl_at t_X14_flush 5 rfl) ?_
  refine g_aload_n (pc := 14) X (j := 0) (i := 0) (q := 0) (x := a0) rfl rfl (dl_at t_X14_flush 6 rfl) ?_
  refine g_iconst (pc := 15) X (n := 4) (dl_at t_X14_flush 7 rfl) ?_
  refine r_callRi (pc := 16) X (fun _ hv => s_X14_inset hk (r32_c rfl) hv) cw_code q2500 q368 (in_Vk X (As := [iv 4]) kX14 hk (Or.inl q2497) q2499 qs118 cw_code q2500 ⟨by decide, by decide⟩ rfl (dl_at t_X14_flush 8 rfl)) (dl_at t_X14_flush 8 rfl) (cat24 (st := [rv D a0]) (Nat.le_of_ble_eq_true rfl)) (Nat.le_of_ble_eq_true rfl) (Nat.le_of_ble_eq_true rfl) fun v16 g16 => ?_
  refine r_callTv (pc := 19) X (fun _ hv => s_X14_flushAs hk g16 hv) cw_code q2509 q368 (in_Vk X (As := [iv v16]) kX14 hk (Or.inl q2506) q2508 qs120 cw_code q2509 ⟨by decide, by decide⟩ rfl (dl_at t_X14_flush 9 rfl)) (dl_at t_X14_flush 9 rfl) (cat24 (st := []) (Nat.le_of_ble_eq_true rfl)) (Nat.le_of_ble_eq_true rfl) (Nat.le_of_ble_eq_true rfl) (fun v19 h19 E19 => ?_) (fun _ _ ha _ => gt_at fun Q hQ => gt_out (Q := Q) X rfl ha (hno _) _ Q rfl hQ)
  refine g_goto (pc := 22) X (off := 13) (tgt := 35) rfl (dl_at t_X14_flush 10 rfl) ?_
  exact g_vret (pc := 35) X (v := 0) rfl rfl (dl_at t_X14_flush 15 rfl)
def k_X14_open : List (Nat × Instr × Nat) := [(0, .aload_n 0, 1), (1, .invokevirtual 397, 3), (4, .aload_n 0, 1), (5, .iload_n 1, 1), (6, .bipush 6, 2), (8, .invokevirtual 283, 3), (11, .istore_n 2, 1), (12, .iload_n 2, 1), (13, .aload_n 0, 1), (14, .getfield 372, 3), (17, .if_icmp .le 8, 3), (20, .aload_n 0, 1), (21, .iload_n 2, 1), (22, .putfield 372, 3), (25, .aload_n 0, 1), (26, .getfield 154, 3), (29, .getfield 273, 3), (32, .aload_n 0, 1), (33, .getfield 276, 3), (36, .iload_n 1, 1), (37, .iastore, 1), (38, .aload_n 0, 1), (39, .dup, 1), (40, .getfield 276, 3), (43, .iconst 1, 1), (44, .iadd, 1), (45, .putfield 276, 3), (48, .return_, 1)]
theorem t_X14_open : ∀ q ∈ k_X14_open, decode cX14_open q.1 = .ok q.2 := dl_all (by decide +kernel)
noncomputable def m_X14_open_j25 (a1 a0 : Int) (h_25 : Hp) : Option ((Int × Int) × Hp) :=
  gd (h_25 (h_25 a0 0) (-2) = 160) (gd (h_25 (h_25 (h_25 a0 0) 6) (-2) % 16 = 1 ∧ (0 : Int) ≤ (h_25 a0 44) ∧ (h_25 a0 44) < h_25 (h_25 (h_25 a0 0) 6) (-1)) (pt h_25 (h_25 (h_25 a0 0) 6) (h_25 a0 44) a1 fun h37 =>
  pt h37 a0 44 (w32 ((h37 a0 44) + 1)) fun h45 =>
  some ((0, 0), h45)))
noncomputable def m_X14_open (a0 a1 : Int) (h : Hp) : Option ((Int × Int) × Hp) :=
  bT (m_X14_flush a0 h) (fun _ h1 =>
  (m_X14_property a0 a1 6 h1).bind fun v8 =>
  if v8 ≤ (h1 a0 45) then (m_X14_open_j25 a1 a0 h1)
  else (pt h1 a0 45 v8 fun h22 =>
  m_X14_open_j25 a1 a0 h22)) (fun a_ h_ => some ((1, a_), h_))
theorem s_X14_open {l : Launch} [NoTr l] {D : SD} {a0 a1 : Int} {h : Hp} (hk : h a0 (-2) = 224) (r1 : r32 a1) {r : (Int × Int) × Hp} (hm : m_X14_open a0 a1 h = some r) : Sim l D yX14_open (Cond.code yX14_open cX14_open 3 (Option.none : Option Jvm.ClassFile.FieldType)) 16 604 [rv D a0, iv a1] h 0 r := by
  refine Sim.of (fin := fun (v : (Int × Int) × Hp) => v) (lsE := [(0, rv D a0), (1, iv a1)]) hm rfl cwS_code (la_r (la_i la_n)) (ll_r (ll_i ll_n)) ?_
  intro p e s m below meth c X hcw hmm hcc hnm hname
  have hno := noh hcw hnm hmm hcc
  unfold m_X14_open
  refine g_aload_n (pc := 0) X (j := 0) (i := 0) (q := 0) (x := a0) rfl rfl (dl_at t_X14_open 0 rfl) ?_
  refine r_callTv (pc := 1) X (fun _ hv => s_X14_flush hk hv) cw_code q2496 q368 (in_Vk X (As := []) kX14 hk (Or.inl q2493) q2495 qs117 cw_code q2496 ⟨by decide, by decide⟩ rfl (dl_at t_X14_open 1 rfl)) (dl_at t_X14_open 1 rfl) (cat24 (st := []) (Nat.le_of_ble_eq_true rfl)) (Nat.le_of_ble_eq_true rfl) (Nat.le_of_ble_eq_true rfl) (fun v1 h1 E1 => ?_) (fun _ _ ha _ => gt_at fun Q hQ => gt_out (Q := Q) X rfl ha (hno _) _ Q rfl hQ)
  refine g_aload_n (pc := 4) X (j := 0) (i := 0) (q := 0) (x := a0) rfl rfl (dl_at t_X14_open 2 rfl) ?_
  refine g_iload_n (pc := 5) X (j := 1) (i := 1) (q := 1) (x := a1) rfl rfl (dl_at t_X14_open 3 rfl) ?_
  refine g_bipush (pc := 6) X (n := 6) rfl (dl_at t_X14_open 4 rfl) ?_
  have k8 := kx E1 (by decide) hk
  refine r_callRi (pc := 8) X (fun _ hv => s_X14_property k8 r1 (r32_c rfl) hv) cw_code q2504 q368 (in_Vk X (As := [iv a1, iv 6]) kX14 k8 (Or.inl q2501) q2503 qs119 cw_code q2504 ⟨by decide, by decide⟩ rfl (dl_at t_X14_open 5 rfl)) (dl_at t_X14_open 5 rfl) (cat24 (st := []) (Nat.le_of_ble_eq_true rfl)) (Nat.le_of_ble_eq_true rfl) (Nat.le_of_ble_eq_true rfl) fun v8 g8 => ?_
  refine g_istore_nN (pc := 11) X (j := 2) (i := 2) (x := v8) (b := 1) (w := iv a1) (rest := [(0, rv D a0)]) rfl (Nat.le_of_ble_eq_true rfl) [1, 0] rfl (by decide) rfl rfl (dl_at t_X14_open 6 rfl) ?_
  refine g_iload_n (pc := 12) X (j := 2) (i := 2) (q := 0) (x := v8) rfl rfl (dl_at t_X14_open 7 rfl) ?_
  refine g_aload_n (pc := 13) X (j := 0) (i := 0) (q := 2) (x := a0) rfl rfl (dl_at t_X14_open 8 rfl) ?_
  refine r_geti (pc := 14) X fX14_45 k8 q1307 (dl_at t_X14_open 9 rfl) fun g14 => ?_
  refine g_join (γ := Hp) (fun q => Ext h1 q) 25 (fun q => [(0, rv D a0), (1, iv a1)]) (fun q => []) (fun q => q) (fun q => m_X14_open_j25 a1 a0 q) ?_ ?_
  · rintro h_25 E_25
    try dsimp only
    unfold m_X14_open_j25
    refine g_aload_n (pc := 25) X (j := 0) (i := 0) (q := 0) (x := a0) rfl rfl (dl_at t_X14_open 14 rfl) ?_
    have k26 := kx E_25 (by decide) k8
    refine r_getr (pc := 26) X fX14_0 k26 q1241 (dl_at t_X14_open 15 rfl) ?_
    refine g_gd fun k29 => ?_
    refine r_getrN (pc := 29) X fX10_6 k29 (nw_in q1050 rfl) (dl_at t_X14_open 16 rfl) ?_
    refine g_aload_n (pc := 32) X (j := 0) (i := 0) (q := 0) (x := a0) rfl rfl (dl_at t_X14_open 17 rfl) ?_
    refine r_geti (pc := 33) X fX14_44 k26 q1306 (dl_at t_X14_open 18 rfl) fun g33 => ?_
    refine g_iload_n (pc := 36) X (j := 1) (i := 1) (q := 1) (x := a1) rfl rfl (dl_at t_X14_open 19 rfl) ?_
    refine g_gd fun k37 => ?_
    refine r_iast (pc := 37) X g33 r1 k37 (dl_at t_X14_open 20 rfl) (fun h37 E37 => ?_)
    refine g_aload_n (pc := 38) X (j := 0) (i := 0) (q := 0) (x := a0) rfl rfl (dl_at t_X14_open 21 rfl) ?_
    refine g_dup (pc := 39) X rv_cat (dl_at t_X14_open 22 rfl) ?_
    have k40 := kx E37 (by decide) k26
    refine r_geti (pc := 40) X fX14_44 k40 q1306 (dl_at t_X14_open 23 rfl) fun g40 => ?_
    refine g_iconst (pc := 43) X (n := 1) (dl_at t_X14_open 24 rfl) ?_
    refine g_iadd (pc := 44) X g40 (r32_c rfl) (dl_at t_X14_open 25 rfl) ?_
    refine r_puti (pc := 45) X fX14_44 k40 q1306 rfl (dl_at t_X14_open 26 rfl) (r32_w _) (fun h45 E45 => ?_)
    exact g_vret (pc := 48) X (v := 0) rfl rfl (dl_at t_X14_open 27 rfl)
  intro J25
  refine g_icmple (pc := 17) X g8 g14 (off := 8) (tgt := 25) rfl (dl_at t_X14_open 10 rfl) (fun _ => ?_) (fun _ => ?_)
  · refine g_ls (ls2 := [(0, rv D a0), (1, iv a1)]) [2, 1] rfl ?_
    exact J25 h1 (Ext.refl _)
  refine g_aload_n (pc := 20) X (j := 0) (i := 0) (q := 2) (x := a0) rfl rfl (dl_at t_X14_open 11 rfl) ?_
  refine g_iload_n (pc := 21) X (j := 2) (i := 2) (q := 0) (x := v8) rfl rfl (dl_at t_X14_open 12 rfl) ?_
  refine r_puti (pc := 22) X fX14_45 k8 q1307 rfl (dl_at t_X14_open 13 rfl) g8 (fun h22 E22 => ?_)
  refine g_ls (ls2 := [(0, rv D a0), (1, iv a1)]) [2, 1] rfl ?_
  exact J25 h22 E22
def k_X14_small : List (Nat × Instr × Nat) := [(0, .aload_n 0, 1), (1, .getfield 154, 3), (4, .getfield 267, 3), (7, .iconst 0, 1), (8, .putfield 257, 3), (11, .aload_n 0, 1), (12, .getfield 154, 3), (15, .getfield 267, 3), (18, .areturn, 1)]
theorem t_X14_small : ∀ q ∈ k_X14_small, decode cX14_small q.1 = .ok q.2 := dl_all (by decide +kernel)
noncomputable def m_X14_small (a0 : Int) (h : Hp) : Option (Int × Hp) :=
  gd (h (h a0 0) (-2) = 160) (gd (h (h (h a0 0) 4) (-2) = 80) (pt h (h (h a0 0) 4) 1 0 fun h8 =>
  gd (h8 (h8 a0 0) (-2) = 160) (some ((h8 (h8 a0 0) 4), h8))))
theorem s_X14_small {l : Launch} [NoTr l] {D : SD} {a0 : Int} {h : Hp} (hk : h a0 (-2) = 224) {r : Int × Hp} (hm : m_X14_small a0 h = some r) : Sim l D yX14_small (Cond.code yX14_small cX14_small 1 (Option.some (Jvm.ClassFile.FieldType.object "ScholarsPress$Bytes"))) 0 0 [rv D a0] h 5 ((0, r.1), r.2) := by
  refine Sim.of (fin := fun (v : Int × Hp) => ((0, v.1), v.2)) (lsE := [(0, rv D a0)]) hm rfl cwS_code (la_r la_n) (ll_r ll_n) ?_
  intro p e s m below meth c X hcw hmm hcc hnm hname
  unfold m_X14_small
  refine g_aload_n (pc := 0) X (j := 0) (i := 0) (q := 0) (x := a0) rfl rfl (dl_at t_X14_small 0 rfl) ?_
  refine r_getr (pc := 1) X fX14_0 hk q1241 (dl_at t_X14_small 1 rfl) ?_
  refine g_gd fun k4 => ?_
  refine r_getrN (pc := 4) X fX10_4 k4 (nw_in q1045 rfl) (dl_at t_X14_small 2 rfl) ?_
  refine g_iconst (pc := 7) X (n := 0) (dl_at t_X14_small 3 rfl) ?_
  refine g_gd fun k8 => ?_
  refine r_putiN (pc := 8) X fX5_1 k8 (nw_in q507 rfl) rfl (dl_at t_X14_small 4 rfl) (r32_c rfl) (fun h8 E8 => ?_)
  refine g_aload_n (pc := 11) X (j := 0) (i := 0) (q := 0) (x := a0) rfl rfl (dl_at t_X14_small 5 rfl) ?_
  have k12 := kx E8 (by decide) hk
  refine r_getr (pc := 12) X fX14_0 k12 q1241 (dl_at t_X14_small 6 rfl) ?_
  refine g_gd fun k15 => ?_
  refine r_getrN (pc := 15) X fX10_4 k15 (nw_in q1045 rfl) (dl_at t_X14_small 7 rfl) ?_
  exact g_aret (pc := 18) X (Or.inl ⟨_, rfl⟩) rfl rfl (dl_at t_X14_small 8 rfl)
def k_X14_open_2 : List (Nat × Instr × Nat) := [(0, .aload_n 0, 1), (1, .getfield 410, 3), (4, .ifCond .eq 13, 3), (7, .aload_n 0, 1), (8, .getfield 154, 3), (11, .getfield 407, 3), (14, .goto 27, 3), (17, .aload_n 0, 1), (18, .getfield 413, 3), (21, .ifCond .eq 13, 3), (24, .aload_n 0, 1), (25, .getfield 154, 3), (28, .getfield 404, 3), (31, .goto 10, 3), (34, .aload_n 0, 1), (35, .getfield 154, 3), (38, .getfield 375, 3), (41, .areturn, 1)]
theorem t_X14_open_2 : ∀ q ∈ k_X14_open_2, decode cX14_open_2 q.1 = .ok q.2 := dl_all (by decide +kernel)
noncomputable def m_X14_open_2 (a0 : Int) (h : Hp) : Option (Int) :=
  if (h a0 46) = 0 then (if (h a0 47) = 0 then (gd (h (h a0 0) (-2) = 160) (some (h (h a0 0) 1)))
  else (gd (h (h a0 0) (-2) = 160) (some (h (h a0 0) 2))))
  else (gd (h (h a0 0) (-2) = 160) (some (h (h a0 0) 3)))
theorem s_X14_open_2 {l : Launch} [NoTr l] {D : SD} {a0 : Int} {h : Hp} (hk : h a0 (-2) = 224) {r : Int} (hm : m_X14_open_2 a0 h = some r) : Sim l D yX14_open_2 (Cond.code yX14_open_2 cX14_open_2 1 (Option.some (Jvm.ClassFile.FieldType.object "ScholarsPress$Text"))) 0 0 [rv D a0] h 5 ((0, r), h) := by
  refine Sim.of (fin := fun (v : Int) => ((0, v), h)) (lsE := [(0, rv D a0)]) hm rfl cwS_code (la_r la_n) (ll_r ll_n) ?_
  intro p e s m below meth c X hcw hmm hcc hnm hname
  unfold m_X14_open_2
  refine g_aload_n (pc := 0) X (j := 0) (i := 0) (q := 0) (x := a0) rfl rfl (dl_at t_X14_open_2 0 rfl) ?_
  refine r_getz (pc := 1) X fX14_46 hk q1308 (dl_at t_X14_open_2 1 rfl) fun g1 => ?_
  refine g_ifeq (pc := 4) X (r32_z g1) (off := 13) (tgt := 17) rfl (dl_at t_X14_open_2 2 rfl) (fun _ => ?_) (fun _ => ?_)
  · refine g_aload_n (pc := 17) X (j := 0) (i := 0) (q := 0) (x := a0) rfl rfl (dl_at t_X14_open_2 7 rfl) ?_
    refine r_getz (pc := 18) X fX14_47 hk q1309 (dl_at t_X14_open_2 8 rfl) fun g18 => ?_
    refine g_ifeq (pc := 21) X (r32_z g18) (off := 13) (tgt := 34) rfl (dl_at t_X14_open_2 9 rfl) (fun _ => ?_) (fun _ => ?_)
    · refine g_aload_n (pc := 34) X (j := 0) (i := 0) (q := 0) (x := a0) rfl rfl (dl_at t_X14_open_2 14 rfl) ?_
      refine r_getr (pc := 35) X fX14_0 hk q1241 (dl_at t_X14_open_2 15 rfl) ?_
      refine g_gd fun k38 => ?_
      refine r_getrN (pc := 38) X fX10_1 k38 (nw_in q1039 rfl) (dl_at t_X14_open_2 16 rfl) ?_
      exact g_aret (pc := 41) X (Or.inl ⟨_, rfl⟩) rfl rfl (dl_at t_X14_open_2 17 rfl)
    refine g_aload_n (pc := 24) X (j := 0) (i := 0) (q := 0) (x := a0) rfl rfl (dl_at t_X14_open_2 10 rfl) ?_
    refine r_getr (pc := 25) X fX14_0 hk q1241 (dl_at t_X14_open_2 11 rfl) ?_
    refine g_gd fun k28 => ?_
    refine r_getrN (pc := 28) X fX10_2 k28 (nw_in q1041 rfl) (dl_at t_X14_open_2 12 rfl) ?_
    refine g_goto (pc := 31) X (off := 10) (tgt := 41) rfl (dl_at t_X14_open_2 13 rfl) ?_
    exact g_aret (pc := 41) X (Or.inl ⟨_, rfl⟩) rfl rfl (dl_at t_X14_open_2 17 rfl)
  refine g_aload_n (pc := 7) X (j := 0) (i := 0) (q := 0) (x := a0) rfl rfl (dl_at t_X14_open_2 3 rfl) ?_
  refine r_getr (pc := 8) X fX14_0 hk q1241 (dl_at t_X14_open_2 4 rfl) ?_
  refine g_gd fun k11 => ?_
  refine r_getrN (pc := 11) X fX10_3 k11 (nw_in q1043 rfl) (dl_at t_X14_open_2 5 rfl) ?_
  refine g_goto (pc := 14) X (off := 27) (tgt := 41) rfl (dl_at t_X14_open_2 6 rfl) ?_
  exact g_aret (pc := 41) X (Or.inl ⟨_, rfl⟩) rfl rfl (dl_at t_X14_open_2 17 rfl)
def k_X12_put : List (Nat × Instr × Nat) := [(0, .aload_n 0, 1), (1, .getfield 22, 3), (4, .sipush 24000, 3), (7, .if_icmp .ge 7, 3), (10, .iconst 1, 1), (11, .goto 4, 3), (14, .iconst 0, 1), (15, .invokestatic 33, 3), (18, .aload_n 0, 1), (19, .getfield 9, 3), (22, .aload_n 0, 1), (23, .getfield 22, 3), (26, .iload_n 1, 1), (27, .i2b, 1), (28, .bastore, 1), (29, .aload_n 0, 1), (30, .getfield 15, 3), (33, .aload_n 0, 1), (34, .getfield 22, 3), (37, .iload_n 2, 1), (38, .iastore, 1), (39, .aload_n 0, 1), (40, .getfield 19, 3), (43, .aload_n 0, 1), (44, .getfield 22, 3), (47, .iload_n 3, 1), (48, .iastore, 1), (49, .aload_n 0, 1), (50, .dup, 1), (51, .getfield 22, 3), (54, .iconst 1, 1), (55, .iadd, 1), (56, .putfield 22, 3), (59, .return_, 1)]
theorem t_X12_put : ∀ q ∈ k_X12_put, decode cX12_put q.1 = .ok q.2 := dl_all (by decide +kernel)
noncomputable def m_X12_put_j15 (a0 a1 a2 a3 s0_15 : Int) (h : Hp) : Option ((Int × Int) × Hp) :=
  bT (m_X1_room s0_15 h) (fun _ h15 =>
  gd (h15 (h15 a0 0) (-2) % 16 = 2 ∧ (0 : Int) ≤ (h15 a0 3) ∧ (h15 a0 3) < h15 (h15 a0 0) (-1)) (pt h15 (h15 a0 0) (h15 a0 3) (w8 a1) fun h28 =>
  gd (h28 (h28 a0 1) (-2) % 16 = 1 ∧ (0 : Int) ≤ (h28 a0 3) ∧ (h28 a0 3) < h28 (h28 a0 1) (-1)) (pt h28 (h28 a0 1) (h28 a0 3) a2 fun h38 =>
  gd (h38 (h38 a0 2) (-2) % 16 = 1 ∧ (0 : Int) ≤ (h38 a0 3) ∧ (h38 a0 3) < h38 (h38 a0 2) (-1)) (pt h38 (h38 a0 2) (h38 a0 3) a3 fun h48 =>
  pt h48 a0 3 (w32 ((h48 a0 3) + 1)) fun h56 =>
  some ((0, 0), h56))))) (fun a_ h_ => some ((1, a_), h_))
noncomputable def m_X12_put (a0 a1 a2 a3 : Int) (h : Hp) : Option ((Int × Int) × Hp) :=
  if 24000 ≤ (h a0 3) then (m_X12_put_j15 a0 a1 a2 a3 0 h)
  else (m_X12_put_j15 a0 a1 a2 a3 1 h)
theorem s_X12_put {l : Launch} [NoTr l] {D : SD} {a0 a1 a2 a3 : Int} {h : Hp} (hk : h a0 (-2) = 192) (r1 : r32 a1) (r2 : r32 a2) (r3 : r32 a3) {r : (Int × Int) × Hp} (hm : m_X12_put a0 a1 a2 a3 h = some r) : Sim l D yX12_put (Cond.code yX12_put cX12_put 4 (Option.none : Option Jvm.ClassFile.FieldType)) 10 372 [rv D a0, iv a1, iv a2, iv a3] h 0 r := by
  refine Sim.of (fin := fun (v : (Int × Int) × Hp) => v) (lsE := [(0, rv D a0), (1, iv a1), (2, iv a2), (3, iv a3)]) hm rfl cwS_code (la_r (la_i (la_i (la_i la_n)))) (ll_r (ll_i (ll_i (ll_i ll_n)))) ?_
  intro p e s m below meth c X hcw hmm hcc hnm hname
  have hno := noh hcw hnm hmm hcc
  unfold m_X12_put
  refine g_aload_n (pc := 0) X (j := 0) (i := 0) (q := 0) (x := a0) rfl rfl (dl_at t_X12_put 0 rfl) ?_
  refine r_geti (pc := 1) X fX12_3 hk q991 (dl_at t_X12_put 1 rfl) fun g1 => ?_
  refine g_sipush (pc := 4) X (n := 24000) rfl (dl_at t_X12_put 2 rfl) ?_
  refine g_join (γ := Int) (fun q => (q = 0 ∨ q = 1)) 15 (fun q => [(0, rv D a0), (1, iv a1), (2, iv a2), (3, iv a3)]) (fun q => [iv q]) (fun q => h) (fun q => m_X12_put_j15 a0 a1 a2 a3 q h) ?_ ?_
  · rintro s0_15 rs0_15
    try dsimp only
    unfold m_X12_put_j15
    refine r_callTv (pc := 15) X (fun _ hv => s_X1_room rs0_15 hv) cw_code q1653 q355 (in_Sc X (As := [iv s0_15]) (Or.inr ⟨_, nw_in q2703 rfl⟩) q1652 q355 q1653 ⟨by decide, by decide⟩ rfl (dl_at t_X12_put 7 rfl)) (dl_at t_X12_put 7 rfl) (cat24 (st := []) (Nat.le_of_ble_eq_true rfl)) (Nat.le_of_ble_eq_true rfl) (Nat.le_of_ble_eq_true rfl) (fun v15 h15 E15 => ?_) (fun _ _ ha _ => gt_at fun Q hQ => gt_out (Q := Q) X rfl ha (hno _) _ Q rfl hQ)
    refine g_aload_n (pc := 18) X (j := 0) (i := 0) (q := 0) (x := a0) rfl rfl (dl_at t_X12_put 8 rfl) ?_
    have k19 := kx E15 (by decide) hk
    refine r_getr (pc := 19) X fX12_0 k19 q985 (dl_at t_X12_put 9 rfl) ?_
    refine g_aload_n (pc := 22) X (j := 0) (i := 0) (q := 0) (x := a0) rfl rfl (dl_at t_X12_put 10 rfl) ?_
    refine r_geti (pc := 23) X fX12_3 k19 q991 (dl_at t_X12_put 11 rfl) fun g23 => ?_
    refine g_iload_n (pc := 26) X (j := 1) (i := 1) (q := 1) (x := a1) rfl rfl (dl_at t_X12_put 12 rfl) ?_
    refine g_i2b (pc := 27) X r1 (dl_at t_X12_put 13 rfl) ?_
    refine g_gd fun k28 => ?_
    refine r_bastB (pc := 28) X g23 (b_w8 _) k28 (dl_at t_X12_put 14 rfl) (fun h28 E28 => ?_)
    refine g_aload_n (pc := 29) X (j := 0) (i := 0) (q := 0) (x := a0) rfl rfl (dl_at t_X12_put 15 rfl) ?_
    have k30 := kx E28 (by decide) k19
    refine r_getr (pc := 30) X fX12_1 k30 q987 (dl_at t_X12_put 16 rfl) ?_
    refine g_aload_n (pc := 33) X (j := 0) (i := 0) (q := 0) (x := a0) rfl rfl (dl_at t_X12_put 17 rfl) ?_
    refine r_geti (pc := 34) X fX12_3 k30 q991 (dl_at t_X12_put 18 rfl) fun g34 => ?_
    refine g_iload_n (pc := 37) X (j := 2) (i := 2) (q := 2) (x := a2) rfl rfl (dl_at t_X12_put 19 rfl) ?_
    refine g_gd fun k38 => ?_
    refine r_iast (pc := 38) X g34 r2 k38 (dl_at t_X12_put 20 rfl) (fun h38 E38 => ?_)
    refine g_aload_n (pc := 39) X (j := 0) (i := 0) (q := 0) (x := a0) rfl rfl (dl_at t_X12_put 21 rfl) ?_
    have k40 := kx E38 (by decide) k30
    refine r_getr (pc := 40) X fX12_2 k40 q989 (dl_at t_X12_put 22 rfl) ?_
    refine g_aload_n (pc := 43) X (j := 0) (i := 0) (q := 0) (x := a0) rfl rfl (dl_at t_X12_put 23 rfl) ?_
    refine r_geti (pc := 44) X fX12_3 k40 q991 (dl_at t_X12_put 24 rfl) fun g44 => ?_
    refine g_iload_n (pc := 47) X (j := 3) (i := 3) (q := 3) (x := a3) rfl rfl (dl_at t_X12_put 25 rfl) ?_
    refine g_gd fun k48 => ?_
    refine r_iast (pc := 48) X g44 r3 k48 (dl_at t_X12_put 26 rfl) (fun h48 E48 => ?_)
    refine g_aload_n (pc := 49) X (j := 0) (i := 0) (q := 0) (x := a0) rfl rfl (dl_at t_X12_put 27 rfl) ?_
    refine g_dup (pc := 50) X rv_cat (dl_at t_X12_put 28 rfl) ?_
    have k51 := kx E48 (by decide) k40
    refine r_geti (pc := 51) X fX12_3 k51 q991 (dl_at t_X12_put 29 rfl) fun g51 => ?_
    refine g_iconst (pc := 54) X (n := 1) (dl_at t_X12_put 30 rfl) ?_
    refine g_iadd (pc := 55) X g51 (r32_c rfl) (dl_at t_X12_put 31 rfl) ?_
    refine r_puti (pc := 56) X fX12_3 k51 q991 rfl (dl_at t_X12_put 32 rfl) (r32_w _) (fun h56 E56 => ?_)
    exact g_vret (pc := 59) X (v := 0) rfl rfl (dl_at t_X12_put 33 rfl)
  intro J15
  refine g_icmpge (pc := 7) X g1 (r32_c rfl) (off := 7) (tgt := 14) rfl (dl_at t_X12_put 3 rfl) (fun _ => ?_) (fun _ => ?_)
  · refine g_iconst (pc := 14) X (n := 0) (dl_at t_X12_put 6 rfl) ?_
    exact J15 0 (Or.inl rfl)
  refine g_iconst (pc := 10) X (n := 1) (dl_at t_X12_put 4 rfl) ?_
  refine g_goto (pc := 11) X (off := 4) (tgt := 15) rfl (dl_at t_X12_put 5 rfl) ?_
  exact J15 1 (Or.inr rfl)
def k_X14_put : List (Nat × Instr × Nat) := [(0, .iload_n 2, 1), (1, .invokestatic 237, 3), (4, .ifCond .eq 21, 3), (7, .aload_n 1, 1), (8, .getfield 241, 3), (11, .ifCond .ne 8, 3), (14, .aload_n 1, 1), (15, .iload_n 3, 1), (16, .putfield 247, 3), (19, .aload_n 1, 1), (20, .iconst 1, 1), (21, .putfield 241, 3), (24, .return_, 1), (25, .aload_n 1, 1), (26, .getfield 241, 3), (29, .ifCond .eq 21, 3), (32, .aload_n 1, 1), (33, .getfield 250, 3), (36, .ifCond .eq 14, 3), (39, .aload_n 1, 1), (40, .bipush 32, 2), (42, .aload_n 1, 1), (43, .getfield 247, 3), (46, .iconst (-1), 1), (47, .invokevirtual 253, 3), (50, .aload_n 1, 1), (51, .iconst 0, 1), (52, .putfield 241, 3), (55, .aload_n 1, 1), (56, .iconst 1, 1), (57, .putfield 250, 3), (60, .aload_n 1, 1), (61, .iload_n 2, 1), (62, .iload_n 3, 1), (63, .iload 4, 2), (65, .ifCond .eq 10, 3), (68, .aload_n 0, 1), (69, .getfield 205, 3), (72, .goto 4, 3), (75, .iconst (-1), 1), (76, .invokevirtual 253, 3), (79, .iload 4, 2), (81, .ifCond .eq 13, 3), (84, .aload_n 0, 1), (85, .dup, 1), (86, .getfield 205, 3), (89, .iconst 1, 1), (90, .iadd, 1), (91, .putfield 205, 3), (94, .return_, 1)]
theorem t_X14_put : ∀ q ∈ k_X14_put, decode cX14_put q.1 = .ok q.2 := dl_all (by decide +kernel)
noncomputable def m_X14_put_j76 (a0 a1 a2 a3 a4 s3_76 : Int) (h57 : Hp) : Option ((Int × Int) × Hp) :=
  bT (m_X12_put a1 a2 a3 s3_76 h57) (fun _ h76 =>
  if a4 = 0 then (some ((0, 0), h76))
  else (pt h76 a0 27 (w32 ((h76 a0 27) + 1)) fun h91 =>
  some ((0, 0), h91))) (fun a_ h_ => some ((1, a_), h_))
noncomputable def m_X14_put_j50 (a0 a1 a2 a3 a4 : Int) (h_50 : Hp) : Option ((Int × Int) × Hp) :=
  pt h_50 a1 4 0 fun h52 =>
  pt h52 a1 6 1 fun h57 =>
  if a4 = 0 then (m_X14_put_j76 a0 a1 a2 a3 a4 (-1) h57)
  else (m_X14_put_j76 a0 a1 a2 a3 a4 (h57 a0 27) h57)
noncomputable def m_X14_put (a0 a1 a2 a3 a4 : Int) (h : Hp) : Option ((Int × Int) × Hp) :=
  (m_X1_isBlank a2).bind fun v1 =>
  if v1 = 0 then (gd (h a1 (-2) = 192) (if (h a1 4) = 0 then (m_X14_put_j50 a0 a1 a2 a3 a4 h)
  else (if (h a1 6) = 0 then (m_X14_put_j50 a0 a1 a2 a3 a4 h)
  else (bT (m_X12_put a1 32 (h a1 5) (-1) h) (fun _ h47 =>
  m_X14_put_j50 a0 a1 a2 a3 a4 h47) (fun a_ h_ => some ((1, a_), h_))))))
  else (gd (h a1 (-2) = 192) (if (h a1 4) ≠ 0 then (pt h a1 4 1 fun h21 =>
  some ((0, 0), h21))
  else (pt h a1 5 a3 fun h16 =>
  pt h16 a1 4 1 fun h21_1 =>
  some ((0, 0), h21_1))))
theorem s_X14_put {l : Launch} [NoTr l] {D : SD} {a0 a1 a2 a3 a4 : Int} {h : Hp} (hk : h a0 (-2) = 224) (r2 : r32 a2) (r3 : r32 a3) (r4 : (a4 = 0 ∨ a4 = 1)) {r : (Int × Int) × Hp} (hm : m_X14_put a0 a1 a2 a3 a4 h = some r) : Sim l D yX14_put (Cond.code yX14_put cX14_put 5 (Option.none : Option Jvm.ClassFile.FieldType)) 11 411 [rv D a0, rv D a1, iv a2, iv a3, iv a4] h 0 r := by
  refine Sim.of (fin := fun (v : (Int × Int) × Hp) => v) (lsE := [(0, rv D a0), (1, rv D a1), (2, iv a2), (3, iv a3), (4, iv a4)]) hm rfl cwS_code (la_r (la_r (la_i (la_i (la_i la_n))))) (ll_r (ll_r (ll_i (ll_i (ll_i ll_n))))) ?_
  intro p e s m below meth c X hcw hmm hcc hnm hname
  have hno := noh hcw hnm hmm hcc
  unfold m_X14_put
  refine g_iload_n (pc := 0) X (j := 2) (i := 2) (q := 2) (x := a2) rfl rfl (dl_at t_X14_put 0 rfl) ?_
  refine r_callRz (pc := 1) X (fun _ hv => s_X1_isBlank r2 hv) cw_code q1732 q355 (in_Sc X (As := [iv a2]) (Or.inr ⟨_, nw_in q2698 rfl⟩) q1731 q355 q1732 ⟨by decide, by decide⟩ rfl (dl_at t_X14_put 1 rfl)) (dl_at t_X14_put 1 rfl) (cat24 (st := []) (Nat.le_of_ble_eq_true rfl)) (Nat.le_of_ble_eq_true rfl) (Nat.le_of_ble_eq_true rfl) fun v1 g1 => ?_
  refine g_ifeq (pc := 4) X (r32_z g1) (off := 21) (tgt := 25) rfl (dl_at t_X14_put 2 rfl) (fun _ => ?_) (fun _ => ?_)
  · refine g_aload_n (pc := 25) X (j := 1) (i := 1) (q := 1) (x := a1) rfl rfl (dl_at t_X14_put 13 rfl) ?_
    refine g_gd fun k26 => ?_
    refine r_getzN (pc := 26) X fX12_4 k26 (nw_in q994 rfl) (dl_at t_X14_put 14 rfl) fun g26 => ?_
    refine g_join (γ := Hp) (fun q => Ext h q) 50 (fun q => [(0, rv D a0), (1, rv D a1), (2, iv a2), (3, iv a3), (4, iv a4)]) (fun q => []) (fun q => q) (fun q => m_X14_put_j50 a0 a1 a2 a3 a4 q) ?_ ?_
    · rintro h_50 E_50
      try dsimp only
      unfold m_X14_put_j50
      refine g_aload_n (pc := 50) X (j := 1) (i := 1) (q := 1) (x := a1) rfl rfl (dl_at t_X14_put 25 rfl) ?_
      refine g_iconst (pc := 51) X (n := 0) (dl_at t_X14_put 26 rfl) ?_
      have k52 := kx E_50 (by decide) k26
      refine r_putzN (pc := 52) X fX12_4 k52 (nw_in q994 rfl) rfl (dl_at t_X14_put 27 rfl) (Or.inl rfl) (fun h52 E52 => ?_)
      refine g_aload_n (pc := 55) X (j := 1) (i := 1) (q := 1) (x := a1) rfl rfl (dl_at t_X14_put 28 rfl) ?_
      refine g_iconst (pc := 56) X (n := 1) (dl_at t_X14_put 29 rfl) ?_
      have k57 := kx E52 (by decide) k52
      refine r_putzN (pc := 57) X fX12_6 k57 (nw_in q997 rfl) rfl (dl_at t_X14_put 30 rfl) (Or.inr rfl) (fun h57 E57 => ?_)
      refine g_aload_n (pc := 60) X (j := 1) (i := 1) (q := 1) (x := a1) rfl rfl (dl_at t_X14_put 31 rfl) ?_
      refine g_iload_n (pc := 61) X (j := 2) (i := 2) (q := 2) (x := a2) rfl rfl (dl_at t_X14_put 32 rfl) ?_
      refine g_iload_n (pc := 62) X (j := 3) (i := 3) (q := 3) (x := a3) rfl rfl (dl_at t_X14_put 33 rfl) ?_
      refine g_iload (pc := 63) X (i := 4) (q := 4) (x := a4) rfl (dl_at t_X14_put 34 rfl) ?_
      refine g_join (γ := Int) (fun q => r32 q) 76 (fun q => [(0, rv D a0), (4, iv a4)]) (fun q => [iv q, iv a3, iv a2, rv D a1]) (fun q => h57) (fun q => m_X14_put_j76 a0 a1 a2 a3 a4 q h57) ?_ ?_
      · rintro s3_76 rs3_76
        try dsimp only
        unfold m_X14_put_j76
        have k76 := kx E57 (by decide) k57
        refine r_callTv (pc := 76) X (fun _ hv => s_X12_put k76 r2 r3 rs3_76 hv) cw_code q2702 q366 (in_Vk X (As := [iv a2, iv a3, iv s3_76]) kX12 k76 (Or.inr ⟨_, nw_in q2699 rfl⟩) q2701 qs143 cw_code q2702 ⟨by decide, by decide⟩ rfl (dl_at t_X14_put 40 rfl)) (dl_at t_X14_put 40 rfl) (cat24 (st := []) (Nat.le_of_ble_eq_true rfl)) (Nat.le_of_ble_eq_true rfl) (Nat.le_of_ble_eq_true rfl) (fun v76 h76 E76 => ?_) (fun _ _ ha _ => gt_at fun Q hQ => gt_out (Q := Q) X rfl ha (hno _) _ Q rfl hQ)
        refine g_iload (pc := 79) X (i := 4) (q := 1) (x := a4) rfl (dl_at t_X14_put 41 rfl) ?_
        refine g_ifeq (pc := 81) X (r32_z r4) (off := 13) (tgt := 94) rfl (dl_at t_X14_put 42 rfl) (fun _ => ?_) (fun _ => ?_)
        · exact g_vret (pc := 94) X (v := 0) rfl rfl (dl_at t_X14_put 49 rfl)
        refine g_aload_n (pc := 84) X (j := 0) (i := 0) (q := 0) (x := a0) rfl rfl (dl_at t_X14_put 43 rfl) ?_
        refine g_dup (pc := 85) X rv_cat (dl_at t_X14_put 44 rfl) ?_
        have k86 := kx (E_50.trans (E52.trans (E57.trans E76))) (by decide) hk
        refine r_geti (pc := 86) X fX14_27 k86 q1280 (dl_at t_X14_put 45 rfl) fun g86 => ?_
        refine g_iconst (pc := 89) X (n := 1) (dl_at t_X14_put 46 rfl) ?_
        refine g_iadd (pc := 90) X g86 (r32_c rfl) (dl_at t_X14_put 47 rfl) ?_
        refine r_puti (pc := 91) X fX14_27 k86 q1280 rfl (dl_at t_X14_put 48 rfl) (r32_w _) (fun h91 E91 => ?_)
        exact g_vret (pc := 94) X (v := 0) rfl rfl (dl_at t_X14_put 49 rfl)
      intro J76
      refine g_ifeq (pc := 65) X (r32_z r4) (off := 10) (tgt := 75) rfl (dl_at t_X14_put 35 rfl) (fun _ => ?_) (fun _ => ?_)
      · refine g_iconst (pc := 75) X (n := (-1)) (dl_at t_X14_put 39 rfl) ?_
        refine g_ls (ls2 := [(0, rv D a0), (4, iv a4)]) [0, 4] rfl ?_
        exact J76 (-1) (r32_c rfl)
      refine g_aload_n (pc := 68) X (j := 0) (i := 0) (q := 0) (x := a0) rfl rfl (dl_at t_X14_put 36 rfl) ?_
      have k69 := kx (E_50.trans (E52.trans E57)) (by decide) hk
      refine r_geti (pc := 69) X fX14_27 k69 q1280 (dl_at t_X14_put 37 rfl) fun g69 => ?_
      refine g_goto (pc := 72) X (off := 4) (tgt := 76) rfl (dl_at t_X14_put 38 rfl) ?_
      refine g_ls (ls2 := [(0, rv D a0), (4, iv a4)]) [0, 4] rfl ?_
      exact J76 (h57 a0 27) g69
    intro J50
    refine g_ifeq (pc := 29) X (r32_z g26) (off := 21) (tgt := 50) rfl (dl_at t_X14_put 15 rfl) (fun _ => ?_) (fun _ => ?_)
    · exact J50 h (Ext.refl _)
    refine g_aload_n (pc := 32) X (j := 1) (i := 1) (q := 1) (x := a1) rfl rfl (dl_at t_X14_put 16 rfl) ?_
    refine r_getzN (pc := 33) X fX12_6 k26 (nw_in q997 rfl) (dl_at t_X14_put 17 rfl) fun g33 => ?_
    refine g_ifeq (pc := 36) X (r32_z g33) (off := 14) (tgt := 50) rfl (dl_at t_X14_put 18 rfl) (fun _ => ?_) (fun _ => ?_)
    · exact J50 h (Ext.refl _)
    refine g_aload_n (pc := 39) X (j := 1) (i := 1) (q := 1) (x := a1) rfl rfl (dl_at t_X14_put 19 rfl) ?_
    refine g_bipush (pc := 40) X (n := 32) rfl (dl_at t_X14_put 20 rfl) ?_
    refine g_aload_n (pc := 42) X (j := 1) (i := 1) (q := 1) (x := a1) rfl rfl (dl_at t_X14_put 21 rfl) ?_
    refine r_getiN (pc := 43) X fX12_5 k26 (nw_in q995 rfl) (dl_at t_X14_put 22 rfl) fun g43 => ?_
    refine g_iconst (pc := 46) X (n := (-1)) (dl_at t_X14_put 23 rfl) ?_
    refine r_callTv (pc := 47) X (fun _ hv => s_X12_put k26 (r32_c rfl) g43 (r32_c rfl) hv) cw_code q2702 q366 (in_Vk X (As := [iv 32, iv (h a1 5), iv (-1)]) kX12 k26 (Or.inr ⟨_, nw_in q2699 rfl⟩) q2701 qs143 cw_code q2702 ⟨by decide, by decide⟩ rfl (dl_at t_X14_put 24 rfl)) (dl_at t_X14_put 24 rfl) (cat24 (st := []) (Nat.le_of_ble_eq_true rfl)) (Nat.le_of_ble_eq_true rfl) (Nat.le_of_ble_eq_true rfl) (fun v47 h47 E47 => ?_) (fun _ _ ha _ => gt_at fun Q hQ => gt_out (Q := Q) X rfl ha (hno _) _ Q rfl hQ)
    exact J50 h47 E47
  refine g_aload_n (pc := 7) X (j := 1) (i := 1) (q := 1) (x := a1) rfl rfl (dl_at t_X14_put 3 rfl) ?_
  refine g_gd fun k8 => ?_
  refine r_getzN (pc := 8) X fX12_4 k8 (nw_in q994 rfl) (dl_at t_X14_put 4 rfl) fun g8 => ?_
  refine g_ifne (pc := 11) X (r32_z g8) (off := 8) (tgt := 19) rfl (dl_at t_X14_put 5 rfl) (fun _ => ?_) (fun _ => ?_)
  · refine g_aload_n (pc := 19) X (j := 1) (i := 1) (q := 1) (x := a1) rfl rfl (dl_at t_X14_put 9 rfl) ?_
    refine g_iconst (pc := 20) X (n := 1) (dl_at t_X14_put 10 rfl) ?_
    refine r_putzN (pc := 21) X fX12_4 k8 (nw_in q994 rfl) rfl (dl_at t_X14_put 11 rfl) (Or.inr rfl) (fun h21 E21 => ?_)
    exact g_vret (pc := 24) X (v := 0) rfl rfl (dl_at t_X14_put 12 rfl)
  refine g_aload_n (pc := 14) X (j := 1) (i := 1) (q := 1) (x := a1) rfl rfl (dl_at t_X14_put 6 rfl) ?_
  refine g_iload_n (pc := 15) X (j := 3) (i := 3) (q := 3) (x := a3) rfl rfl (dl_at t_X14_put 7 rfl) ?_
  refine r_putiN (pc := 16) X fX12_5 k8 (nw_in q995 rfl) rfl (dl_at t_X14_put 8 rfl) r3 (fun h16 E16 => ?_)
  refine g_aload_n (pc := 19) X (j := 1) (i := 1) (q := 1) (x := a1) rfl rfl (dl_at t_X14_put 9 rfl) ?_
  refine g_iconst (pc := 20) X (n := 1) (dl_at t_X14_put 10 rfl) ?_
  have k21 := kx E16 (by decide) k8
  refine r_putzN (pc := 21) X fX12_4 k21 (nw_in q994 rfl) rfl (dl_at t_X14_put 11 rfl) (Or.inr rfl) (fun h21_1 E21_1 => ?_)
  exact g_vret (pc := 24) X (v := 0) rfl rfl (dl_at t_X14_put 12 rfl)
