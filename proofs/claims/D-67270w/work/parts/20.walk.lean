set_option maxRecDepth 100000
def k_X1_spot : List (Nat × Instr × Nat) := [(0, .aload_n 0, 1), (1, .iload_n 1, 1), (2, .invokevirtual 335, 3), (5, .aload_n 0, 1), (6, .getfield 169, 3), (9, .getfield 338, 3), (12, .iload_n 1, 1), (13, .iaload, 1), (14, .ifCond .lt 11, 3), (17, .iload_n 2, 1), (18, .ifCond .lt 7, 3), (21, .iconst 1, 1), (22, .goto 4, 3), (25, .iconst 0, 1), (26, .invokestatic 127, 3), (29, .aload_n 0, 1), (30, .getfield 169, 3), (33, .getfield 353, 3), (36, .aload_n 0, 1), (37, .getfield 169, 3), (40, .getfield 338, 3), (43, .iload_n 1, 1), (44, .iaload, 1), (45, .aaload, 1), (46, .aload_n 0, 1), (47, .getfield 169, 3), (50, .getfield 341, 3), (53, .iload_n 1, 1), (54, .iaload, 1), (55, .iload_n 2, 1), (56, .invokevirtual 371, 3), (59, .lstore_n 3, 1), (60, .lload_n 3, 1), (61, .lconst 0, 1), (62, .lcmp, 1), (63, .ifCond .lt 7, 3), (66, .iconst 1, 1), (67, .goto 4, 3), (70, .iconst 0, 1), (71, .invokestatic 127, 3), (74, .lload_n 3, 1), (75, .lreturn, 1)]
theorem t_X1_spot : ∀ q ∈ k_X1_spot, decode cX1_spot q.1 = .ok q.2 := dl_all (by decide +kernel)
noncomputable def m_X1_spot_j26 (a0 a1 a2 s0_26 : Int) (h2 : Hp) : Option ((Int × Int) × Hp) :=
  bT (m_X1_room s0_26 h2) (fun _ h26 =>
  gd (h26 (h26 a0 18) (-2) = 224) (gd (h26 (h26 (h26 a0 18) 12) (-2) % 16 = 1 ∧ (0 : Int) ≤ a1 ∧ a1 < h26 (h26 (h26 a0 18) 12) (-1)) (gd (h26 (h26 (h26 a0 18) 10) (-2) % 16 = 9 ∧ (0 : Int) ≤ (h26 (h26 (h26 a0 18) 12) a1) ∧ (h26 (h26 (h26 a0 18) 12) a1) < h26 (h26 (h26 a0 18) 10) (-1)) (gd (h26 (h26 (h26 a0 18) 13) (-2) % 16 = 1 ∧ (0 : Int) ≤ a1 ∧ a1 < h26 (h26 (h26 a0 18) 13) (-1)) (gd (h26 (h26 (h26 (h26 a0 18) 10) (h26 (h26 (h26 a0 18) 12) a1)) (-2) = 288) ((m_X28_spot (h26 (h26 (h26 a0 18) 10) (h26 (h26 (h26 a0 18) 12) a1)) (h26 (h26 (h26 a0 18) 13) a1) a2 h26).bind fun v56 =>
  if (lcmp_ v56 0) < 0 then (bT (m_X1_room 0 h26) (fun _ h71 =>
  some ((0, v56), h71)) (fun a_ h_ => some ((1, a_), h_)))
  else (bT (m_X1_room 1 h26) (fun _ h71_1 =>
  some ((0, v56), h71_1)) (fun a_ h_ => some ((1, a_), h_))))))))) (fun a_ h_ => some ((1, a_), h_))
noncomputable def m_X1_spot_j25 (a0 a1 a2 : Int) (h2 : Hp) : Option ((Int × Int) × Hp) :=
  m_X1_spot_j26 a0 a1 a2 0 h2
noncomputable def m_X1_spot (a0 a1 a2 : Int) (h : Hp) : Option ((Int × Int) × Hp) :=
  bT (m_X1_lineThere a0 a1 h) (fun _ h2 =>
  gd (h2 (h2 a0 18) (-2) = 224) (gd (h2 (h2 (h2 a0 18) 12) (-2) % 16 = 1 ∧ (0 : Int) ≤ a1 ∧ a1 < h2 (h2 (h2 a0 18) 12) (-1)) (if (h2 (h2 (h2 a0 18) 12) a1) < 0 then (m_X1_spot_j25 a0 a1 a2 h2)
  else (if a2 < 0 then (m_X1_spot_j25 a0 a1 a2 h2)
  else (m_X1_spot_j26 a0 a1 a2 1 h2))))) (fun a_ h_ => some ((1, a_), h_))
theorem s_X1_spot {l : Launch} [NoTr l] {D : SD} {a0 a1 a2 : Int} {h : Hp} (hk : h a0 (-2) = 16) (r1 : r32 a1) (r2 : r32 a2) {r : (Int × Int) × Hp} (hm : m_X1_spot a0 a1 a2 h = some r) : Sim l D yX1_spot (Cond.code yX1_spot cX1_spot 5 (Option.some Jvm.ClassFile.FieldType.long)) 11 409 [rv D a0, iv a1, iv a2] h 4 r := by
  refine Sim.of (fin := fun (v : (Int × Int) × Hp) => v) (lsE := [(0, rv D a0), (1, iv a1), (2, iv a2)]) hm rfl cwS_code (la_r (la_i (la_i la_n))) (ll_r (ll_i (ll_i ll_n))) ?_
  intro p e s m below meth c X hcw hmm hcc hnm hname
  have hno := noh hcw hnm hmm hcc
  unfold m_X1_spot
  refine g_aload_n (pc := 0) X (j := 0) (i := 0) (q := 0) (x := a0) rfl rfl (dl_at t_X1_spot 0 rfl) ?_
  refine g_iload_n (pc := 1) X (j := 1) (i := 1) (q := 1) (x := a1) rfl rfl (dl_at t_X1_spot 1 rfl) ?_
  refine r_callTv (pc := 2) X (fun _ hv => s_X1_lineThere hk r1 hv) cw_code q3094 q355 (in_Vk X (As := [iv a1]) kX1 hk (Or.inl q3091) q3093 qs218 cw_code q3094 ⟨by decide, by decide⟩ rfl (dl_at t_X1_spot 2 rfl)) (dl_at t_X1_spot 2 rfl) (cat24 (st := []) (Nat.le_of_ble_eq_true rfl)) (Nat.le_of_ble_eq_true rfl) (Nat.le_of_ble_eq_true rfl) (fun v2 h2 E2 => ?_) (fun _ _ ha _ => gt_at fun Q hQ => gt_out (Q := Q) X rfl ha (hno _) _ Q rfl hQ)
  refine g_aload_n (pc := 5) X (j := 0) (i := 0) (q := 0) (x := a0) rfl rfl (dl_at t_X1_spot 3 rfl) ?_
  have k6 := kx E2 (by decide) hk
  refine r_getr (pc := 6) X fX1_18 k6 q1506 (dl_at t_X1_spot 4 rfl) ?_
  refine g_gd fun k9 => ?_
  refine r_getrN (pc := 9) X fX14_12 k9 (nw_in q1261 rfl) (dl_at t_X1_spot 5 rfl) ?_
  refine g_iload_n (pc := 12) X (j := 1) (i := 1) (q := 1) (x := a1) rfl rfl (dl_at t_X1_spot 6 rfl) ?_
  refine g_gd fun k13 => ?_
  refine g_iald (pc := 13) X r1 k13 (dl_at t_X1_spot 7 rfl) fun g13 => ?_
  refine g_join (γ := Int) (fun q => (q = 0 ∨ q = 1)) 26 (fun q => [(0, rv D a0), (1, iv a1), (2, iv a2)]) (fun q => [iv q]) (fun q => h2) (fun q => m_X1_spot_j26 a0 a1 a2 q h2) ?_ ?_
  · rintro s0_26 rs0_26
    try dsimp only
    unfold m_X1_spot_j26
    refine r_callTv (pc := 26) X (fun _ hv => s_X1_room rs0_26 hv) cw_code q1653 q355 (in_Sc X (As := [iv s0_26]) (Or.inl q1651) q1652 q355 q1653 ⟨by decide, by decide⟩ rfl (dl_at t_X1_spot 14 rfl)) (dl_at t_X1_spot 14 rfl) (cat24 (st := []) (Nat.le_of_ble_eq_true rfl)) (Nat.le_of_ble_eq_true rfl) (Nat.le_of_ble_eq_true rfl) (fun v26 h26 E26 => ?_) (fun _ _ ha _ => gt_at fun Q hQ => gt_out (Q := Q) X rfl ha (hno _) _ Q rfl hQ)
    refine g_aload_n (pc := 29) X (j := 0) (i := 0) (q := 0) (x := a0) rfl rfl (dl_at t_X1_spot 15 rfl) ?_
    have k30 := kx E26 (by decide) k6
    refine r_getr (pc := 30) X fX1_18 k30 q1506 (dl_at t_X1_spot 16 rfl) ?_
    refine g_gd fun k33 => ?_
    refine r_getrN (pc := 33) X fX14_10 k33 (nw_in q1257 rfl) (dl_at t_X1_spot 17 rfl) ?_
    refine g_aload_n (pc := 36) X (j := 0) (i := 0) (q := 0) (x := a0) rfl rfl (dl_at t_X1_spot 18 rfl) ?_
    refine r_getr (pc := 37) X fX1_18 k30 q1506 (dl_at t_X1_spot 19 rfl) ?_
    refine r_getrN (pc := 40) X fX14_12 k33 (nw_in q1261 rfl) (dl_at t_X1_spot 20 rfl) ?_
    refine g_iload_n (pc := 43) X (j := 1) (i := 1) (q := 1) (x := a1) rfl rfl (dl_at t_X1_spot 21 rfl) ?_
    refine g_gd fun k44 => ?_
    refine g_iald (pc := 44) X r1 k44 (dl_at t_X1_spot 22 rfl) fun g44 => ?_
    refine g_gd fun k45 => ?_
    refine g_aald (pc := 45) X 9 (Nat.le_of_ble_eq_true rfl) (Nat.le_of_ble_eq_true rfl) g44 rfl k45 (dl_at t_X1_spot 23 rfl) ?_
    refine g_aload_n (pc := 46) X (j := 0) (i := 0) (q := 0) (x := a0) rfl rfl (dl_at t_X1_spot 24 rfl) ?_
    refine r_getr (pc := 47) X fX1_18 k30 q1506 (dl_at t_X1_spot 25 rfl) ?_
    refine r_getrN (pc := 50) X fX14_13 k33 (nw_in q1263 rfl) (dl_at t_X1_spot 26 rfl) ?_
    refine g_iload_n (pc := 53) X (j := 1) (i := 1) (q := 1) (x := a1) rfl rfl (dl_at t_X1_spot 27 rfl) ?_
    refine g_gd fun k54 => ?_
    refine g_iald (pc := 54) X r1 k54 (dl_at t_X1_spot 28 rfl) fun g54 => ?_
    refine g_iload_n (pc := 55) X (j := 2) (i := 2) (q := 2) (x := a2) rfl rfl (dl_at t_X1_spot 29 rfl) ?_
    refine g_gd fun k56 => ?_
    refine r_callRl (pc := 56) X (fun _ hv => s_X28_spot k56 g54 r2 hv) cw_code q3119 q396 (in_Vk X (As := [iv (h26 (h26 (h26 a0 18) 13) a1), iv a2]) kX28 k56 (Or.inr ⟨_, nw_in q3116 rfl⟩) q3118 qs222 cw_code q3119 ⟨by decide, by decide⟩ rfl (dl_at t_X1_spot 30 rfl)) (dl_at t_X1_spot 30 rfl) (cat24 (st := []) (Nat.le_of_ble_eq_true rfl)) (Nat.le_of_ble_eq_true rfl) (Nat.le_of_ble_eq_true rfl) fun v56 g56 => ?_
    refine g_lstore_n (pc := 59) X (j := 3) (i := 3) (x := v56) (rest := []) rfl (Nat.le_of_ble_eq_true rfl) [] rfl rfl (dl_at t_X1_spot 31 rfl) ?_
    refine g_lload_n (pc := 60) X (j := 3) (i := 3) (q := 0) (x := v56) rfl rfl (dl_at t_X1_spot 32 rfl) ?_
    refine g_lconst0 (pc := 61) X (dl_at t_X1_spot 33 rfl) ?_
    refine g_lcmp (pc := 62) X g56 (r64_c rfl) (dl_at t_X1_spot 34 rfl) ?_
    refine g_iflt (pc := 63) X (r32_lcmp _ _) (off := 7) (tgt := 70) rfl (dl_at t_X1_spot 35 rfl) (fun _ => ?_) (fun _ => ?_)
    · refine g_iconst (pc := 70) X (n := 0) (dl_at t_X1_spot 38 rfl) ?_
      refine r_callTv (pc := 71) X (fun _ hv => s_X1_room (Or.inl rfl) hv) cw_code q1653 q355 (in_Sc X (As := [iv 0]) (Or.inl q1651) q1652 q355 q1653 ⟨by decide, by decide⟩ rfl (dl_at t_X1_spot 39 rfl)) (dl_at t_X1_spot 39 rfl) (cat24 (st := []) (Nat.le_of_ble_eq_true rfl)) (Nat.le_of_ble_eq_true rfl) (Nat.le_of_ble_eq_true rfl) (fun v71 h71 E71 => ?_) (fun _ _ ha _ => gt_at fun Q hQ => gt_out (Q := Q) X rfl ha (hno _) _ Q rfl hQ)
      refine g_lload_n (pc := 74) X (j := 3) (i := 3) (q := 0) (x := v56) rfl rfl (dl_at t_X1_spot 40 rfl) ?_
      exact g_lret (pc := 75) X g56 rfl rfl (dl_at t_X1_spot 41 rfl)
    refine g_iconst (pc := 66) X (n := 1) (dl_at t_X1_spot 36 rfl) ?_
    refine g_goto (pc := 67) X (off := 4) (tgt := 71) rfl (dl_at t_X1_spot 37 rfl) ?_
    refine r_callTv (pc := 71) X (fun _ hv => s_X1_room (Or.inr rfl) hv) cw_code q1653 q355 (in_Sc X (As := [iv 1]) (Or.inl q1651) q1652 q355 q1653 ⟨by decide, by decide⟩ rfl (dl_at t_X1_spot 39 rfl)) (dl_at t_X1_spot 39 rfl) (cat24 (st := []) (Nat.le_of_ble_eq_true rfl)) (Nat.le_of_ble_eq_true rfl) (Nat.le_of_ble_eq_true rfl) (fun v71_1 h71_1 E71_1 => ?_) (fun _ _ ha _ => gt_at fun Q hQ => gt_out (Q := Q) X rfl ha (hno _) _ Q rfl hQ)
    refine g_lload_n (pc := 74) X (j := 3) (i := 3) (q := 0) (x := v56) rfl rfl (dl_at t_X1_spot 40 rfl) ?_
    exact g_lret (pc := 75) X g56 rfl rfl (dl_at t_X1_spot 41 rfl)
  intro J26
  refine g_join (γ := Unit) (fun q => True) 25 (fun q => [(0, rv D a0), (1, iv a1), (2, iv a2)]) (fun q => []) (fun q => h2) (fun q => m_X1_spot_j25 a0 a1 a2 h2) ?_ ?_
  · rintro _ _
    try dsimp only
    unfold m_X1_spot_j25
    refine g_iconst (pc := 25) X (n := 0) (dl_at t_X1_spot 13 rfl) ?_
    exact J26 0 (Or.inl rfl)
  intro J25
  refine g_iflt (pc := 14) X g13 (off := 11) (tgt := 25) rfl (dl_at t_X1_spot 8 rfl) (fun _ => ?_) (fun _ => ?_)
  · exact J25 () trivial
  refine g_iload_n (pc := 17) X (j := 2) (i := 2) (q := 2) (x := a2) rfl rfl (dl_at t_X1_spot 9 rfl) ?_
  refine g_iflt (pc := 18) X r2 (off := 7) (tgt := 25) rfl (dl_at t_X1_spot 10 rfl) (fun _ => ?_) (fun _ => ?_)
  · exact J25 () trivial
  refine g_iconst (pc := 21) X (n := 1) (dl_at t_X1_spot 11 rfl) ?_
  refine g_goto (pc := 22) X (off := 4) (tgt := 26) rfl (dl_at t_X1_spot 12 rfl) ?_
  exact J26 1 (Or.inr rfl)
def k_X0_spot : List (Nat × Instr × Nat) := [(0, .aload_n 3, 1), (1, .iconst 0, 1), (2, .aload_n 0, 1), (3, .iload_n 1, 1), (4, .iload_n 2, 1), (5, .invokevirtual 56, 3), (8, .lastore, 1), (9, .goto 11, 3), (12, .astore 4, 2), (14, .iconst 1, 1), (15, .ireturn, 1), (16, .astore 4, 2), (18, .iconst 2, 1), (19, .ireturn, 1), (20, .iconst 0, 1), (21, .ireturn, 1)]
theorem t_X0_spot : ∀ q ∈ k_X0_spot, decode cX0_spot q.1 = .ok q.2 := dl_all (by decide +kernel)
noncomputable def m_X0_spot (a0 a1 a2 a3 : Int) (h : Hp) : Option (Int × Hp) :=
  gd (h a0 (-2) = 16) (bT (m_X1_spot a0 a1 a2 h) (fun v5 h5_1 =>
  gd (h5_1 a3 (-2) % 16 = 4 ∧ (0 : Int) ≤ 0 ∧ 0 < h5_1 a3 (-1)) (pt h5_1 a3 0 v5 fun h8 =>
  some (0, h8))) (fun a5 h5 => if h5 a5 (-2) = 480 then (some (2, h5))
  else (if h5 a5 (-2) = 528 then (some (1, h5))
  else (none))))
theorem s_X0_spot {l : Launch} [NoTr l] {D : SD} {a0 a1 a2 a3 : Int} {h : Hp} (r1 : r32 a1) (r2 : r32 a2) {r : Int × Hp} (hm : m_X0_spot a0 a1 a2 a3 h = some r) : Sim l D yX0_spot (Cond.codeWith yX0_spot cX0_spot 5 (Option.some Jvm.ClassFile.FieldType.int) [((0 : Nat), (9 : Nat), (12 : Nat), (40 : Nat)), ((0 : Nat), (9 : Nat), (16 : Nat), (13 : Nat))]) 12 449 [rv D a0, iv a1, iv a2, rv D a3] h 1 ((0, r.1), r.2) := by
  refine Sim.of (fin := fun (v : Int × Hp) => ((0, v.1), v.2)) (lsE := [(0, rv D a0), (1, iv a1), (2, iv a2), (3, rv D a3)]) hm rfl cwS_with (la_r (la_i (la_i (la_r la_n)))) (ll_r (ll_i (ll_i (ll_r ll_n)))) ?_
  intro p e s m below meth c X hcw hmm hcc hnm hname
  have htb := tabW hcw hnm hmm hcc
  unfold m_X0_spot
  refine g_aload_n (pc := 0) X (j := 3) (i := 3) (q := 3) (x := a3) rfl rfl (dl_at t_X0_spot 0 rfl) ?_
  refine g_iconst (pc := 1) X (n := 0) (dl_at t_X0_spot 1 rfl) ?_
  refine g_aload_n (pc := 2) X (j := 0) (i := 0) (q := 0) (x := a0) rfl rfl (dl_at t_X0_spot 2 rfl) ?_
  refine g_iload_n (pc := 3) X (j := 1) (i := 1) (q := 1) (x := a1) rfl rfl (dl_at t_X0_spot 3 rfl) ?_
  refine g_iload_n (pc := 4) X (j := 2) (i := 2) (q := 2) (x := a2) rfl rfl (dl_at t_X0_spot 4 rfl) ?_
  refine g_gd fun k5 => ?_
  refine r_callTl (pc := 5) X (fun _ hv => s_X1_spot k5 r1 r2 hv) cw_code q3115 q355 (in_Vk X (As := [iv a1, iv a2]) kX1 k5 (Or.inl q3112) q3113 q3114 cw_code q3115 ⟨by decide, by decide⟩ rfl (dl_at t_X0_spot 5 rfl)) (dl_at t_X0_spot 5 rfl) (cat24 (st := [iv 0, rv D a3]) (Nat.le_of_ble_eq_true rfl)) (Nat.le_of_ble_eq_true rfl) (Nat.le_of_ble_eq_true rfl) (fun v5 h5_1 g5 E5_1 => ?_) (fun a5 h5 p5 E5 => ?_)
  · refine g_gd fun k8 => ?_
    refine r_last (pc := 8) X (r32_c rfl) g5 k8 (dl_at t_X0_spot 6 rfl) (fun h8 E8 => ?_)
    refine g_goto (pc := 9) X (off := 11) (tgt := 20) rfl (dl_at t_X0_spot 7 rfl) ?_
    refine g_iconst (pc := 20) X (n := 0) (dl_at t_X0_spot 14 rfl) ?_
    exact g_iret (pc := 21) X (r32_c rfl) rfl rfl (dl_at t_X0_spot 15 rfl)
  refine gt_case (fun k5_1 => ?_) (fun _ => ?_)
  · refine gt_catch (pc := 5) X kJ3 k5_1 [((0, 9, 12, 40), "java/lang/IllegalStateException", false), ((0, 9, 16, 13), "java/lang/IndexOutOfBoundsException", true)] (hp := 16) rfl (by decide +kernel) (List.forall_mem_cons.mpr ⟨⟨q2237, by decide⟩, (List.forall_mem_cons.mpr ⟨⟨q1565, by decide⟩, fun _ h => absurd h List.not_mem_nil⟩)⟩) htb ?_
    refine g_astore (pc := 16) X (i := 4) (x := a5) (rest := []) (Nat.le_of_ble_eq_true rfl) [] rfl rfl (dl_at t_X0_spot 11 rfl) ?_
    refine g_iconst (pc := 18) X (n := 2) (dl_at t_X0_spot 12 rfl) ?_
    exact g_iret (pc := 19) X (r32_c rfl) rfl rfl (dl_at t_X0_spot 13 rfl)
  refine gt_case (fun k5_2 => ?_) (fun _ => ?_)
  · refine gt_catch (pc := 5) X kJ11 k5_2 [((0, 9, 12, 40), "java/lang/IllegalStateException", true), ((0, 9, 16, 13), "java/lang/IndexOutOfBoundsException", false)] (hp := 12) rfl (by decide +kernel) (List.forall_mem_cons.mpr ⟨⟨q2237, by decide⟩, (List.forall_mem_cons.mpr ⟨⟨q1565, by decide⟩, fun _ h => absurd h List.not_mem_nil⟩)⟩) htb ?_
    refine g_astore (pc := 12) X (i := 4) (x := a5) (rest := []) (Nat.le_of_ble_eq_true rfl) [] rfl rfl (dl_at t_X0_spot 8 rfl) ?_
    refine g_iconst (pc := 14) X (n := 1) (dl_at t_X0_spot 9 rfl) ?_
    exact g_iret (pc := 15) X (r32_c rfl) rfl rfl (dl_at t_X0_spot 10 rfl)
  exact gt_none
def k_X1_paragraph : List (Nat × Instr × Nat) := [(0, .iload_n 2, 1), (1, .ifCond .lt 13, 3), (4, .iload_n 2, 1), (5, .bipush 6, 2), (7, .if_icmp .gt 7, 3), (10, .iconst 1, 1), (11, .goto 4, 3), (14, .iconst 0, 1), (15, .invokestatic 134, 3), (18, .aload_n 0, 1), (19, .getfield 169, 3), (22, .ifnull 7, 3), (25, .iconst 1, 1), (26, .goto 4, 3), (29, .iconst 0, 1), (30, .invokestatic 212, 3), (33, .iload_n 1, 1), (34, .ifCond .lt 18, 3), (37, .iload_n 1, 1), (38, .aload_n 0, 1), (39, .getfield 169, 3), (42, .getfield 318, 3), (45, .if_icmp .ge 7, 3), (48, .iconst 1, 1), (49, .goto 4, 3), (52, .iconst 0, 1), (53, .invokestatic 127, 3), (56, .aload_n 0, 1), (57, .getfield 169, 3), (60, .getfield 353, 3), (63, .iload_n 1, 1), (64, .aaload, 1), (65, .astore_n 3, 1), (66, .iload_n 2, 1), (104, .aload_n 3, 1), (105, .getfield 375, 3), (108, .lreturn, 1), (109, .aload_n 3, 1), (110, .getfield 379, 3), (113, .i2l, 1), (114, .lreturn, 1), (115, .aload_n 3, 1), (116, .getfield 380, 3), (119, .i2l, 1), (120, .lreturn, 1), (121, .aload_n 3, 1), (122, .getfield 381, 3), (125, .i2l, 1), (126, .lreturn, 1), (127, .aload_n 3, 1), (128, .getfield 382, 3), (131, .i2l, 1), (132, .lreturn, 1), (133, .aload_n 3, 1), (134, .getfield 385, 3), (137, .i2l, 1), (138, .lreturn, 1), (139, .aload_n 3, 1), (140, .getfield 386, 3), (143, .i2l, 1), (144, .lreturn, 1)]
theorem t_X1_paragraph : ∀ q ∈ k_X1_paragraph, decode cX1_paragraph q.1 = .ok q.2 := dl_all (by decide +kernel)
theorem dS_X1_paragraph_67 : decode cX1_paragraph 67 = .ok (.tableswitch 72 0 5 #[37, 42, 48, 54, 60, 66], 37) := by decide +kernel
noncomputable def m_X1_paragraph_j53 (a0 a1 a2 s0_53 : Int) (h30 : Hp) : Option ((Int × Int) × Hp) :=
  bT (m_X1_room s0_53 h30) (fun _ h53 =>
  gd (h53 (h53 a0 18) (-2) = 224) (gd (h53 (h53 (h53 a0 18) 10) (-2) % 16 = 9 ∧ (0 : Int) ≤ a1 ∧ a1 < h53 (h53 (h53 a0 18) 10) (-1)) (lt_ (h53 (h53 (h53 a0 18) 10) a1) fun x3_65 =>
  if a2 = 0 then (gd (h53 x3_65 (-2) = 288) (some ((0, (h53 x3_65 19)), h53)))
  else (if a2 = 1 then (gd (h53 x3_65 (-2) = 288) (some ((0, (h53 x3_65 18)), h53)))
  else (if a2 = 2 then (gd (h53 x3_65 (-2) = 288) (some ((0, (h53 x3_65 16)), h53)))
  else (if a2 = 3 then (gd (h53 x3_65 (-2) = 288) (some ((0, (h53 x3_65 20)), h53)))
  else (if a2 = 4 then (gd (h53 x3_65 (-2) = 288) (some ((0, (h53 x3_65 4)), h53)))
  else (if a2 = 5 then (gd (h53 x3_65 (-2) = 288) (some ((0, (h53 x3_65 2)), h53)))
  else (gd (h53 x3_65 (-2) = 288) (some ((0, (h53 x3_65 3)), h53))))))))))) (fun a_ h_ => some ((1, a_), h_))
noncomputable def m_X1_paragraph_j52 (a0 a1 a2 : Int) (h30 : Hp) : Option ((Int × Int) × Hp) :=
  m_X1_paragraph_j53 a0 a1 a2 0 h30
noncomputable def m_X1_paragraph_j30 (a0 a1 a2 s0_30 : Int) (h15 : Hp) : Option ((Int × Int) × Hp) :=
  bT (m_X1_state s0_30 h15) (fun _ h30 =>
  if a1 < 0 then (m_X1_paragraph_j52 a0 a1 a2 h30)
  else (gd (h30 (h30 a0 18) (-2) = 224) (if (h30 (h30 a0 18) 11) ≤ a1 then (m_X1_paragraph_j52 a0 a1 a2 h30)
  else (m_X1_paragraph_j53 a0 a1 a2 1 h30)))) (fun a_ h_ => some ((1, a_), h_))
noncomputable def m_X1_paragraph_j15 (a0 a1 a2 s0_15 : Int) (h : Hp) : Option ((Int × Int) × Hp) :=
  bT (m_X1_good s0_15 h) (fun _ h15 =>
  if (h15 a0 18) = 0 then (m_X1_paragraph_j30 a0 a1 a2 0 h15)
  else (m_X1_paragraph_j30 a0 a1 a2 1 h15)) (fun a_ h_ => some ((1, a_), h_))
noncomputable def m_X1_paragraph_j14 (a0 a1 a2 : Int) (h : Hp) : Option ((Int × Int) × Hp) :=
  m_X1_paragraph_j15 a0 a1 a2 0 h
noncomputable def m_X1_paragraph (a0 a1 a2 : Int) (h : Hp) : Option ((Int × Int) × Hp) :=
  if a2 < 0 then (m_X1_paragraph_j14 a0 a1 a2 h)
  else (if 6 < a2 then (m_X1_paragraph_j14 a0 a1 a2 h)
  else (m_X1_paragraph_j15 a0 a1 a2 1 h))
theorem s_X1_paragraph {l : Launch} [NoTr l] {D : SD} {a0 a1 a2 : Int} {h : Hp} (hk : h a0 (-2) = 16) (r1 : r32 a1) (r2 : r32 a2) {r : (Int × Int) × Hp} (hm : m_X1_paragraph a0 a1 a2 h = some r) : Sim l D yX1_paragraph (Cond.code yX1_paragraph cX1_paragraph 4 (Option.some Jvm.ClassFile.FieldType.long)) 10 372 [rv D a0, iv a1, iv a2] h 4 r := by
  refine Sim.of (fin := fun (v : (Int × Int) × Hp) => v) (lsE := [(0, rv D a0), (1, iv a1), (2, iv a2)]) hm rfl cwS_code (la_r (la_i (la_i la_n))) (ll_r (ll_i (ll_i ll_n))) ?_
  intro p e s m below meth c X hcw hmm hcc hnm hname
  have hno := noh hcw hnm hmm hcc
  unfold m_X1_paragraph
  refine g_iload_n (pc := 0) X (j := 2) (i := 2) (q := 2) (x := a2) rfl rfl (dl_at t_X1_paragraph 0 rfl) ?_
  refine g_join (γ := Int) (fun q => (q = 0 ∨ q = 1)) 15 (fun q => [(0, rv D a0), (1, iv a1), (2, iv a2)]) (fun q => [iv q]) (fun q => h) (fun q => m_X1_paragraph_j15 a0 a1 a2 q h) ?_ ?_
  · rintro s0_15 rs0_15
    try dsimp only
    unfold m_X1_paragraph_j15
    refine r_callTv (pc := 15) X (fun _ hv => s_X1_good rs0_15 hv) cw_code q1689 q355 (in_Sc X (As := [iv s0_15]) (Or.inl q1687) q1688 q355 q1689 ⟨by decide, by decide⟩ rfl (dl_at t_X1_paragraph 8 rfl)) (dl_at t_X1_paragraph 8 rfl) (cat24 (st := []) (Nat.le_of_ble_eq_true rfl)) (Nat.le_of_ble_eq_true rfl) (Nat.le_of_ble_eq_true rfl) (fun v15 h15 E15 => ?_) (fun _ _ ha _ => gt_at fun Q hQ => gt_out (Q := Q) X rfl ha (hno _) _ Q rfl hQ)
    refine g_aload_n (pc := 18) X (j := 0) (i := 0) (q := 0) (x := a0) rfl rfl (dl_at t_X1_paragraph 9 rfl) ?_
    have k19 := kx E15 (by decide) hk
    refine r_getr (pc := 19) X fX1_18 k19 q1506 (dl_at t_X1_paragraph 10 rfl) ?_
    refine g_join (γ := Int) (fun q => (q = 0 ∨ q = 1)) 30 (fun q => [(0, rv D a0), (1, iv a1), (2, iv a2)]) (fun q => [iv q]) (fun q => h15) (fun q => m_X1_paragraph_j30 a0 a1 a2 q h15) ?_ ?_
    · rintro s0_30 rs0_30
      try dsimp only
      unfold m_X1_paragraph_j30
      refine r_callTv (pc := 30) X (fun _ hv => s_X1_state rs0_30 hv) cw_code q2244 q355 (in_Sc X (As := [iv s0_30]) (Or.inl q2242) q2243 q355 q2244 ⟨by decide, by decide⟩ rfl (dl_at t_X1_paragraph 15 rfl)) (dl_at t_X1_paragraph 15 rfl) (cat24 (st := []) (Nat.le_of_ble_eq_true rfl)) (Nat.le_of_ble_eq_true rfl) (Nat.le_of_ble_eq_true rfl) (fun v30 h30 E30 => ?_) (fun _ _ ha _ => gt_at fun Q hQ => gt_out (Q := Q) X rfl ha (hno _) _ Q rfl hQ)
      refine g_iload_n (pc := 33) X (j := 1) (i := 1) (q := 1) (x := a1) rfl rfl (dl_at t_X1_paragraph 16 rfl) ?_
      refine g_join (γ := Int) (fun q => (q = 0 ∨ q = 1)) 53 (fun q => [(0, rv D a0), (1, iv a1), (2, iv a2)]) (fun q => [iv q]) (fun q => h30) (fun q => m_X1_paragraph_j53 a0 a1 a2 q h30) ?_ ?_
      · rintro s0_53 rs0_53
        try dsimp only
        unfold m_X1_paragraph_j53
        refine r_callTv (pc := 53) X (fun _ hv => s_X1_room rs0_53 hv) cw_code q1653 q355 (in_Sc X (As := [iv s0_53]) (Or.inl q1651) q1652 q355 q1653 ⟨by decide, by decide⟩ rfl (dl_at t_X1_paragraph 26 rfl)) (dl_at t_X1_paragraph 26 rfl) (cat24 (st := []) (Nat.le_of_ble_eq_true rfl)) (Nat.le_of_ble_eq_true rfl) (Nat.le_of_ble_eq_true rfl) (fun v53 h53 E53 => ?_) (fun _ _ ha _ => gt_at fun Q hQ => gt_out (Q := Q) X rfl ha (hno _) _ Q rfl hQ)
        refine g_aload_n (pc := 56) X (j := 0) (i := 0) (q := 0) (x := a0) rfl rfl (dl_at t_X1_paragraph 27 rfl) ?_
        have k57 := kx (E30.trans E53) (by decide) k19
        refine r_getr (pc := 57) X fX1_18 k57 q1506 (dl_at t_X1_paragraph 28 rfl) ?_
        refine g_gd fun k60 => ?_
        refine r_getrN (pc := 60) X fX14_10 k60 (nw_in q1257 rfl) (dl_at t_X1_paragraph 29 rfl) ?_
        refine g_iload_n (pc := 63) X (j := 1) (i := 1) (q := 1) (x := a1) rfl rfl (dl_at t_X1_paragraph 30 rfl) ?_
        refine g_gd fun k64 => ?_
        refine g_aald (pc := 64) X 9 (Nat.le_of_ble_eq_true rfl) (Nat.le_of_ble_eq_true rfl) r1 rfl k64 (dl_at t_X1_paragraph 31 rfl) ?_
        refine g_ltr fun x3_65 => ?_
        refine g_astore_nN (pc := 65) X (j := 3) (i := 3) (x := x3_65) (b := 2) (w := iv a2) (rest := []) rfl (Nat.le_of_ble_eq_true rfl) [2] rfl (by decide) rfl rfl (dl_at t_X1_paragraph 32 rfl) ?_
        refine g_iload_n (pc := 66) X (j := 2) (i := 2) (q := 1) (x := a2) rfl rfl (dl_at t_X1_paragraph 33 rfl) ?_
        refine g_case (fun w67 => ?_) (fun nw67 => ?_)
        · refine g_tabIn (pc := 67) X (off := 37) (tgt := 104) r2 w67 (by decide) (by decide) rfl rfl dS_X1_paragraph_67 ?_
          refine g_aload_n (pc := 104) X (j := 3) (i := 3) (q := 0) (x := x3_65) rfl rfl (dl_at t_X1_paragraph 34 rfl) ?_
          refine g_gd fun k105 => ?_
          refine r_getlN (pc := 105) X fX28_19 k105 (nw_in q2565 rfl) (dl_at t_X1_paragraph 35 rfl) fun g105 => ?_
          exact g_lret (pc := 108) X g105 rfl rfl (dl_at t_X1_paragraph 36 rfl)
        refine g_case (fun w67_1 => ?_) (fun nw67_1 => ?_)
        · refine g_tabIn (pc := 67) X (off := 42) (tgt := 109) r2 w67_1 (by decide) (by decide) rfl rfl dS_X1_paragraph_67 ?_
          refine g_aload_n (pc := 109) X (j := 3) (i := 3) (q := 0) (x := x3_65) rfl rfl (dl_at t_X1_paragraph 37 rfl) ?_
          refine g_gd fun k110 => ?_
          refine r_getiN (pc := 110) X fX28_18 k110 (nw_in q2562 rfl) (dl_at t_X1_paragraph 38 rfl) fun g110 => ?_
          refine g_i2l (pc := 113) X g110 (dl_at t_X1_paragraph 39 rfl) ?_
          exact g_lret (pc := 114) X (r64_of g110) rfl rfl (dl_at t_X1_paragraph 40 rfl)
        refine g_case (fun w67_2 => ?_) (fun nw67_2 => ?_)
        · refine g_tabIn (pc := 67) X (off := 48) (tgt := 115) r2 w67_2 (by decide) (by decide) rfl rfl dS_X1_paragraph_67 ?_
          refine g_aload_n (pc := 115) X (j := 3) (i := 3) (q := 0) (x := x3_65) rfl rfl (dl_at t_X1_paragraph 41 rfl) ?_
          refine g_gd fun k116 => ?_
          refine r_getiN (pc := 116) X fX28_16 k116 (nw_in q2559 rfl) (dl_at t_X1_paragraph 42 rfl) fun g116 => ?_
          refine g_i2l (pc := 119) X g116 (dl_at t_X1_paragraph 43 rfl) ?_
          exact g_lret (pc := 120) X (r64_of g116) rfl rfl (dl_at t_X1_paragraph 44 rfl)
        refine g_case (fun w67_3 => ?_) (fun nw67_3 => ?_)
        · refine g_tabIn (pc := 67) X (off := 54) (tgt := 121) r2 w67_3 (by decide) (by decide) rfl rfl dS_X1_paragraph_67 ?_
          refine g_aload_n (pc := 121) X (j := 3) (i := 3) (q := 0) (x := x3_65) rfl rfl (dl_at t_X1_paragraph 45 rfl) ?_
          refine g_gd fun k122 => ?_
          refine r_getiN (pc := 122) X fX28_20 k122 (nw_in q2567 rfl) (dl_at t_X1_paragraph 46 rfl) fun g122 => ?_
          refine g_i2l (pc := 125) X g122 (dl_at t_X1_paragraph 47 rfl) ?_
          exact g_lret (pc := 126) X (r64_of g122) rfl rfl (dl_at t_X1_paragraph 48 rfl)
        refine g_case (fun w67_4 => ?_) (fun nw67_4 => ?_)
        · refine g_tabIn (pc := 67) X (off := 60) (tgt := 127) r2 w67_4 (by decide) (by decide) rfl rfl dS_X1_paragraph_67 ?_
          refine g_aload_n (pc := 127) X (j := 3) (i := 3) (q := 0) (x := x3_65) rfl rfl (dl_at t_X1_paragraph 49 rfl) ?_
          refine g_gd fun k128 => ?_
          refine r_getiN (pc := 128) X fX28_4 k128 (nw_in q2540 rfl) (dl_at t_X1_paragraph 50 rfl) fun g128 => ?_
          refine g_i2l (pc := 131) X g128 (dl_at t_X1_paragraph 51 rfl) ?_
          exact g_lret (pc := 132) X (r64_of g128) rfl rfl (dl_at t_X1_paragraph 52 rfl)
        refine g_case (fun w67_5 => ?_) (fun nw67_5 => ?_)
        · refine g_tabIn (pc := 67) X (off := 66) (tgt := 133) r2 w67_5 (by decide) (by decide) rfl rfl dS_X1_paragraph_67 ?_
          refine g_aload_n (pc := 133) X (j := 3) (i := 3) (q := 0) (x := x3_65) rfl rfl (dl_at t_X1_paragraph 53 rfl) ?_
          refine g_gd fun k134 => ?_
          refine r_getiN (pc := 134) X fX28_2 k134 (nw_in q2534 rfl) (dl_at t_X1_paragraph 54 rfl) fun g134 => ?_
          refine g_i2l (pc := 137) X g134 (dl_at t_X1_paragraph 55 rfl) ?_
          exact g_lret (pc := 138) X (r64_of g134) rfl rfl (dl_at t_X1_paragraph 56 rfl)
        have w67_6 : ¬ a2 ∈ ([0, 1, 2, 3, 4, 5] : List Int) := by simp only [List.mem_cons, List.not_mem_nil, or_false, not_or] at *; simp only [*, not_false_eq_true, and_self]
        refine g_tabElse (pc := 67) X (tgt := 139) [0, 1, 2, 3, 4, 5] r2 w67_6 rfl rfl dS_X1_paragraph_67 ?_
        refine g_aload_n (pc := 139) X (j := 3) (i := 3) (q := 0) (x := x3_65) rfl rfl (dl_at t_X1_paragraph 57 rfl) ?_
        refine g_gd fun k140 => ?_
        refine r_getiN (pc := 140) X fX28_3 k140 (nw_in q2536 rfl) (dl_at t_X1_paragraph 58 rfl) fun g140 => ?_
        refine g_i2l (pc := 143) X g140 (dl_at t_X1_paragraph 59 rfl) ?_
        exact g_lret (pc := 144) X (r64_of g140) rfl rfl (dl_at t_X1_paragraph 60 rfl)
      intro J53
      refine g_join (γ := Unit) (fun q => True) 52 (fun q => [(0, rv D a0), (1, iv a1), (2, iv a2)]) (fun q => []) (fun q => h30) (fun q => m_X1_paragraph_j52 a0 a1 a2 h30) ?_ ?_
      · rintro _ _
        try dsimp only
        unfold m_X1_paragraph_j52
        refine g_iconst (pc := 52) X (n := 0) (dl_at t_X1_paragraph 25 rfl) ?_
        exact J53 0 (Or.inl rfl)
      intro J52
      refine g_iflt (pc := 34) X r1 (off := 18) (tgt := 52) rfl (dl_at t_X1_paragraph 17 rfl) (fun _ => ?_) (fun _ => ?_)
      · exact J52 () trivial
      refine g_iload_n (pc := 37) X (j := 1) (i := 1) (q := 1) (x := a1) rfl rfl (dl_at t_X1_paragraph 18 rfl) ?_
      refine g_aload_n (pc := 38) X (j := 0) (i := 0) (q := 0) (x := a0) rfl rfl (dl_at t_X1_paragraph 19 rfl) ?_
      have k39 := kx E30 (by decide) k19
      refine r_getr (pc := 39) X fX1_18 k39 q1506 (dl_at t_X1_paragraph 20 rfl) ?_
      refine g_gd fun k42 => ?_
      refine r_getiN (pc := 42) X fX14_11 k42 (nw_in q1259 rfl) (dl_at t_X1_paragraph 21 rfl) fun g42 => ?_
      refine g_icmpge (pc := 45) X r1 g42 (off := 7) (tgt := 52) rfl (dl_at t_X1_paragraph 22 rfl) (fun _ => ?_) (fun _ => ?_)
      · exact J52 () trivial
      refine g_iconst (pc := 48) X (n := 1) (dl_at t_X1_paragraph 23 rfl) ?_
      refine g_goto (pc := 49) X (off := 4) (tgt := 53) rfl (dl_at t_X1_paragraph 24 rfl) ?_
      exact J53 1 (Or.inr rfl)
    intro J30
    refine g_ifnull (pc := 22) X (off := 7) (tgt := 29) rfl (dl_at t_X1_paragraph 11 rfl) (fun _ => ?_) (fun _ => ?_)
    · refine g_iconst (pc := 29) X (n := 0) (dl_at t_X1_paragraph 14 rfl) ?_
      exact J30 0 (Or.inl rfl)
    refine g_iconst (pc := 25) X (n := 1) (dl_at t_X1_paragraph 12 rfl) ?_
    refine g_goto (pc := 26) X (off := 4) (tgt := 30) rfl (dl_at t_X1_paragraph 13 rfl) ?_
    exact J30 1 (Or.inr rfl)
  intro J15
  refine g_join (γ := Unit) (fun q => True) 14 (fun q => [(0, rv D a0), (1, iv a1), (2, iv a2)]) (fun q => []) (fun q => h) (fun q => m_X1_paragraph_j14 a0 a1 a2 h) ?_ ?_
  · rintro _ _
    try dsimp only
    unfold m_X1_paragraph_j14
    refine g_iconst (pc := 14) X (n := 0) (dl_at t_X1_paragraph 7 rfl) ?_
    exact J15 0 (Or.inl rfl)
  intro J14
  refine g_iflt (pc := 1) X r2 (off := 13) (tgt := 14) rfl (dl_at t_X1_paragraph 1 rfl) (fun _ => ?_) (fun _ => ?_)
  · exact J14 () trivial
  refine g_iload_n (pc := 4) X (j := 2) (i := 2) (q := 2) (x := a2) rfl rfl (dl_at t_X1_paragraph 2 rfl) ?_
  refine g_bipush (pc := 5) X (n := 6) rfl (dl_at t_X1_paragraph 3 rfl) ?_
  refine g_icmpgt (pc := 7) X r2 (r32_c rfl) (off := 7) (tgt := 14) rfl (dl_at t_X1_paragraph 4 rfl) (fun _ => ?_) (fun _ => ?_)
  · exact J14 () trivial
  refine g_iconst (pc := 10) X (n := 1) (dl_at t_X1_paragraph 5 rfl) ?_
  refine g_goto (pc := 11) X (off := 4) (tgt := 15) rfl (dl_at t_X1_paragraph 6 rfl) ?_
  exact J15 1 (Or.inr rfl)
def k_X0_paragraph : List (Nat × Instr × Nat) := [(0, .aload_n 3, 1), (1, .iconst 0, 1), (2, .aload_n 0, 1), (3, .iload_n 1, 1), (4, .iload_n 2, 1), (5, .invokevirtual 60, 3), (8, .lastore, 1), (9, .goto 15, 3), (12, .astore 4, 2), (14, .iconst 1, 1), (15, .ireturn, 1), (16, .astore 4, 2), (18, .iconst 2, 1), (19, .ireturn, 1), (20, .astore 4, 2), (22, .iconst 3, 1), (23, .ireturn, 1), (24, .iconst 0, 1), (25, .ireturn, 1)]
theorem t_X0_paragraph : ∀ q ∈ k_X0_paragraph, decode cX0_paragraph q.1 = .ok q.2 := dl_all (by decide +kernel)
noncomputable def m_X0_paragraph (a0 a1 a2 a3 : Int) (h : Hp) : Option (Int × Hp) :=
  gd (h a0 (-2) = 16) (bT (m_X1_paragraph a0 a1 a2 h) (fun v5 h5_1 =>
  gd (h5_1 a3 (-2) % 16 = 4 ∧ (0 : Int) ≤ 0 ∧ 0 < h5_1 a3 (-1)) (pt h5_1 a3 0 v5 fun h8 =>
  some (0, h8))) (fun a5 h5 => if h5 a5 (-2) = 480 then (some (3, h5))
  else (if h5 a5 (-2) = 496 then (some (1, h5))
  else (if h5 a5 (-2) = 528 then (some (2, h5))
  else (none)))))
theorem s_X0_paragraph {l : Launch} [NoTr l] {D : SD} {a0 a1 a2 a3 : Int} {h : Hp} (r1 : r32 a1) (r2 : r32 a2) {r : Int × Hp} (hm : m_X0_paragraph a0 a1 a2 a3 h = some r) : Sim l D yX0_paragraph (Cond.codeWith yX0_paragraph cX0_paragraph 5 (Option.some Jvm.ClassFile.FieldType.int) [((0 : Nat), (9 : Nat), (12 : Nat), (19 : Nat)), ((0 : Nat), (9 : Nat), (16 : Nat), (40 : Nat)), ((0 : Nat), (9 : Nat), (20 : Nat), (13 : Nat))]) 11 411 [rv D a0, iv a1, iv a2, rv D a3] h 1 ((0, r.1), r.2) := by
  refine Sim.of (fin := fun (v : Int × Hp) => ((0, v.1), v.2)) (lsE := [(0, rv D a0), (1, iv a1), (2, iv a2), (3, rv D a3)]) hm rfl cwS_with (la_r (la_i (la_i (la_r la_n)))) (ll_r (ll_i (ll_i (ll_r ll_n)))) ?_
  intro p e s m below meth c X hcw hmm hcc hnm hname
  have htb := tabW hcw hnm hmm hcc
  unfold m_X0_paragraph
  refine g_aload_n (pc := 0) X (j := 3) (i := 3) (q := 3) (x := a3) rfl rfl (dl_at t_X0_paragraph 0 rfl) ?_
  refine g_iconst (pc := 1) X (n := 0) (dl_at t_X0_paragraph 1 rfl) ?_
  refine g_aload_n (pc := 2) X (j := 0) (i := 0) (q := 0) (x := a0) rfl rfl (dl_at t_X0_paragraph 2 rfl) ?_
  refine g_iload_n (pc := 3) X (j := 1) (i := 1) (q := 1) (x := a1) rfl rfl (dl_at t_X0_paragraph 3 rfl) ?_
  refine g_iload_n (pc := 4) X (j := 2) (i := 2) (q := 2) (x := a2) rfl rfl (dl_at t_X0_paragraph 4 rfl) ?_
  refine g_gd fun k5 => ?_
  refine r_callTl (pc := 5) X (fun _ hv => s_X1_paragraph k5 r1 r2 hv) cw_code q3132 q355 (in_Vk X (As := [iv a1, iv a2]) kX1 k5 (Or.inl q3129) q3130 q3131 cw_code q3132 ⟨by decide, by decide⟩ rfl (dl_at t_X0_paragraph 5 rfl)) (dl_at t_X0_paragraph 5 rfl) (cat24 (st := [iv 0, rv D a3]) (Nat.le_of_ble_eq_true rfl)) (Nat.le_of_ble_eq_true rfl) (Nat.le_of_ble_eq_true rfl) (fun v5 h5_1 g5 E5_1 => ?_) (fun a5 h5 p5 E5 => ?_)
  · refine g_gd fun k8 => ?_
    refine r_last (pc := 8) X (r32_c rfl) g5 k8 (dl_at t_X0_paragraph 6 rfl) (fun h8 E8 => ?_)
    refine g_goto (pc := 9) X (off := 15) (tgt := 24) rfl (dl_at t_X0_paragraph 7 rfl) ?_
    refine g_iconst (pc := 24) X (n := 0) (dl_at t_X0_paragraph 17 rfl) ?_
    exact g_iret (pc := 25) X (r32_c rfl) rfl rfl (dl_at t_X0_paragraph 18 rfl)
  refine gt_case (fun k5_1 => ?_) (fun _ => ?_)
  · refine gt_catch (pc := 5) X kJ3 k5_1 [((0, 9, 12, 19), "java/lang/IllegalArgumentException", false), ((0, 9, 16, 40), "java/lang/IllegalStateException", false), ((0, 9, 20, 13), "java/lang/IndexOutOfBoundsException", true)] (hp := 20) rfl (by decide +kernel) (List.forall_mem_cons.mpr ⟨⟨q1682, by decide⟩, (List.forall_mem_cons.mpr ⟨⟨q2237, by decide⟩, (List.forall_mem_cons.mpr ⟨⟨q1565, by decide⟩, fun _ h => absurd h List.not_mem_nil⟩)⟩)⟩) htb ?_
    refine g_astore (pc := 20) X (i := 4) (x := a5) (rest := []) (Nat.le_of_ble_eq_true rfl) [] rfl rfl (dl_at t_X0_paragraph 14 rfl) ?_
    refine g_iconst (pc := 22) X (n := 3) (dl_at t_X0_paragraph 15 rfl) ?_
    exact g_iret (pc := 23) X (r32_c rfl) rfl rfl (dl_at t_X0_paragraph 16 rfl)
  refine gt_case (fun k5_2 => ?_) (fun _ => ?_)
  · refine gt_catch (pc := 5) X kJ6 k5_2 [((0, 9, 12, 19), "java/lang/IllegalArgumentException", true), ((0, 9, 16, 40), "java/lang/IllegalStateException", false), ((0, 9, 20, 13), "java/lang/IndexOutOfBoundsException", false)] (hp := 12) rfl (by decide +kernel) (List.forall_mem_cons.mpr ⟨⟨q1682, by decide⟩, (List.forall_mem_cons.mpr ⟨⟨q2237, by decide⟩, (List.forall_mem_cons.mpr ⟨⟨q1565, by decide⟩, fun _ h => absurd h List.not_mem_nil⟩)⟩)⟩) htb ?_
    refine g_astore (pc := 12) X (i := 4) (x := a5) (rest := []) (Nat.le_of_ble_eq_true rfl) [] rfl rfl (dl_at t_X0_paragraph 8 rfl) ?_
    refine g_iconst (pc := 14) X (n := 1) (dl_at t_X0_paragraph 9 rfl) ?_
    exact g_iret (pc := 15) X (r32_c rfl) rfl rfl (dl_at t_X0_paragraph 10 rfl)
  refine gt_case (fun k5_3 => ?_) (fun _ => ?_)
  · refine gt_catch (pc := 5) X kJ11 k5_3 [((0, 9, 12, 19), "java/lang/IllegalArgumentException", false), ((0, 9, 16, 40), "java/lang/IllegalStateException", true), ((0, 9, 20, 13), "java/lang/IndexOutOfBoundsException", false)] (hp := 16) rfl (by decide +kernel) (List.forall_mem_cons.mpr ⟨⟨q1682, by decide⟩, (List.forall_mem_cons.mpr ⟨⟨q2237, by decide⟩, (List.forall_mem_cons.mpr ⟨⟨q1565, by decide⟩, fun _ h => absurd h List.not_mem_nil⟩)⟩)⟩) htb ?_
    refine g_astore (pc := 16) X (i := 4) (x := a5) (rest := []) (Nat.le_of_ble_eq_true rfl) [] rfl rfl (dl_at t_X0_paragraph 11 rfl) ?_
    refine g_iconst (pc := 18) X (n := 2) (dl_at t_X0_paragraph 12 rfl) ?_
    exact g_iret (pc := 19) X (r32_c rfl) rfl rfl (dl_at t_X0_paragraph 13 rfl)
  exact gt_none
def k_X28_judge : List (Nat × Instr × Nat) := [(0, .lconst 0, 1), (1, .lstore_n 3, 1), (2, .iconst 0, 1), (3, .istore 5, 2), (5, .iconst 1, 1), (6, .istore 6, 2), (8, .iconst 0, 1), (9, .istore 7, 2), (11, .iload 7, 2), (13, .iload_n 2, 1), (14, .if_icmp .gt 97, 3), (17, .iload 7, 2), (19, .iload_n 2, 1), (20, .if_icmp .ge 10, 3), (23, .aload_n 1, 1), (24, .iload 7, 2), (26, .iaload, 1), (27, .goto 7, 3), (30, .aload_n 0, 1), (31, .getfield 75, 3), (34, .istore 8, 2), (36, .aload_n 0, 1), (37, .iload 5, 2), (39, .iload 8, 2), (41, .invokevirtual 204, 3), (44, .istore 9, 2), (46, .aload_n 0, 1), (47, .getfield 190, 3), (50, .sipush 10000, 3), (53, .if_icmp .gt 26, 3), (56, .iload 9, 2), (58, .ldc 166, 2), (60, .if_icmp .eq 15, 3), (63, .iload 9, 2), (65, .invokestatic 173, 3), (68, .aload_n 0, 1), (69, .getfield 190, 3), (72, .if_icmp .le 7, 3), (75, .ldc2_w 244, 3), (78, .lreturn, 1), (79, .lload_n 3, 1), (80, .aload_n 0, 1), (81, .iload 5, 2), (83, .iload 8, 2), (85, .iload 9, 2), (87, .iload 6, 2), (89, .invokevirtual 211, 3), (92, .ladd, 1), (93, .lstore_n 3, 1), (94, .iload 9, 2), (96, .invokestatic 187, 3), (99, .istore 6, 2), (101, .iload 8, 2), (103, .istore 5, 2), (105, .iinc 7 1, 3), (108, .goto (-97), 3), (111, .lload_n 3, 1), (112, .lreturn, 1)]
theorem t_X28_judge : ∀ q ∈ k_X28_judge, decode cX28_judge q.1 = .ok q.2 := dl_all (by decide +kernel)
noncomputable def m_X28_judge_j79 (v41 s0_34 x7_11 a0 x3_11 x5_11 x6_11 : Int) (h : Hp) : Option ((Int × Int × Int × Int) ⊕ ((Int))) :=
  (m_X28_costOf a0 x5_11 s0_34 v41 x6_11 h).bind fun v89 =>
  lt_ (w64 (x3_11 + v89)) fun x3_93 =>
  (m_X28_classOf v41).bind fun v96 =>
  lt_ (w32 (x7_11 + 1)) fun x7_105 =>
  some (.inl (x3_93, s0_34, v96, x7_105))
noncomputable def m_X28_judge_j34 (a0 x3_11 x5_11 x6_11 x7_11 s0_34 : Int) (h : Hp) : Option ((Int × Int × Int × Int) ⊕ ((Int))) :=
  (m_X28_ratio a0 x5_11 s0_34 h).bind fun v41 =>
  if 10000 < (h a0 20) then (m_X28_judge_j79 v41 s0_34 x7_11 a0 x3_11 x5_11 x6_11 h)
  else (if v41 = (-1000000) then (some (.inr (-1)))
  else ((m_X28_badness v41).bind fun v65 =>
  if v65 ≤ (h a0 20) then (m_X28_judge_j79 v41 s0_34 x7_11 a0 x3_11 x5_11 x6_11 h)
  else (some (.inr (-1)))))
noncomputable def m_X28_judge_l11 (a0 a1 a2 x3_11 x5_11 x6_11 x7_11 : Int) (h : Hp) : Option ((Int × Int × Int × Int) ⊕ ((Int))) :=
  if a2 < x7_11 then (some (.inr x3_11))
  else (if a2 ≤ x7_11 then (m_X28_judge_j34 a0 x3_11 x5_11 x6_11 x7_11 (h a0 16) h)
  else (gd (h a1 (-2) % 16 = 1 ∧ (0 : Int) ≤ x7_11 ∧ x7_11 < h a1 (-1)) (m_X28_judge_j34 a0 x3_11 x5_11 x6_11 x7_11 (h a1 x7_11) h)))
noncomputable def m_X28_judge (a0 a1 a2 : Int) (h : Hp) : Option (Int) :=
  lt_ 0 fun x3_1 =>
  lt_ 0 fun x5_3 =>
  lt_ 1 fun x6_6 =>
  lt_ 0 fun x7_9 =>
  (lp (fun (q : Int × Int × Int × Int) => m_X28_judge_l11 a0 a1 a2 q.1 q.2.1 q.2.2.1 q.2.2.2 h) (x3_1, x5_3, x6_6, x7_9)).bind (fun (x : Int) => some x)
theorem s_X28_judge {l : Launch} [NoTr l] {D : SD} {a0 a1 a2 : Int} {h : Hp} (hk : h a0 (-2) = 288) (r2 : r32 a2) {r : Int} (hm : m_X28_judge a0 a1 a2 h = some r) : Sim l D yX28_judge (Cond.code yX28_judge cX28_judge 10 (Option.some Jvm.ClassFile.FieldType.long)) 3 123 [rv D a0, rv D a1, iv a2] h 4 ((0, r), h) := by
  refine Sim.of (fin := fun (v : Int) => ((0, v), h)) (lsE := [(0, rv D a0), (1, rv D a1), (2, iv a2)]) hm rfl cwS_code (la_r (la_r (la_i la_n))) (ll_r (ll_r (ll_i ll_n))) ?_
  intro p e s m below meth c X hcw hmm hcc hnm hname
  unfold m_X28_judge
  refine g_lconst0 (pc := 0) X (dl_at t_X28_judge 0 rfl) ?_
  refine g_ltl (r64_c rfl) fun x3_1 r3_1 => ?_
  refine g_lstore_nN (pc := 1) X (j := 3) (i := 3) (x := x3_1) (b := 2) (w := iv a2) (rest := [(0, rv D a0), (1, rv D a1)]) rfl (Nat.le_of_ble_eq_true rfl) [2, 0, 1] rfl (by decide) (by decide) rfl rfl (dl_at t_X28_judge 1 rfl) ?_
  refine g_iconst (pc := 2) X (n := 0) (dl_at t_X28_judge 2 rfl) ?_
  refine g_ltz (Or.inl rfl) fun x5_3 r5_3 => ?_
  refine g_istore (pc := 3) X (i := 5) (x := x5_3) (rest := [(3, jv x3_1), (2, iv a2), (0, rv D a0), (1, rv D a1)]) (Nat.le_of_ble_eq_true rfl) [0, 1, 2, 3] rfl rfl (dl_at t_X28_judge 3 rfl) ?_
  refine g_iconst (pc := 5) X (n := 1) (dl_at t_X28_judge 4 rfl) ?_
  refine g_ltz (Or.inr rfl) fun x6_6 r6_6 => ?_
  refine g_istoreN (pc := 6) X (i := 6) (x := x6_6) (b := 5) (w := iv x5_3) (rest := [(3, jv x3_1), (2, iv a2), (0, rv D a0), (1, rv D a1)]) (Nat.le_of_ble_eq_true rfl) [0, 1, 2, 3, 4] rfl (by decide) rfl rfl (dl_at t_X28_judge 5 rfl) ?_
  refine g_iconst (pc := 8) X (n := 0) (dl_at t_X28_judge 6 rfl) ?_
  refine g_ltz (Or.inl rfl) fun x7_9 r7_9 => ?_
  refine g_istoreN (pc := 9) X (i := 7) (x := x7_9) (b := 6) (w := iv x6_6) (rest := [(5, iv x5_3), (3, jv x3_1), (2, iv a2), (0, rv D a0), (1, rv D a1)]) (Nat.le_of_ble_eq_true rfl) [0, 1, 2, 3, 4, 5] rfl (by decide) rfl rfl (dl_at t_X28_judge 7 rfl) ?_
  refine g_ls (ls2 := [(0, rv D a0), (1, rv D a1), (2, iv a2), (3, jv x3_1), (5, iv x5_3), (6, iv x6_6), (7, iv x7_9)]) [5, 6, 4, 3, 2, 1, 0] rfl ?_
  refine g_loop0F (fun (q : Int × Int × Int × Int) => [(0, rv D a0), (1, rv D a1), (2, iv a2), (3, jv q.1), (5, iv q.2.1), (6, iv q.2.2.1), (7, iv q.2.2.2)]) (fun (q : Int × Int × Int × Int) => h) (fun (q : Int × Int × Int × Int) => r64 q.1 ∧ r32 q.2.1 ∧ r32 q.2.2.1 ∧ r32 q.2.2.2) (x3_1, x5_3, x6_6, x7_9) ⟨r3_1, (r32_z r5_3), (r32_z r6_6), (r32_z r7_9)⟩ ?_ (fun _ => rfl)
  · rintro ⟨x3_11, x5_11, x6_11, x7_11⟩ ⟨r3_11, r5_11, r6_11, r7_11⟩
    try dsimp only
    unfold m_X28_judge_l11
    refine g_iload (pc := 11) X (i := 7) (q := 6) (x := x7_11) rfl (dl_at t_X28_judge 8 rfl) ?_
    refine g_iload_n (pc := 13) X (j := 2) (i := 2) (q := 2) (x := a2) rfl rfl (dl_at t_X28_judge 9 rfl) ?_
    refine g_icmpgt (pc := 14) X r7_11 r2 (off := 97) (tgt := 111) rfl (dl_at t_X28_judge 10 rfl) (fun _ => ?_) (fun _ => ?_)
    · refine g_lload_n (pc := 111) X (j := 3) (i := 3) (q := 3) (x := x3_11) rfl rfl (dl_at t_X28_judge 56 rfl) ?_
      exact g_at fun Q hQ => (g_lret (pc := 112) X r3_11 rfl rfl (dl_at t_X28_judge 57 rfl)) _ Q rfl hQ
    refine g_iload (pc := 17) X (i := 7) (q := 6) (x := x7_11) rfl (dl_at t_X28_judge 11 rfl) ?_
    refine g_iload_n (pc := 19) X (j := 2) (i := 2) (q := 2) (x := a2) rfl rfl (dl_at t_X28_judge 12 rfl) ?_
    refine g_join (γ := Int) (fun q => r32 q) 34 (fun q => [(0, rv D a0), (1, rv D a1), (2, iv a2), (3, jv x3_11), (5, iv x5_11), (6, iv x6_11), (7, iv x7_11)]) (fun q => [iv q]) (fun q => h) (fun q => m_X28_judge_j34 a0 x3_11 x5_11 x6_11 x7_11 q h) ?_ ?_
    · rintro s0_34 rs0_34
      try dsimp only
      unfold m_X28_judge_j34
      refine g_istoreN (pc := 34) X (i := 8) (x := s0_34) (b := 7) (w := iv x7_11) (rest := [(0, rv D a0), (1, rv D a1), (2, iv a2), (3, jv x3_11), (5, iv x5_11), (6, iv x6_11)]) (Nat.le_of_ble_eq_true rfl) [6, 0, 1, 2, 3, 4, 5] rfl (by decide) rfl rfl (dl_at t_X28_judge 20 rfl) ?_
      refine g_aload_n (pc := 36) X (j := 0) (i := 0) (q := 2) (x := a0) rfl rfl (dl_at t_X28_judge 21 rfl) ?_
      refine g_iload (pc := 37) X (i := 5) (q := 6) (x := x5_11) rfl (dl_at t_X28_judge 22 rfl) ?_
      refine g_iload (pc := 39) X (i := 8) (q := 0) (x := s0_34) rfl (dl_at t_X28_judge 23 rfl) ?_
      refine r_callRi (pc := 41) X (fun _ hv => s_X28_ratio hk r5_11 rs0_34 hv) cw_code q2878 q396 (in_Vk X (As := [iv x5_11, iv s0_34]) kX28 hk (Or.inl q2875) q2877 qs178 cw_code q2878 ⟨by decide, by decide⟩ rfl (dl_at t_X28_judge 24 rfl)) (dl_at t_X28_judge 24 rfl) (cat24 (st := []) (Nat.le_of_ble_eq_true rfl)) (Nat.le_of_ble_eq_true rfl) (Nat.le_of_ble_eq_true rfl) fun v41 g41 => ?_
      refine g_istoreN (pc := 44) X (i := 9) (x := v41) (b := 8) (w := iv s0_34) (rest := [(7, iv x7_11), (0, rv D a0), (1, rv D a1), (2, iv a2), (3, jv x3_11), (5, iv x5_11), (6, iv x6_11)]) (Nat.le_of_ble_eq_true rfl) [0, 1, 2, 3, 4, 5, 6, 7] rfl (by decide) rfl rfl (dl_at t_X28_judge 25 rfl) ?_
      refine g_aload_n (pc := 46) X (j := 0) (i := 0) (q := 3) (x := a0) rfl rfl (dl_at t_X28_judge 26 rfl) ?_
      refine r_geti (pc := 47) X fX28_20 hk q2566 (dl_at t_X28_judge 27 rfl) fun g47 => ?_
      refine g_sipush (pc := 50) X (n := 10000) rfl (dl_at t_X28_judge 28 rfl) ?_
      refine g_join (γ := Unit) (fun q => True) 79 (fun q => [(0, rv D a0), (1, rv D a1), (2, iv a2), (3, jv x3_11), (5, iv x5_11), (6, iv x6_11), (7, iv x7_11), (8, iv s0_34), (9, iv v41)]) (fun q => []) (fun q => h) (fun q => m_X28_judge_j79 v41 s0_34 x7_11 a0 x3_11 x5_11 x6_11 h) ?_ ?_
      · rintro _ _
        try dsimp only
        unfold m_X28_judge_j79
        refine g_lload_n (pc := 79) X (j := 3) (i := 3) (q := 3) (x := x3_11) rfl rfl (dl_at t_X28_judge 40 rfl) ?_
        refine g_aload_n (pc := 80) X (j := 0) (i := 0) (q := 0) (x := a0) rfl rfl (dl_at t_X28_judge 41 rfl) ?_
        refine g_iload (pc := 81) X (i := 5) (q := 4) (x := x5_11) rfl (dl_at t_X28_judge 42 rfl) ?_
        refine g_iload (pc := 83) X (i := 8) (q := 7) (x := s0_34) rfl (dl_at t_X28_judge 43 rfl) ?_
        refine g_iload (pc := 85) X (i := 9) (q := 8) (x := v41) rfl (dl_at t_X28_judge 44 rfl) ?_
        refine g_iload (pc := 87) X (i := 6) (q := 5) (x := x6_11) rfl (dl_at t_X28_judge 45 rfl) ?_
        refine r_callRl (pc := 89) X (fun _ hv => s_X28_costOf hk r5_11 rs0_34 g41 r6_11 hv) cw_code q2911 q396 (in_Vk X (As := [iv x5_11, iv s0_34, iv v41, iv x6_11]) kX28 hk (Or.inl q2908) q2910 qs183 cw_code q2911 ⟨by decide, by decide⟩ rfl (dl_at t_X28_judge 46 rfl)) (dl_at t_X28_judge 46 rfl) (cat24 (st := [jv x3_11]) (Nat.le_of_ble_eq_true rfl)) (Nat.le_of_ble_eq_true rfl) (Nat.le_of_ble_eq_true rfl) fun v89 g89 => ?_
        refine g_ladd (pc := 92) X r3_11 g89 (dl_at t_X28_judge 47 rfl) ?_
        refine g_ltl (r64_w _) fun x3_93 r3_93 => ?_
        refine g_lstore_nN (pc := 93) X (j := 3) (i := 3) (x := x3_93) (b := 2) (w := iv a2) (rest := [(0, rv D a0), (1, rv D a1), (7, iv x7_11), (8, iv s0_34), (9, iv v41)]) rfl (Nat.le_of_ble_eq_true rfl) [2, 0, 1, 6, 7, 8] rfl (by decide) (by decide) rfl rfl (dl_at t_X28_judge 48 rfl) ?_
        refine g_iload (pc := 94) X (i := 9) (q := 6) (x := v41) rfl (dl_at t_X28_judge 49 rfl) ?_
        refine r_callRi (pc := 96) X (fun _ hv => s_X28_classOf g41 hv) cw_code q2907 q396 (in_Sc X (As := [iv v41]) (Or.inl q2905) q2906 q396 q2907 ⟨by decide, by decide⟩ rfl (dl_at t_X28_judge 50 rfl)) (dl_at t_X28_judge 50 rfl) (cat24 (st := []) (Nat.le_of_ble_eq_true rfl)) (Nat.le_of_ble_eq_true rfl) (Nat.le_of_ble_eq_true rfl) fun v96 g96 => ?_
        refine g_istore (pc := 99) X (i := 6) (x := v96) (rest := [(3, jv x3_93), (2, iv a2), (0, rv D a0), (1, rv D a1), (7, iv x7_11), (8, iv s0_34)]) (Nat.le_of_ble_eq_true rfl) [0, 1, 2, 3, 4, 5] rfl rfl (dl_at t_X28_judge 51 rfl) ?_
        refine g_iload (pc := 101) X (i := 8) (q := 6) (x := s0_34) rfl (dl_at t_X28_judge 52 rfl) ?_
        refine g_istore (pc := 103) X (i := 5) (x := s0_34) (rest := [(6, iv v96), (3, jv x3_93), (2, iv a2), (0, rv D a0), (1, rv D a1), (7, iv x7_11)]) (Nat.le_of_ble_eq_true rfl) [0, 1, 2, 3, 4, 5] rfl rfl (dl_at t_X28_judge 53 rfl) ?_
        refine r_iincN (pc := 105) X (i := 7) (q := 6) (n := 1) (x := x7_11) (b := 6) (w := iv v96) (rest := [(5, iv s0_34), (3, jv x3_93), (2, iv a2), (0, rv D a0), (1, rv D a1)]) rfl r7_11 (r32_c rfl) (Nat.le_of_ble_eq_true rfl) [1, 0, 2, 3, 4, 5] rfl (by decide) rfl rfl (dl_at t_X28_judge 54 rfl) fun x7_105 r7_105 => ?_
        refine g_goto (pc := 108) X (off := (-97)) (tgt := 11) rfl (dl_at t_X28_judge 55 rfl) ?_
        refine g_ls (ls2 := [(0, rv D a0), (1, rv D a1), (2, iv a2), (3, jv x3_93), (5, iv s0_34), (6, iv v96), (7, iv x7_105)]) [5, 6, 4, 3, 2, 1, 0] rfl ?_
        exact g_at fun Q hQ => hQ ⟨r3_93, rs0_34, g96, r7_105⟩
      intro J79
      refine g_icmpgt (pc := 53) X g47 (r32_c rfl) (off := 26) (tgt := 79) rfl (dl_at t_X28_judge 29 rfl) (fun _ => ?_) (fun _ => ?_)
      · refine g_ls (ls2 := [(0, rv D a0), (1, rv D a1), (2, iv a2), (3, jv x3_11), (5, iv x5_11), (6, iv x6_11), (7, iv x7_11), (8, iv s0_34), (9, iv v41)]) [3, 4, 5, 6, 7, 8, 2, 1, 0] rfl ?_
        exact J79 () trivial
      refine g_iload (pc := 56) X (i := 9) (q := 0) (x := v41) rfl (dl_at t_X28_judge 30 rfl) ?_
      refine g_ldc (pc := 58) X (index := 166) (n := (-1000000)) (cneg (by decide) q2894) (dl_at t_X28_judge 31 rfl) ?_
      refine g_icmpeq (pc := 60) X g41 (r32_c rfl) (off := 15) (tgt := 75) rfl (dl_at t_X28_judge 32 rfl) (fun _ => ?_) (fun _ => ?_)
      · refine g_ldc2 (pc := 75) X (index := 244) (n := (-1)) (cnegL (by decide) q3125) (dl_at t_X28_judge 38 rfl) ?_
        exact g_at fun Q hQ => (g_lret (pc := 78) X (r64_c rfl) rfl rfl (dl_at t_X28_judge 39 rfl)) _ Q rfl hQ
      refine g_iload (pc := 63) X (i := 9) (q := 0) (x := v41) rfl (dl_at t_X28_judge 33 rfl) ?_
      refine r_callRi (pc := 65) X (fun _ hv => s_X28_badness g41 hv) cw_code q2897 q396 (in_Sc X (As := [iv v41]) (Or.inl q2895) q2896 q396 q2897 ⟨by decide, by decide⟩ rfl (dl_at t_X28_judge 34 rfl)) (dl_at t_X28_judge 34 rfl) (cat24 (st := []) (Nat.le_of_ble_eq_true rfl)) (Nat.le_of_ble_eq_true rfl) (Nat.le_of_ble_eq_true rfl) fun v65 g65 => ?_
      refine g_aload_n (pc := 68) X (j := 0) (i := 0) (q := 3) (x := a0) rfl rfl (dl_at t_X28_judge 35 rfl) ?_
      refine r_geti (pc := 69) X fX28_20 hk q2566 (dl_at t_X28_judge 36 rfl) fun g69 => ?_
      refine g_icmple (pc := 72) X g65 g69 (off := 7) (tgt := 79) rfl (dl_at t_X28_judge 37 rfl) (fun _ => ?_) (fun _ => ?_)
      · refine g_ls (ls2 := [(0, rv D a0), (1, rv D a1), (2, iv a2), (3, jv x3_11), (5, iv x5_11), (6, iv x6_11), (7, iv x7_11), (8, iv s0_34), (9, iv v41)]) [3, 4, 5, 6, 7, 8, 2, 1, 0] rfl ?_
        exact J79 () trivial
      refine g_ldc2 (pc := 75) X (index := 244) (n := (-1)) (cnegL (by decide) q3125) (dl_at t_X28_judge 38 rfl) ?_
      exact g_at fun Q hQ => (g_lret (pc := 78) X (r64_c rfl) rfl rfl (dl_at t_X28_judge 39 rfl)) _ Q rfl hQ
    intro J34
    refine g_icmpge (pc := 20) X r7_11 r2 (off := 10) (tgt := 30) rfl (dl_at t_X28_judge 13 rfl) (fun _ => ?_) (fun _ => ?_)
    · refine g_aload_n (pc := 30) X (j := 0) (i := 0) (q := 0) (x := a0) rfl rfl (dl_at t_X28_judge 18 rfl) ?_
      refine r_geti (pc := 31) X fX28_16 hk q2558 (dl_at t_X28_judge 19 rfl) fun g31 => ?_
      exact J34 (h a0 16) g31
    refine g_aload_n (pc := 23) X (j := 1) (i := 1) (q := 1) (x := a1) rfl rfl (dl_at t_X28_judge 14 rfl) ?_
    refine g_iload (pc := 24) X (i := 7) (q := 6) (x := x7_11) rfl (dl_at t_X28_judge 15 rfl) ?_
    refine g_gd fun k26 => ?_
    refine g_iald (pc := 26) X r7_11 k26 (dl_at t_X28_judge 16 rfl) fun g26 => ?_
    refine g_goto (pc := 27) X (off := 7) (tgt := 34) rfl (dl_at t_X28_judge 17 rfl) ?_
    exact J34 (h a1 x7_11) g26
def k_X1_judge : List (Nat × Instr × Nat) := [(0, .aload_n 0, 1), (1, .getfield 169, 3), (4, .ifnull 7, 3), (7, .iconst 1, 1), (8, .goto 4, 3), (11, .iconst 0, 1), (12, .invokestatic 212, 3), (15, .aload_n 0, 1), (16, .invokevirtual 143, 3), (19, .istore_n 2, 1), (20, .iload_n 1, 1), (21, .ifCond .lt 18, 3), (24, .iload_n 1, 1), (25, .aload_n 0, 1), (26, .getfield 169, 3), (29, .getfield 318, 3), (32, .if_icmp .ge 7, 3), (35, .iconst 1, 1), (36, .goto 4, 3), (39, .iconst 0, 1), (40, .invokestatic 127, 3), (43, .aload_n 0, 1), (44, .getfield 169, 3), (47, .getfield 353, 3), (50, .iload_n 1, 1), (51, .aaload, 1), (52, .astore_n 3, 1), (53, .iconst 0, 1), (54, .istore 4, 2), (56, .iconst 0, 1), (57, .istore 5, 2), (59, .iload 5, 2), (61, .iload_n 2, 1), (62, .if_icmp .ge 204, 3), (65, .aload_n 0, 1), (66, .getfield 22, 3), (69, .iload 5, 2), (71, .baload, 1), (72, .invokestatic 389, 3), (75, .ifCond .eq 9, 3), (78, .iinc 5 1, 3), (81, .goto (-22), 3), (84, .iload 5, 2), (86, .istore 6, 2), (88, .iconst 0, 1), (89, .istore 7, 2), (91, .iload 5, 2), (93, .iload_n 2, 1), (94, .if_icmp .ge 49, 3), (97, .aload_n 0, 1), (98, .getfield 22, 3), (101, .iload 5, 2), (103, .baload, 1), (104, .invokestatic 392, 3), (107, .ifCond .eq 36, 3), (110, .iload 7, 2), (112, .aload_n 3, 1), (113, .getfield 380, 3), (116, .if_icmp .ge 21, 3), (119, .bipush 10, 2), (121, .iload 7, 2), (123, .imul, 1), (124, .aload_n 0, 1), (125, .getfield 22, 3), (128, .iload 5, 2), (130, .baload, 1), (131, .iadd, 1), (132, .bipush 48, 2), (134, .isub, 1), (135, .istore 7, 2), (137, .iinc 5 1, 3), (140, .goto (-49), 3), (143, .iload 5, 2), (145, .iload 6, 2), (147, .if_icmp .le 49, 3), (150, .iload 5, 2), (152, .iload 6, 2), (154, .isub, 1), (155, .bipush 7, 2), (157, .if_icmp .gt 39, 3), (160, .iload 7, 2), (162, .aload_n 3, 1), (163, .getfield 380, 3), (166, .if_icmp .ge 30, 3), (169, .iload 7, 2), (171, .iload 4, 2), (173, .ifCond .ne 7, 3), (176, .iconst 0, 1), (177, .goto 12, 3), (180, .aload_n 0, 1), (181, .getfield 120, 3), (184, .iload 4, 2), (186, .iconst 1, 1), (187, .isub, 1), (188, .iaload, 1), (189, .if_icmp .le 7, 3), (192, .iconst 1, 1), (193, .goto 4, 3), (196, .iconst 0, 1), (197, .istore 8, 2), (199, .iload 8, 2), (201, .ifCond .ne 17, 3), (204, .aload_n 0, 1), (205, .new 138, 3), (208, .dup, 1), (209, .iload 6, 2), (211, .invokespecial 395, 3), (214, .invokevirtual 154, 3), (217, .athrow, 1), (218, .iload 5, 2), (220, .iload_n 2, 1), (221, .if_icmp .ge 30, 3), (224, .aload_n 0, 1), (225, .getfield 22, 3), (228, .iload 5, 2), (230, .baload, 1), (231, .invokestatic 389, 3), (234, .ifCond .ne 17, 3), (237, .aload_n 0, 1), (238, .new 138, 3), (241, .dup, 1), (242, .iload 5, 2), (244, .invokespecial 395, 3), (247, .invokevirtual 154, 3), (250, .athrow, 1), (251, .aload_n 0, 1), (252, .getfield 120, 3), (255, .iload 4, 2), (257, .iload 7, 2), (259, .iastore, 1), (260, .iinc 4 1, 3), (263, .goto (-204), 3), (266, .aload_n 3, 1), (267, .aload_n 0, 1), (268, .getfield 120, 3), (271, .iload 4, 2), (273, .invokevirtual 396, 3), (276, .lreturn, 1)]
theorem t_X1_judge : ∀ q ∈ k_X1_judge, decode cX1_judge q.1 = .ok q.2 := dl_all (by decide +kernel)
noncomputable def m_X1_judge_j137 (x5_91 x7_137 : Int) : Option ((Int × Int) ⊕ ((Int × Int))) :=
  lt_ (w32 (x5_91 + 1)) fun x5_137 =>
  some (.inl (x5_137, x7_137))
noncomputable def m_X1_judge_l91 (a0 v16 x3_52 x5_91 x7_91 : Int) (h_59 : Hp) : Option ((Int × Int) ⊕ ((Int × Int))) :=
  if v16 ≤ x5_91 then (some (.inr (x5_91, x7_91)))
  else (gd (h_59 (h_59 a0 0) (-2) % 16 = 2 ∧ (0 : Int) ≤ x5_91 ∧ x5_91 < h_59 (h_59 a0 0) (-1)) ((m_X1_isDigit (h_59 (h_59 a0 0) x5_91)).bind fun v104 =>
  if v104 = 0 then (some (.inr (x5_91, x7_91)))
  else (gd (h_59 x3_52 (-2) = 288) (if (h_59 x3_52 16) ≤ x7_91 then (m_X1_judge_j137 x5_91 x7_91)
  else (lt_ (w32 ((w32 ((w32 (10 * x7_91)) + (h_59 (h_59 a0 0) x5_91))) - 48)) fun x7_135 =>
  m_X1_judge_j137 x5_91 x7_135)))))
noncomputable def m_X1_judge_j251 (x7_143 a0 x4_59 x5_143 : Int) (h_59 : Hp) : Option ((Int × Int × Hp) ⊕ (((Int × Int) × Hp))) :=
  gd (h_59 (h_59 a0 22) (-2) % 16 = 1 ∧ (0 : Int) ≤ x4_59 ∧ x4_59 < h_59 (h_59 a0 22) (-1)) (pt h_59 (h_59 a0 22) x4_59 x7_143 fun h259 =>
  lt_ (w32 (x4_59 + 1)) fun x4_260 =>
  some (.inl (x4_260, x5_143, h259)))
noncomputable def m_X1_judge_j197 (a0 v16 x4_59 x5_143 x5_59 x7_143 s0_197 : Int) (h_59 : Hp) : Option ((Int × Int × Hp) ⊕ (((Int × Int) × Hp))) :=
  if s0_197 ≠ 0 then (if v16 ≤ x5_143 then (m_X1_judge_j251 x7_143 a0 x4_59 x5_143 h_59)
  else (gd (h_59 (h_59 a0 0) (-2) % 16 = 2 ∧ (0 : Int) ≤ x5_143 ∧ x5_143 < h_59 (h_59 a0 0) (-1)) ((m_X1_isBlank (h_59 (h_59 a0 0) x5_143)).bind fun v231 =>
  if v231 ≠ 0 then (m_X1_judge_j251 x7_143 a0 x4_59 x5_143 h_59)
  else (al h_59 432 7 fun a238 h238 =>
  (x_broken a238 x5_143 h238).bind fun h244 =>
  bW (m_X1_broken a0 a238 h244) fun v247 h247 =>
  gd (0 < v247) (some (.inr ((1, v247), h247)))))))
  else (al h_59 432 7 fun a205 h205 =>
  (x_broken a205 x5_59 h205).bind fun h211 =>
  bW (m_X1_broken a0 a205 h211) fun v214 h214 =>
  gd (0 < v214) (some (.inr ((1, v214), h214))))
noncomputable def m_X1_judge_j196 (a0 v16 x4_59 x5_143 x5_59 x7_143 : Int) (h_59 : Hp) : Option ((Int × Int × Hp) ⊕ (((Int × Int) × Hp))) :=
  m_X1_judge_j197 a0 v16 x4_59 x5_143 x5_59 x7_143 0 h_59
noncomputable def m_X1_judge_j189 (a0 v16 x4_59 x5_143 x5_59 x7_143 s1_189 : Int) (h_59 : Hp) : Option ((Int × Int × Hp) ⊕ (((Int × Int) × Hp))) :=
  if x7_143 ≤ s1_189 then (m_X1_judge_j196 a0 v16 x4_59 x5_143 x5_59 x7_143 h_59)
  else (m_X1_judge_j197 a0 v16 x4_59 x5_143 x5_59 x7_143 1 h_59)
noncomputable def m_X1_judge_l59 (a0 v16 x3_52 x4_59 x5_59 : Int) (h_59 : Hp) : Option ((Int × Int × Hp) ⊕ (((Int × Int) × Hp))) :=
  if v16 ≤ x5_59 then (gd (h_59 x3_52 (-2) = 288) ((m_X28_judge x3_52 (h_59 a0 22) x4_59 h_59).bind fun v273 =>
  some (.inr ((0, v273), h_59))))
  else (gd (h_59 (h_59 a0 0) (-2) % 16 = 2 ∧ (0 : Int) ≤ x5_59 ∧ x5_59 < h_59 (h_59 a0 0) (-1)) ((m_X1_isBlank (h_59 (h_59 a0 0) x5_59)).bind fun v72 =>
  if v72 = 0 then (lt_ 0 fun x7_89 =>
  (lp (fun (q : Int × Int) => m_X1_judge_l91 a0 v16 x3_52 q.1 q.2 h_59) (x5_59, x7_89)).bind (fun (y143 : Int × Int) => if y143.1 ≤ x5_59 then (m_X1_judge_j196 a0 v16 x4_59 y143.1 x5_59 y143.2 h_59)
  else (if 7 < (w32 (y143.1 - x5_59)) then (m_X1_judge_j196 a0 v16 x4_59 y143.1 x5_59 y143.2 h_59)
  else (gd (h_59 x3_52 (-2) = 288) (if (h_59 x3_52 16) ≤ y143.2 then (m_X1_judge_j196 a0 v16 x4_59 y143.1 x5_59 y143.2 h_59)
  else (if x4_59 ≠ 0 then (gd (h_59 (h_59 a0 22) (-2) % 16 = 1 ∧ (0 : Int) ≤ (w32 (x4_59 - 1)) ∧ (w32 (x4_59 - 1)) < h_59 (h_59 a0 22) (-1)) (m_X1_judge_j189 a0 v16 x4_59 y143.1 x5_59 y143.2 (h_59 (h_59 a0 22) (w32 (x4_59 - 1))) h_59))
  else (m_X1_judge_j189 a0 v16 x4_59 y143.1 x5_59 y143.2 0 h_59)))))))
  else (lt_ (w32 (x5_59 + 1)) fun x5_78 =>
  some (.inl (x4_59, x5_78, h_59)))))
noncomputable def m_X1_judge_j40 (v16 a1 a0 s0_40 : Int) (h16 : Hp) : Option ((Int × Int) × Hp) :=
  bT (m_X1_room s0_40 h16) (fun _ h40 =>
  gd (h40 (h40 a0 18) (-2) = 224) (gd (h40 (h40 (h40 a0 18) 10) (-2) % 16 = 9 ∧ (0 : Int) ≤ a1 ∧ a1 < h40 (h40 (h40 a0 18) 10) (-1)) (lt_ (h40 (h40 (h40 a0 18) 10) a1) fun x3_52 =>
  lt_ 0 fun x4_54 =>
  lt_ 0 fun x5_57 =>
  (lp (fun (q : Int × Int × Hp) => m_X1_judge_l59 a0 v16 x3_52 q.1 q.2.1 q.2.2) (x4_54, x5_57, h40)).bind (fun (x : (Int × Int) × Hp) => some x)))) (fun a_ h_ => some ((1, a_), h_))
noncomputable def m_X1_judge_j39 (v16 a1 a0 : Int) (h16 : Hp) : Option ((Int × Int) × Hp) :=
  m_X1_judge_j40 v16 a1 a0 0 h16
noncomputable def m_X1_judge_j12 (a0 a1 s0_12 : Int) (h : Hp) : Option ((Int × Int) × Hp) :=
  bT (m_X1_state s0_12 h) (fun _ h12 =>
  bW (m_X1_take a0 h12) fun v16 h16 =>
  if a1 < 0 then (m_X1_judge_j39 v16 a1 a0 h16)
  else (gd (h16 (h16 a0 18) (-2) = 224) (if (h16 (h16 a0 18) 11) ≤ a1 then (m_X1_judge_j39 v16 a1 a0 h16)
  else (m_X1_judge_j40 v16 a1 a0 1 h16)))) (fun a_ h_ => some ((1, a_), h_))
noncomputable def m_X1_judge (a0 a1 : Int) (h : Hp) : Option ((Int × Int) × Hp) :=
  if (h a0 18) = 0 then (m_X1_judge_j12 a0 a1 0 h)
  else (m_X1_judge_j12 a0 a1 1 h)
theorem s_X1_judge {l : Launch} [NoTr l] {D : SD} {a0 a1 : Int} {h : Hp} (hk : h a0 (-2) = 16) (r1 : r32 a1) {r : (Int × Int) × Hp} (hm : m_X1_judge a0 a1 h = some r) : Sim l D yX1_judge (Cond.code yX1_judge cX1_judge 9 (Option.some Jvm.ClassFile.FieldType.long)) 10 373 [rv D a0, iv a1] h 4 r := by
  refine Sim.of (fin := fun (v : (Int × Int) × Hp) => v) (lsE := [(0, rv D a0), (1, iv a1)]) hm rfl cwS_code (la_r (la_i la_n)) (ll_r (ll_i ll_n)) ?_
  intro p e s m below meth c X hcw hmm hcc hnm hname
  have hno := noh hcw hnm hmm hcc
  unfold m_X1_judge
  refine g_aload_n (pc := 0) X (j := 0) (i := 0) (q := 0) (x := a0) rfl rfl (dl_at t_X1_judge 0 rfl) ?_
  refine r_getr (pc := 1) X fX1_18 hk q1506 (dl_at t_X1_judge 1 rfl) ?_
  refine g_join (γ := Int) (fun q => (q = 0 ∨ q = 1)) 12 (fun q => [(0, rv D a0), (1, iv a1)]) (fun q => [iv q]) (fun q => h) (fun q => m_X1_judge_j12 a0 a1 q h) ?_ ?_
  · rintro s0_12 rs0_12
    try dsimp only
    unfold m_X1_judge_j12
    refine r_callTv (pc := 12) X (fun _ hv => s_X1_state rs0_12 hv) cw_code q2244 q355 (in_Sc X (As := [iv s0_12]) (Or.inl q2242) q2243 q355 q2244 ⟨by decide, by decide⟩ rfl (dl_at t_X1_judge 6 rfl)) (dl_at t_X1_judge 6 rfl) (cat24 (st := []) (Nat.le_of_ble_eq_true rfl)) (Nat.le_of_ble_eq_true rfl) (Nat.le_of_ble_eq_true rfl) (fun v12 h12 E12 => ?_) (fun _ _ ha _ => gt_at fun Q hQ => gt_out (Q := Q) X rfl ha (hno _) _ Q rfl hQ)
    refine g_aload_n (pc := 15) X (j := 0) (i := 0) (q := 0) (x := a0) rfl rfl (dl_at t_X1_judge 7 rfl) ?_
    have k16 := kx E12 (by decide) hk
    refine r_callWi (pc := 16) X (fun _ hv => s_X1_take k16 hv) cw_code q1717 q355 (in_Vk X (As := []) kX1 k16 (Or.inl q1714) q1716 qs6 cw_code q1717 ⟨by decide, by decide⟩ rfl (dl_at t_X1_judge 8 rfl)) (dl_at t_X1_judge 8 rfl) (cat24 (st := []) (Nat.le_of_ble_eq_true rfl)) (Nat.le_of_ble_eq_true rfl) (Nat.le_of_ble_eq_true rfl) fun v16 h16 g16 E16 => ?_
    refine g_istore_nN (pc := 19) X (j := 2) (i := 2) (x := v16) (b := 1) (w := iv a1) (rest := [(0, rv D a0)]) rfl (Nat.le_of_ble_eq_true rfl) [1, 0] rfl (by decide) rfl rfl (dl_at t_X1_judge 9 rfl) ?_
    refine g_iload_n (pc := 20) X (j := 1) (i := 1) (q := 1) (x := a1) rfl rfl (dl_at t_X1_judge 10 rfl) ?_
    refine g_join (γ := Int) (fun q => (q = 0 ∨ q = 1)) 40 (fun q => [(0, rv D a0), (1, iv a1), (2, iv v16)]) (fun q => [iv q]) (fun q => h16) (fun q => m_X1_judge_j40 v16 a1 a0 q h16) ?_ ?_
    · rintro s0_40 rs0_40
      try dsimp only
      unfold m_X1_judge_j40
      refine r_callTv (pc := 40) X (fun _ hv => s_X1_room rs0_40 hv) cw_code q1653 q355 (in_Sc X (As := [iv s0_40]) (Or.inl q1651) q1652 q355 q1653 ⟨by decide, by decide⟩ rfl (dl_at t_X1_judge 20 rfl)) (dl_at t_X1_judge 20 rfl) (cat24 (st := []) (Nat.le_of_ble_eq_true rfl)) (Nat.le_of_ble_eq_true rfl) (Nat.le_of_ble_eq_true rfl) (fun v40 h40 E40 => ?_) (fun _ _ ha _ => gt_at fun Q hQ => gt_out (Q := Q) X rfl ha (hno _) _ Q rfl hQ)
      refine g_aload_n (pc := 43) X (j := 0) (i := 0) (q := 0) (x := a0) rfl rfl (dl_at t_X1_judge 21 rfl) ?_
      have k44 := kx (E16.trans E40) (by decide) k16
      refine r_getr (pc := 44) X fX1_18 k44 q1506 (dl_at t_X1_judge 22 rfl) ?_
      refine g_gd fun k47 => ?_
      refine r_getrN (pc := 47) X fX14_10 k47 (nw_in q1257 rfl) (dl_at t_X1_judge 23 rfl) ?_
      refine g_iload_n (pc := 50) X (j := 1) (i := 1) (q := 1) (x := a1) rfl rfl (dl_at t_X1_judge 24 rfl) ?_
      refine g_gd fun k51 => ?_
      refine g_aald (pc := 51) X 9 (Nat.le_of_ble_eq_true rfl) (Nat.le_of_ble_eq_true rfl) r1 rfl k51 (dl_at t_X1_judge 25 rfl) ?_
      refine g_ltr fun x3_52 => ?_
      refine g_astore_nN (pc := 52) X (j := 3) (i := 3) (x := x3_52) (b := 2) (w := iv v16) (rest := [(0, rv D a0)]) rfl (Nat.le_of_ble_eq_true rfl) [2, 0] rfl (by decide) rfl rfl (dl_at t_X1_judge 26 rfl) ?_
      refine g_iconst (pc := 53) X (n := 0) (dl_at t_X1_judge 27 rfl) ?_
      refine g_ltz (Or.inl rfl) fun x4_54 r4_54 => ?_
      refine g_istoreN (pc := 54) X (i := 4) (x := x4_54) (b := 3) (w := rv D x3_52) (rest := [(2, iv v16), (0, rv D a0)]) (Nat.le_of_ble_eq_true rfl) [0, 1, 2] rfl (by decide) rv_cat rfl (dl_at t_X1_judge 28 rfl) ?_
      refine g_iconst (pc := 56) X (n := 0) (dl_at t_X1_judge 29 rfl) ?_
      refine g_ltz (Or.inl rfl) fun x5_57 r5_57 => ?_
      refine g_istoreN (pc := 57) X (i := 5) (x := x5_57) (b := 4) (w := iv x4_54) (rest := [(3, rv D x3_52), (2, iv v16), (0, rv D a0)]) (Nat.le_of_ble_eq_true rfl) [0, 1, 2, 3] rfl (by decide) rfl rfl (dl_at t_X1_judge 30 rfl) ?_
      refine g_ls (ls2 := [(0, rv D a0), (2, iv v16), (3, rv D x3_52), (4, iv x4_54), (5, iv x5_57)]) [4, 3, 2, 1, 0] rfl ?_
      refine g_loop0F (fun (q : Int × Int × Hp) => [(0, rv D a0), (2, iv v16), (3, rv D x3_52), (4, iv q.1), (5, iv q.2.1)]) (fun (q : Int × Int × Hp) => q.2.2) (fun (q : Int × Int × Hp) => r32 q.1 ∧ r32 q.2.1 ∧ Ext h40 q.2.2) (x4_54, x5_57, h40) ⟨(r32_z r4_54), (r32_z r5_57), (Ext.refl _)⟩ ?_ (fun _ => rfl)
      · rintro ⟨x4_59, x5_59, h_59⟩ ⟨r4_59, r5_59, E_59⟩
        try dsimp only
        unfold m_X1_judge_l59
        refine g_iload (pc := 59) X (i := 5) (q := 4) (x := x5_59) rfl (dl_at t_X1_judge 31 rfl) ?_
        refine g_iload_n (pc := 61) X (j := 2) (i := 2) (q := 1) (x := v16) rfl rfl (dl_at t_X1_judge 32 rfl) ?_
        refine g_icmpge (pc := 62) X r5_59 g16 (off := 204) (tgt := 266) rfl (dl_at t_X1_judge 33 rfl) (fun _ => ?_) (fun _ => ?_)
        · refine g_aload_n (pc := 266) X (j := 3) (i := 3) (q := 2) (x := x3_52) rfl rfl (dl_at t_X1_judge 132 rfl) ?_
          refine g_aload_n (pc := 267) X (j := 0) (i := 0) (q := 0) (x := a0) rfl rfl (dl_at t_X1_judge 133 rfl) ?_
          have k268 := kx E_59 (by decide) k44
          refine r_getr (pc := 268) X fX1_22 k268 q1510 (dl_at t_X1_judge 134 rfl) ?_
          refine g_iload (pc := 271) X (i := 4) (q := 3) (x := x4_59) rfl (dl_at t_X1_judge 135 rfl) ?_
          refine g_gd fun k273 => ?_
          refine r_callRl (pc := 273) X (fun _ hv => s_X28_judge k273 r4_59 hv) cw_code q3146 q396 (in_Vk X (As := [rv D (h_59 a0 22), iv x4_59]) kX28 k273 (Or.inr ⟨_, nw_in q3143 rfl⟩) q3145 qs224 cw_code q3146 ⟨by decide, by decide⟩ rfl (dl_at t_X1_judge 136 rfl)) (dl_at t_X1_judge 136 rfl) (cat24 (st := []) (Nat.le_of_ble_eq_true rfl)) (Nat.le_of_ble_eq_true rfl) (Nat.le_of_ble_eq_true rfl) fun v273 g273 => ?_
          exact g_at fun Q hQ => (g_lret (pc := 276) X g273 rfl rfl (dl_at t_X1_judge 137 rfl)) _ Q rfl hQ
        refine g_aload_n (pc := 65) X (j := 0) (i := 0) (q := 0) (x := a0) rfl rfl (dl_at t_X1_judge 34 rfl) ?_
        have k66 := kx E_59 (by decide) k44
        refine r_getr (pc := 66) X fX1_0 k66 q1488 (dl_at t_X1_judge 35 rfl) ?_
        refine g_iload (pc := 69) X (i := 5) (q := 4) (x := x5_59) rfl (dl_at t_X1_judge 36 rfl) ?_
        refine g_gd fun k71 => ?_
        refine g_bald (pc := 71) X r5_59 k71 (dl_at t_X1_judge 37 rfl) fun g71 => ?_
        refine r_callRz (pc := 72) X (fun _ hv => s_X1_isBlank (r32_b g71) hv) cw_code q1732 q355 (in_Sc X (As := [iv (h_59 (h_59 a0 0) x5_59)]) (Or.inl q3140) q1731 q355 q1732 ⟨by decide, by decide⟩ rfl (dl_at t_X1_judge 38 rfl)) (dl_at t_X1_judge 38 rfl) (cat24 (st := []) (Nat.le_of_ble_eq_true rfl)) (Nat.le_of_ble_eq_true rfl) (Nat.le_of_ble_eq_true rfl) fun v72 g72 => ?_
        refine g_ifeq (pc := 75) X (r32_z g72) (off := 9) (tgt := 84) rfl (dl_at t_X1_judge 39 rfl) (fun _ => ?_) (fun _ => ?_)
        · refine g_iload (pc := 84) X (i := 5) (q := 4) (x := x5_59) rfl (dl_at t_X1_judge 42 rfl) ?_
          refine g_istoreN (pc := 86) X (i := 6) (x := x5_59) (b := 5) (w := iv x5_59) (rest := [(0, rv D a0), (2, iv v16), (3, rv D x3_52), (4, iv x4_59)]) (Nat.le_of_ble_eq_true rfl) [4, 0, 1, 2, 3] rfl (by decide) rfl rfl (dl_at t_X1_judge 43 rfl) ?_
          refine g_iconst (pc := 88) X (n := 0) (dl_at t_X1_judge 44 rfl) ?_
          refine g_ltz (Or.inl rfl) fun x7_89 r7_89 => ?_
          refine g_istoreN (pc := 89) X (i := 7) (x := x7_89) (b := 6) (w := iv x5_59) (rest := [(5, iv x5_59), (0, rv D a0), (2, iv v16), (3, rv D x3_52), (4, iv x4_59)]) (Nat.le_of_ble_eq_true rfl) [0, 1, 2, 3, 4, 5] rfl (by decide) rfl rfl (dl_at t_X1_judge 45 rfl) ?_
          refine g_ls (ls2 := [(0, rv D a0), (2, iv v16), (3, rv D x3_52), (4, iv x4_59), (5, iv x5_59), (6, iv x5_59), (7, iv x7_89)]) [3, 4, 5, 6, 2, 1, 0] rfl ?_
          refine g_loop1 (fun (q : Int × Int) => [(0, rv D a0), (2, iv v16), (3, rv D x3_52), (4, iv x4_59), (5, iv q.1), (6, iv x5_59), (7, iv q.2)]) (fun (q : Int × Int) => h_59) (fun (q : Int × Int) => r32 q.1 ∧ r32 q.2) 143 (fun (y143 : Int × Int) => [(0, rv D a0), (2, iv v16), (3, rv D x3_52), (4, iv x4_59), (5, iv y143.1), (6, iv x5_59), (7, iv y143.2)]) (fun (y143 : Int × Int) => h_59) (fun (y143 : Int × Int) => r32 y143.1 ∧ r32 y143.2) (x5_59, x7_89) ⟨r5_59, (r32_z r7_89)⟩ ?_ ?_
          · rintro ⟨x5_91, x7_91⟩ ⟨r5_91, r7_91⟩
            try dsimp only
            unfold m_X1_judge_l91
            refine g_iload (pc := 91) X (i := 5) (q := 4) (x := x5_91) rfl (dl_at t_X1_judge 46 rfl) ?_
            refine g_iload_n (pc := 93) X (j := 2) (i := 2) (q := 1) (x := v16) rfl rfl (dl_at t_X1_judge 47 rfl) ?_
            refine g_icmpge (pc := 94) X r5_91 g16 (off := 49) (tgt := 143) rfl (dl_at t_X1_judge 48 rfl) (fun _ => ?_) (fun _ => ?_)
            · exact g_at fun Q hQ => hQ ⟨r5_91, r7_91⟩
            refine g_aload_n (pc := 97) X (j := 0) (i := 0) (q := 0) (x := a0) rfl rfl (dl_at t_X1_judge 49 rfl) ?_
            refine r_getr (pc := 98) X fX1_0 k66 q1488 (dl_at t_X1_judge 50 rfl) ?_
            refine g_iload (pc := 101) X (i := 5) (q := 4) (x := x5_91) rfl (dl_at t_X1_judge 51 rfl) ?_
            refine g_gd fun k103 => ?_
            refine g_bald (pc := 103) X r5_91 k103 (dl_at t_X1_judge 52 rfl) fun g103 => ?_
            refine r_callRz (pc := 104) X (fun _ hv => s_X1_isDigit (r32_b g103) hv) cw_code q1742 q355 (in_Sc X (As := [iv (h_59 (h_59 a0 0) x5_91)]) (Or.inl q3141) q1741 q355 q1742 ⟨by decide, by decide⟩ rfl (dl_at t_X1_judge 53 rfl)) (dl_at t_X1_judge 53 rfl) (cat24 (st := []) (Nat.le_of_ble_eq_true rfl)) (Nat.le_of_ble_eq_true rfl) (Nat.le_of_ble_eq_true rfl) fun v104 g104 => ?_
            refine g_ifeq (pc := 107) X (r32_z g104) (off := 36) (tgt := 143) rfl (dl_at t_X1_judge 54 rfl) (fun _ => ?_) (fun _ => ?_)
            · exact g_at fun Q hQ => hQ ⟨r5_91, r7_91⟩
            refine g_iload (pc := 110) X (i := 7) (q := 6) (x := x7_91) rfl (dl_at t_X1_judge 55 rfl) ?_
            refine g_aload_n (pc := 112) X (j := 3) (i := 3) (q := 2) (x := x3_52) rfl rfl (dl_at t_X1_judge 56 rfl) ?_
            refine g_gd fun k113 => ?_
            refine r_getiN (pc := 113) X fX28_16 k113 (nw_in q2559 rfl) (dl_at t_X1_judge 57 rfl) fun g113 => ?_
            refine g_join (γ := Int) (fun q => r32 q) 137 (fun q => [(0, rv D a0), (2, iv v16), (3, rv D x3_52), (4, iv x4_59), (5, iv x5_91), (6, iv x5_59), (7, iv q)]) (fun q => []) (fun q => h_59) (fun q => m_X1_judge_j137 x5_91 q) ?_ ?_
            · rintro x7_137 r7_137
              try dsimp only
              unfold m_X1_judge_j137
              refine r_iincN (pc := 137) X (i := 5) (q := 4) (n := 1) (x := x5_91) (b := 4) (w := iv x4_59) (rest := [(0, rv D a0), (2, iv v16), (3, rv D x3_52), (6, iv x5_59), (7, iv x7_137)]) rfl r5_91 (r32_c rfl) (Nat.le_of_ble_eq_true rfl) [3, 0, 1, 2, 5, 6] rfl (by decide) rfl rfl (dl_at t_X1_judge 70 rfl) fun x5_137 r5_137 => ?_
              refine g_goto (pc := 140) X (off := (-49)) (tgt := 91) rfl (dl_at t_X1_judge 71 rfl) ?_
              refine g_ls (ls2 := [(0, rv D a0), (2, iv v16), (3, rv D x3_52), (4, iv x4_59), (5, iv x5_137), (6, iv x5_59), (7, iv x7_137)]) [2, 3, 4, 1, 0, 5, 6] rfl ?_
              exact g_at fun Q hQ => hQ ⟨r5_137, r7_137⟩
            intro J137
            refine g_icmpge (pc := 116) X r7_91 g113 (off := 21) (tgt := 137) rfl (dl_at t_X1_judge 58 rfl) (fun _ => ?_) (fun _ => ?_)
            · exact J137 x7_91 r7_91
            refine g_bipush (pc := 119) X (n := 10) rfl (dl_at t_X1_judge 59 rfl) ?_
            refine g_iload (pc := 121) X (i := 7) (q := 6) (x := x7_91) rfl (dl_at t_X1_judge 60 rfl) ?_
            refine g_imul (pc := 123) X (r32_c rfl) r7_91 (dl_at t_X1_judge 61 rfl) ?_
            refine g_aload_n (pc := 124) X (j := 0) (i := 0) (q := 0) (x := a0) rfl rfl (dl_at t_X1_judge 62 rfl) ?_
            refine r_getr (pc := 125) X fX1_0 k66 q1488 (dl_at t_X1_judge 63 rfl) ?_
            refine g_iload (pc := 128) X (i := 5) (q := 4) (x := x5_91) rfl (dl_at t_X1_judge 64 rfl) ?_
            refine g_bald (pc := 130) X r5_91 k103 (dl_at t_X1_judge 65 rfl) fun g130 => ?_
            refine g_iadd (pc := 131) X (r32_w _) (r32_b g130) (dl_at t_X1_judge 66 rfl) ?_
            refine g_bipush (pc := 132) X (n := 48) rfl (dl_at t_X1_judge 67 rfl) ?_
            refine g_isub (pc := 134) X (r32_w _) (r32_c rfl) (dl_at t_X1_judge 68 rfl) ?_
            refine g_lti (r32_w _) fun x7_135 r7_135 => ?_
            refine g_istoreN (pc := 135) X (i := 7) (x := x7_135) (b := 6) (w := iv x5_59) (rest := [(0, rv D a0), (2, iv v16), (3, rv D x3_52), (4, iv x4_59), (5, iv x5_91)]) (Nat.le_of_ble_eq_true rfl) [5, 0, 1, 2, 3, 4] rfl (by decide) rfl rfl (dl_at t_X1_judge 69 rfl) ?_
            refine g_ls (ls2 := [(0, rv D a0), (2, iv v16), (3, rv D x3_52), (4, iv x4_59), (5, iv x5_91), (6, iv x5_59), (7, iv x7_135)]) [2, 3, 4, 5, 6, 1, 0] rfl ?_
            exact J137 x7_135 r7_135
          · rintro ⟨x5_143, x7_143⟩ ⟨r5_143, r7_143⟩
            try dsimp only [sE]
            refine g_iload (pc := 143) X (i := 5) (q := 4) (x := x5_143) rfl (dl_at t_X1_judge 72 rfl) ?_
            refine g_iload (pc := 145) X (i := 6) (q := 5) (x := x5_59) rfl (dl_at t_X1_judge 73 rfl) ?_
            refine g_join (γ := Int) (fun q => (q = 0 ∨ q = 1)) 197 (fun q => [(0, rv D a0), (2, iv v16), (3, rv D x3_52), (4, iv x4_59), (5, iv x5_143), (6, iv x5_59), (7, iv x7_143)]) (fun q => [iv q]) (fun q => h_59) (fun q => m_X1_judge_j197 a0 v16 x4_59 x5_143 x5_59 x7_143 q h_59) ?_ ?_
            · rintro s0_197 rs0_197
              try dsimp only
              unfold m_X1_judge_j197
              refine g_istoreN (pc := 197) X (i := 8) (x := s0_197) (b := 7) (w := iv x7_143) (rest := [(0, rv D a0), (2, iv v16), (3, rv D x3_52), (4, iv x4_59), (5, iv x5_143), (6, iv x5_59)]) (Nat.le_of_ble_eq_true rfl) [6, 0, 1, 2, 3, 4, 5] rfl (by decide) rfl rfl (dl_at t_X1_judge 99 rfl) ?_
              refine g_iload (pc := 199) X (i := 8) (q := 0) (x := s0_197) rfl (dl_at t_X1_judge 100 rfl) ?_
              refine g_ifne (pc := 201) X (r32_z rs0_197) (off := 17) (tgt := 218) rfl (dl_at t_X1_judge 101 rfl) (fun _ => ?_) (fun _ => ?_)
              · refine g_iload (pc := 218) X (i := 5) (q := 6) (x := x5_143) rfl (dl_at t_X1_judge 109 rfl) ?_
                refine g_iload_n (pc := 220) X (j := 2) (i := 2) (q := 3) (x := v16) rfl rfl (dl_at t_X1_judge 110 rfl) ?_
                refine g_join (γ := Unit) (fun q => True) 251 (fun q => [(0, rv D a0), (2, iv v16), (3, rv D x3_52), (4, iv x4_59), (5, iv x5_143), (7, iv x7_143)]) (fun q => []) (fun q => h_59) (fun q => m_X1_judge_j251 x7_143 a0 x4_59 x5_143 h_59) ?_ ?_
                · rintro _ _
                  try dsimp only
                  unfold m_X1_judge_j251
                  refine g_aload_n (pc := 251) X (j := 0) (i := 0) (q := 0) (x := a0) rfl rfl (dl_at t_X1_judge 125 rfl) ?_
                  refine r_getr (pc := 252) X fX1_22 k66 q1510 (dl_at t_X1_judge 126 rfl) ?_
                  refine g_iload (pc := 255) X (i := 4) (q := 3) (x := x4_59) rfl (dl_at t_X1_judge 127 rfl) ?_
                  refine g_iload (pc := 257) X (i := 7) (q := 5) (x := x7_143) rfl (dl_at t_X1_judge 128 rfl) ?_
                  refine g_gd fun k259 => ?_
                  refine r_iast (pc := 259) X r4_59 r7_143 k259 (dl_at t_X1_judge 129 rfl) (fun h259 E259 => ?_)
                  refine r_iincN (pc := 260) X (i := 4) (q := 3) (n := 1) (x := x4_59) (b := 3) (w := rv D x3_52) (rest := [(0, rv D a0), (2, iv v16), (5, iv x5_143)]) rfl r4_59 (r32_c rfl) (Nat.le_of_ble_eq_true rfl) [2, 0, 1, 4] rfl (by decide) rv_cat rfl (dl_at t_X1_judge 130 rfl) fun x4_260 r4_260 => ?_
                  refine g_goto (pc := 263) X (off := (-204)) (tgt := 59) rfl (dl_at t_X1_judge 131 rfl) ?_
                  refine g_ls (ls2 := [(0, rv D a0), (2, iv v16), (3, rv D x3_52), (4, iv x4_260), (5, iv x5_143)]) [2, 3, 1, 0, 4] rfl ?_
                  exact g_at fun Q hQ => hQ ⟨r4_260, r5_143, (E_59.trans E259)⟩
                intro J251
                refine g_icmpge (pc := 221) X r5_143 g16 (off := 30) (tgt := 251) rfl (dl_at t_X1_judge 111 rfl) (fun _ => ?_) (fun _ => ?_)
                · refine g_ls (ls2 := [(0, rv D a0), (2, iv v16), (3, rv D x3_52), (4, iv x4_59), (5, iv x5_143), (7, iv x7_143)]) [2, 3, 4, 5, 6, 1] rfl ?_
                  exact J251 () trivial
                refine g_aload_n (pc := 224) X (j := 0) (i := 0) (q := 2) (x := a0) rfl rfl (dl_at t_X1_judge 112 rfl) ?_
                refine r_getr (pc := 225) X fX1_0 k66 q1488 (dl_at t_X1_judge 113 rfl) ?_
                refine g_iload (pc := 228) X (i := 5) (q := 6) (x := x5_143) rfl (dl_at t_X1_judge 114 rfl) ?_
                refine g_gd fun k230 => ?_
                refine g_bald (pc := 230) X r5_143 k230 (dl_at t_X1_judge 115 rfl) fun g230 => ?_
                refine r_callRz (pc := 231) X (fun _ hv => s_X1_isBlank (r32_b g230) hv) cw_code q1732 q355 (in_Sc X (As := [iv (h_59 (h_59 a0 0) x5_143)]) (Or.inl q3140) q1731 q355 q1732 ⟨by decide, by decide⟩ rfl (dl_at t_X1_judge 116 rfl)) (dl_at t_X1_judge 116 rfl) (cat24 (st := []) (Nat.le_of_ble_eq_true rfl)) (Nat.le_of_ble_eq_true rfl) (Nat.le_of_ble_eq_true rfl) fun v231 g231 => ?_
                refine g_ifne (pc := 234) X (r32_z g231) (off := 17) (tgt := 251) rfl (dl_at t_X1_judge 117 rfl) (fun _ => ?_) (fun _ => ?_)
                · refine g_ls (ls2 := [(0, rv D a0), (2, iv v16), (3, rv D x3_52), (4, iv x4_59), (5, iv x5_143), (7, iv x7_143)]) [2, 3, 4, 5, 6, 1] rfl ?_
                  exact J251 () trivial
                refine g_aload_n (pc := 237) X (j := 0) (i := 0) (q := 2) (x := a0) rfl rfl (dl_at t_X1_judge 118 rfl) ?_
                refine r_new (pc := 238) X kX26 q1713 (dl_at t_X1_judge 119 rfl) fun a238 h238 p238 k238 E238 => ?_
                refine g_dup (pc := 241) X rv_cat (dl_at t_X1_judge 120 rfl) ?_
                refine g_iload (pc := 242) X (i := 5) (q := 6) (x := x5_143) rfl (dl_at t_X1_judge 121 rfl) ?_
                refine r_callV (pc := 244) X (fun _ hv => sx_ScholarsPress_Broken_init_I_V k238 r5_143 hv) cw_code q1839 q391 (in_I X (As := [iv x5_143]) (Int.ne_of_gt p238) rfl (Or.inr ⟨_, nw_in q3142 rfl⟩) q1838 q1839 ⟨by decide, by decide⟩ rfl (dl_at t_X1_judge 122 rfl)) (dl_at t_X1_judge 122 rfl) (cat24 (st := [rv D a238, rv D a0]) (Nat.le_of_ble_eq_true rfl)) (Nat.le_of_ble_eq_true rfl) (Nat.le_of_ble_eq_true rfl) fun h244 E244 => ?_
                have k247 := kx (E238.trans E244) (by decide) k66
                refine r_callWr (pc := 247) X (fun _ hv => s_X1_broken k247 hv) cw_code q1881 q355 (in_Vk X (As := [rv D a238]) kX1 k247 (Or.inl q1878) q1880 qs21 cw_code q1881 ⟨by decide, by decide⟩ rfl (dl_at t_X1_judge 123 rfl)) (dl_at t_X1_judge 123 rfl) (cat24 (st := []) (Nat.le_of_ble_eq_true rfl)) (Nat.le_of_ble_eq_true rfl) (Nat.le_of_ble_eq_true rfl) fun v247 h247 E247 => ?_
                refine g_gd fun p250 => ?_
                refine g_athrow (pc := 250) X (Int.ne_of_gt p250) (dl_at t_X1_judge 124 rfl) ?_
                exact gt_at fun Q hQ => gt_out (Q := Q) X rfl p250 (hno _) _ Q rfl hQ
              refine g_aload_n (pc := 204) X (j := 0) (i := 0) (q := 2) (x := a0) rfl rfl (dl_at t_X1_judge 102 rfl) ?_
              refine r_new (pc := 205) X kX26 q1713 (dl_at t_X1_judge 103 rfl) fun a205 h205 p205 k205 E205 => ?_
              refine g_dup (pc := 208) X rv_cat (dl_at t_X1_judge 104 rfl) ?_
              refine g_iload (pc := 209) X (i := 6) (q := 7) (x := x5_59) rfl (dl_at t_X1_judge 105 rfl) ?_
              refine r_callV (pc := 211) X (fun _ hv => sx_ScholarsPress_Broken_init_I_V k205 r5_59 hv) cw_code q1839 q391 (in_I X (As := [iv x5_59]) (Int.ne_of_gt p205) rfl (Or.inr ⟨_, nw_in q3142 rfl⟩) q1838 q1839 ⟨by decide, by decide⟩ rfl (dl_at t_X1_judge 106 rfl)) (dl_at t_X1_judge 106 rfl) (cat24 (st := [rv D a205, rv D a0]) (Nat.le_of_ble_eq_true rfl)) (Nat.le_of_ble_eq_true rfl) (Nat.le_of_ble_eq_true rfl) fun h211 E211 => ?_
              have k214 := kx (E205.trans E211) (by decide) k66
              refine r_callWr (pc := 214) X (fun _ hv => s_X1_broken k214 hv) cw_code q1881 q355 (in_Vk X (As := [rv D a205]) kX1 k214 (Or.inl q1878) q1880 qs21 cw_code q1881 ⟨by decide, by decide⟩ rfl (dl_at t_X1_judge 107 rfl)) (dl_at t_X1_judge 107 rfl) (cat24 (st := []) (Nat.le_of_ble_eq_true rfl)) (Nat.le_of_ble_eq_true rfl) (Nat.le_of_ble_eq_true rfl) fun v214 h214 E214 => ?_
              refine g_gd fun p217 => ?_
              refine g_athrow (pc := 217) X (Int.ne_of_gt p217) (dl_at t_X1_judge 108 rfl) ?_
              exact gt_at fun Q hQ => gt_out (Q := Q) X rfl p217 (hno _) _ Q rfl hQ
            intro J197
            refine g_join (γ := Unit) (fun q => True) 196 (fun q => [(0, rv D a0), (2, iv v16), (3, rv D x3_52), (4, iv x4_59), (5, iv x5_143), (6, iv x5_59), (7, iv x7_143)]) (fun q => []) (fun q => h_59) (fun q => m_X1_judge_j196 a0 v16 x4_59 x5_143 x5_59 x7_143 h_59) ?_ ?_
            · rintro _ _
              try dsimp only
              unfold m_X1_judge_j196
              refine g_iconst (pc := 196) X (n := 0) (dl_at t_X1_judge 98 rfl) ?_
              exact J197 0 (Or.inl rfl)
            intro J196
            refine g_icmple (pc := 147) X r5_143 r5_59 (off := 49) (tgt := 196) rfl (dl_at t_X1_judge 74 rfl) (fun _ => ?_) (fun _ => ?_)
            · exact J196 () trivial
            refine g_iload (pc := 150) X (i := 5) (q := 4) (x := x5_143) rfl (dl_at t_X1_judge 75 rfl) ?_
            refine g_iload (pc := 152) X (i := 6) (q := 5) (x := x5_59) rfl (dl_at t_X1_judge 76 rfl) ?_
            refine g_isub (pc := 154) X r5_143 r5_59 (dl_at t_X1_judge 77 rfl) ?_
            refine g_bipush (pc := 155) X (n := 7) rfl (dl_at t_X1_judge 78 rfl) ?_
            refine g_icmpgt (pc := 157) X (r32_w _) (r32_c rfl) (off := 39) (tgt := 196) rfl (dl_at t_X1_judge 79 rfl) (fun _ => ?_) (fun _ => ?_)
            · exact J196 () trivial
            refine g_iload (pc := 160) X (i := 7) (q := 6) (x := x7_143) rfl (dl_at t_X1_judge 80 rfl) ?_
            refine g_aload_n (pc := 162) X (j := 3) (i := 3) (q := 2) (x := x3_52) rfl rfl (dl_at t_X1_judge 81 rfl) ?_
            refine g_gd fun k163 => ?_
            refine r_getiN (pc := 163) X fX28_16 k163 (nw_in q2559 rfl) (dl_at t_X1_judge 82 rfl) fun g163 => ?_
            refine g_icmpge (pc := 166) X r7_143 g163 (off := 30) (tgt := 196) rfl (dl_at t_X1_judge 83 rfl) (fun _ => ?_) (fun _ => ?_)
            · exact J196 () trivial
            refine g_iload (pc := 169) X (i := 7) (q := 6) (x := x7_143) rfl (dl_at t_X1_judge 84 rfl) ?_
            refine g_iload (pc := 171) X (i := 4) (q := 3) (x := x4_59) rfl (dl_at t_X1_judge 85 rfl) ?_
            refine g_join (γ := Int) (fun q => r32 q) 189 (fun q => [(0, rv D a0), (2, iv v16), (3, rv D x3_52), (4, iv x4_59), (5, iv x5_143), (6, iv x5_59), (7, iv x7_143)]) (fun q => [iv q, iv x7_143]) (fun q => h_59) (fun q => m_X1_judge_j189 a0 v16 x4_59 x5_143 x5_59 x7_143 q h_59) ?_ ?_
            · rintro s1_189 rs1_189
              try dsimp only
              unfold m_X1_judge_j189
              refine g_icmple (pc := 189) X r7_143 rs1_189 (off := 7) (tgt := 196) rfl (dl_at t_X1_judge 95 rfl) (fun _ => ?_) (fun _ => ?_)
              · exact J196 () trivial
              refine g_iconst (pc := 192) X (n := 1) (dl_at t_X1_judge 96 rfl) ?_
              refine g_goto (pc := 193) X (off := 4) (tgt := 197) rfl (dl_at t_X1_judge 97 rfl) ?_
              exact J197 1 (Or.inr rfl)
            intro J189
            refine g_ifne (pc := 173) X r4_59 (off := 7) (tgt := 180) rfl (dl_at t_X1_judge 86 rfl) (fun _ => ?_) (fun _ => ?_)
            · refine g_aload_n (pc := 180) X (j := 0) (i := 0) (q := 0) (x := a0) rfl rfl (dl_at t_X1_judge 89 rfl) ?_
              refine r_getr (pc := 181) X fX1_22 k66 q1510 (dl_at t_X1_judge 90 rfl) ?_
              refine g_iload (pc := 184) X (i := 4) (q := 3) (x := x4_59) rfl (dl_at t_X1_judge 91 rfl) ?_
              refine g_iconst (pc := 186) X (n := 1) (dl_at t_X1_judge 92 rfl) ?_
              refine g_isub (pc := 187) X r4_59 (r32_c rfl) (dl_at t_X1_judge 93 rfl) ?_
              refine g_gd fun k188 => ?_
              refine g_iald (pc := 188) X (r32_w _) k188 (dl_at t_X1_judge 94 rfl) fun g188 => ?_
              exact J189 (h_59 (h_59 a0 22) (w32 (x4_59 - 1))) g188
            refine g_iconst (pc := 176) X (n := 0) (dl_at t_X1_judge 87 rfl) ?_
            refine g_goto (pc := 177) X (off := 12) (tgt := 189) rfl (dl_at t_X1_judge 88 rfl) ?_
            exact J189 0 (r32_c rfl)
        refine r_iincN (pc := 78) X (i := 5) (q := 4) (n := 1) (x := x5_59) (b := 4) (w := iv x4_59) (rest := [(0, rv D a0), (2, iv v16), (3, rv D x3_52)]) rfl r5_59 (r32_c rfl) (Nat.le_of_ble_eq_true rfl) [3, 0, 1, 2] rfl (by decide) rfl rfl (dl_at t_X1_judge 40 rfl) fun x5_78 r5_78 => ?_
        refine g_goto (pc := 81) X (off := (-22)) (tgt := 59) rfl (dl_at t_X1_judge 41 rfl) ?_
        refine g_ls (ls2 := [(0, rv D a0), (2, iv v16), (3, rv D x3_52), (4, iv x4_59), (5, iv x5_78)]) [2, 3, 4, 1, 0] rfl ?_
        exact g_at fun Q hQ => hQ ⟨r4_59, r5_78, E_59⟩
    intro J40
    refine g_join (γ := Unit) (fun q => True) 39 (fun q => [(0, rv D a0), (1, iv a1), (2, iv v16)]) (fun q => []) (fun q => h16) (fun q => m_X1_judge_j39 v16 a1 a0 h16) ?_ ?_
    · rintro _ _
      try dsimp only
      unfold m_X1_judge_j39
      refine g_iconst (pc := 39) X (n := 0) (dl_at t_X1_judge 19 rfl) ?_
      exact J40 0 (Or.inl rfl)
    intro J39
    refine g_iflt (pc := 21) X r1 (off := 18) (tgt := 39) rfl (dl_at t_X1_judge 11 rfl) (fun _ => ?_) (fun _ => ?_)
    · refine g_ls (ls2 := [(0, rv D a0), (1, iv a1), (2, iv v16)]) [2, 1, 0] rfl ?_
      exact J39 () trivial
    refine g_iload_n (pc := 24) X (j := 1) (i := 1) (q := 1) (x := a1) rfl rfl (dl_at t_X1_judge 12 rfl) ?_
    refine g_aload_n (pc := 25) X (j := 0) (i := 0) (q := 2) (x := a0) rfl rfl (dl_at t_X1_judge 13 rfl) ?_
    have k26 := kx E16 (by decide) k16
    refine r_getr (pc := 26) X fX1_18 k26 q1506 (dl_at t_X1_judge 14 rfl) ?_
    refine g_gd fun k29 => ?_
    refine r_getiN (pc := 29) X fX14_11 k29 (nw_in q1259 rfl) (dl_at t_X1_judge 15 rfl) fun g29 => ?_
    refine g_icmpge (pc := 32) X r1 g29 (off := 7) (tgt := 39) rfl (dl_at t_X1_judge 16 rfl) (fun _ => ?_) (fun _ => ?_)
    · refine g_ls (ls2 := [(0, rv D a0), (1, iv a1), (2, iv v16)]) [2, 1, 0] rfl ?_
      exact J39 () trivial
    refine g_iconst (pc := 35) X (n := 1) (dl_at t_X1_judge 17 rfl) ?_
    refine g_goto (pc := 36) X (off := 4) (tgt := 40) rfl (dl_at t_X1_judge 18 rfl) ?_
    refine g_ls (ls2 := [(0, rv D a0), (1, iv a1), (2, iv v16)]) [2, 1, 0] rfl ?_
    exact J40 1 (Or.inr rfl)
  intro J12
  refine g_ifnull (pc := 4) X (off := 7) (tgt := 11) rfl (dl_at t_X1_judge 2 rfl) (fun _ => ?_) (fun _ => ?_)
  · refine g_iconst (pc := 11) X (n := 0) (dl_at t_X1_judge 5 rfl) ?_
    exact J12 0 (Or.inl rfl)
  refine g_iconst (pc := 7) X (n := 1) (dl_at t_X1_judge 3 rfl) ?_
  refine g_goto (pc := 8) X (off := 4) (tgt := 12) rfl (dl_at t_X1_judge 4 rfl) ?_
  exact J12 1 (Or.inr rfl)
def k_X0_judge : List (Nat × Instr × Nat) := [(0, .aload_n 2, 1), (1, .iconst 0, 1), (2, .aload_n 0, 1), (3, .iload_n 1, 1), (4, .invokevirtual 63, 3), (7, .lastore, 1), (8, .goto 12, 3), (11, .astore_n 3, 1), (12, .iconst 1, 1), (13, .ireturn, 1), (14, .astore_n 3, 1), (15, .iconst 2, 1), (16, .ireturn, 1), (17, .astore_n 3, 1), (18, .iconst 3, 1), (19, .ireturn, 1), (20, .iconst 0, 1), (21, .ireturn, 1)]
theorem t_X0_judge : ∀ q ∈ k_X0_judge, decode cX0_judge q.1 = .ok q.2 := dl_all (by decide +kernel)
noncomputable def m_X0_judge (a0 a1 a2 : Int) (h : Hp) : Option (Int × Hp) :=
  gd (h a0 (-2) = 16) (bT (m_X1_judge a0 a1 h) (fun v4 h4_1 =>
  gd (h4_1 a2 (-2) % 16 = 4 ∧ (0 : Int) ≤ 0 ∧ 0 < h4_1 a2 (-1)) (pt h4_1 a2 0 v4 fun h7 =>
  some (0, h7))) (fun a4 h4 => if h4 a4 (-2) = 432 then (some (3, h4))
  else (if h4 a4 (-2) = 480 then (some (2, h4))
  else (if h4 a4 (-2) = 512 then (some (3, h4))
  else (if h4 a4 (-2) = 528 then (some (1, h4))
  else (none))))))
theorem s_X0_judge {l : Launch} [NoTr l] {D : SD} {a0 a1 a2 : Int} {h : Hp} (r1 : r32 a1) {r : Int × Hp} (hm : m_X0_judge a0 a1 a2 h = some r) : Sim l D yX0_judge (Cond.codeWith yX0_judge cX0_judge 4 (Option.some Jvm.ClassFile.FieldType.int) [((0 : Nat), (8 : Nat), (11 : Nat), (40 : Nat)), ((0 : Nat), (8 : Nat), (14 : Nat), (13 : Nat)), ((0 : Nat), (8 : Nat), (17 : Nat), (25 : Nat))]) 11 417 [rv D a0, iv a1, rv D a2] h 1 ((0, r.1), r.2) := by
  refine Sim.of (fin := fun (v : Int × Hp) => ((0, v.1), v.2)) (lsE := [(0, rv D a0), (1, iv a1), (2, rv D a2)]) hm rfl cwS_with (la_r (la_i (la_r la_n))) (ll_r (ll_i (ll_r ll_n))) ?_
  intro p e s m below meth c X hcw hmm hcc hnm hname
  have htb := tabW hcw hnm hmm hcc
  unfold m_X0_judge
  refine g_aload_n (pc := 0) X (j := 2) (i := 2) (q := 2) (x := a2) rfl rfl (dl_at t_X0_judge 0 rfl) ?_
  refine g_iconst (pc := 1) X (n := 0) (dl_at t_X0_judge 1 rfl) ?_
  refine g_aload_n (pc := 2) X (j := 0) (i := 0) (q := 0) (x := a0) rfl rfl (dl_at t_X0_judge 2 rfl) ?_
  refine g_iload_n (pc := 3) X (j := 1) (i := 1) (q := 1) (x := a1) rfl rfl (dl_at t_X0_judge 3 rfl) ?_
  refine g_gd fun k4 => ?_
  refine r_callTl (pc := 4) X (fun _ hv => s_X1_judge k4 r1 hv) cw_code q3139 q355 (in_Vk X (As := [iv a1]) kX1 k4 (Or.inl q3136) q3137 q3138 cw_code q3139 ⟨by decide, by decide⟩ rfl (dl_at t_X0_judge 4 rfl)) (dl_at t_X0_judge 4 rfl) (cat24 (st := [iv 0, rv D a2]) (Nat.le_of_ble_eq_true rfl)) (Nat.le_of_ble_eq_true rfl) (Nat.le_of_ble_eq_true rfl) (fun v4 h4_1 g4 E4_1 => ?_) (fun a4 h4 p4 E4 => ?_)
  · refine g_gd fun k7 => ?_
    refine r_last (pc := 7) X (r32_c rfl) g4 k7 (dl_at t_X0_judge 5 rfl) (fun h7 E7 => ?_)
    refine g_goto (pc := 8) X (off := 12) (tgt := 20) rfl (dl_at t_X0_judge 6 rfl) ?_
    refine g_iconst (pc := 20) X (n := 0) (dl_at t_X0_judge 16 rfl) ?_
    exact g_iret (pc := 21) X (r32_c rfl) rfl rfl (dl_at t_X0_judge 17 rfl)
  refine gt_case (fun k4_1 => ?_) (fun _ => ?_)
  · refine gt_catch (pc := 4) X kX26 k4_1 [((0, 8, 11, 40), "java/lang/IllegalStateException", false), ((0, 8, 14, 13), "java/lang/IndexOutOfBoundsException", false), ((0, 8, 17, 25), "java/lang/UnsupportedOperationException", true)] (hp := 17) rfl (by decide +kernel) (List.forall_mem_cons.mpr ⟨⟨q2237, by decide⟩, (List.forall_mem_cons.mpr ⟨⟨q1565, by decide⟩, (List.forall_mem_cons.mpr ⟨⟨q1708, by decide⟩, fun _ h => absurd h List.not_mem_nil⟩)⟩)⟩) htb ?_
    refine g_astore_n (pc := 17) X (j := 3) (i := 3) (x := a4) (rest := []) rfl (Nat.le_of_ble_eq_true rfl) [] rfl rfl (dl_at t_X0_judge 13 rfl) ?_
    refine g_iconst (pc := 18) X (n := 3) (dl_at t_X0_judge 14 rfl) ?_
    exact g_iret (pc := 19) X (r32_c rfl) rfl rfl (dl_at t_X0_judge 15 rfl)
  refine gt_case (fun k4_2 => ?_) (fun _ => ?_)
  · refine gt_catch (pc := 4) X kJ3 k4_2 [((0, 8, 11, 40), "java/lang/IllegalStateException", false), ((0, 8, 14, 13), "java/lang/IndexOutOfBoundsException", true), ((0, 8, 17, 25), "java/lang/UnsupportedOperationException", false)] (hp := 14) rfl (by decide +kernel) (List.forall_mem_cons.mpr ⟨⟨q2237, by decide⟩, (List.forall_mem_cons.mpr ⟨⟨q1565, by decide⟩, (List.forall_mem_cons.mpr ⟨⟨q1708, by decide⟩, fun _ h => absurd h List.not_mem_nil⟩)⟩)⟩) htb ?_
    refine g_astore_n (pc := 14) X (j := 3) (i := 3) (x := a4) (rest := []) rfl (Nat.le_of_ble_eq_true rfl) [] rfl rfl (dl_at t_X0_judge 10 rfl) ?_
    refine g_iconst (pc := 15) X (n := 2) (dl_at t_X0_judge 11 rfl) ?_
    exact g_iret (pc := 16) X (r32_c rfl) rfl rfl (dl_at t_X0_judge 12 rfl)
  refine gt_case (fun k4_3 => ?_) (fun _ => ?_)
  · refine gt_catch (pc := 4) X kJ10 k4_3 [((0, 8, 11, 40), "java/lang/IllegalStateException", false), ((0, 8, 14, 13), "java/lang/IndexOutOfBoundsException", false), ((0, 8, 17, 25), "java/lang/UnsupportedOperationException", true)] (hp := 17) rfl (by decide +kernel) (List.forall_mem_cons.mpr ⟨⟨q2237, by decide⟩, (List.forall_mem_cons.mpr ⟨⟨q1565, by decide⟩, (List.forall_mem_cons.mpr ⟨⟨q1708, by decide⟩, fun _ h => absurd h List.not_mem_nil⟩)⟩)⟩) htb ?_
    refine g_astore_n (pc := 17) X (j := 3) (i := 3) (x := a4) (rest := []) rfl (Nat.le_of_ble_eq_true rfl) [] rfl rfl (dl_at t_X0_judge 13 rfl) ?_
    refine g_iconst (pc := 18) X (n := 3) (dl_at t_X0_judge 14 rfl) ?_
    exact g_iret (pc := 19) X (r32_c rfl) rfl rfl (dl_at t_X0_judge 15 rfl)
  refine gt_case (fun k4_4 => ?_) (fun _ => ?_)
  · refine gt_catch (pc := 4) X kJ11 k4_4 [((0, 8, 11, 40), "java/lang/IllegalStateException", true), ((0, 8, 14, 13), "java/lang/IndexOutOfBoundsException", false), ((0, 8, 17, 25), "java/lang/UnsupportedOperationException", false)] (hp := 11) rfl (by decide +kernel) (List.forall_mem_cons.mpr ⟨⟨q2237, by decide⟩, (List.forall_mem_cons.mpr ⟨⟨q1565, by decide⟩, (List.forall_mem_cons.mpr ⟨⟨q1708, by decide⟩, fun _ h => absurd h List.not_mem_nil⟩)⟩)⟩) htb ?_
    refine g_astore_n (pc := 11) X (j := 3) (i := 3) (x := a4) (rest := []) rfl (Nat.le_of_ble_eq_true rfl) [] rfl rfl (dl_at t_X0_judge 7 rfl) ?_
    refine g_iconst (pc := 12) X (n := 1) (dl_at t_X0_judge 8 rfl) ?_
    exact g_iret (pc := 13) X (r32_c rfl) rfl rfl (dl_at t_X0_judge 9 rfl)
  exact gt_none
def k_X1_take0 : List (Nat × Instr × Nat) := [(0, .aload_n 0, 1), (1, .getfield 124, 3), (4, .istore_n 1, 1), (5, .aload_n 0, 1), (6, .iconst 0, 1), (7, .putfield 124, 3), (10, .iload_n 1, 1), (11, .ireturn, 1)]
theorem t_X1_take0 : ∀ q ∈ k_X1_take0, decode cX1_take0 q.1 = .ok q.2 := dl_all (by decide +kernel)
noncomputable def m_X1_take0 (a0 : Int) (h : Hp) : Option (Int × Hp) :=
  lt_ (h a0 1) fun x1_4 =>
  pt h a0 1 0 fun h7 =>
  some (x1_4, h7)
theorem s_X1_take0 {l : Launch} [NoTr l] {D : SD} {a0 : Int} {h : Hp} (hk : h a0 (-2) = 16) {r : Int × Hp} (hm : m_X1_take0 a0 h = some r) : Sim l D yX1_take0 (Cond.code yX1_take0 cX1_take0 2 (Option.some Jvm.ClassFile.FieldType.int)) 0 0 [rv D a0] h 1 ((0, r.1), r.2) := by
  refine Sim.of (fin := fun (v : Int × Hp) => ((0, v.1), v.2)) (lsE := [(0, rv D a0)]) hm rfl cwS_code (la_r la_n) (ll_r ll_n) ?_
  intro p e s m below meth c X hcw hmm hcc hnm hname
  unfold m_X1_take0
  refine g_aload_n (pc := 0) X (j := 0) (i := 0) (q := 0) (x := a0) rfl rfl (dl_at t_X1_take0 0 rfl) ?_
  refine r_geti (pc := 1) X fX1_1 hk q1489 (dl_at t_X1_take0 1 rfl) fun g1 => ?_
  refine g_lti g1 fun x1_4 r1_4 => ?_
  refine g_istore_nN (pc := 4) X (j := 1) (i := 1) (x := x1_4) (b := 0) (w := rv D a0) (rest := []) rfl (Nat.le_of_ble_eq_true rfl) [0] rfl (by decide) rv_cat rfl (dl_at t_X1_take0 2 rfl) ?_
  refine g_aload_n (pc := 5) X (j := 0) (i := 0) (q := 1) (x := a0) rfl rfl (dl_at t_X1_take0 3 rfl) ?_
  refine g_iconst (pc := 6) X (n := 0) (dl_at t_X1_take0 4 rfl) ?_
  refine r_puti (pc := 7) X fX1_1 hk q1489 rfl (dl_at t_X1_take0 5 rfl) (r32_c rfl) (fun h7 E7 => ?_)
  refine g_iload_n (pc := 10) X (j := 1) (i := 1) (q := 0) (x := x1_4) rfl rfl (dl_at t_X1_take0 6 rfl) ?_
  exact g_iret (pc := 11) X r1_4 rfl rfl (dl_at t_X1_take0 7 rfl)
def k_X1_where : List (Nat × Instr × Nat) := [(0, .iload_n 1, 1), (1, .ifCond .lt 12, 3), (4, .iload_n 1, 1), (5, .iconst 5, 1), (6, .if_icmp .gt 7, 3), (9, .iconst 1, 1), (10, .goto 4, 3), (13, .iconst 0, 1), (14, .invokestatic 134, 3), (17, .aload_n 0, 1), (18, .getfield 169, 3), (21, .ifnull 7, 3), (24, .iconst 1, 1), (25, .goto 4, 3), (28, .iconst 0, 1), (29, .invokestatic 212, 3), (32, .aload_n 0, 1), (33, .invokevirtual 400, 3), (36, .istore_n 2, 1), (37, .aload_n 0, 1), (38, .getfield 169, 3), (41, .getfield 186, 3), (44, .aload_n 0, 1), (45, .getfield 22, 3), (48, .iconst 0, 1), (49, .iload_n 2, 1), (50, .invokevirtual 403, 3), (53, .istore_n 3, 1), (54, .iload_n 3, 1), (55, .ifCond .lt 18, 3), (58, .aload_n 0, 1), (59, .getfield 169, 3), (62, .getfield 215, 3), (65, .getfield 289, 3), (68, .iload_n 3, 1), (69, .baload, 1), (70, .ifCond .ne 11, 3), (73, .new 407, 3), (76, .dup, 1), (77, .invokespecial 409, 3), (80, .athrow, 1), (81, .iload_n 1, 1), (116, .iload_n 3, 1), (117, .ireturn, 1), (118, .aload_n 0, 1), (119, .getfield 169, 3), (122, .iload_n 3, 1), (123, .invokevirtual 410, 3), (126, .ireturn, 1), (127, .aload_n 0, 1), (128, .getfield 169, 3), (131, .aload_n 0, 1), (132, .getfield 169, 3), (135, .getfield 413, 3), (138, .iload_n 3, 1), (139, .iaload, 1), (140, .invokevirtual 416, 3), (143, .ireturn, 1), (144, .aload_n 0, 1), (145, .getfield 169, 3), (148, .getfield 413, 3), (151, .iload_n 3, 1), (152, .iaload, 1), (153, .ireturn, 1), (154, .aload_n 0, 1), (155, .getfield 169, 3), (158, .getfield 419, 3), (161, .iload_n 3, 1), (162, .iaload, 1), (163, .ireturn, 1), (164, .aload_n 0, 1), (165, .getfield 169, 3), (168, .getfield 215, 3), (171, .getfield 276, 3), (174, .iload_n 3, 1), (175, .iaload, 1), (176, .ireturn, 1)]
theorem t_X1_where : ∀ q ∈ k_X1_where, decode cX1_where q.1 = .ok q.2 := dl_all (by decide +kernel)
theorem dS_X1_where_82 : decode cX1_where 82 = .ok (.tableswitch 82 0 4 #[34, 36, 45, 62, 72], 34) := by decide +kernel
noncomputable def m_X1_where_j29 (a0 a1 s0_29 : Int) (h14 : Hp) : Option ((Int × Int) × Hp) :=
  bT (m_X1_state s0_29 h14) (fun _ h29 =>
  bW (m_X1_take0 a0 h29) fun v33 h33 =>
  gd (h33 (h33 a0 18) (-2) = 224) (gd (h33 (h33 (h33 a0 18) 6) (-2) = 96) ((m_X6_byId (h33 (h33 a0 18) 6) (h33 a0 0) 0 v33 h33).bind fun v50 =>
  if v50 < 0 then (al h33 560 6 fun a73 h73 =>
  (x_init0 a73 h73).bind fun h77 =>
  some ((1, a73), h77))
  else (gd (h33 (h33 (h33 a0 18) 2) (-2) = 112) (gd (h33 (h33 (h33 (h33 a0 18) 2) 7) (-2) % 16 = 3 ∧ (0 : Int) ≤ v50 ∧ v50 < h33 (h33 (h33 (h33 a0 18) 2) 7) (-1)) (if (h33 (h33 (h33 (h33 a0 18) 2) 7) v50) ≠ 0 then (if a1 = 0 then (some ((0, v50), h33))
  else (if a1 = 1 then ((m_X14_pageOf (h33 a0 18) v50 h33).bind fun v123 =>
  some ((0, v123), h33))
  else (if a1 = 2 then (gd (h33 (h33 (h33 a0 18) 31) (-2) % 16 = 1 ∧ (0 : Int) ≤ v50 ∧ v50 < h33 (h33 (h33 a0 18) 31) (-1)) ((m_X14_numberAt (h33 a0 18) (h33 (h33 (h33 a0 18) 31) v50) h33).bind fun v140 =>
  some ((0, v140), h33)))
  else (if a1 = 3 then (gd (h33 (h33 (h33 a0 18) 31) (-2) % 16 = 1 ∧ (0 : Int) ≤ v50 ∧ v50 < h33 (h33 (h33 a0 18) 31) (-1)) (some ((0, (h33 (h33 (h33 a0 18) 31) v50)), h33)))
  else (if a1 = 4 then (gd (h33 (h33 (h33 a0 18) 32) (-2) % 16 = 1 ∧ (0 : Int) ≤ v50 ∧ v50 < h33 (h33 (h33 a0 18) 32) (-1)) (some ((0, (h33 (h33 (h33 a0 18) 32) v50)), h33)))
  else (gd (h33 (h33 (h33 (h33 a0 18) 2) 9) (-2) % 16 = 1 ∧ (0 : Int) ≤ v50 ∧ v50 < h33 (h33 (h33 (h33 a0 18) 2) 9) (-1)) (some ((0, (h33 (h33 (h33 (h33 a0 18) 2) 9) v50)), h33))))))))
  else (al h33 560 6 fun a73_1 h73_1 =>
  (x_init0 a73_1 h73_1).bind fun h77_1 =>
  some ((1, a73_1), h77_1)))))))) (fun a_ h_ => some ((1, a_), h_))
noncomputable def m_X1_where_j14 (a0 a1 s0_14 : Int) (h : Hp) : Option ((Int × Int) × Hp) :=
  bT (m_X1_good s0_14 h) (fun _ h14 =>
  if (h14 a0 18) = 0 then (m_X1_where_j29 a0 a1 0 h14)
  else (m_X1_where_j29 a0 a1 1 h14)) (fun a_ h_ => some ((1, a_), h_))
noncomputable def m_X1_where_j13 (a0 a1 : Int) (h : Hp) : Option ((Int × Int) × Hp) :=
  m_X1_where_j14 a0 a1 0 h
noncomputable def m_X1_where (a0 a1 : Int) (h : Hp) : Option ((Int × Int) × Hp) :=
  if a1 < 0 then (m_X1_where_j13 a0 a1 h)
  else (if 5 < a1 then (m_X1_where_j13 a0 a1 h)
  else (m_X1_where_j14 a0 a1 1 h))
theorem s_X1_where {l : Launch} [NoTr l] {D : SD} {a0 a1 : Int} {h : Hp} (hk : h a0 (-2) = 16) (r1 : r32 a1) {r : (Int × Int) × Hp} (hm : m_X1_where a0 a1 h = some r) : Sim l D yX1_where (Cond.code yX1_where cX1_where 4 (Option.some Jvm.ClassFile.FieldType.int)) 10 372 [rv D a0, iv a1] h 1 r := by
  refine Sim.of (fin := fun (v : (Int × Int) × Hp) => v) (lsE := [(0, rv D a0), (1, iv a1)]) hm rfl cwS_code (la_r (la_i la_n)) (ll_r (ll_i ll_n)) ?_
  intro p e s m below meth c X hcw hmm hcc hnm hname
  have hno := noh hcw hnm hmm hcc
  unfold m_X1_where
  refine g_iload_n (pc := 0) X (j := 1) (i := 1) (q := 1) (x := a1) rfl rfl (dl_at t_X1_where 0 rfl) ?_
  refine g_join (γ := Int) (fun q => (q = 0 ∨ q = 1)) 14 (fun q => [(0, rv D a0), (1, iv a1)]) (fun q => [iv q]) (fun q => h) (fun q => m_X1_where_j14 a0 a1 q h) ?_ ?_
  · rintro s0_14 rs0_14
    try dsimp only
    unfold m_X1_where_j14
    refine r_callTv (pc := 14) X (fun _ hv => s_X1_good rs0_14 hv) cw_code q1689 q355 (in_Sc X (As := [iv s0_14]) (Or.inl q1687) q1688 q355 q1689 ⟨by decide, by decide⟩ rfl (dl_at t_X1_where 8 rfl)) (dl_at t_X1_where 8 rfl) (cat24 (st := []) (Nat.le_of_ble_eq_true rfl)) (Nat.le_of_ble_eq_true rfl) (Nat.le_of_ble_eq_true rfl) (fun v14 h14 E14 => ?_) (fun _ _ ha _ => gt_at fun Q hQ => gt_out (Q := Q) X rfl ha (hno _) _ Q rfl hQ)
    refine g_aload_n (pc := 17) X (j := 0) (i := 0) (q := 0) (x := a0) rfl rfl (dl_at t_X1_where 9 rfl) ?_
    have k18 := kx E14 (by decide) hk
    refine r_getr (pc := 18) X fX1_18 k18 q1506 (dl_at t_X1_where 10 rfl) ?_
    refine g_join (γ := Int) (fun q => (q = 0 ∨ q = 1)) 29 (fun q => [(0, rv D a0), (1, iv a1)]) (fun q => [iv q]) (fun q => h14) (fun q => m_X1_where_j29 a0 a1 q h14) ?_ ?_
    · rintro s0_29 rs0_29
      try dsimp only
      unfold m_X1_where_j29
      refine r_callTv (pc := 29) X (fun _ hv => s_X1_state rs0_29 hv) cw_code q2244 q355 (in_Sc X (As := [iv s0_29]) (Or.inl q2242) q2243 q355 q2244 ⟨by decide, by decide⟩ rfl (dl_at t_X1_where 15 rfl)) (dl_at t_X1_where 15 rfl) (cat24 (st := []) (Nat.le_of_ble_eq_true rfl)) (Nat.le_of_ble_eq_true rfl) (Nat.le_of_ble_eq_true rfl) (fun v29 h29 E29 => ?_) (fun _ _ ha _ => gt_at fun Q hQ => gt_out (Q := Q) X rfl ha (hno _) _ Q rfl hQ)
      refine g_aload_n (pc := 32) X (j := 0) (i := 0) (q := 0) (x := a0) rfl rfl (dl_at t_X1_where 16 rfl) ?_
      have k33 := kx E29 (by decide) k18
      refine r_callWi (pc := 33) X (fun _ hv => s_X1_take0 k33 hv) cw_code q3158 q355 (in_Vk X (As := []) kX1 k33 (Or.inl q3155) q3157 qs225 cw_code q3158 ⟨by decide, by decide⟩ rfl (dl_at t_X1_where 17 rfl)) (dl_at t_X1_where 17 rfl) (cat24 (st := []) (Nat.le_of_ble_eq_true rfl)) (Nat.le_of_ble_eq_true rfl) (Nat.le_of_ble_eq_true rfl) fun v33 h33 g33 E33 => ?_
      refine g_istore_nN (pc := 36) X (j := 2) (i := 2) (x := v33) (b := 1) (w := iv a1) (rest := [(0, rv D a0)]) rfl (Nat.le_of_ble_eq_true rfl) [1, 0] rfl (by decide) rfl rfl (dl_at t_X1_where 18 rfl) ?_
      refine g_aload_n (pc := 37) X (j := 0) (i := 0) (q := 2) (x := a0) rfl rfl (dl_at t_X1_where 19 rfl) ?_
      have k38 := kx E33 (by decide) k33
      refine r_getr (pc := 38) X fX1_18 k38 q1506 (dl_at t_X1_where 20 rfl) ?_
      refine g_gd fun k41 => ?_
      refine r_getrN (pc := 41) X fX14_6 k41 (nw_in q1250 rfl) (dl_at t_X1_where 21 rfl) ?_
      refine g_aload_n (pc := 44) X (j := 0) (i := 0) (q := 2) (x := a0) rfl rfl (dl_at t_X1_where 22 rfl) ?_
      refine r_getr (pc := 45) X fX1_0 k38 q1488 (dl_at t_X1_where 23 rfl) ?_
      refine g_iconst (pc := 48) X (n := 0) (dl_at t_X1_where 24 rfl) ?_
      refine g_iload_n (pc := 49) X (j := 2) (i := 2) (q := 0) (x := v33) rfl rfl (dl_at t_X1_where 25 rfl) ?_
      refine g_gd fun k50 => ?_
      refine r_callRi (pc := 50) X (fun _ hv => s_X6_byId k50 (r32_c rfl) g33 hv) cw_code q2710 q360 (in_Vk X (As := [rv D (h33 a0 0), iv 0, iv v33]) kX6 k50 (Or.inr ⟨_, nw_in q3159 rfl⟩) q2709 qs144 cw_code q2710 ⟨by decide, by decide⟩ rfl (dl_at t_X1_where 26 rfl)) (dl_at t_X1_where 26 rfl) (cat24 (st := []) (Nat.le_of_ble_eq_true rfl)) (Nat.le_of_ble_eq_true rfl) (Nat.le_of_ble_eq_true rfl) fun v50 g50 => ?_
      refine g_istore_n (pc := 53) X (j := 3) (i := 3) (x := v50) (rest := [(1, iv a1), (0, rv D a0)]) rfl (Nat.le_of_ble_eq_true rfl) [1, 2] rfl rfl (dl_at t_X1_where 27 rfl) ?_
      refine g_iload_n (pc := 54) X (j := 3) (i := 3) (q := 0) (x := v50) rfl rfl (dl_at t_X1_where 28 rfl) ?_
      refine g_iflt (pc := 55) X g50 (off := 18) (tgt := 73) rfl (dl_at t_X1_where 29 rfl) (fun _ => ?_) (fun _ => ?_)
      · refine r_new (pc := 73) X kJ14 q3160 (dl_at t_X1_where 37 rfl) fun a73 h73 p73 k73 E73 => ?_
        refine g_dup (pc := 76) X rv_cat (dl_at t_X1_where 38 rfl) ?_
        refine r_callV (pc := 77) X (fun _ hv => sx_NoSuchElementException_init__V k73 hv) cw_code q3171 q399 (in_I X (As := []) (Int.ne_of_gt p73) rfl (Or.inl q3169) q3170 q3171 ⟨by decide, by decide⟩ rfl (dl_at t_X1_where 39 rfl)) (dl_at t_X1_where 39 rfl) (cat24 (st := [rv D a73]) (Nat.le_of_ble_eq_true rfl)) (Nat.le_of_ble_eq_true rfl) (Nat.le_of_ble_eq_true rfl) fun h77 E77 => ?_
        refine g_athrow (pc := 80) X (Int.ne_of_gt p73) (dl_at t_X1_where 40 rfl) ?_
        exact gt_at fun Q hQ => gt_out (Q := Q) X rfl p73 (hno _) _ Q rfl hQ
      refine g_aload_n (pc := 58) X (j := 0) (i := 0) (q := 2) (x := a0) rfl rfl (dl_at t_X1_where 30 rfl) ?_
      refine r_getr (pc := 59) X fX1_18 k38 q1506 (dl_at t_X1_where 31 rfl) ?_
      refine r_getrN (pc := 62) X fX14_2 k41 (nw_in q1244 rfl) (dl_at t_X1_where 32 rfl) ?_
      refine g_gd fun k65 => ?_
      refine r_getrN (pc := 65) X fX7_7 k65 (nw_in q795 rfl) (dl_at t_X1_where 33 rfl) ?_
      refine g_iload_n (pc := 68) X (j := 3) (i := 3) (q := 0) (x := v50) rfl rfl (dl_at t_X1_where 34 rfl) ?_
      refine g_gd fun k69 => ?_
      refine g_zald (pc := 69) X g50 k69 (dl_at t_X1_where 35 rfl) fun g69 => ?_
      refine g_ifne (pc := 70) X (r32_z g69) (off := 11) (tgt := 81) rfl (dl_at t_X1_where 36 rfl) (fun _ => ?_) (fun _ => ?_)
      · refine g_iload_n (pc := 81) X (j := 1) (i := 1) (q := 1) (x := a1) rfl rfl (dl_at t_X1_where 41 rfl) ?_
        refine g_case (fun w82 => ?_) (fun nw82 => ?_)
        · refine g_tabIn (pc := 82) X (off := 34) (tgt := 116) r1 w82 (by decide) (by decide) rfl rfl dS_X1_where_82 ?_
          refine g_iload_n (pc := 116) X (j := 3) (i := 3) (q := 0) (x := v50) rfl rfl (dl_at t_X1_where 42 rfl) ?_
          exact g_iret (pc := 117) X g50 rfl rfl (dl_at t_X1_where 43 rfl)
        refine g_case (fun w82_1 => ?_) (fun nw82_1 => ?_)
        · refine g_tabIn (pc := 82) X (off := 36) (tgt := 118) r1 w82_1 (by decide) (by decide) rfl rfl dS_X1_where_82 ?_
          refine g_aload_n (pc := 118) X (j := 0) (i := 0) (q := 2) (x := a0) rfl rfl (dl_at t_X1_where 44 rfl) ?_
          refine r_getr (pc := 119) X fX1_18 k38 q1506 (dl_at t_X1_where 45 rfl) ?_
          refine g_iload_n (pc := 122) X (j := 3) (i := 3) (q := 0) (x := v50) rfl rfl (dl_at t_X1_where 46 rfl) ?_
          refine r_callRi (pc := 123) X (fun _ hv => s_X14_pageOf k41 g50 hv) cw_code q2369 q368 (in_Vk X (As := [iv v50]) kX14 k41 (Or.inr ⟨_, nw_in q3175 rfl⟩) q2368 qs91 cw_code q2369 ⟨by decide, by decide⟩ rfl (dl_at t_X1_where 47 rfl)) (dl_at t_X1_where 47 rfl) (cat24 (st := []) (Nat.le_of_ble_eq_true rfl)) (Nat.le_of_ble_eq_true rfl) (Nat.le_of_ble_eq_true rfl) fun v123 g123 => ?_
          exact g_iret (pc := 126) X g123 rfl rfl (dl_at t_X1_where 48 rfl)
        refine g_case (fun w82_2 => ?_) (fun nw82_2 => ?_)
        · refine g_tabIn (pc := 82) X (off := 45) (tgt := 127) r1 w82_2 (by decide) (by decide) rfl rfl dS_X1_where_82 ?_
          refine g_aload_n (pc := 127) X (j := 0) (i := 0) (q := 2) (x := a0) rfl rfl (dl_at t_X1_where 49 rfl) ?_
          refine r_getr (pc := 128) X fX1_18 k38 q1506 (dl_at t_X1_where 50 rfl) ?_
          refine g_aload_n (pc := 131) X (j := 0) (i := 0) (q := 2) (x := a0) rfl rfl (dl_at t_X1_where 51 rfl) ?_
          refine r_getr (pc := 132) X fX1_18 k38 q1506 (dl_at t_X1_where 52 rfl) ?_
          refine r_getrN (pc := 135) X fX14_31 k41 (nw_in q1285 rfl) (dl_at t_X1_where 53 rfl) ?_
          refine g_iload_n (pc := 138) X (j := 3) (i := 3) (q := 0) (x := v50) rfl rfl (dl_at t_X1_where 54 rfl) ?_
          refine g_gd fun k139 => ?_
          refine g_iald (pc := 139) X g50 k139 (dl_at t_X1_where 55 rfl) fun g139 => ?_
          refine r_callRi (pc := 140) X (fun _ hv => s_X14_numberAt k41 g139 hv) cw_code q2377 q368 (in_Vk X (As := [iv (h33 (h33 (h33 a0 18) 31) v50)]) kX14 k41 (Or.inr ⟨_, nw_in q3176 rfl⟩) q2376 qs93 cw_code q2377 ⟨by decide, by decide⟩ rfl (dl_at t_X1_where 56 rfl)) (dl_at t_X1_where 56 rfl) (cat24 (st := []) (Nat.le_of_ble_eq_true rfl)) (Nat.le_of_ble_eq_true rfl) (Nat.le_of_ble_eq_true rfl) fun v140 g140 => ?_
          exact g_iret (pc := 143) X g140 rfl rfl (dl_at t_X1_where 57 rfl)
        refine g_case (fun w82_3 => ?_) (fun nw82_3 => ?_)
        · refine g_tabIn (pc := 82) X (off := 62) (tgt := 144) r1 w82_3 (by decide) (by decide) rfl rfl dS_X1_where_82 ?_
          refine g_aload_n (pc := 144) X (j := 0) (i := 0) (q := 2) (x := a0) rfl rfl (dl_at t_X1_where 58 rfl) ?_
          refine r_getr (pc := 145) X fX1_18 k38 q1506 (dl_at t_X1_where 59 rfl) ?_
          refine r_getrN (pc := 148) X fX14_31 k41 (nw_in q1285 rfl) (dl_at t_X1_where 60 rfl) ?_
          refine g_iload_n (pc := 151) X (j := 3) (i := 3) (q := 0) (x := v50) rfl rfl (dl_at t_X1_where 61 rfl) ?_
          refine g_gd fun k152 => ?_
          refine g_iald (pc := 152) X g50 k152 (dl_at t_X1_where 62 rfl) fun g152 => ?_
          exact g_iret (pc := 153) X g152 rfl rfl (dl_at t_X1_where 63 rfl)
        refine g_case (fun w82_4 => ?_) (fun nw82_4 => ?_)
        · refine g_tabIn (pc := 82) X (off := 72) (tgt := 154) r1 w82_4 (by decide) (by decide) rfl rfl dS_X1_where_82 ?_
          refine g_aload_n (pc := 154) X (j := 0) (i := 0) (q := 2) (x := a0) rfl rfl (dl_at t_X1_where 64 rfl) ?_
          refine r_getr (pc := 155) X fX1_18 k38 q1506 (dl_at t_X1_where 65 rfl) ?_
          refine r_getrN (pc := 158) X fX14_32 k41 (nw_in q1287 rfl) (dl_at t_X1_where 66 rfl) ?_
          refine g_iload_n (pc := 161) X (j := 3) (i := 3) (q := 0) (x := v50) rfl rfl (dl_at t_X1_where 67 rfl) ?_
          refine g_gd fun k162 => ?_
          refine g_iald (pc := 162) X g50 k162 (dl_at t_X1_where 68 rfl) fun g162 => ?_
          exact g_iret (pc := 163) X g162 rfl rfl (dl_at t_X1_where 69 rfl)
        have w82_5 : ¬ a1 ∈ ([0, 1, 2, 3, 4] : List Int) := by simp only [List.mem_cons, List.not_mem_nil, or_false, not_or] at *; simp only [*, not_false_eq_true, and_self]
        refine g_tabElse (pc := 82) X (tgt := 164) [0, 1, 2, 3, 4] r1 w82_5 rfl rfl dS_X1_where_82 ?_
        refine g_aload_n (pc := 164) X (j := 0) (i := 0) (q := 2) (x := a0) rfl rfl (dl_at t_X1_where 70 rfl) ?_
        refine r_getr (pc := 165) X fX1_18 k38 q1506 (dl_at t_X1_where 71 rfl) ?_
        refine r_getrN (pc := 168) X fX14_2 k41 (nw_in q1244 rfl) (dl_at t_X1_where 72 rfl) ?_
        refine r_getrN (pc := 171) X fX7_9 k65 (nw_in q800 rfl) (dl_at t_X1_where 73 rfl) ?_
        refine g_iload_n (pc := 174) X (j := 3) (i := 3) (q := 0) (x := v50) rfl rfl (dl_at t_X1_where 74 rfl) ?_
        refine g_gd fun k175 => ?_
        refine g_iald (pc := 175) X g50 k175 (dl_at t_X1_where 75 rfl) fun g175 => ?_
        exact g_iret (pc := 176) X g175 rfl rfl (dl_at t_X1_where 76 rfl)
      refine r_new (pc := 73) X kJ14 q3160 (dl_at t_X1_where 37 rfl) fun a73_1 h73_1 p73_1 k73_1 E73_1 => ?_
      refine g_dup (pc := 76) X rv_cat (dl_at t_X1_where 38 rfl) ?_
      refine r_callV (pc := 77) X (fun _ hv => sx_NoSuchElementException_init__V k73_1 hv) cw_code q3171 q399 (in_I X (As := []) (Int.ne_of_gt p73_1) rfl (Or.inl q3169) q3170 q3171 ⟨by decide, by decide⟩ rfl (dl_at t_X1_where 39 rfl)) (dl_at t_X1_where 39 rfl) (cat24 (st := [rv D a73_1]) (Nat.le_of_ble_eq_true rfl)) (Nat.le_of_ble_eq_true rfl) (Nat.le_of_ble_eq_true rfl) fun h77_1 E77_1 => ?_
      refine g_athrow (pc := 80) X (Int.ne_of_gt p73_1) (dl_at t_X1_where 40 rfl) ?_
      exact gt_at fun Q hQ => gt_out (Q := Q) X rfl p73_1 (hno _) _ Q rfl hQ
    intro J29
    refine g_ifnull (pc := 21) X (off := 7) (tgt := 28) rfl (dl_at t_X1_where 11 rfl) (fun _ => ?_) (fun _ => ?_)
    · refine g_iconst (pc := 28) X (n := 0) (dl_at t_X1_where 14 rfl) ?_
      exact J29 0 (Or.inl rfl)
    refine g_iconst (pc := 24) X (n := 1) (dl_at t_X1_where 12 rfl) ?_
    refine g_goto (pc := 25) X (off := 4) (tgt := 29) rfl (dl_at t_X1_where 13 rfl) ?_
    exact J29 1 (Or.inr rfl)
  intro J14
  refine g_join (γ := Unit) (fun q => True) 13 (fun q => [(0, rv D a0), (1, iv a1)]) (fun q => []) (fun q => h) (fun q => m_X1_where_j13 a0 a1 h) ?_ ?_
  · rintro _ _
    try dsimp only
    unfold m_X1_where_j13
    refine g_iconst (pc := 13) X (n := 0) (dl_at t_X1_where 7 rfl) ?_
    exact J14 0 (Or.inl rfl)
  intro J13
  refine g_iflt (pc := 1) X r1 (off := 12) (tgt := 13) rfl (dl_at t_X1_where 1 rfl) (fun _ => ?_) (fun _ => ?_)
  · exact J13 () trivial
  refine g_iload_n (pc := 4) X (j := 1) (i := 1) (q := 1) (x := a1) rfl rfl (dl_at t_X1_where 2 rfl) ?_
  refine g_iconst (pc := 5) X (n := 5) (dl_at t_X1_where 3 rfl) ?_
  refine g_icmpgt (pc := 6) X r1 (r32_c rfl) (off := 7) (tgt := 13) rfl (dl_at t_X1_where 4 rfl) (fun _ => ?_) (fun _ => ?_)
  · exact J13 () trivial
  refine g_iconst (pc := 9) X (n := 1) (dl_at t_X1_where 5 rfl) ?_
  refine g_goto (pc := 10) X (off := 4) (tgt := 14) rfl (dl_at t_X1_where 6 rfl) ?_
  exact J14 1 (Or.inr rfl)
def k_X0_where : List (Nat × Instr × Nat) := [(0, .aload_n 2, 1), (1, .iconst 0, 1), (2, .aload_n 0, 1), (3, .iload_n 1, 1), (4, .invokevirtual 67, 3), (7, .i2l, 1), (8, .lastore, 1), (9, .goto 12, 3), (12, .astore_n 3, 1), (13, .iconst 1, 1), (14, .ireturn, 1), (15, .astore_n 3, 1), (16, .iconst 2, 1), (17, .ireturn, 1), (18, .astore_n 3, 1), (19, .iconst 3, 1), (20, .ireturn, 1), (21, .iconst 0, 1), (22, .ireturn, 1)]
theorem t_X0_where : ∀ q ∈ k_X0_where, decode cX0_where q.1 = .ok q.2 := dl_all (by decide +kernel)
noncomputable def m_X0_where (a0 a1 a2 : Int) (h : Hp) : Option (Int × Hp) :=
  gd (h a0 (-2) = 16) (bT (m_X1_where a0 a1 h) (fun v4 h4_1 =>
  gd (h4_1 a2 (-2) % 16 = 4 ∧ (0 : Int) ≤ 0 ∧ 0 < h4_1 a2 (-1)) (pt h4_1 a2 0 v4 fun h8 =>
  some (0, h8))) (fun a4 h4 => if h4 a4 (-2) = 496 then (some (1, h4))
  else (if h4 a4 (-2) = 528 then (some (2, h4))
  else (if h4 a4 (-2) = 560 then (some (3, h4))
  else (none)))))
theorem s_X0_where {l : Launch} [NoTr l] {D : SD} {a0 a1 a2 : Int} {h : Hp} (r1 : r32 a1) {r : Int × Hp} (hm : m_X0_where a0 a1 a2 h = some r) : Sim l D yX0_where (Cond.codeWith yX0_where cX0_where 4 (Option.some Jvm.ClassFile.FieldType.int) [((0 : Nat), (9 : Nat), (12 : Nat), (19 : Nat)), ((0 : Nat), (9 : Nat), (15 : Nat), (40 : Nat)), ((0 : Nat), (9 : Nat), (18 : Nat), (70 : Nat))]) 11 411 [rv D a0, iv a1, rv D a2] h 1 ((0, r.1), r.2) := by
  refine Sim.of (fin := fun (v : Int × Hp) => ((0, v.1), v.2)) (lsE := [(0, rv D a0), (1, iv a1), (2, rv D a2)]) hm rfl cwS_with (la_r (la_i (la_r la_n))) (ll_r (ll_i (ll_r ll_n))) ?_
  intro p e s m below meth c X hcw hmm hcc hnm hname
  have htb := tabW hcw hnm hmm hcc
  unfold m_X0_where
  refine g_aload_n (pc := 0) X (j := 2) (i := 2) (q := 2) (x := a2) rfl rfl (dl_at t_X0_where 0 rfl) ?_
  refine g_iconst (pc := 1) X (n := 0) (dl_at t_X0_where 1 rfl) ?_
  refine g_aload_n (pc := 2) X (j := 0) (i := 0) (q := 0) (x := a0) rfl rfl (dl_at t_X0_where 2 rfl) ?_
  refine g_iload_n (pc := 3) X (j := 1) (i := 1) (q := 1) (x := a1) rfl rfl (dl_at t_X0_where 3 rfl) ?_
  refine g_gd fun k4 => ?_
  refine r_callTi (pc := 4) X (fun _ hv => s_X1_where k4 r1 hv) cw_code q3154 q355 (in_Vk X (As := [iv a1]) kX1 k4 (Or.inl q3151) q3152 q3153 cw_code q3154 ⟨by decide, by decide⟩ rfl (dl_at t_X0_where 4 rfl)) (dl_at t_X0_where 4 rfl) (cat24 (st := [iv 0, rv D a2]) (Nat.le_of_ble_eq_true rfl)) (Nat.le_of_ble_eq_true rfl) (Nat.le_of_ble_eq_true rfl) (fun v4 h4_1 g4 E4_1 => ?_) (fun a4 h4 p4 E4 => ?_)
  · refine g_i2l (pc := 7) X g4 (dl_at t_X0_where 5 rfl) ?_
    refine g_gd fun k8 => ?_
    refine r_last (pc := 8) X (r32_c rfl) (r64_of g4) k8 (dl_at t_X0_where 6 rfl) (fun h8 E8 => ?_)
    refine g_goto (pc := 9) X (off := 12) (tgt := 21) rfl (dl_at t_X0_where 7 rfl) ?_
    refine g_iconst (pc := 21) X (n := 0) (dl_at t_X0_where 17 rfl) ?_
    exact g_iret (pc := 22) X (r32_c rfl) rfl rfl (dl_at t_X0_where 18 rfl)
  refine gt_case (fun k4_1 => ?_) (fun _ => ?_)
  · refine gt_catch (pc := 4) X kJ6 k4_1 [((0, 9, 12, 19), "java/lang/IllegalArgumentException", true), ((0, 9, 15, 40), "java/lang/IllegalStateException", false), ((0, 9, 18, 70), "java/util/NoSuchElementException", false)] (hp := 12) rfl (by decide +kernel) (List.forall_mem_cons.mpr ⟨⟨q1682, by decide⟩, (List.forall_mem_cons.mpr ⟨⟨q2237, by decide⟩, (List.forall_mem_cons.mpr ⟨⟨q3150, by decide⟩, fun _ h => absurd h List.not_mem_nil⟩)⟩)⟩) htb ?_
    refine g_astore_n (pc := 12) X (j := 3) (i := 3) (x := a4) (rest := []) rfl (Nat.le_of_ble_eq_true rfl) [] rfl rfl (dl_at t_X0_where 8 rfl) ?_
    refine g_iconst (pc := 13) X (n := 1) (dl_at t_X0_where 9 rfl) ?_
    exact g_iret (pc := 14) X (r32_c rfl) rfl rfl (dl_at t_X0_where 10 rfl)
  refine gt_case (fun k4_2 => ?_) (fun _ => ?_)
  · refine gt_catch (pc := 4) X kJ11 k4_2 [((0, 9, 12, 19), "java/lang/IllegalArgumentException", false), ((0, 9, 15, 40), "java/lang/IllegalStateException", true), ((0, 9, 18, 70), "java/util/NoSuchElementException", false)] (hp := 15) rfl (by decide +kernel) (List.forall_mem_cons.mpr ⟨⟨q1682, by decide⟩, (List.forall_mem_cons.mpr ⟨⟨q2237, by decide⟩, (List.forall_mem_cons.mpr ⟨⟨q3150, by decide⟩, fun _ h => absurd h List.not_mem_nil⟩)⟩)⟩) htb ?_
    refine g_astore_n (pc := 15) X (j := 3) (i := 3) (x := a4) (rest := []) rfl (Nat.le_of_ble_eq_true rfl) [] rfl rfl (dl_at t_X0_where 11 rfl) ?_
    refine g_iconst (pc := 16) X (n := 2) (dl_at t_X0_where 12 rfl) ?_
    exact g_iret (pc := 17) X (r32_c rfl) rfl rfl (dl_at t_X0_where 13 rfl)
  refine gt_case (fun k4_3 => ?_) (fun _ => ?_)
  · refine gt_catch (pc := 4) X kJ14 k4_3 [((0, 9, 12, 19), "java/lang/IllegalArgumentException", false), ((0, 9, 15, 40), "java/lang/IllegalStateException", false), ((0, 9, 18, 70), "java/util/NoSuchElementException", true)] (hp := 18) rfl (by decide +kernel) (List.forall_mem_cons.mpr ⟨⟨q1682, by decide⟩, (List.forall_mem_cons.mpr ⟨⟨q2237, by decide⟩, (List.forall_mem_cons.mpr ⟨⟨q3150, by decide⟩, fun _ h => absurd h List.not_mem_nil⟩)⟩)⟩) htb ?_
    refine g_astore_n (pc := 18) X (j := 3) (i := 3) (x := a4) (rest := []) rfl (Nat.le_of_ble_eq_true rfl) [] rfl rfl (dl_at t_X0_where 14 rfl) ?_
    refine g_iconst (pc := 19) X (n := 3) (dl_at t_X0_where 15 rfl) ?_
    exact g_iret (pc := 20) X (r32_c rfl) rfl rfl (dl_at t_X0_where 16 rfl)
  exact gt_none
def k_X14_columnOfFloat : List (Nat × Instr × Nat) := [(0, .iconst 0, 1), (1, .istore_n 2, 1), (2, .iload_n 2, 1), (3, .iconst 1, 1), (4, .iadd, 1), (5, .aload_n 0, 1), (6, .getfield 217, 3), (9, .if_icmp .ge 19, 3), (12, .iload_n 1, 1), (13, .aload_n 0, 1), (14, .getfield 145, 3), (17, .iload_n 2, 1), (18, .iaload, 1), (19, .if_icmp .lt 9, 3), (22, .iinc 2 1, 3), (25, .goto (-23), 3), (28, .iload_n 2, 1), (29, .ireturn, 1)]
theorem t_X14_columnOfFloat : ∀ q ∈ k_X14_columnOfFloat, decode cX14_columnOfFloat q.1 = .ok q.2 := dl_all (by decide +kernel)
noncomputable def m_X14_columnOfFloat_l2 (a0 a1 x2_2 : Int) (h : Hp) : Option ((Int) ⊕ ((Int))) :=
  if (h a0 58) ≤ (w32 (x2_2 + 1)) then (some (.inr x2_2))
  else (gd (h (h a0 64) (-2) % 16 = 1 ∧ (0 : Int) ≤ x2_2 ∧ x2_2 < h (h a0 64) (-1)) (if a1 < (h (h a0 64) x2_2) then (some (.inr x2_2))
  else (lt_ (w32 (x2_2 + 1)) fun x2_22 =>
  some (.inl x2_22))))
noncomputable def m_X14_columnOfFloat (a0 a1 : Int) (h : Hp) : Option (Int) :=
  lt_ 0 fun x2_1 =>
  (lp (fun (q : Int) => m_X14_columnOfFloat_l2 a0 a1 q h) x2_1).bind (fun (x : Int) => some x)
theorem s_X14_columnOfFloat {l : Launch} [NoTr l] {D : SD} {a0 a1 : Int} {h : Hp} (hk : h a0 (-2) = 224) (r1 : r32 a1) {r : Int} (hm : m_X14_columnOfFloat a0 a1 h = some r) : Sim l D yX14_columnOfFloat (Cond.code yX14_columnOfFloat cX14_columnOfFloat 3 (Option.some Jvm.ClassFile.FieldType.int)) 0 0 [rv D a0, iv a1] h 1 ((0, r), h) := by
  refine Sim.of (fin := fun (v : Int) => ((0, v), h)) (lsE := [(0, rv D a0), (1, iv a1)]) hm rfl cwS_code (la_r (la_i la_n)) (ll_r (ll_i ll_n)) ?_
  intro p e s m below meth c X hcw hmm hcc hnm hname
  unfold m_X14_columnOfFloat
  refine g_iconst (pc := 0) X (n := 0) (dl_at t_X14_columnOfFloat 0 rfl) ?_
  refine g_ltz (Or.inl rfl) fun x2_1 r2_1 => ?_
  refine g_istore_nN (pc := 1) X (j := 2) (i := 2) (x := x2_1) (b := 1) (w := iv a1) (rest := [(0, rv D a0)]) rfl (Nat.le_of_ble_eq_true rfl) [1, 0] rfl (by decide) rfl rfl (dl_at t_X14_columnOfFloat 1 rfl) ?_
  refine g_ls (ls2 := [(0, rv D a0), (1, iv a1), (2, iv x2_1)]) [2, 1, 0] rfl ?_
  refine g_loop0F (fun (q : Int) => [(0, rv D a0), (1, iv a1), (2, iv q)]) (fun (q : Int) => h) (fun (q : Int) => r32 q) x2_1 (r32_z r2_1) ?_ (fun _ => rfl)
  · rintro x2_2 r2_2
    try dsimp only
    unfold m_X14_columnOfFloat_l2
    refine g_iload_n (pc := 2) X (j := 2) (i := 2) (q := 2) (x := x2_2) rfl rfl (dl_at t_X14_columnOfFloat 2 rfl) ?_
    refine g_iconst (pc := 3) X (n := 1) (dl_at t_X14_columnOfFloat 3 rfl) ?_
    refine g_iadd (pc := 4) X r2_2 (r32_c rfl) (dl_at t_X14_columnOfFloat 4 rfl) ?_
    refine g_aload_n (pc := 5) X (j := 0) (i := 0) (q := 0) (x := a0) rfl rfl (dl_at t_X14_columnOfFloat 5 rfl) ?_
    refine r_geti (pc := 6) X fX14_58 hk q1321 (dl_at t_X14_columnOfFloat 6 rfl) fun g6 => ?_
    refine g_icmpge (pc := 9) X (r32_w _) g6 (off := 19) (tgt := 28) rfl (dl_at t_X14_columnOfFloat 7 rfl) (fun _ => ?_) (fun _ => ?_)
    · refine g_iload_n (pc := 28) X (j := 2) (i := 2) (q := 2) (x := x2_2) rfl rfl (dl_at t_X14_columnOfFloat 16 rfl) ?_
      exact g_at fun Q hQ => (g_iret (pc := 29) X r2_2 rfl rfl (dl_at t_X14_columnOfFloat 17 rfl)) _ Q rfl hQ
    refine g_iload_n (pc := 12) X (j := 1) (i := 1) (q := 1) (x := a1) rfl rfl (dl_at t_X14_columnOfFloat 8 rfl) ?_
    refine g_aload_n (pc := 13) X (j := 0) (i := 0) (q := 0) (x := a0) rfl rfl (dl_at t_X14_columnOfFloat 9 rfl) ?_
    refine r_getr (pc := 14) X fX14_64 hk q1329 (dl_at t_X14_columnOfFloat 10 rfl) ?_
    refine g_iload_n (pc := 17) X (j := 2) (i := 2) (q := 2) (x := x2_2) rfl rfl (dl_at t_X14_columnOfFloat 11 rfl) ?_
    refine g_gd fun k18 => ?_
    refine g_iald (pc := 18) X r2_2 k18 (dl_at t_X14_columnOfFloat 12 rfl) fun g18 => ?_
    refine g_icmplt (pc := 19) X r1 g18 (off := 9) (tgt := 28) rfl (dl_at t_X14_columnOfFloat 13 rfl) (fun _ => ?_) (fun _ => ?_)
    · refine g_iload_n (pc := 28) X (j := 2) (i := 2) (q := 2) (x := x2_2) rfl rfl (dl_at t_X14_columnOfFloat 16 rfl) ?_
      exact g_at fun Q hQ => (g_iret (pc := 29) X r2_2 rfl rfl (dl_at t_X14_columnOfFloat 17 rfl)) _ Q rfl hQ
    refine r_iincN (pc := 22) X (i := 2) (q := 2) (n := 1) (x := x2_2) (b := 1) (w := iv a1) (rest := [(0, rv D a0)]) rfl r2_2 (r32_c rfl) (Nat.le_of_ble_eq_true rfl) [1, 0] rfl (by decide) rfl rfl (dl_at t_X14_columnOfFloat 14 rfl) fun x2_22 r2_22 => ?_
    refine g_goto (pc := 25) X (off := (-23)) (tgt := 2) rfl (dl_at t_X14_columnOfFloat 15 rfl) ?_
    refine g_ls (ls2 := [(0, rv D a0), (1, iv a1), (2, iv x2_22)]) [2, 1, 0] rfl ?_
    exact g_at fun Q hQ => hQ r2_22
def k_X14_floatTop : List (Nat × Instr × Nat) := [(0, .iconst 0, 1), (1, .istore_n 3, 1), (2, .aload_n 0, 1), (3, .getfield 142, 3), (6, .iload_n 2, 1), (7, .iaload, 1), (8, .istore 4, 2), (10, .iload 4, 2), (12, .iload_n 1, 1), (13, .if_icmp .ge 18, 3), (16, .iload_n 3, 1), (17, .aload_n 0, 1), (18, .iload 4, 2), (20, .invokevirtual 673, 3), (23, .iadd, 1), (24, .istore_n 3, 1), (25, .iinc 4 1, 3), (28, .goto (-18), 3), (31, .iload_n 3, 1), (32, .ireturn, 1)]
theorem t_X14_floatTop : ∀ q ∈ k_X14_floatTop, decode cX14_floatTop q.1 = .ok q.2 := dl_all (by decide +kernel)
noncomputable def m_X14_floatTop_l10 (a0 a1 x3_10 x4_10 : Int) (h : Hp) : Option ((Int × Int) ⊕ ((Int))) :=
  if a1 ≤ x4_10 then (some (.inr x3_10))
  else ((m_X14_floatHeight a0 x4_10 h).bind fun v20 =>
  lt_ (w32 (x3_10 + v20)) fun x3_24 =>
  lt_ (w32 (x4_10 + 1)) fun x4_25 =>
  some (.inl (x3_24, x4_25)))
noncomputable def m_X14_floatTop (a0 a1 a2 : Int) (h : Hp) : Option (Int) :=
  lt_ 0 fun x3_1 =>
  gd (h (h a0 63) (-2) % 16 = 1 ∧ (0 : Int) ≤ a2 ∧ a2 < h (h a0 63) (-1)) (lt_ (h (h a0 63) a2) fun x4_8 =>
  (lp (fun (q : Int × Int) => m_X14_floatTop_l10 a0 a1 q.1 q.2 h) (x3_1, x4_8)).bind (fun (x : Int) => some x))
theorem s_X14_floatTop {l : Launch} [NoTr l] {D : SD} {a0 a1 a2 : Int} {h : Hp} (hk : h a0 (-2) = 224) (r1 : r32 a1) (r2 : r32 a2) {r : Int} (hm : m_X14_floatTop a0 a1 a2 h = some r) : Sim l D yX14_floatTop (Cond.code yX14_floatTop cX14_floatTop 5 (Option.some Jvm.ClassFile.FieldType.int)) 4 150 [rv D a0, iv a1, iv a2] h 1 ((0, r), h) := by
  refine Sim.of (fin := fun (v : Int) => ((0, v), h)) (lsE := [(0, rv D a0), (1, iv a1), (2, iv a2)]) hm rfl cwS_code (la_r (la_i (la_i la_n))) (ll_r (ll_i (ll_i ll_n))) ?_
  intro p e s m below meth c X hcw hmm hcc hnm hname
  unfold m_X14_floatTop
  refine g_iconst (pc := 0) X (n := 0) (dl_at t_X14_floatTop 0 rfl) ?_
  refine g_ltz (Or.inl rfl) fun x3_1 r3_1 => ?_
  refine g_istore_nN (pc := 1) X (j := 3) (i := 3) (x := x3_1) (b := 2) (w := iv a2) (rest := [(0, rv D a0), (1, iv a1)]) rfl (Nat.le_of_ble_eq_true rfl) [2, 0, 1] rfl (by decide) rfl rfl (dl_at t_X14_floatTop 1 rfl) ?_
  refine g_aload_n (pc := 2) X (j := 0) (i := 0) (q := 2) (x := a0) rfl rfl (dl_at t_X14_floatTop 2 rfl) ?_
  refine r_getr (pc := 3) X fX14_63 hk q1328 (dl_at t_X14_floatTop 3 rfl) ?_
  refine g_iload_n (pc := 6) X (j := 2) (i := 2) (q := 1) (x := a2) rfl rfl (dl_at t_X14_floatTop 4 rfl) ?_
  refine g_gd fun k7 => ?_
  refine g_iald (pc := 7) X r2 k7 (dl_at t_X14_floatTop 5 rfl) fun g7 => ?_
  refine g_lti g7 fun x4_8 r4_8 => ?_
  refine g_istoreN (pc := 8) X (i := 4) (x := x4_8) (b := 3) (w := iv x3_1) (rest := [(0, rv D a0), (1, iv a1)]) (Nat.le_of_ble_eq_true rfl) [0, 2, 3] rfl (by decide) rfl rfl (dl_at t_X14_floatTop 6 rfl) ?_
  refine g_ls (ls2 := [(0, rv D a0), (1, iv a1), (3, iv x3_1), (4, iv x4_8)]) [2, 3, 1, 0] rfl ?_
  refine g_loop0F (fun (q : Int × Int) => [(0, rv D a0), (1, iv a1), (3, iv q.1), (4, iv q.2)]) (fun (q : Int × Int) => h) (fun (q : Int × Int) => r32 q.1 ∧ r32 q.2) (x3_1, x4_8) ⟨(r32_z r3_1), r4_8⟩ ?_ (fun _ => rfl)
  · rintro ⟨x3_10, x4_10⟩ ⟨r3_10, r4_10⟩
    try dsimp only
    unfold m_X14_floatTop_l10
    refine g_iload (pc := 10) X (i := 4) (q := 3) (x := x4_10) rfl (dl_at t_X14_floatTop 7 rfl) ?_
    refine g_iload_n (pc := 12) X (j := 1) (i := 1) (q := 1) (x := a1) rfl rfl (dl_at t_X14_floatTop 8 rfl) ?_
    refine g_icmpge (pc := 13) X r4_10 r1 (off := 18) (tgt := 31) rfl (dl_at t_X14_floatTop 9 rfl) (fun _ => ?_) (fun _ => ?_)
    · refine g_iload_n (pc := 31) X (j := 3) (i := 3) (q := 2) (x := x3_10) rfl rfl (dl_at t_X14_floatTop 18 rfl) ?_
      exact g_at fun Q hQ => (g_iret (pc := 32) X r3_10 rfl rfl (dl_at t_X14_floatTop 19 rfl)) _ Q rfl hQ
    refine g_iload_n (pc := 16) X (j := 3) (i := 3) (q := 2) (x := x3_10) rfl rfl (dl_at t_X14_floatTop 10 rfl) ?_
    refine g_aload_n (pc := 17) X (j := 0) (i := 0) (q := 0) (x := a0) rfl rfl (dl_at t_X14_floatTop 11 rfl) ?_
    refine g_iload (pc := 18) X (i := 4) (q := 3) (x := x4_10) rfl (dl_at t_X14_floatTop 12 rfl) ?_
    refine r_callRi (pc := 20) X (fun _ hv => s_X14_floatHeight hk r4_10 hv) cw_code q3004 q368 (in_Vk X (As := [iv x4_10]) kX14 hk (Or.inl q3001) q3003 qs204 cw_code q3004 ⟨by decide, by decide⟩ rfl (dl_at t_X14_floatTop 13 rfl)) (dl_at t_X14_floatTop 13 rfl) (cat24 (st := [iv x3_10]) (Nat.le_of_ble_eq_true rfl)) (Nat.le_of_ble_eq_true rfl) (Nat.le_of_ble_eq_true rfl) fun v20 g20 => ?_
    refine g_iadd (pc := 23) X r3_10 g20 (dl_at t_X14_floatTop 14 rfl) ?_
    refine g_lti (r32_w _) fun x3_24 r3_24 => ?_
    refine g_istore_n (pc := 24) X (j := 3) (i := 3) (x := x3_24) (rest := [(0, rv D a0), (1, iv a1), (4, iv x4_10)]) rfl (Nat.le_of_ble_eq_true rfl) [0, 1, 3] rfl rfl (dl_at t_X14_floatTop 15 rfl) ?_
    refine r_iincN (pc := 25) X (i := 4) (q := 3) (n := 1) (x := x4_10) (b := 3) (w := iv x3_24) (rest := [(0, rv D a0), (1, iv a1)]) rfl r4_10 (r32_c rfl) (Nat.le_of_ble_eq_true rfl) [0, 1, 2] rfl (by decide) rfl rfl (dl_at t_X14_floatTop 16 rfl) fun x4_25 r4_25 => ?_
    refine g_goto (pc := 28) X (off := (-18)) (tgt := 10) rfl (dl_at t_X14_floatTop 17 rfl) ?_
    refine g_ls (ls2 := [(0, rv D a0), (1, iv a1), (3, iv x3_24), (4, iv x4_25)]) [2, 3, 1, 0] rfl ?_
    exact g_at fun Q hQ => hQ ⟨r3_24, r4_25⟩
def k_X1_floatTold : List (Nat × Instr × Nat) := [(0, .iload_n 2, 1), (28, .aload_n 0, 1), (29, .getfield 169, 3), (32, .getfield 443, 3), (35, .iload_n 1, 1), (36, .iaload, 1), (37, .ireturn, 1), (38, .aload_n 0, 1), (39, .getfield 169, 3), (42, .getfield 446, 3), (45, .iload_n 1, 1), (46, .iaload, 1), (47, .ireturn, 1), (48, .aload_n 0, 1), (49, .getfield 169, 3), (52, .getfield 315, 3), (55, .ifCond .ne 7, 3), (58, .iconst (-1), 1), (59, .goto 11, 3), (62, .aload_n 0, 1), (63, .getfield 169, 3), (66, .iload_n 1, 1), (67, .invokevirtual 449, 3), (70, .ireturn, 1), (71, .aload_n 0, 1), (72, .getfield 169, 3), (75, .getfield 315, 3), (78, .ifCond .ne 7, 3), (81, .iconst 0, 1), (82, .goto 19, 3), (85, .aload_n 0, 1), (86, .getfield 169, 3), (89, .iload_n 1, 1), (90, .aload_n 0, 1), (91, .getfield 169, 3), (94, .iload_n 1, 1), (95, .invokevirtual 449, 3), (98, .invokevirtual 452, 3), (101, .ireturn, 1)]
theorem t_X1_floatTold : ∀ q ∈ k_X1_floatTold, decode cX1_floatTold q.1 = .ok q.2 := dl_all (by decide +kernel)
theorem dS_X1_floatTold_1 : decode cX1_floatTold 1 = .ok (.tableswitch 70 10 12 #[27, 37, 47], 27) := by decide +kernel
noncomputable def m_X1_floatTold (a0 a1 a2 : Int) (h : Hp) : Option (Int) :=
  if a2 = 10 then (gd (h (h a0 18) (-2) = 224) (gd (h (h (h a0 18) 37) (-2) % 16 = 1 ∧ (0 : Int) ≤ a1 ∧ a1 < h (h (h a0 18) 37) (-1)) (some (h (h (h a0 18) 37) a1))))
  else (if a2 = 11 then (gd (h (h a0 18) (-2) = 224) (gd (h (h (h a0 18) 38) (-2) % 16 = 1 ∧ (0 : Int) ≤ a1 ∧ a1 < h (h (h a0 18) 38) (-1)) (some (h (h (h a0 18) 38) a1))))
  else (if a2 = 12 then (gd (h (h a0 18) (-2) = 224) (if (h (h a0 18) 18) ≠ 0 then ((m_X14_columnOfFloat (h a0 18) a1 h).bind fun v67 =>
  some v67)
  else (some (-1))))
  else (gd (h (h a0 18) (-2) = 224) (if (h (h a0 18) 18) ≠ 0 then ((m_X14_columnOfFloat (h a0 18) a1 h).bind fun v95 =>
  (m_X14_floatTop (h a0 18) a1 v95 h).bind fun v98 =>
  some v98)
  else (some 0)))))
theorem s_X1_floatTold {l : Launch} [NoTr l] {D : SD} {a0 a1 a2 : Int} {h : Hp} (hk : h a0 (-2) = 16) (r1 : r32 a1) (r2 : r32 a2) {r : Int} (hm : m_X1_floatTold a0 a1 a2 h = some r) : Sim l D yX1_floatTold (Cond.code yX1_floatTold cX1_floatTold 3 (Option.some Jvm.ClassFile.FieldType.int)) 5 190 [rv D a0, iv a1, iv a2] h 1 ((0, r), h) := by
  refine Sim.of (fin := fun (v : Int) => ((0, v), h)) (lsE := [(0, rv D a0), (1, iv a1), (2, iv a2)]) hm rfl cwS_code (la_r (la_i (la_i la_n))) (ll_r (ll_i (ll_i ll_n))) ?_
  intro p e s m below meth c X hcw hmm hcc hnm hname
  unfold m_X1_floatTold
  refine g_iload_n (pc := 0) X (j := 2) (i := 2) (q := 2) (x := a2) rfl rfl (dl_at t_X1_floatTold 0 rfl) ?_
  refine g_case (fun w1 => ?_) (fun nw1 => ?_)
  · refine g_tabIn (pc := 1) X (off := 27) (tgt := 28) r2 w1 (by decide) (by decide) rfl rfl dS_X1_floatTold_1 ?_
    refine g_aload_n (pc := 28) X (j := 0) (i := 0) (q := 0) (x := a0) rfl rfl (dl_at t_X1_floatTold 1 rfl) ?_
    refine r_getr (pc := 29) X fX1_18 hk q1506 (dl_at t_X1_floatTold 2 rfl) ?_
    refine g_gd fun k32 => ?_
    refine r_getrN (pc := 32) X fX14_37 k32 (nw_in q1296 rfl) (dl_at t_X1_floatTold 3 rfl) ?_
    refine g_iload_n (pc := 35) X (j := 1) (i := 1) (q := 1) (x := a1) rfl rfl (dl_at t_X1_floatTold 4 rfl) ?_
    refine g_gd fun k36 => ?_
    refine g_iald (pc := 36) X r1 k36 (dl_at t_X1_floatTold 5 rfl) fun g36 => ?_
    exact g_iret (pc := 37) X g36 rfl rfl (dl_at t_X1_floatTold 6 rfl)
  refine g_case (fun w1_1 => ?_) (fun nw1_1 => ?_)
  · refine g_tabIn (pc := 1) X (off := 37) (tgt := 38) r2 w1_1 (by decide) (by decide) rfl rfl dS_X1_floatTold_1 ?_
    refine g_aload_n (pc := 38) X (j := 0) (i := 0) (q := 0) (x := a0) rfl rfl (dl_at t_X1_floatTold 7 rfl) ?_
    refine r_getr (pc := 39) X fX1_18 hk q1506 (dl_at t_X1_floatTold 8 rfl) ?_
    refine g_gd fun k42 => ?_
    refine r_getrN (pc := 42) X fX14_38 k42 (nw_in q1298 rfl) (dl_at t_X1_floatTold 9 rfl) ?_
    refine g_iload_n (pc := 45) X (j := 1) (i := 1) (q := 1) (x := a1) rfl rfl (dl_at t_X1_floatTold 10 rfl) ?_
    refine g_gd fun k46 => ?_
    refine g_iald (pc := 46) X r1 k46 (dl_at t_X1_floatTold 11 rfl) fun g46 => ?_
    exact g_iret (pc := 47) X g46 rfl rfl (dl_at t_X1_floatTold 12 rfl)
  refine g_case (fun w1_2 => ?_) (fun nw1_2 => ?_)
  · refine g_tabIn (pc := 1) X (off := 47) (tgt := 48) r2 w1_2 (by decide) (by decide) rfl rfl dS_X1_floatTold_1 ?_
    refine g_aload_n (pc := 48) X (j := 0) (i := 0) (q := 0) (x := a0) rfl rfl (dl_at t_X1_floatTold 13 rfl) ?_
    refine r_getr (pc := 49) X fX1_18 hk q1506 (dl_at t_X1_floatTold 14 rfl) ?_
    refine g_gd fun k52 => ?_
    refine r_getiN (pc := 52) X fX14_18 k52 (nw_in q1270 rfl) (dl_at t_X1_floatTold 15 rfl) fun g52 => ?_
    refine g_ifne (pc := 55) X g52 (off := 7) (tgt := 62) rfl (dl_at t_X1_floatTold 16 rfl) (fun _ => ?_) (fun _ => ?_)
    · refine g_aload_n (pc := 62) X (j := 0) (i := 0) (q := 0) (x := a0) rfl rfl (dl_at t_X1_floatTold 19 rfl) ?_
      refine r_getr (pc := 63) X fX1_18 hk q1506 (dl_at t_X1_floatTold 20 rfl) ?_
      refine g_iload_n (pc := 66) X (j := 1) (i := 1) (q := 1) (x := a1) rfl rfl (dl_at t_X1_floatTold 21 rfl) ?_
      refine r_callRi (pc := 67) X (fun _ hv => s_X14_columnOfFloat k52 r1 hv) cw_code q3191 q368 (in_Vk X (As := [iv a1]) kX14 k52 (Or.inr ⟨_, nw_in q3188 rfl⟩) q3190 qs227 cw_code q3191 ⟨by decide, by decide⟩ rfl (dl_at t_X1_floatTold 22 rfl)) (dl_at t_X1_floatTold 22 rfl) (cat24 (st := []) (Nat.le_of_ble_eq_true rfl)) (Nat.le_of_ble_eq_true rfl) (Nat.le_of_ble_eq_true rfl) fun v67 g67 => ?_
      exact g_iret (pc := 70) X g67 rfl rfl (dl_at t_X1_floatTold 23 rfl)
    refine g_iconst (pc := 58) X (n := (-1)) (dl_at t_X1_floatTold 17 rfl) ?_
    refine g_goto (pc := 59) X (off := 11) (tgt := 70) rfl (dl_at t_X1_floatTold 18 rfl) ?_
    exact g_iret (pc := 70) X (r32_c rfl) rfl rfl (dl_at t_X1_floatTold 23 rfl)
  have w1_3 : ¬ a2 ∈ ([10, 11, 12] : List Int) := by simp only [List.mem_cons, List.not_mem_nil, or_false, not_or] at *; simp only [*, not_false_eq_true, and_self]
  refine g_tabElse (pc := 1) X (tgt := 71) [10, 11, 12] r2 w1_3 rfl rfl dS_X1_floatTold_1 ?_
  refine g_aload_n (pc := 71) X (j := 0) (i := 0) (q := 0) (x := a0) rfl rfl (dl_at t_X1_floatTold 24 rfl) ?_
  refine r_getr (pc := 72) X fX1_18 hk q1506 (dl_at t_X1_floatTold 25 rfl) ?_
  refine g_gd fun k75 => ?_
  refine r_getiN (pc := 75) X fX14_18 k75 (nw_in q1270 rfl) (dl_at t_X1_floatTold 26 rfl) fun g75 => ?_
  refine g_ifne (pc := 78) X g75 (off := 7) (tgt := 85) rfl (dl_at t_X1_floatTold 27 rfl) (fun _ => ?_) (fun _ => ?_)
  · refine g_aload_n (pc := 85) X (j := 0) (i := 0) (q := 0) (x := a0) rfl rfl (dl_at t_X1_floatTold 30 rfl) ?_
    refine r_getr (pc := 86) X fX1_18 hk q1506 (dl_at t_X1_floatTold 31 rfl) ?_
    refine g_iload_n (pc := 89) X (j := 1) (i := 1) (q := 1) (x := a1) rfl rfl (dl_at t_X1_floatTold 32 rfl) ?_
    refine g_aload_n (pc := 90) X (j := 0) (i := 0) (q := 0) (x := a0) rfl rfl (dl_at t_X1_floatTold 33 rfl) ?_
    refine r_getr (pc := 91) X fX1_18 hk q1506 (dl_at t_X1_floatTold 34 rfl) ?_
    refine g_iload_n (pc := 94) X (j := 1) (i := 1) (q := 1) (x := a1) rfl rfl (dl_at t_X1_floatTold 35 rfl) ?_
    refine r_callRi (pc := 95) X (fun _ hv => s_X14_columnOfFloat k75 r1 hv) cw_code q3191 q368 (in_Vk X (As := [iv a1]) kX14 k75 (Or.inr ⟨_, nw_in q3188 rfl⟩) q3190 qs227 cw_code q3191 ⟨by decide, by decide⟩ rfl (dl_at t_X1_floatTold 36 rfl)) (dl_at t_X1_floatTold 36 rfl) (cat24 (st := [iv a1, rv D (h a0 18)]) (Nat.le_of_ble_eq_true rfl)) (Nat.le_of_ble_eq_true rfl) (Nat.le_of_ble_eq_true rfl) fun v95 g95 => ?_
    refine r_callRi (pc := 98) X (fun _ hv => s_X14_floatTop k75 r1 g95 hv) cw_code q3195 q368 (in_Vk X (As := [iv a1, iv v95]) kX14 k75 (Or.inr ⟨_, nw_in q3192 rfl⟩) q3194 qs228 cw_code q3195 ⟨by decide, by decide⟩ rfl (dl_at t_X1_floatTold 37 rfl)) (dl_at t_X1_floatTold 37 rfl) (cat24 (st := []) (Nat.le_of_ble_eq_true rfl)) (Nat.le_of_ble_eq_true rfl) (Nat.le_of_ble_eq_true rfl) fun v98 g98 => ?_
    exact g_iret (pc := 101) X g98 rfl rfl (dl_at t_X1_floatTold 38 rfl)
  refine g_iconst (pc := 81) X (n := 0) (dl_at t_X1_floatTold 28 rfl) ?_
  refine g_goto (pc := 82) X (off := 19) (tgt := 101) rfl (dl_at t_X1_floatTold 29 rfl) ?_
  exact g_iret (pc := 101) X (r32_c rfl) rfl rfl (dl_at t_X1_floatTold 38 rfl)
def k_X14_columnOfNoteLine : List (Nat × Instr × Nat) := [(0, .iconst 0, 1), (1, .istore_n 2, 1), (2, .iload_n 2, 1), (3, .iconst 1, 1), (4, .iadd, 1), (5, .aload_n 0, 1), (6, .getfield 217, 3), (9, .if_icmp .ge 19, 3), (12, .iload_n 1, 1), (13, .aload_n 0, 1), (14, .getfield 139, 3), (17, .iload_n 2, 1), (18, .iaload, 1), (19, .if_icmp .lt 9, 3), (22, .iinc 2 1, 3), (25, .goto (-23), 3), (28, .iload_n 2, 1), (29, .ireturn, 1)]
theorem t_X14_columnOfNoteLine : ∀ q ∈ k_X14_columnOfNoteLine, decode cX14_columnOfNoteLine q.1 = .ok q.2 := dl_all (by decide +kernel)
noncomputable def m_X14_columnOfNoteLine_l2 (a0 a1 x2_2 : Int) (h : Hp) : Option ((Int) ⊕ ((Int))) :=
  if (h a0 58) ≤ (w32 (x2_2 + 1)) then (some (.inr x2_2))
  else (gd (h (h a0 62) (-2) % 16 = 1 ∧ (0 : Int) ≤ x2_2 ∧ x2_2 < h (h a0 62) (-1)) (if a1 < (h (h a0 62) x2_2) then (some (.inr x2_2))
  else (lt_ (w32 (x2_2 + 1)) fun x2_22 =>
  some (.inl x2_22))))
noncomputable def m_X14_columnOfNoteLine (a0 a1 : Int) (h : Hp) : Option (Int) :=
  lt_ 0 fun x2_1 =>
  (lp (fun (q : Int) => m_X14_columnOfNoteLine_l2 a0 a1 q h) x2_1).bind (fun (x : Int) => some x)
theorem s_X14_columnOfNoteLine {l : Launch} [NoTr l] {D : SD} {a0 a1 : Int} {h : Hp} (hk : h a0 (-2) = 224) (r1 : r32 a1) {r : Int} (hm : m_X14_columnOfNoteLine a0 a1 h = some r) : Sim l D yX14_columnOfNoteLine (Cond.code yX14_columnOfNoteLine cX14_columnOfNoteLine 3 (Option.some Jvm.ClassFile.FieldType.int)) 0 0 [rv D a0, iv a1] h 1 ((0, r), h) := by
  refine Sim.of (fin := fun (v : Int) => ((0, v), h)) (lsE := [(0, rv D a0), (1, iv a1)]) hm rfl cwS_code (la_r (la_i la_n)) (ll_r (ll_i ll_n)) ?_
  intro p e s m below meth c X hcw hmm hcc hnm hname
  unfold m_X14_columnOfNoteLine
  refine g_iconst (pc := 0) X (n := 0) (dl_at t_X14_columnOfNoteLine 0 rfl) ?_
  refine g_ltz (Or.inl rfl) fun x2_1 r2_1 => ?_
  refine g_istore_nN (pc := 1) X (j := 2) (i := 2) (x := x2_1) (b := 1) (w := iv a1) (rest := [(0, rv D a0)]) rfl (Nat.le_of_ble_eq_true rfl) [1, 0] rfl (by decide) rfl rfl (dl_at t_X14_columnOfNoteLine 1 rfl) ?_
  refine g_ls (ls2 := [(0, rv D a0), (1, iv a1), (2, iv x2_1)]) [2, 1, 0] rfl ?_
  refine g_loop0F (fun (q : Int) => [(0, rv D a0), (1, iv a1), (2, iv q)]) (fun (q : Int) => h) (fun (q : Int) => r32 q) x2_1 (r32_z r2_1) ?_ (fun _ => rfl)
  · rintro x2_2 r2_2
    try dsimp only
    unfold m_X14_columnOfNoteLine_l2
    refine g_iload_n (pc := 2) X (j := 2) (i := 2) (q := 2) (x := x2_2) rfl rfl (dl_at t_X14_columnOfNoteLine 2 rfl) ?_
    refine g_iconst (pc := 3) X (n := 1) (dl_at t_X14_columnOfNoteLine 3 rfl) ?_
    refine g_iadd (pc := 4) X r2_2 (r32_c rfl) (dl_at t_X14_columnOfNoteLine 4 rfl) ?_
    refine g_aload_n (pc := 5) X (j := 0) (i := 0) (q := 0) (x := a0) rfl rfl (dl_at t_X14_columnOfNoteLine 5 rfl) ?_
    refine r_geti (pc := 6) X fX14_58 hk q1321 (dl_at t_X14_columnOfNoteLine 6 rfl) fun g6 => ?_
    refine g_icmpge (pc := 9) X (r32_w _) g6 (off := 19) (tgt := 28) rfl (dl_at t_X14_columnOfNoteLine 7 rfl) (fun _ => ?_) (fun _ => ?_)
    · refine g_iload_n (pc := 28) X (j := 2) (i := 2) (q := 2) (x := x2_2) rfl rfl (dl_at t_X14_columnOfNoteLine 16 rfl) ?_
      exact g_at fun Q hQ => (g_iret (pc := 29) X r2_2 rfl rfl (dl_at t_X14_columnOfNoteLine 17 rfl)) _ Q rfl hQ
    refine g_iload_n (pc := 12) X (j := 1) (i := 1) (q := 1) (x := a1) rfl rfl (dl_at t_X14_columnOfNoteLine 8 rfl) ?_
    refine g_aload_n (pc := 13) X (j := 0) (i := 0) (q := 0) (x := a0) rfl rfl (dl_at t_X14_columnOfNoteLine 9 rfl) ?_
    refine r_getr (pc := 14) X fX14_62 hk q1326 (dl_at t_X14_columnOfNoteLine 10 rfl) ?_
    refine g_iload_n (pc := 17) X (j := 2) (i := 2) (q := 2) (x := x2_2) rfl rfl (dl_at t_X14_columnOfNoteLine 11 rfl) ?_
    refine g_gd fun k18 => ?_
    refine g_iald (pc := 18) X r2_2 k18 (dl_at t_X14_columnOfNoteLine 12 rfl) fun g18 => ?_
    refine g_icmplt (pc := 19) X r1 g18 (off := 9) (tgt := 28) rfl (dl_at t_X14_columnOfNoteLine 13 rfl) (fun _ => ?_) (fun _ => ?_)
    · refine g_iload_n (pc := 28) X (j := 2) (i := 2) (q := 2) (x := x2_2) rfl rfl (dl_at t_X14_columnOfNoteLine 16 rfl) ?_
      exact g_at fun Q hQ => (g_iret (pc := 29) X r2_2 rfl rfl (dl_at t_X14_columnOfNoteLine 17 rfl)) _ Q rfl hQ
    refine r_iincN (pc := 22) X (i := 2) (q := 2) (n := 1) (x := x2_2) (b := 1) (w := iv a1) (rest := [(0, rv D a0)]) rfl r2_2 (r32_c rfl) (Nat.le_of_ble_eq_true rfl) [1, 0] rfl (by decide) rfl rfl (dl_at t_X14_columnOfNoteLine 14 rfl) fun x2_22 r2_22 => ?_
    refine g_goto (pc := 25) X (off := (-23)) (tgt := 2) rfl (dl_at t_X14_columnOfNoteLine 15 rfl) ?_
    refine g_ls (ls2 := [(0, rv D a0), (1, iv a1), (2, iv x2_22)]) [2, 1, 0] rfl ?_
    exact g_at fun Q hQ => hQ r2_22
def k_X14_noteTop : List (Nat × Instr × Nat) := [(0, .aload_n 0, 1), (1, .getfield 168, 3), (4, .getfield 662, 3), (7, .i2l, 1), (8, .aload_n 0, 1), (9, .getfield 123, 3), (12, .aload_n 0, 1), (13, .getfield 139, 3), (16, .iload_n 2, 1), (17, .iaload, 1), (18, .laload, 1), (19, .aload_n 0, 1), (20, .getfield 123, 3), (23, .iload_n 1, 1), (24, .laload, 1), (25, .lsub, 1), (26, .lsub, 1), (27, .lreturn, 1)]
theorem t_X14_noteTop : ∀ q ∈ k_X14_noteTop, decode cX14_noteTop q.1 = .ok q.2 := dl_all (by decide +kernel)
noncomputable def m_X14_noteTop (a0 a1 a2 : Int) (h : Hp) : Option (Int) :=
  gd (h (h a0 3) (-2) = 48) (gd (h (h a0 62) (-2) % 16 = 1 ∧ (0 : Int) ≤ a2 ∧ a2 < h (h a0 62) (-1)) (gd (h (h a0 55) (-2) % 16 = 4 ∧ (0 : Int) ≤ (h (h a0 62) a2) ∧ (h (h a0 62) a2) < h (h a0 55) (-1)) (gd (h (h a0 55) (-2) % 16 = 4 ∧ (0 : Int) ≤ a1 ∧ a1 < h (h a0 55) (-1)) (some (w64 ((h (h a0 3) 24) - (w64 ((h (h a0 55) (h (h a0 62) a2)) - (h (h a0 55) a1)))))))))
theorem s_X14_noteTop {l : Launch} [NoTr l] {D : SD} {a0 a1 a2 : Int} {h : Hp} (hk : h a0 (-2) = 224) (r1 : r32 a1) (r2 : r32 a2) {r : Int} (hm : m_X14_noteTop a0 a1 a2 h = some r) : Sim l D yX14_noteTop (Cond.code yX14_noteTop cX14_noteTop 3 (Option.some Jvm.ClassFile.FieldType.long)) 0 0 [rv D a0, iv a1, iv a2] h 4 ((0, r), h) := by
  refine Sim.of (fin := fun (v : Int) => ((0, v), h)) (lsE := [(0, rv D a0), (1, iv a1), (2, iv a2)]) hm rfl cwS_code (la_r (la_i (la_i la_n))) (ll_r (ll_i (ll_i ll_n))) ?_
  intro p e s m below meth c X hcw hmm hcc hnm hname
  unfold m_X14_noteTop
  refine g_aload_n (pc := 0) X (j := 0) (i := 0) (q := 0) (x := a0) rfl rfl (dl_at t_X14_noteTop 0 rfl) ?_
  refine r_getr (pc := 1) X fX14_3 hk q1245 (dl_at t_X14_noteTop 1 rfl) ?_
  refine g_gd fun k4 => ?_
  refine r_getiN (pc := 4) X fX3_24 k4 (nw_in q567 rfl) (dl_at t_X14_noteTop 2 rfl) fun g4 => ?_
  refine g_i2l (pc := 7) X g4 (dl_at t_X14_noteTop 3 rfl) ?_
  refine g_aload_n (pc := 8) X (j := 0) (i := 0) (q := 0) (x := a0) rfl rfl (dl_at t_X14_noteTop 4 rfl) ?_
  refine r_getr (pc := 9) X fX14_55 hk q1318 (dl_at t_X14_noteTop 5 rfl) ?_
  refine g_aload_n (pc := 12) X (j := 0) (i := 0) (q := 0) (x := a0) rfl rfl (dl_at t_X14_noteTop 6 rfl) ?_
  refine r_getr (pc := 13) X fX14_62 hk q1326 (dl_at t_X14_noteTop 7 rfl) ?_
  refine g_iload_n (pc := 16) X (j := 2) (i := 2) (q := 2) (x := a2) rfl rfl (dl_at t_X14_noteTop 8 rfl) ?_
  refine g_gd fun k17 => ?_
  refine g_iald (pc := 17) X r2 k17 (dl_at t_X14_noteTop 9 rfl) fun g17 => ?_
  refine g_gd fun k18 => ?_
  refine g_lald (pc := 18) X g17 k18 (dl_at t_X14_noteTop 10 rfl) fun g18 => ?_
  refine g_aload_n (pc := 19) X (j := 0) (i := 0) (q := 0) (x := a0) rfl rfl (dl_at t_X14_noteTop 11 rfl) ?_
  refine r_getr (pc := 20) X fX14_55 hk q1318 (dl_at t_X14_noteTop 12 rfl) ?_
  refine g_iload_n (pc := 23) X (j := 1) (i := 1) (q := 1) (x := a1) rfl rfl (dl_at t_X14_noteTop 13 rfl) ?_
  refine g_gd fun k24 => ?_
  refine g_lald (pc := 24) X r1 k24 (dl_at t_X14_noteTop 14 rfl) fun g24 => ?_
  refine g_lsub (pc := 25) X g18 g24 (dl_at t_X14_noteTop 15 rfl) ?_
  refine g_lsub (pc := 26) X (r64_of g4) (r64_w _) (dl_at t_X14_noteTop 16 rfl) ?_
  exact g_lret (pc := 27) X (r64_w _) rfl rfl (dl_at t_X14_noteTop 17 rfl)
def k_X1_note : List (Nat × Instr × Nat) := [(0, .iload_n 2, 1), (1, .ifCond .lt 8, 3), (4, .iload_n 2, 1), (5, .iconst 5, 1), (6, .if_icmp .le 15, 3), (9, .iload_n 2, 1), (10, .bipush 10, 2), (12, .if_icmp .lt 13, 3), (15, .iload_n 2, 1), (16, .bipush 13, 2), (18, .if_icmp .gt 7, 3), (21, .iconst 1, 1), (22, .goto 4, 3), (25, .iconst 0, 1), (26, .invokestatic 134, 3), (29, .aload_n 0, 1), (30, .getfield 169, 3), (33, .ifnull 7, 3), (36, .iconst 1, 1), (37, .goto 4, 3), (40, .iconst 0, 1), (41, .invokestatic 212, 3), (44, .iload_n 1, 1), (45, .ifCond .lt 34, 3), (48, .iload_n 1, 1), (49, .iload_n 2, 1), (50, .bipush 10, 2), (52, .if_icmp .ge 13, 3), (55, .aload_n 0, 1), (56, .getfield 169, 3), (59, .getfield 319, 3), (62, .goto 10, 3), (65, .aload_n 0, 1), (66, .getfield 169, 3), (69, .getfield 322, 3), (72, .if_icmp .ge 7, 3), (75, .iconst 1, 1), (76, .goto 4, 3), (79, .iconst 0, 1), (80, .invokestatic 127, 3), (83, .iload_n 2, 1), (84, .bipush 10, 2), (86, .if_icmp .lt 10, 3), (89, .aload_n 0, 1), (90, .iload_n 1, 1), (91, .iload_n 2, 1), (92, .invokevirtual 422, 3), (95, .ireturn, 1), (96, .aload_n 0, 1), (97, .getfield 169, 3), (100, .getfield 425, 3), (103, .iload_n 1, 1), (104, .iaload, 1), (105, .istore_n 3, 1), (106, .aload_n 0, 1), (107, .getfield 169, 3), (110, .getfield 425, 3), (113, .iload_n 1, 1), (114, .iconst 1, 1), (115, .iadd, 1), (116, .iaload, 1), (117, .iload_n 3, 1), (118, .isub, 1), (119, .istore 4, 2), (121, .aload_n 0, 1), (122, .getfield 169, 3), (125, .iload_n 3, 1), (126, .invokevirtual 428, 3), (129, .istore 5, 2), (131, .iload_n 2, 1), (168, .aload_n 0, 1), (169, .getfield 169, 3), (172, .getfield 431, 3), (175, .iload_n 1, 1), (176, .iaload, 1), (177, .ireturn, 1), (178, .aload_n 0, 1), (179, .getfield 169, 3), (182, .getfield 434, 3), (185, .iload_n 1, 1), (186, .iaload, 1), (187, .ireturn, 1), (188, .iload 4, 2), (190, .ireturn, 1), (191, .iload 5, 2), (193, .ireturn, 1), (194, .aload_n 0, 1), (195, .getfield 169, 3), (198, .getfield 437, 3), (201, .iload 5, 2), (203, .iaload, 1), (204, .iload_n 3, 1), (205, .iload 4, 2), (207, .iadd, 1), (208, .if_icmp .ge 16, 3), (211, .aload_n 0, 1), (212, .getfield 169, 3), (215, .getfield 437, 3), (218, .iload 5, 2), (220, .iaload, 1), (221, .goto 7, 3), (224, .iload_n 3, 1), (225, .iload 4, 2), (227, .iadd, 1), (228, .iload_n 3, 1), (229, .isub, 1), (230, .ireturn, 1), (231, .aload_n 0, 1), (232, .getfield 169, 3), (235, .iload_n 3, 1), (236, .iload 5, 2), (238, .invokevirtual 440, 3), (241, .l2i, 1), (242, .ireturn, 1)]
theorem t_X1_note : ∀ q ∈ k_X1_note, decode cX1_note q.1 = .ok q.2 := dl_all (by decide +kernel)
theorem dS_X1_note_132 : decode cX1_note 132 = .ok (.tableswitch 99 0 4 #[36, 46, 56, 59, 62], 36) := by decide +kernel
noncomputable def m_X1_note_j80 (a0 a1 a2 s0_80 : Int) (h41 : Hp) : Option ((Int × Int) × Hp) :=
  bT (m_X1_room s0_80 h41) (fun _ h80 =>
  if a2 < 10 then (gd (h80 (h80 a0 18) (-2) = 224) (gd (h80 (h80 (h80 a0 18) 54) (-2) % 16 = 1 ∧ (0 : Int) ≤ a1 ∧ a1 < h80 (h80 (h80 a0 18) 54) (-1)) (lt_ (h80 (h80 (h80 a0 18) 54) a1) fun x3_105 =>
  gd (h80 (h80 (h80 a0 18) 54) (-2) % 16 = 1 ∧ (0 : Int) ≤ (w32 (a1 + 1)) ∧ (w32 (a1 + 1)) < h80 (h80 (h80 a0 18) 54) (-1)) (lt_ (w32 ((h80 (h80 (h80 a0 18) 54) (w32 (a1 + 1))) - x3_105)) fun x4_119 =>
  (m_X14_columnOfNoteLine (h80 a0 18) x3_105 h80).bind fun v126 =>
  if a2 = 0 then (gd (h80 (h80 (h80 a0 18) 33) (-2) % 16 = 1 ∧ (0 : Int) ≤ a1 ∧ a1 < h80 (h80 (h80 a0 18) 33) (-1)) (some ((0, (h80 (h80 (h80 a0 18) 33) a1)), h80)))
  else (if a2 = 1 then (gd (h80 (h80 (h80 a0 18) 35) (-2) % 16 = 1 ∧ (0 : Int) ≤ a1 ∧ a1 < h80 (h80 (h80 a0 18) 35) (-1)) (some ((0, (h80 (h80 (h80 a0 18) 35) a1)), h80)))
  else (if a2 = 2 then (some ((0, x4_119), h80))
  else (if a2 = 3 then (some ((0, v126), h80))
  else (if a2 = 4 then (gd (h80 (h80 (h80 a0 18) 62) (-2) % 16 = 1 ∧ (0 : Int) ≤ v126 ∧ v126 < h80 (h80 (h80 a0 18) 62) (-1)) (if (w32 (x3_105 + x4_119)) ≤ (h80 (h80 (h80 a0 18) 62) v126) then (some ((0, (w32 ((w32 (x3_105 + x4_119)) - x3_105))), h80))
  else (some ((0, (w32 ((h80 (h80 (h80 a0 18) 62) v126) - x3_105))), h80))))
  else ((m_X14_noteTop (h80 a0 18) x3_105 v126 h80).bind fun v238 =>
  some ((0, (w32 v238)), h80))))))))))
  else ((m_X1_floatTold a0 a1 a2 h80).bind fun v92 =>
  some ((0, v92), h80))) (fun a_ h_ => some ((1, a_), h_))
noncomputable def m_X1_note_j79 (a0 a1 a2 : Int) (h41 : Hp) : Option ((Int × Int) × Hp) :=
  m_X1_note_j80 a0 a1 a2 0 h41
noncomputable def m_X1_note_j72 (a0 a1 a2 s1_72 : Int) (h41 : Hp) : Option ((Int × Int) × Hp) :=
  if s1_72 ≤ a1 then (m_X1_note_j79 a0 a1 a2 h41)
  else (m_X1_note_j80 a0 a1 a2 1 h41)
noncomputable def m_X1_note_j41 (a0 a1 a2 s0_41 : Int) (h26 : Hp) : Option ((Int × Int) × Hp) :=
  bT (m_X1_state s0_41 h26) (fun _ h41 =>
  if a1 < 0 then (m_X1_note_j79 a0 a1 a2 h41)
  else (if 10 ≤ a2 then (gd (h41 (h41 a0 18) (-2) = 224) (m_X1_note_j72 a0 a1 a2 (h41 (h41 a0 18) 39) h41))
  else (gd (h41 (h41 a0 18) (-2) = 224) (m_X1_note_j72 a0 a1 a2 (h41 (h41 a0 18) 36) h41)))) (fun a_ h_ => some ((1, a_), h_))
noncomputable def m_X1_note_j26 (a0 a1 a2 s0_26 : Int) (h : Hp) : Option ((Int × Int) × Hp) :=
  bT (m_X1_good s0_26 h) (fun _ h26 =>
  if (h26 a0 18) = 0 then (m_X1_note_j41 a0 a1 a2 0 h26)
  else (m_X1_note_j41 a0 a1 a2 1 h26)) (fun a_ h_ => some ((1, a_), h_))
noncomputable def m_X1_note_j21 (a0 a1 a2 : Int) (h : Hp) : Option ((Int × Int) × Hp) :=
  m_X1_note_j26 a0 a1 a2 1 h
noncomputable def m_X1_note_j25 (a0 a1 a2 : Int) (h : Hp) : Option ((Int × Int) × Hp) :=
  m_X1_note_j26 a0 a1 a2 0 h
noncomputable def m_X1_note_j9 (a0 a1 a2 : Int) (h : Hp) : Option ((Int × Int) × Hp) :=
  if a2 < 10 then (m_X1_note_j25 a0 a1 a2 h)
  else (if 13 < a2 then (m_X1_note_j25 a0 a1 a2 h)
  else (m_X1_note_j21 a0 a1 a2 h))
noncomputable def m_X1_note (a0 a1 a2 : Int) (h : Hp) : Option ((Int × Int) × Hp) :=
  if a2 < 0 then (m_X1_note_j9 a0 a1 a2 h)
  else (if a2 ≤ 5 then (m_X1_note_j21 a0 a1 a2 h)
  else (m_X1_note_j9 a0 a1 a2 h))
theorem s_X1_note {l : Launch} [NoTr l] {D : SD} {a0 a1 a2 : Int} {h : Hp} (hk : h a0 (-2) = 16) (r1 : r32 a1) (r2 : r32 a2) {r : (Int × Int) × Hp} (hm : m_X1_note a0 a1 a2 h = some r) : Sim l D yX1_note (Cond.code yX1_note cX1_note 6 (Option.some Jvm.ClassFile.FieldType.int)) 10 372 [rv D a0, iv a1, iv a2] h 1 r := by
  refine Sim.of (fin := fun (v : (Int × Int) × Hp) => v) (lsE := [(0, rv D a0), (1, iv a1), (2, iv a2)]) hm rfl cwS_code (la_r (la_i (la_i la_n))) (ll_r (ll_i (ll_i ll_n))) ?_
  intro p e s m below meth c X hcw hmm hcc hnm hname
  have hno := noh hcw hnm hmm hcc
  unfold m_X1_note
  refine g_iload_n (pc := 0) X (j := 2) (i := 2) (q := 2) (x := a2) rfl rfl (dl_at t_X1_note 0 rfl) ?_
  refine g_join (γ := Int) (fun q => (q = 0 ∨ q = 1)) 26 (fun q => [(0, rv D a0), (1, iv a1), (2, iv a2)]) (fun q => [iv q]) (fun q => h) (fun q => m_X1_note_j26 a0 a1 a2 q h) ?_ ?_
  · rintro s0_26 rs0_26
    try dsimp only
    unfold m_X1_note_j26
    refine r_callTv (pc := 26) X (fun _ hv => s_X1_good rs0_26 hv) cw_code q1689 q355 (in_Sc X (As := [iv s0_26]) (Or.inl q1687) q1688 q355 q1689 ⟨by decide, by decide⟩ rfl (dl_at t_X1_note 14 rfl)) (dl_at t_X1_note 14 rfl) (cat24 (st := []) (Nat.le_of_ble_eq_true rfl)) (Nat.le_of_ble_eq_true rfl) (Nat.le_of_ble_eq_true rfl) (fun v26 h26 E26 => ?_) (fun _ _ ha _ => gt_at fun Q hQ => gt_out (Q := Q) X rfl ha (hno _) _ Q rfl hQ)
    refine g_aload_n (pc := 29) X (j := 0) (i := 0) (q := 0) (x := a0) rfl rfl (dl_at t_X1_note 15 rfl) ?_
    have k30 := kx E26 (by decide) hk
    refine r_getr (pc := 30) X fX1_18 k30 q1506 (dl_at t_X1_note 16 rfl) ?_
    refine g_join (γ := Int) (fun q => (q = 0 ∨ q = 1)) 41 (fun q => [(0, rv D a0), (1, iv a1), (2, iv a2)]) (fun q => [iv q]) (fun q => h26) (fun q => m_X1_note_j41 a0 a1 a2 q h26) ?_ ?_
    · rintro s0_41 rs0_41
      try dsimp only
      unfold m_X1_note_j41
      refine r_callTv (pc := 41) X (fun _ hv => s_X1_state rs0_41 hv) cw_code q2244 q355 (in_Sc X (As := [iv s0_41]) (Or.inl q2242) q2243 q355 q2244 ⟨by decide, by decide⟩ rfl (dl_at t_X1_note 21 rfl)) (dl_at t_X1_note 21 rfl) (cat24 (st := []) (Nat.le_of_ble_eq_true rfl)) (Nat.le_of_ble_eq_true rfl) (Nat.le_of_ble_eq_true rfl) (fun v41 h41 E41 => ?_) (fun _ _ ha _ => gt_at fun Q hQ => gt_out (Q := Q) X rfl ha (hno _) _ Q rfl hQ)
      refine g_iload_n (pc := 44) X (j := 1) (i := 1) (q := 1) (x := a1) rfl rfl (dl_at t_X1_note 22 rfl) ?_
      refine g_join (γ := Int) (fun q => (q = 0 ∨ q = 1)) 80 (fun q => [(0, rv D a0), (1, iv a1), (2, iv a2)]) (fun q => [iv q]) (fun q => h41) (fun q => m_X1_note_j80 a0 a1 a2 q h41) ?_ ?_
      · rintro s0_80 rs0_80
        try dsimp only
        unfold m_X1_note_j80
        refine r_callTv (pc := 80) X (fun _ hv => s_X1_room rs0_80 hv) cw_code q1653 q355 (in_Sc X (As := [iv s0_80]) (Or.inl q1651) q1652 q355 q1653 ⟨by decide, by decide⟩ rfl (dl_at t_X1_note 39 rfl)) (dl_at t_X1_note 39 rfl) (cat24 (st := []) (Nat.le_of_ble_eq_true rfl)) (Nat.le_of_ble_eq_true rfl) (Nat.le_of_ble_eq_true rfl) (fun v80 h80 E80 => ?_) (fun _ _ ha _ => gt_at fun Q hQ => gt_out (Q := Q) X rfl ha (hno _) _ Q rfl hQ)
        refine g_iload_n (pc := 83) X (j := 2) (i := 2) (q := 2) (x := a2) rfl rfl (dl_at t_X1_note 40 rfl) ?_
        refine g_bipush (pc := 84) X (n := 10) rfl (dl_at t_X1_note 41 rfl) ?_
        refine g_icmplt (pc := 86) X r2 (r32_c rfl) (off := 10) (tgt := 96) rfl (dl_at t_X1_note 42 rfl) (fun _ => ?_) (fun _ => ?_)
        · refine g_aload_n (pc := 96) X (j := 0) (i := 0) (q := 0) (x := a0) rfl rfl (dl_at t_X1_note 48 rfl) ?_
          have k97 := kx (E41.trans E80) (by decide) k30
          refine r_getr (pc := 97) X fX1_18 k97 q1506 (dl_at t_X1_note 49 rfl) ?_
          refine g_gd fun k100 => ?_
          refine r_getrN (pc := 100) X fX14_54 k100 (nw_in q1317 rfl) (dl_at t_X1_note 50 rfl) ?_
          refine g_iload_n (pc := 103) X (j := 1) (i := 1) (q := 1) (x := a1) rfl rfl (dl_at t_X1_note 51 rfl) ?_
          refine g_gd fun k104 => ?_
          refine g_iald (pc := 104) X r1 k104 (dl_at t_X1_note 52 rfl) fun g104 => ?_
          refine g_lti g104 fun x3_105 r3_105 => ?_
          refine g_istore_nN (pc := 105) X (j := 3) (i := 3) (x := x3_105) (b := 2) (w := iv a2) (rest := [(0, rv D a0), (1, iv a1)]) rfl (Nat.le_of_ble_eq_true rfl) [2, 0, 1] rfl (by decide) rfl rfl (dl_at t_X1_note 53 rfl) ?_
          refine g_aload_n (pc := 106) X (j := 0) (i := 0) (q := 2) (x := a0) rfl rfl (dl_at t_X1_note 54 rfl) ?_
          refine r_getr (pc := 107) X fX1_18 k97 q1506 (dl_at t_X1_note 55 rfl) ?_
          refine r_getrN (pc := 110) X fX14_54 k100 (nw_in q1317 rfl) (dl_at t_X1_note 56 rfl) ?_
          refine g_iload_n (pc := 113) X (j := 1) (i := 1) (q := 3) (x := a1) rfl rfl (dl_at t_X1_note 57 rfl) ?_
          refine g_iconst (pc := 114) X (n := 1) (dl_at t_X1_note 58 rfl) ?_
          refine g_iadd (pc := 115) X r1 (r32_c rfl) (dl_at t_X1_note 59 rfl) ?_
          refine g_gd fun k116 => ?_
          refine g_iald (pc := 116) X (r32_w _) k116 (dl_at t_X1_note 60 rfl) fun g116 => ?_
          refine g_iload_n (pc := 117) X (j := 3) (i := 3) (q := 0) (x := x3_105) rfl rfl (dl_at t_X1_note 61 rfl) ?_
          refine g_isub (pc := 118) X g116 r3_105 (dl_at t_X1_note 62 rfl) ?_
          refine g_lti (r32_w _) fun x4_119 r4_119 => ?_
          refine g_istoreN (pc := 119) X (i := 4) (x := x4_119) (b := 3) (w := iv x3_105) (rest := [(2, iv a2), (0, rv D a0), (1, iv a1)]) (Nat.le_of_ble_eq_true rfl) [0, 1, 2, 3] rfl (by decide) rfl rfl (dl_at t_X1_note 63 rfl) ?_
          refine g_aload_n (pc := 121) X (j := 0) (i := 0) (q := 3) (x := a0) rfl rfl (dl_at t_X1_note 64 rfl) ?_
          refine r_getr (pc := 122) X fX1_18 k97 q1506 (dl_at t_X1_note 65 rfl) ?_
          refine g_iload_n (pc := 125) X (j := 3) (i := 3) (q := 1) (x := x3_105) rfl rfl (dl_at t_X1_note 66 rfl) ?_
          refine r_callRi (pc := 126) X (fun _ hv => s_X14_columnOfNoteLine k100 r3_105 hv) cw_code q3199 q368 (in_Vk X (As := [iv x3_105]) kX14 k100 (Or.inr ⟨_, nw_in q3196 rfl⟩) q3198 qs229 cw_code q3199 ⟨by decide, by decide⟩ rfl (dl_at t_X1_note 67 rfl)) (dl_at t_X1_note 67 rfl) (cat24 (st := []) (Nat.le_of_ble_eq_true rfl)) (Nat.le_of_ble_eq_true rfl) (Nat.le_of_ble_eq_true rfl) fun v126 g126 => ?_
          refine g_istoreN (pc := 129) X (i := 5) (x := v126) (b := 4) (w := iv x4_119) (rest := [(3, iv x3_105), (2, iv a2), (0, rv D a0), (1, iv a1)]) (Nat.le_of_ble_eq_true rfl) [0, 1, 2, 3, 4] rfl (by decide) rfl rfl (dl_at t_X1_note 68 rfl) ?_
          refine g_iload_n (pc := 131) X (j := 2) (i := 2) (q := 3) (x := a2) rfl rfl (dl_at t_X1_note 69 rfl) ?_
          refine g_case (fun w132 => ?_) (fun nw132 => ?_)
          · refine g_tabIn (pc := 132) X (off := 36) (tgt := 168) r2 w132 (by decide) (by decide) rfl rfl dS_X1_note_132 ?_
            refine g_aload_n (pc := 168) X (j := 0) (i := 0) (q := 4) (x := a0) rfl rfl (dl_at t_X1_note 70 rfl) ?_
            refine r_getr (pc := 169) X fX1_18 k97 q1506 (dl_at t_X1_note 71 rfl) ?_
            refine r_getrN (pc := 172) X fX14_33 k100 (nw_in q1289 rfl) (dl_at t_X1_note 72 rfl) ?_
            refine g_iload_n (pc := 175) X (j := 1) (i := 1) (q := 5) (x := a1) rfl rfl (dl_at t_X1_note 73 rfl) ?_
            refine g_gd fun k176 => ?_
            refine g_iald (pc := 176) X r1 k176 (dl_at t_X1_note 74 rfl) fun g176 => ?_
            exact g_iret (pc := 177) X g176 rfl rfl (dl_at t_X1_note 75 rfl)
          refine g_case (fun w132_1 => ?_) (fun nw132_1 => ?_)
          · refine g_tabIn (pc := 132) X (off := 46) (tgt := 178) r2 w132_1 (by decide) (by decide) rfl rfl dS_X1_note_132 ?_
            refine g_aload_n (pc := 178) X (j := 0) (i := 0) (q := 4) (x := a0) rfl rfl (dl_at t_X1_note 76 rfl) ?_
            refine r_getr (pc := 179) X fX1_18 k97 q1506 (dl_at t_X1_note 77 rfl) ?_
            refine r_getrN (pc := 182) X fX14_35 k100 (nw_in q1292 rfl) (dl_at t_X1_note 78 rfl) ?_
            refine g_iload_n (pc := 185) X (j := 1) (i := 1) (q := 5) (x := a1) rfl rfl (dl_at t_X1_note 79 rfl) ?_
            refine g_gd fun k186 => ?_
            refine g_iald (pc := 186) X r1 k186 (dl_at t_X1_note 80 rfl) fun g186 => ?_
            exact g_iret (pc := 187) X g186 rfl rfl (dl_at t_X1_note 81 rfl)
          refine g_case (fun w132_2 => ?_) (fun nw132_2 => ?_)
          · refine g_tabIn (pc := 132) X (off := 56) (tgt := 188) r2 w132_2 (by decide) (by decide) rfl rfl dS_X1_note_132 ?_
            refine g_iload (pc := 188) X (i := 4) (q := 1) (x := x4_119) rfl (dl_at t_X1_note 82 rfl) ?_
            exact g_iret (pc := 190) X r4_119 rfl rfl (dl_at t_X1_note 83 rfl)
          refine g_case (fun w132_3 => ?_) (fun nw132_3 => ?_)
          · refine g_tabIn (pc := 132) X (off := 59) (tgt := 191) r2 w132_3 (by decide) (by decide) rfl rfl dS_X1_note_132 ?_
            refine g_iload (pc := 191) X (i := 5) (q := 0) (x := v126) rfl (dl_at t_X1_note 84 rfl) ?_
            exact g_iret (pc := 193) X g126 rfl rfl (dl_at t_X1_note 85 rfl)
          refine g_case (fun w132_4 => ?_) (fun nw132_4 => ?_)
          · refine g_tabIn (pc := 132) X (off := 62) (tgt := 194) r2 w132_4 (by decide) (by decide) rfl rfl dS_X1_note_132 ?_
            refine g_aload_n (pc := 194) X (j := 0) (i := 0) (q := 4) (x := a0) rfl rfl (dl_at t_X1_note 86 rfl) ?_
            refine r_getr (pc := 195) X fX1_18 k97 q1506 (dl_at t_X1_note 87 rfl) ?_
            refine r_getrN (pc := 198) X fX14_62 k100 (nw_in q1327 rfl) (dl_at t_X1_note 88 rfl) ?_
            refine g_iload (pc := 201) X (i := 5) (q := 0) (x := v126) rfl (dl_at t_X1_note 89 rfl) ?_
            refine g_gd fun k203 => ?_
            refine g_iald (pc := 203) X g126 k203 (dl_at t_X1_note 90 rfl) fun g203 => ?_
            refine g_iload_n (pc := 204) X (j := 3) (i := 3) (q := 2) (x := x3_105) rfl rfl (dl_at t_X1_note 91 rfl) ?_
            refine g_iload (pc := 205) X (i := 4) (q := 1) (x := x4_119) rfl (dl_at t_X1_note 92 rfl) ?_
            refine g_iadd (pc := 207) X r3_105 r4_119 (dl_at t_X1_note 93 rfl) ?_
            refine g_icmpge (pc := 208) X g203 (r32_w _) (off := 16) (tgt := 224) rfl (dl_at t_X1_note 94 rfl) (fun _ => ?_) (fun _ => ?_)
            · refine g_iload_n (pc := 224) X (j := 3) (i := 3) (q := 2) (x := x3_105) rfl rfl (dl_at t_X1_note 101 rfl) ?_
              refine g_iload (pc := 225) X (i := 4) (q := 1) (x := x4_119) rfl (dl_at t_X1_note 102 rfl) ?_
              refine g_iadd (pc := 227) X r3_105 r4_119 (dl_at t_X1_note 103 rfl) ?_
              refine g_iload_n (pc := 228) X (j := 3) (i := 3) (q := 2) (x := x3_105) rfl rfl (dl_at t_X1_note 104 rfl) ?_
              refine g_isub (pc := 229) X (r32_w _) r3_105 (dl_at t_X1_note 105 rfl) ?_
              exact g_iret (pc := 230) X (r32_w _) rfl rfl (dl_at t_X1_note 106 rfl)
            refine g_aload_n (pc := 211) X (j := 0) (i := 0) (q := 4) (x := a0) rfl rfl (dl_at t_X1_note 95 rfl) ?_
            refine r_getr (pc := 212) X fX1_18 k97 q1506 (dl_at t_X1_note 96 rfl) ?_
            refine r_getrN (pc := 215) X fX14_62 k100 (nw_in q1327 rfl) (dl_at t_X1_note 97 rfl) ?_
            refine g_iload (pc := 218) X (i := 5) (q := 0) (x := v126) rfl (dl_at t_X1_note 98 rfl) ?_
            refine g_iald (pc := 220) X g126 k203 (dl_at t_X1_note 99 rfl) fun g220 => ?_
            refine g_goto (pc := 221) X (off := 7) (tgt := 228) rfl (dl_at t_X1_note 100 rfl) ?_
            refine g_iload_n (pc := 228) X (j := 3) (i := 3) (q := 2) (x := x3_105) rfl rfl (dl_at t_X1_note 104 rfl) ?_
            refine g_isub (pc := 229) X g220 r3_105 (dl_at t_X1_note 105 rfl) ?_
            exact g_iret (pc := 230) X (r32_w _) rfl rfl (dl_at t_X1_note 106 rfl)
          have w132_5 : ¬ a2 ∈ ([0, 1, 2, 3, 4] : List Int) := by simp only [List.mem_cons, List.not_mem_nil, or_false, not_or] at *; simp only [*, not_false_eq_true, and_self]
          refine g_tabElse (pc := 132) X (tgt := 231) [0, 1, 2, 3, 4] r2 w132_5 rfl rfl dS_X1_note_132 ?_
          refine g_aload_n (pc := 231) X (j := 0) (i := 0) (q := 4) (x := a0) rfl rfl (dl_at t_X1_note 107 rfl) ?_
          refine r_getr (pc := 232) X fX1_18 k97 q1506 (dl_at t_X1_note 108 rfl) ?_
          refine g_iload_n (pc := 235) X (j := 3) (i := 3) (q := 2) (x := x3_105) rfl rfl (dl_at t_X1_note 109 rfl) ?_
          refine g_iload (pc := 236) X (i := 5) (q := 0) (x := v126) rfl (dl_at t_X1_note 110 rfl) ?_
          refine r_callRl (pc := 238) X (fun _ hv => s_X14_noteTop k100 r3_105 g126 hv) cw_code q3203 q368 (in_Vk X (As := [iv x3_105, iv v126]) kX14 k100 (Or.inr ⟨_, nw_in q3200 rfl⟩) q3202 qs230 cw_code q3203 ⟨by decide, by decide⟩ rfl (dl_at t_X1_note 111 rfl)) (dl_at t_X1_note 111 rfl) (cat24 (st := []) (Nat.le_of_ble_eq_true rfl)) (Nat.le_of_ble_eq_true rfl) (Nat.le_of_ble_eq_true rfl) fun v238 g238 => ?_
          refine g_l2i (pc := 241) X g238 (dl_at t_X1_note 112 rfl) ?_
          exact g_iret (pc := 242) X (r32_w _) rfl rfl (dl_at t_X1_note 113 rfl)
        refine g_aload_n (pc := 89) X (j := 0) (i := 0) (q := 0) (x := a0) rfl rfl (dl_at t_X1_note 43 rfl) ?_
        refine g_iload_n (pc := 90) X (j := 1) (i := 1) (q := 1) (x := a1) rfl rfl (dl_at t_X1_note 44 rfl) ?_
        refine g_iload_n (pc := 91) X (j := 2) (i := 2) (q := 2) (x := a2) rfl rfl (dl_at t_X1_note 45 rfl) ?_
        have k92 := kx (E41.trans E80) (by decide) k30
        refine r_callRi (pc := 92) X (fun _ hv => s_X1_floatTold k92 r1 r2 hv) cw_code q3187 q355 (in_Vk X (As := [iv a1, iv a2]) kX1 k92 (Or.inl q3184) q3186 qs226 cw_code q3187 ⟨by decide, by decide⟩ rfl (dl_at t_X1_note 46 rfl)) (dl_at t_X1_note 46 rfl) (cat24 (st := []) (Nat.le_of_ble_eq_true rfl)) (Nat.le_of_ble_eq_true rfl) (Nat.le_of_ble_eq_true rfl) fun v92 g92 => ?_
        exact g_iret (pc := 95) X g92 rfl rfl (dl_at t_X1_note 47 rfl)
      intro J80
      refine g_join (γ := Unit) (fun q => True) 79 (fun q => [(0, rv D a0), (1, iv a1), (2, iv a2)]) (fun q => []) (fun q => h41) (fun q => m_X1_note_j79 a0 a1 a2 h41) ?_ ?_
      · rintro _ _
        try dsimp only
        unfold m_X1_note_j79
        refine g_iconst (pc := 79) X (n := 0) (dl_at t_X1_note 38 rfl) ?_
        exact J80 0 (Or.inl rfl)
      intro J79
      refine g_iflt (pc := 45) X r1 (off := 34) (tgt := 79) rfl (dl_at t_X1_note 23 rfl) (fun _ => ?_) (fun _ => ?_)
      · exact J79 () trivial
      refine g_iload_n (pc := 48) X (j := 1) (i := 1) (q := 1) (x := a1) rfl rfl (dl_at t_X1_note 24 rfl) ?_
      refine g_iload_n (pc := 49) X (j := 2) (i := 2) (q := 2) (x := a2) rfl rfl (dl_at t_X1_note 25 rfl) ?_
      refine g_bipush (pc := 50) X (n := 10) rfl (dl_at t_X1_note 26 rfl) ?_
      refine g_join (γ := Int) (fun q => r32 q) 72 (fun q => [(0, rv D a0), (1, iv a1), (2, iv a2)]) (fun q => [iv q, iv a1]) (fun q => h41) (fun q => m_X1_note_j72 a0 a1 a2 q h41) ?_ ?_
      · rintro s1_72 rs1_72
        try dsimp only
        unfold m_X1_note_j72
        refine g_icmpge (pc := 72) X r1 rs1_72 (off := 7) (tgt := 79) rfl (dl_at t_X1_note 35 rfl) (fun _ => ?_) (fun _ => ?_)
        · exact J79 () trivial
        refine g_iconst (pc := 75) X (n := 1) (dl_at t_X1_note 36 rfl) ?_
        refine g_goto (pc := 76) X (off := 4) (tgt := 80) rfl (dl_at t_X1_note 37 rfl) ?_
        exact J80 1 (Or.inr rfl)
      intro J72
      refine g_icmpge (pc := 52) X r2 (r32_c rfl) (off := 13) (tgt := 65) rfl (dl_at t_X1_note 27 rfl) (fun _ => ?_) (fun _ => ?_)
      · refine g_aload_n (pc := 65) X (j := 0) (i := 0) (q := 0) (x := a0) rfl rfl (dl_at t_X1_note 32 rfl) ?_
        have k66 := kx E41 (by decide) k30
        refine r_getr (pc := 66) X fX1_18 k66 q1506 (dl_at t_X1_note 33 rfl) ?_
        refine g_gd fun k69 => ?_
        refine r_getiN (pc := 69) X fX14_39 k69 (nw_in q1300 rfl) (dl_at t_X1_note 34 rfl) fun g69 => ?_
        exact J72 (h41 (h41 a0 18) 39) g69
      refine g_aload_n (pc := 55) X (j := 0) (i := 0) (q := 0) (x := a0) rfl rfl (dl_at t_X1_note 28 rfl) ?_
      have k56 := kx E41 (by decide) k30
      refine r_getr (pc := 56) X fX1_18 k56 q1506 (dl_at t_X1_note 29 rfl) ?_
      refine g_gd fun k59 => ?_
      refine r_getiN (pc := 59) X fX14_36 k59 (nw_in q1294 rfl) (dl_at t_X1_note 30 rfl) fun g59 => ?_
      refine g_goto (pc := 62) X (off := 10) (tgt := 72) rfl (dl_at t_X1_note 31 rfl) ?_
      exact J72 (h41 (h41 a0 18) 36) g59
    intro J41
    refine g_ifnull (pc := 33) X (off := 7) (tgt := 40) rfl (dl_at t_X1_note 17 rfl) (fun _ => ?_) (fun _ => ?_)
    · refine g_iconst (pc := 40) X (n := 0) (dl_at t_X1_note 20 rfl) ?_
      exact J41 0 (Or.inl rfl)
    refine g_iconst (pc := 36) X (n := 1) (dl_at t_X1_note 18 rfl) ?_
    refine g_goto (pc := 37) X (off := 4) (tgt := 41) rfl (dl_at t_X1_note 19 rfl) ?_
    exact J41 1 (Or.inr rfl)
  intro J26
  refine g_join (γ := Unit) (fun q => True) 21 (fun q => [(0, rv D a0), (1, iv a1), (2, iv a2)]) (fun q => []) (fun q => h) (fun q => m_X1_note_j21 a0 a1 a2 h) ?_ ?_
  · rintro _ _
    try dsimp only
    unfold m_X1_note_j21
    refine g_iconst (pc := 21) X (n := 1) (dl_at t_X1_note 11 rfl) ?_
    refine g_goto (pc := 22) X (off := 4) (tgt := 26) rfl (dl_at t_X1_note 12 rfl) ?_
    exact J26 1 (Or.inr rfl)
  intro J21
  refine g_join (γ := Unit) (fun q => True) 9 (fun q => [(0, rv D a0), (1, iv a1), (2, iv a2)]) (fun q => []) (fun q => h) (fun q => m_X1_note_j9 a0 a1 a2 h) ?_ ?_
  · rintro _ _
    try dsimp only
    unfold m_X1_note_j9
    refine g_iload_n (pc := 9) X (j := 2) (i := 2) (q := 2) (x := a2) rfl rfl (dl_at t_X1_note 5 rfl) ?_
    refine g_bipush (pc := 10) X (n := 10) rfl (dl_at t_X1_note 6 rfl) ?_
    refine g_join (γ := Unit) (fun q => True) 25 (fun q => [(0, rv D a0), (1, iv a1), (2, iv a2)]) (fun q => []) (fun q => h) (fun q => m_X1_note_j25 a0 a1 a2 h) ?_ ?_
    · rintro _ _
      try dsimp only
      unfold m_X1_note_j25
      refine g_iconst (pc := 25) X (n := 0) (dl_at t_X1_note 13 rfl) ?_
      exact J26 0 (Or.inl rfl)
    intro J25
    refine g_icmplt (pc := 12) X r2 (r32_c rfl) (off := 13) (tgt := 25) rfl (dl_at t_X1_note 7 rfl) (fun _ => ?_) (fun _ => ?_)
    · exact J25 () trivial
    refine g_iload_n (pc := 15) X (j := 2) (i := 2) (q := 2) (x := a2) rfl rfl (dl_at t_X1_note 8 rfl) ?_
    refine g_bipush (pc := 16) X (n := 13) rfl (dl_at t_X1_note 9 rfl) ?_
    refine g_icmpgt (pc := 18) X r2 (r32_c rfl) (off := 7) (tgt := 25) rfl (dl_at t_X1_note 10 rfl) (fun _ => ?_) (fun _ => ?_)
    · exact J25 () trivial
    exact J21 () trivial
  intro J9
  refine g_iflt (pc := 1) X r2 (off := 8) (tgt := 9) rfl (dl_at t_X1_note 1 rfl) (fun _ => ?_) (fun _ => ?_)
  · exact J9 () trivial
  refine g_iload_n (pc := 4) X (j := 2) (i := 2) (q := 2) (x := a2) rfl rfl (dl_at t_X1_note 2 rfl) ?_
  refine g_iconst (pc := 5) X (n := 5) (dl_at t_X1_note 3 rfl) ?_
  refine g_icmple (pc := 6) X r2 (r32_c rfl) (off := 15) (tgt := 21) rfl (dl_at t_X1_note 4 rfl) (fun _ => ?_) (fun _ => ?_)
  · exact J21 () trivial
  exact J9 () trivial
def k_X0_note : List (Nat × Instr × Nat) := [(0, .aload_n 3, 1), (1, .iconst 0, 1), (2, .aload_n 0, 1), (3, .iload_n 1, 1), (4, .iload_n 2, 1), (5, .invokevirtual 72, 3), (8, .i2l, 1), (9, .lastore, 1), (10, .goto 15, 3), (13, .astore 4, 2), (15, .iconst 1, 1), (16, .ireturn, 1), (17, .astore 4, 2), (19, .iconst 2, 1), (20, .ireturn, 1), (21, .astore 4, 2), (23, .iconst 3, 1), (24, .ireturn, 1), (25, .iconst 0, 1), (26, .ireturn, 1)]
theorem t_X0_note : ∀ q ∈ k_X0_note, decode cX0_note q.1 = .ok q.2 := dl_all (by decide +kernel)
noncomputable def m_X0_note (a0 a1 a2 a3 : Int) (h : Hp) : Option (Int × Hp) :=
  gd (h a0 (-2) = 16) (bT (m_X1_note a0 a1 a2 h) (fun v5 h5_1 =>
  gd (h5_1 a3 (-2) % 16 = 4 ∧ (0 : Int) ≤ 0 ∧ 0 < h5_1 a3 (-1)) (pt h5_1 a3 0 v5 fun h9 =>
  some (0, h9))) (fun a5 h5 => if h5 a5 (-2) = 480 then (some (3, h5))
  else (if h5 a5 (-2) = 496 then (some (1, h5))
  else (if h5 a5 (-2) = 528 then (some (2, h5))
  else (none)))))
theorem s_X0_note {l : Launch} [NoTr l] {D : SD} {a0 a1 a2 a3 : Int} {h : Hp} (r1 : r32 a1) (r2 : r32 a2) {r : Int × Hp} (hm : m_X0_note a0 a1 a2 a3 h = some r) : Sim l D yX0_note (Cond.codeWith yX0_note cX0_note 5 (Option.some Jvm.ClassFile.FieldType.int) [((0 : Nat), (10 : Nat), (13 : Nat), (19 : Nat)), ((0 : Nat), (10 : Nat), (17 : Nat), (40 : Nat)), ((0 : Nat), (10 : Nat), (21 : Nat), (13 : Nat))]) 11 413 [rv D a0, iv a1, iv a2, rv D a3] h 1 ((0, r.1), r.2) := by
  refine Sim.of (fin := fun (v : Int × Hp) => ((0, v.1), v.2)) (lsE := [(0, rv D a0), (1, iv a1), (2, iv a2), (3, rv D a3)]) hm rfl cwS_with (la_r (la_i (la_i (la_r la_n)))) (ll_r (ll_i (ll_i (ll_r ll_n)))) ?_
  intro p e s m below meth c X hcw hmm hcc hnm hname
  have htb := tabW hcw hnm hmm hcc
  unfold m_X0_note
  refine g_aload_n (pc := 0) X (j := 3) (i := 3) (q := 3) (x := a3) rfl rfl (dl_at t_X0_note 0 rfl) ?_
  refine g_iconst (pc := 1) X (n := 0) (dl_at t_X0_note 1 rfl) ?_
  refine g_aload_n (pc := 2) X (j := 0) (i := 0) (q := 0) (x := a0) rfl rfl (dl_at t_X0_note 2 rfl) ?_
  refine g_iload_n (pc := 3) X (j := 1) (i := 1) (q := 1) (x := a1) rfl rfl (dl_at t_X0_note 3 rfl) ?_
  refine g_iload_n (pc := 4) X (j := 2) (i := 2) (q := 2) (x := a2) rfl rfl (dl_at t_X0_note 4 rfl) ?_
  refine g_gd fun k5 => ?_
  refine r_callTi (pc := 5) X (fun _ hv => s_X1_note k5 r1 r2 hv) cw_code q3183 q355 (in_Vk X (As := [iv a1, iv a2]) kX1 k5 (Or.inl q3180) q3181 q3182 cw_code q3183 ⟨by decide, by decide⟩ rfl (dl_at t_X0_note 5 rfl)) (dl_at t_X0_note 5 rfl) (cat24 (st := [iv 0, rv D a3]) (Nat.le_of_ble_eq_true rfl)) (Nat.le_of_ble_eq_true rfl) (Nat.le_of_ble_eq_true rfl) (fun v5 h5_1 g5 E5_1 => ?_) (fun a5 h5 p5 E5 => ?_)
  · refine g_i2l (pc := 8) X g5 (dl_at t_X0_note 6 rfl) ?_
    refine g_gd fun k9 => ?_
    refine r_last (pc := 9) X (r32_c rfl) (r64_of g5) k9 (dl_at t_X0_note 7 rfl) (fun h9 E9 => ?_)
    refine g_goto (pc := 10) X (off := 15) (tgt := 25) rfl (dl_at t_X0_note 8 rfl) ?_
    refine g_iconst (pc := 25) X (n := 0) (dl_at t_X0_note 18 rfl) ?_
    exact g_iret (pc := 26) X (r32_c rfl) rfl rfl (dl_at t_X0_note 19 rfl)
  refine gt_case (fun k5_1 => ?_) (fun _ => ?_)
  · refine gt_catch (pc := 5) X kJ3 k5_1 [((0, 10, 13, 19), "java/lang/IllegalArgumentException", false), ((0, 10, 17, 40), "java/lang/IllegalStateException", false), ((0, 10, 21, 13), "java/lang/IndexOutOfBoundsException", true)] (hp := 21) rfl (by decide +kernel) (List.forall_mem_cons.mpr ⟨⟨q1682, by decide⟩, (List.forall_mem_cons.mpr ⟨⟨q2237, by decide⟩, (List.forall_mem_cons.mpr ⟨⟨q1565, by decide⟩, fun _ h => absurd h List.not_mem_nil⟩)⟩)⟩) htb ?_
    refine g_astore (pc := 21) X (i := 4) (x := a5) (rest := []) (Nat.le_of_ble_eq_true rfl) [] rfl rfl (dl_at t_X0_note 15 rfl) ?_
    refine g_iconst (pc := 23) X (n := 3) (dl_at t_X0_note 16 rfl) ?_
    exact g_iret (pc := 24) X (r32_c rfl) rfl rfl (dl_at t_X0_note 17 rfl)
  refine gt_case (fun k5_2 => ?_) (fun _ => ?_)
  · refine gt_catch (pc := 5) X kJ6 k5_2 [((0, 10, 13, 19), "java/lang/IllegalArgumentException", true), ((0, 10, 17, 40), "java/lang/IllegalStateException", false), ((0, 10, 21, 13), "java/lang/IndexOutOfBoundsException", false)] (hp := 13) rfl (by decide +kernel) (List.forall_mem_cons.mpr ⟨⟨q1682, by decide⟩, (List.forall_mem_cons.mpr ⟨⟨q2237, by decide⟩, (List.forall_mem_cons.mpr ⟨⟨q1565, by decide⟩, fun _ h => absurd h List.not_mem_nil⟩)⟩)⟩) htb ?_
    refine g_astore (pc := 13) X (i := 4) (x := a5) (rest := []) (Nat.le_of_ble_eq_true rfl) [] rfl rfl (dl_at t_X0_note 9 rfl) ?_
    refine g_iconst (pc := 15) X (n := 1) (dl_at t_X0_note 10 rfl) ?_
    exact g_iret (pc := 16) X (r32_c rfl) rfl rfl (dl_at t_X0_note 11 rfl)
  refine gt_case (fun k5_3 => ?_) (fun _ => ?_)
  · refine gt_catch (pc := 5) X kJ11 k5_3 [((0, 10, 13, 19), "java/lang/IllegalArgumentException", false), ((0, 10, 17, 40), "java/lang/IllegalStateException", true), ((0, 10, 21, 13), "java/lang/IndexOutOfBoundsException", false)] (hp := 17) rfl (by decide +kernel) (List.forall_mem_cons.mpr ⟨⟨q1682, by decide⟩, (List.forall_mem_cons.mpr ⟨⟨q2237, by decide⟩, (List.forall_mem_cons.mpr ⟨⟨q1565, by decide⟩, fun _ h => absurd h List.not_mem_nil⟩)⟩)⟩) htb ?_
    refine g_astore (pc := 17) X (i := 4) (x := a5) (rest := []) (Nat.le_of_ble_eq_true rfl) [] rfl rfl (dl_at t_X0_note 12 rfl) ?_
    refine g_iconst (pc := 19) X (n := 2) (dl_at t_X0_note 13 rfl) ?_
    exact g_iret (pc := 20) X (r32_c rfl) rfl rfl (dl_at t_X0_note 14 rfl)
  exact gt_none
def k_X1_wavering : List (Nat × Instr × Nat) := [(0, .aload_n 0, 1), (1, .getfield 169, 3), (4, .ifnull 7, 3), (7, .iconst 1, 1), (8, .goto 4, 3), (11, .iconst 0, 1), (12, .invokestatic 212, 3), (15, .iload_n 1, 1), (16, .ifCond .ge 7, 3), (19, .iconst (-1), 1), (20, .goto 11, 3), (23, .aload_n 0, 1), (24, .getfield 169, 3), (27, .iload_n 1, 1), (28, .invokevirtual 332, 3), (31, .istore_n 2, 1), (32, .iload_n 2, 1), (33, .ifCond .lt 7, 3), (36, .iconst 1, 1), (37, .goto 4, 3), (40, .iconst 0, 1), (41, .invokestatic 127, 3), (44, .iload_n 2, 1), (45, .ireturn, 1)]
theorem t_X1_wavering : ∀ q ∈ k_X1_wavering, decode cX1_wavering q.1 = .ok q.2 := dl_all (by decide +kernel)
noncomputable def m_X1_wavering_j31 (s0_31 : Int) (h12 : Hp) : Option ((Int × Int) × Hp) :=
  if s0_31 < 0 then (bT (m_X1_room 0 h12) (fun _ h41 =>
  some ((0, s0_31), h41)) (fun a_ h_ => some ((1, a_), h_)))
  else (bT (m_X1_room 1 h12) (fun _ h41_1 =>
  some ((0, s0_31), h41_1)) (fun a_ h_ => some ((1, a_), h_)))
noncomputable def m_X1_wavering_j12 (a0 a1 s0_12 : Int) (h : Hp) : Option ((Int × Int) × Hp) :=
  bT (m_X1_state s0_12 h) (fun _ h12 =>
  if 0 ≤ a1 then (gd (h12 (h12 a0 18) (-2) = 224) ((m_X14_wavering (h12 a0 18) a1 h12).bind fun v28 =>
  m_X1_wavering_j31 v28 h12))
  else (m_X1_wavering_j31 (-1) h12)) (fun a_ h_ => some ((1, a_), h_))
noncomputable def m_X1_wavering (a0 a1 : Int) (h : Hp) : Option ((Int × Int) × Hp) :=
  if (h a0 18) = 0 then (m_X1_wavering_j12 a0 a1 0 h)
  else (m_X1_wavering_j12 a0 a1 1 h)
theorem s_X1_wavering {l : Launch} [NoTr l] {D : SD} {a0 a1 : Int} {h : Hp} (hk : h a0 (-2) = 16) (r1 : r32 a1) {r : (Int × Int) × Hp} (hm : m_X1_wavering a0 a1 h = some r) : Sim l D yX1_wavering (Cond.code yX1_wavering cX1_wavering 3 (Option.some Jvm.ClassFile.FieldType.int)) 10 372 [rv D a0, iv a1] h 1 r := by
  refine Sim.of (fin := fun (v : (Int × Int) × Hp) => v) (lsE := [(0, rv D a0), (1, iv a1)]) hm rfl cwS_code (la_r (la_i la_n)) (ll_r (ll_i ll_n)) ?_
  intro p e s m below meth c X hcw hmm hcc hnm hname
  have hno := noh hcw hnm hmm hcc
  unfold m_X1_wavering
  refine g_aload_n (pc := 0) X (j := 0) (i := 0) (q := 0) (x := a0) rfl rfl (dl_at t_X1_wavering 0 rfl) ?_
  refine r_getr (pc := 1) X fX1_18 hk q1506 (dl_at t_X1_wavering 1 rfl) ?_
  refine g_join (γ := Int) (fun q => (q = 0 ∨ q = 1)) 12 (fun q => [(0, rv D a0), (1, iv a1)]) (fun q => [iv q]) (fun q => h) (fun q => m_X1_wavering_j12 a0 a1 q h) ?_ ?_
  · rintro s0_12 rs0_12
    try dsimp only
    unfold m_X1_wavering_j12
    refine r_callTv (pc := 12) X (fun _ hv => s_X1_state rs0_12 hv) cw_code q2244 q355 (in_Sc X (As := [iv s0_12]) (Or.inl q2242) q2243 q355 q2244 ⟨by decide, by decide⟩ rfl (dl_at t_X1_wavering 6 rfl)) (dl_at t_X1_wavering 6 rfl) (cat24 (st := []) (Nat.le_of_ble_eq_true rfl)) (Nat.le_of_ble_eq_true rfl) (Nat.le_of_ble_eq_true rfl) (fun v12 h12 E12 => ?_) (fun _ _ ha _ => gt_at fun Q hQ => gt_out (Q := Q) X rfl ha (hno _) _ Q rfl hQ)
    refine g_iload_n (pc := 15) X (j := 1) (i := 1) (q := 1) (x := a1) rfl rfl (dl_at t_X1_wavering 7 rfl) ?_
    refine g_join (γ := Int) (fun q => r32 q) 31 (fun q => []) (fun q => [iv q]) (fun q => h12) (fun q => m_X1_wavering_j31 q h12) ?_ ?_
    · rintro s0_31 rs0_31
      try dsimp only
      unfold m_X1_wavering_j31
      refine g_istore_n (pc := 31) X (j := 2) (i := 2) (x := s0_31) (rest := []) rfl (Nat.le_of_ble_eq_true rfl) [] rfl rfl (dl_at t_X1_wavering 15 rfl) ?_
      refine g_iload_n (pc := 32) X (j := 2) (i := 2) (q := 0) (x := s0_31) rfl rfl (dl_at t_X1_wavering 16 rfl) ?_
      refine g_iflt (pc := 33) X rs0_31 (off := 7) (tgt := 40) rfl (dl_at t_X1_wavering 17 rfl) (fun _ => ?_) (fun _ => ?_)
      · refine g_iconst (pc := 40) X (n := 0) (dl_at t_X1_wavering 20 rfl) ?_
        refine r_callTv (pc := 41) X (fun _ hv => s_X1_room (Or.inl rfl) hv) cw_code q1653 q355 (in_Sc X (As := [iv 0]) (Or.inl q1651) q1652 q355 q1653 ⟨by decide, by decide⟩ rfl (dl_at t_X1_wavering 21 rfl)) (dl_at t_X1_wavering 21 rfl) (cat24 (st := []) (Nat.le_of_ble_eq_true rfl)) (Nat.le_of_ble_eq_true rfl) (Nat.le_of_ble_eq_true rfl) (fun v41 h41 E41 => ?_) (fun _ _ ha _ => gt_at fun Q hQ => gt_out (Q := Q) X rfl ha (hno _) _ Q rfl hQ)
        refine g_iload_n (pc := 44) X (j := 2) (i := 2) (q := 0) (x := s0_31) rfl rfl (dl_at t_X1_wavering 22 rfl) ?_
        exact g_iret (pc := 45) X rs0_31 rfl rfl (dl_at t_X1_wavering 23 rfl)
      refine g_iconst (pc := 36) X (n := 1) (dl_at t_X1_wavering 18 rfl) ?_
      refine g_goto (pc := 37) X (off := 4) (tgt := 41) rfl (dl_at t_X1_wavering 19 rfl) ?_
      refine r_callTv (pc := 41) X (fun _ hv => s_X1_room (Or.inr rfl) hv) cw_code q1653 q355 (in_Sc X (As := [iv 1]) (Or.inl q1651) q1652 q355 q1653 ⟨by decide, by decide⟩ rfl (dl_at t_X1_wavering 21 rfl)) (dl_at t_X1_wavering 21 rfl) (cat24 (st := []) (Nat.le_of_ble_eq_true rfl)) (Nat.le_of_ble_eq_true rfl) (Nat.le_of_ble_eq_true rfl) (fun v41_1 h41_1 E41_1 => ?_) (fun _ _ ha _ => gt_at fun Q hQ => gt_out (Q := Q) X rfl ha (hno _) _ Q rfl hQ)
      refine g_iload_n (pc := 44) X (j := 2) (i := 2) (q := 0) (x := s0_31) rfl rfl (dl_at t_X1_wavering 22 rfl) ?_
      exact g_iret (pc := 45) X rs0_31 rfl rfl (dl_at t_X1_wavering 23 rfl)
    intro J31
    refine g_ifge (pc := 16) X r1 (off := 7) (tgt := 23) rfl (dl_at t_X1_wavering 8 rfl) (fun _ => ?_) (fun _ => ?_)
    · refine g_aload_n (pc := 23) X (j := 0) (i := 0) (q := 0) (x := a0) rfl rfl (dl_at t_X1_wavering 11 rfl) ?_
      have k24 := kx E12 (by decide) hk
      refine r_getr (pc := 24) X fX1_18 k24 q1506 (dl_at t_X1_wavering 12 rfl) ?_
      refine g_iload_n (pc := 27) X (j := 1) (i := 1) (q := 1) (x := a1) rfl rfl (dl_at t_X1_wavering 13 rfl) ?_
      refine g_gd fun k28 => ?_
      refine r_callRi (pc := 28) X (fun _ hv => s_X14_wavering k28 r1 hv) cw_code q3083 q368 (in_Vk X (As := [iv a1]) kX14 k28 (Or.inr ⟨_, nw_in q3080 rfl⟩) q3082 qs217 cw_code q3083 ⟨by decide, by decide⟩ rfl (dl_at t_X1_wavering 14 rfl)) (dl_at t_X1_wavering 14 rfl) (cat24 (st := []) (Nat.le_of_ble_eq_true rfl)) (Nat.le_of_ble_eq_true rfl) (Nat.le_of_ble_eq_true rfl) fun v28 g28 => ?_
      refine g_ls (ls2 := []) [] rfl ?_
      exact J31 v28 g28
    refine g_iconst (pc := 19) X (n := (-1)) (dl_at t_X1_wavering 9 rfl) ?_
    refine g_goto (pc := 20) X (off := 11) (tgt := 31) rfl (dl_at t_X1_wavering 10 rfl) ?_
    refine g_ls (ls2 := []) [] rfl ?_
    exact J31 (-1) (r32_c rfl)
  intro J12
  refine g_ifnull (pc := 4) X (off := 7) (tgt := 11) rfl (dl_at t_X1_wavering 2 rfl) (fun _ => ?_) (fun _ => ?_)
  · refine g_iconst (pc := 11) X (n := 0) (dl_at t_X1_wavering 5 rfl) ?_
    exact J12 0 (Or.inl rfl)
  refine g_iconst (pc := 7) X (n := 1) (dl_at t_X1_wavering 3 rfl) ?_
  refine g_goto (pc := 8) X (off := 4) (tgt := 12) rfl (dl_at t_X1_wavering 4 rfl) ?_
  exact J12 1 (Or.inr rfl)
def k_X0_wavering : List (Nat × Instr × Nat) := [(0, .aload_n 2, 1), (1, .iconst 0, 1), (2, .aload_n 0, 1), (3, .iload_n 1, 1), (4, .invokevirtual 75, 3), (7, .i2l, 1), (8, .lastore, 1), (9, .goto 9, 3), (12, .astore_n 3, 1), (13, .iconst 1, 1), (14, .ireturn, 1), (15, .astore_n 3, 1), (16, .iconst 2, 1), (17, .ireturn, 1), (18, .iconst 0, 1), (19, .ireturn, 1)]
theorem t_X0_wavering : ∀ q ∈ k_X0_wavering, decode cX0_wavering q.1 = .ok q.2 := dl_all (by decide +kernel)
noncomputable def m_X0_wavering (a0 a1 a2 : Int) (h : Hp) : Option (Int × Hp) :=
  gd (h a0 (-2) = 16) (bT (m_X1_wavering a0 a1 h) (fun v4 h4_1 =>
  gd (h4_1 a2 (-2) % 16 = 4 ∧ (0 : Int) ≤ 0 ∧ 0 < h4_1 a2 (-1)) (pt h4_1 a2 0 v4 fun h8 =>
  some (0, h8))) (fun a4 h4 => if h4 a4 (-2) = 480 then (some (2, h4))
  else (if h4 a4 (-2) = 528 then (some (1, h4))
  else (none))))
theorem s_X0_wavering {l : Launch} [NoTr l] {D : SD} {a0 a1 a2 : Int} {h : Hp} (r1 : r32 a1) {r : Int × Hp} (hm : m_X0_wavering a0 a1 a2 h = some r) : Sim l D yX0_wavering (Cond.codeWith yX0_wavering cX0_wavering 4 (Option.some Jvm.ClassFile.FieldType.int) [((0 : Nat), (9 : Nat), (12 : Nat), (40 : Nat)), ((0 : Nat), (9 : Nat), (15 : Nat), (13 : Nat))]) 11 410 [rv D a0, iv a1, rv D a2] h 1 ((0, r.1), r.2) := by
  refine Sim.of (fin := fun (v : Int × Hp) => ((0, v.1), v.2)) (lsE := [(0, rv D a0), (1, iv a1), (2, rv D a2)]) hm rfl cwS_with (la_r (la_i (la_r la_n))) (ll_r (ll_i (ll_r ll_n))) ?_
  intro p e s m below meth c X hcw hmm hcc hnm hname
  have htb := tabW hcw hnm hmm hcc
  unfold m_X0_wavering
  refine g_aload_n (pc := 0) X (j := 2) (i := 2) (q := 2) (x := a2) rfl rfl (dl_at t_X0_wavering 0 rfl) ?_
  refine g_iconst (pc := 1) X (n := 0) (dl_at t_X0_wavering 1 rfl) ?_
  refine g_aload_n (pc := 2) X (j := 0) (i := 0) (q := 0) (x := a0) rfl rfl (dl_at t_X0_wavering 2 rfl) ?_
  refine g_iload_n (pc := 3) X (j := 1) (i := 1) (q := 1) (x := a1) rfl rfl (dl_at t_X0_wavering 3 rfl) ?_
  refine g_gd fun k4 => ?_
  refine r_callTi (pc := 4) X (fun _ hv => s_X1_wavering k4 r1 hv) cw_code q3210 q355 (in_Vk X (As := [iv a1]) kX1 k4 (Or.inl q3207) q3208 q3209 cw_code q3210 ⟨by decide, by decide⟩ rfl (dl_at t_X0_wavering 4 rfl)) (dl_at t_X0_wavering 4 rfl) (cat24 (st := [iv 0, rv D a2]) (Nat.le_of_ble_eq_true rfl)) (Nat.le_of_ble_eq_true rfl) (Nat.le_of_ble_eq_true rfl) (fun v4 h4_1 g4 E4_1 => ?_) (fun a4 h4 p4 E4 => ?_)
  · refine g_i2l (pc := 7) X g4 (dl_at t_X0_wavering 5 rfl) ?_
    refine g_gd fun k8 => ?_
    refine r_last (pc := 8) X (r32_c rfl) (r64_of g4) k8 (dl_at t_X0_wavering 6 rfl) (fun h8 E8 => ?_)
    refine g_goto (pc := 9) X (off := 9) (tgt := 18) rfl (dl_at t_X0_wavering 7 rfl) ?_
    refine g_iconst (pc := 18) X (n := 0) (dl_at t_X0_wavering 14 rfl) ?_
    exact g_iret (pc := 19) X (r32_c rfl) rfl rfl (dl_at t_X0_wavering 15 rfl)
  refine gt_case (fun k4_1 => ?_) (fun _ => ?_)
  · refine gt_catch (pc := 4) X kJ3 k4_1 [((0, 9, 12, 40), "java/lang/IllegalStateException", false), ((0, 9, 15, 13), "java/lang/IndexOutOfBoundsException", true)] (hp := 15) rfl (by decide +kernel) (List.forall_mem_cons.mpr ⟨⟨q2237, by decide⟩, (List.forall_mem_cons.mpr ⟨⟨q1565, by decide⟩, fun _ h => absurd h List.not_mem_nil⟩)⟩) htb ?_
    refine g_astore_n (pc := 15) X (j := 3) (i := 3) (x := a4) (rest := []) rfl (Nat.le_of_ble_eq_true rfl) [] rfl rfl (dl_at t_X0_wavering 11 rfl) ?_
    refine g_iconst (pc := 16) X (n := 2) (dl_at t_X0_wavering 12 rfl) ?_
    exact g_iret (pc := 17) X (r32_c rfl) rfl rfl (dl_at t_X0_wavering 13 rfl)
  refine gt_case (fun k4_2 => ?_) (fun _ => ?_)
  · refine gt_catch (pc := 4) X kJ11 k4_2 [((0, 9, 12, 40), "java/lang/IllegalStateException", true), ((0, 9, 15, 13), "java/lang/IndexOutOfBoundsException", false)] (hp := 12) rfl (by decide +kernel) (List.forall_mem_cons.mpr ⟨⟨q2237, by decide⟩, (List.forall_mem_cons.mpr ⟨⟨q1565, by decide⟩, fun _ h => absurd h List.not_mem_nil⟩)⟩) htb ?_
    refine g_astore_n (pc := 12) X (j := 3) (i := 3) (x := a4) (rest := []) rfl (Nat.le_of_ble_eq_true rfl) [] rfl rfl (dl_at t_X0_wavering 8 rfl) ?_
    refine g_iconst (pc := 13) X (n := 1) (dl_at t_X0_wavering 9 rfl) ?_
    exact g_iret (pc := 14) X (r32_c rfl) rfl rfl (dl_at t_X0_wavering 10 rfl)
  exact gt_none
def k_X14_headOf : List (Nat × Instr × Nat) := [(0, .iconst (-1), 1), (1, .istore_n 2, 1), (2, .iconst 0, 1), (3, .istore_n 3, 1), (4, .iload_n 3, 1), (5, .aload_n 0, 1), (6, .getfield 158, 3), (9, .getfield 223, 3), (12, .if_icmp .ge 57, 3), (15, .aload_n 0, 1), (16, .getfield 158, 3), (19, .getfield 476, 3), (22, .iload_n 3, 1), (23, .baload, 1), (24, .ifCond .eq 39, 3), (27, .aload_n 0, 1), (28, .iload_n 3, 1), (29, .bipush 20, 2), (31, .invokevirtual 283, 3), (34, .ifCond .ne 6, 3), (37, .goto 26, 3), (40, .aload_n 0, 1), (41, .iload_n 3, 1), (42, .invokevirtual 224, 3), (45, .istore 4, 2), (47, .iload 4, 2), (49, .iload_n 1, 1), (50, .if_icmp .ne 5, 3), (53, .iload_n 3, 1), (54, .ireturn, 1), (55, .iload 4, 2), (57, .iload_n 1, 1), (58, .if_icmp .ge 5, 3), (61, .iload_n 3, 1), (62, .istore_n 2, 1), (63, .iinc 3 1, 3), (66, .goto (-62), 3), (69, .iload_n 2, 1), (70, .ireturn, 1)]
theorem t_X14_headOf : ∀ q ∈ k_X14_headOf, decode cX14_headOf q.1 = .ok q.2 := dl_all (by decide +kernel)
noncomputable def m_X14_headOf_j63 (x3_4 x2_63 : Int) : Option ((Int × Int) ⊕ ((Int))) :=
  lt_ (w32 (x3_4 + 1)) fun x3_63 =>
  some (.inl (x2_63, x3_63))
noncomputable def m_X14_headOf_l4 (a0 a1 x2_4 x3_4 : Int) (h : Hp) : Option ((Int × Int) ⊕ ((Int))) :=
  gd (h (h a0 2) (-2) = 112) (if (h (h a0 2) 2) ≤ x3_4 then (some (.inr x2_4))
  else (gd (h (h (h a0 2) 7) (-2) % 16 = 3 ∧ (0 : Int) ≤ x3_4 ∧ x3_4 < h (h (h a0 2) 7) (-1)) (if (h (h (h a0 2) 7) x3_4) = 0 then (m_X14_headOf_j63 x3_4 x2_4)
  else ((m_X14_property a0 x3_4 20 h).bind fun v31 =>
  if v31 ≠ 0 then ((m_X14_pageOf a0 x3_4 h).bind fun v42 =>
  if v42 ≠ a1 then (if a1 ≤ v42 then (m_X14_headOf_j63 x3_4 x2_4)
  else (m_X14_headOf_j63 x3_4 x3_4))
  else (some (.inr x3_4)))
  else (m_X14_headOf_j63 x3_4 x2_4)))))
noncomputable def m_X14_headOf (a0 a1 : Int) (h : Hp) : Option (Int) :=
  lt_ (-1) fun x2_1 =>
  lt_ 0 fun x3_3 =>
  (lp (fun (q : Int × Int) => m_X14_headOf_l4 a0 a1 q.1 q.2 h) (x2_1, x3_3)).bind (fun (x : Int) => some x)
theorem s_X14_headOf {l : Launch} [NoTr l] {D : SD} {a0 a1 : Int} {h : Hp} (hk : h a0 (-2) = 224) (r1 : r32 a1) {r : Int} (hm : m_X14_headOf a0 a1 h = some r) : Sim l D yX14_headOf (Cond.code yX14_headOf cX14_headOf 5 (Option.some Jvm.ClassFile.FieldType.int)) 3 112 [rv D a0, iv a1] h 1 ((0, r), h) := by
  refine Sim.of (fin := fun (v : Int) => ((0, v), h)) (lsE := [(0, rv D a0), (1, iv a1)]) hm rfl cwS_code (la_r (la_i la_n)) (ll_r (ll_i ll_n)) ?_
  intro p e s m below meth c X hcw hmm hcc hnm hname
  unfold m_X14_headOf
  refine g_iconst (pc := 0) X (n := (-1)) (dl_at t_X14_headOf 0 rfl) ?_
  refine g_lti (r32_c rfl) fun x2_1 r2_1 => ?_
  refine g_istore_nN (pc := 1) X (j := 2) (i := 2) (x := x2_1) (b := 1) (w := iv a1) (rest := [(0, rv D a0)]) rfl (Nat.le_of_ble_eq_true rfl) [1, 0] rfl (by decide) rfl rfl (dl_at t_X14_headOf 1 rfl) ?_
  refine g_iconst (pc := 2) X (n := 0) (dl_at t_X14_headOf 2 rfl) ?_
  refine g_ltz (Or.inl rfl) fun x3_3 r3_3 => ?_
  refine g_istore_nN (pc := 3) X (j := 3) (i := 3) (x := x3_3) (b := 2) (w := iv x2_1) (rest := [(1, iv a1), (0, rv D a0)]) rfl (Nat.le_of_ble_eq_true rfl) [0, 1, 2] rfl (by decide) rfl rfl (dl_at t_X14_headOf 3 rfl) ?_
  refine g_ls (ls2 := [(0, rv D a0), (1, iv a1), (2, iv x2_1), (3, iv x3_3)]) [3, 2, 1, 0] rfl ?_
  refine g_loop0F (fun (q : Int × Int) => [(0, rv D a0), (1, iv a1), (2, iv q.1), (3, iv q.2)]) (fun (q : Int × Int) => h) (fun (q : Int × Int) => r32 q.1 ∧ r32 q.2) (x2_1, x3_3) ⟨r2_1, (r32_z r3_3)⟩ ?_ (fun _ => rfl)
  · rintro ⟨x2_4, x3_4⟩ ⟨r2_4, r3_4⟩
    try dsimp only
    unfold m_X14_headOf_l4
    refine g_iload_n (pc := 4) X (j := 3) (i := 3) (q := 3) (x := x3_4) rfl rfl (dl_at t_X14_headOf 4 rfl) ?_
    refine g_aload_n (pc := 5) X (j := 0) (i := 0) (q := 0) (x := a0) rfl rfl (dl_at t_X14_headOf 5 rfl) ?_
    refine r_getr (pc := 6) X fX14_2 hk q1243 (dl_at t_X14_headOf 6 rfl) ?_
    refine g_gd fun k9 => ?_
    refine r_getiN (pc := 9) X fX7_2 k9 (nw_in q785 rfl) (dl_at t_X14_headOf 7 rfl) fun g9 => ?_
    refine g_icmpge (pc := 12) X r3_4 g9 (off := 57) (tgt := 69) rfl (dl_at t_X14_headOf 8 rfl) (fun _ => ?_) (fun _ => ?_)
    · refine g_iload_n (pc := 69) X (j := 2) (i := 2) (q := 2) (x := x2_4) rfl rfl (dl_at t_X14_headOf 37 rfl) ?_
      exact g_at fun Q hQ => (g_iret (pc := 70) X r2_4 rfl rfl (dl_at t_X14_headOf 38 rfl)) _ Q rfl hQ
    refine g_aload_n (pc := 15) X (j := 0) (i := 0) (q := 0) (x := a0) rfl rfl (dl_at t_X14_headOf 9 rfl) ?_
    refine r_getr (pc := 16) X fX14_2 hk q1243 (dl_at t_X14_headOf 10 rfl) ?_
    refine r_getrN (pc := 19) X fX7_7 k9 (nw_in q794 rfl) (dl_at t_X14_headOf 11 rfl) ?_
    refine g_iload_n (pc := 22) X (j := 3) (i := 3) (q := 3) (x := x3_4) rfl rfl (dl_at t_X14_headOf 12 rfl) ?_
    refine g_gd fun k23 => ?_
    refine g_zald (pc := 23) X r3_4 k23 (dl_at t_X14_headOf 13 rfl) fun g23 => ?_
    refine g_join (γ := Int) (fun q => r32 q) 63 (fun q => [(0, rv D a0), (1, iv a1), (2, iv q), (3, iv x3_4)]) (fun q => []) (fun q => h) (fun q => m_X14_headOf_j63 x3_4 q) ?_ ?_
    · rintro x2_63 r2_63
      try dsimp only
      unfold m_X14_headOf_j63
      refine r_iincN (pc := 63) X (i := 3) (q := 3) (n := 1) (x := x3_4) (b := 2) (w := iv x2_63) (rest := [(0, rv D a0), (1, iv a1)]) rfl r3_4 (r32_c rfl) (Nat.le_of_ble_eq_true rfl) [2, 0, 1] rfl (by decide) rfl rfl (dl_at t_X14_headOf 35 rfl) fun x3_63 r3_63 => ?_
      refine g_goto (pc := 66) X (off := (-62)) (tgt := 4) rfl (dl_at t_X14_headOf 36 rfl) ?_
      refine g_ls (ls2 := [(0, rv D a0), (1, iv a1), (2, iv x2_63), (3, iv x3_63)]) [2, 3, 1, 0] rfl ?_
      exact g_at fun Q hQ => hQ ⟨r2_63, r3_63⟩
    intro J63
    refine g_ifeq (pc := 24) X (r32_z g23) (off := 39) (tgt := 63) rfl (dl_at t_X14_headOf 14 rfl) (fun _ => ?_) (fun _ => ?_)
    · exact J63 x2_4 r2_4
    refine g_aload_n (pc := 27) X (j := 0) (i := 0) (q := 0) (x := a0) rfl rfl (dl_at t_X14_headOf 15 rfl) ?_
    refine g_iload_n (pc := 28) X (j := 3) (i := 3) (q := 3) (x := x3_4) rfl rfl (dl_at t_X14_headOf 16 rfl) ?_
    refine g_bipush (pc := 29) X (n := 20) rfl (dl_at t_X14_headOf 17 rfl) ?_
    refine r_callRi (pc := 31) X (fun _ hv => s_X14_property hk r3_4 (r32_c rfl) hv) cw_code q2504 q368 (in_Vk X (As := [iv x3_4, iv 20]) kX14 hk (Or.inl q2501) q2503 qs119 cw_code q2504 ⟨by decide, by decide⟩ rfl (dl_at t_X14_headOf 18 rfl)) (dl_at t_X14_headOf 18 rfl) (cat24 (st := []) (Nat.le_of_ble_eq_true rfl)) (Nat.le_of_ble_eq_true rfl) (Nat.le_of_ble_eq_true rfl) fun v31 g31 => ?_
    refine g_ifne (pc := 34) X g31 (off := 6) (tgt := 40) rfl (dl_at t_X14_headOf 19 rfl) (fun _ => ?_) (fun _ => ?_)
    · refine g_aload_n (pc := 40) X (j := 0) (i := 0) (q := 0) (x := a0) rfl rfl (dl_at t_X14_headOf 21 rfl) ?_
      refine g_iload_n (pc := 41) X (j := 3) (i := 3) (q := 3) (x := x3_4) rfl rfl (dl_at t_X14_headOf 22 rfl) ?_
      refine r_callRi (pc := 42) X (fun _ hv => s_X14_pageOf hk r3_4 hv) cw_code q2369 q368 (in_Vk X (As := [iv x3_4]) kX14 hk (Or.inl q2366) q2368 qs91 cw_code q2369 ⟨by decide, by decide⟩ rfl (dl_at t_X14_headOf 23 rfl)) (dl_at t_X14_headOf 23 rfl) (cat24 (st := []) (Nat.le_of_ble_eq_true rfl)) (Nat.le_of_ble_eq_true rfl) (Nat.le_of_ble_eq_true rfl) fun v42 g42 => ?_
      refine g_istoreN (pc := 45) X (i := 4) (x := v42) (b := 3) (w := iv x3_4) (rest := [(0, rv D a0), (1, iv a1), (2, iv x2_4)]) (Nat.le_of_ble_eq_true rfl) [3, 0, 1, 2] rfl (by decide) rfl rfl (dl_at t_X14_headOf 24 rfl) ?_
      refine g_iload (pc := 47) X (i := 4) (q := 0) (x := v42) rfl (dl_at t_X14_headOf 25 rfl) ?_
      refine g_iload_n (pc := 49) X (j := 1) (i := 1) (q := 3) (x := a1) rfl rfl (dl_at t_X14_headOf 26 rfl) ?_
      refine g_icmpne (pc := 50) X g42 r1 (off := 5) (tgt := 55) rfl (dl_at t_X14_headOf 27 rfl) (fun _ => ?_) (fun _ => ?_)
      · refine g_iload (pc := 55) X (i := 4) (q := 0) (x := v42) rfl (dl_at t_X14_headOf 30 rfl) ?_
        refine g_iload_n (pc := 57) X (j := 1) (i := 1) (q := 3) (x := a1) rfl rfl (dl_at t_X14_headOf 31 rfl) ?_
        refine g_icmpge (pc := 58) X g42 r1 (off := 5) (tgt := 63) rfl (dl_at t_X14_headOf 32 rfl) (fun _ => ?_) (fun _ => ?_)
        · refine g_ls (ls2 := [(0, rv D a0), (1, iv a1), (2, iv x2_4), (3, iv x3_4)]) [2, 3, 4, 1] rfl ?_
          exact J63 x2_4 r2_4
        refine g_iload_n (pc := 61) X (j := 3) (i := 3) (q := 1) (x := x3_4) rfl rfl (dl_at t_X14_headOf 33 rfl) ?_
        refine g_istore_nN (pc := 62) X (j := 2) (i := 2) (x := x3_4) (b := 1) (w := iv a1) (rest := [(3, iv x3_4), (0, rv D a0)]) rfl (Nat.le_of_ble_eq_true rfl) [3, 1, 2] rfl (by decide) rfl rfl (dl_at t_X14_headOf 34 rfl) ?_
        refine g_ls (ls2 := [(0, rv D a0), (1, iv a1), (2, iv x3_4), (3, iv x3_4)]) [3, 1, 0, 2] rfl ?_
        exact J63 x3_4 r3_4
      refine g_iload_n (pc := 53) X (j := 3) (i := 3) (q := 1) (x := x3_4) rfl rfl (dl_at t_X14_headOf 28 rfl) ?_
      exact g_at fun Q hQ => (g_iret (pc := 54) X r3_4 rfl rfl (dl_at t_X14_headOf 29 rfl)) _ Q rfl hQ
    refine g_goto (pc := 37) X (off := 26) (tgt := 63) rfl (dl_at t_X14_headOf 20 rfl) ?_
    exact J63 x2_4 r2_4
def k_X28_write : List (Nat × Instr × Nat) := [(0, .aload_n 0, 1), (1, .iload_n 1, 1), (2, .invokevirtual 237, 3), (5, .ifCond .ne 7, 3), (8, .iconst 0, 1), (9, .goto 12, 3), (12, .aload_n 0, 1), (13, .aload_n 0, 1), (14, .iload_n 1, 1), (15, .invokevirtual 237, 3), (18, .invokevirtual 260, 3), (21, .istore_n 3, 1), (22, .aload_n 0, 1), (23, .iload_n 1, 1), (24, .iconst 1, 1), (25, .iadd, 1), (26, .invokevirtual 237, 3), (29, .istore 4, 2), (31, .aload_n 2, 1), (32, .aload_n 0, 1), (33, .getfield 9, 3), (36, .getfield 15, 3), (39, .aload_n 0, 1), (40, .getfield 21, 3), (43, .iload_n 3, 1), (44, .iadd, 1), (45, .aload_n 0, 1), (46, .iload 4, 2), (48, .invokevirtual 87, 3), (51, .iload_n 3, 1), (52, .isub, 1), (53, .invokevirtual 262, 3), (56, .aload_n 0, 1), (57, .iload 4, 2), (59, .invokevirtual 85, 3), (62, .iconst 1, 1), (63, .if_icmp .ne 9, 3), (66, .aload_n 2, 1), (67, .bipush 45, 2), (69, .invokevirtual 268, 3), (72, .return_, 1)]
theorem t_X28_write : ∀ q ∈ k_X28_write, decode cX28_write q.1 = .ok q.2 := dl_all (by decide +kernel)
noncomputable def m_X28_write_j21 (a0 a1 a2 s0_21 : Int) (h : Hp) : Option ((Int × Int) × Hp) :=
  (m_X28_breakOf a0 (w32 (a1 + 1)) h).bind fun v26 =>
  gd (h (h a0 0) (-2) = 240) ((m_X28_endAt a0 v26 h).bind fun v48 =>
  gd (h a2 (-2) = 80) (bT (m_X5_addAll a2 (h (h a0 0) 0) (w32 ((h a0 1) + s0_21)) (w32 (v48 - s0_21)) h) (fun _ h53 =>
  (m_X28_kind a0 v26 h53).bind fun v59 =>
  if v59 ≠ 1 then (some ((0, 0), h53))
  else (bT (m_X5_add a2 45 h53) (fun _ h69 =>
  some ((0, 0), h69)) (fun a_ h_ => some ((1, a_), h_)))) (fun a_ h_ => some ((1, a_), h_))))
noncomputable def m_X28_write (a0 a1 a2 : Int) (h : Hp) : Option ((Int × Int) × Hp) :=
  (m_X28_breakOf a0 a1 h).bind fun v2 =>
  if v2 ≠ 0 then ((m_X28_breakOf a0 a1 h).bind fun v15 =>
  (m_X28_nextAt a0 v15 h).bind fun v18 =>
  m_X28_write_j21 a0 a1 a2 v18 h)
  else (m_X28_write_j21 a0 a1 a2 0 h)
theorem s_X28_write {l : Launch} [NoTr l] {D : SD} {a0 a1 a2 : Int} {h : Hp} (hk : h a0 (-2) = 288) (r1 : r32 a1) {r : (Int × Int) × Hp} (hm : m_X28_write a0 a1 a2 h = some r) : Sim l D yX28_write (Cond.code yX28_write cX28_write 5 (Option.none : Option Jvm.ClassFile.FieldType)) 12 449 [rv D a0, iv a1, rv D a2] h 0 r := by
  refine Sim.of (fin := fun (v : (Int × Int) × Hp) => v) (lsE := [(0, rv D a0), (1, iv a1), (2, rv D a2)]) hm rfl cwS_code (la_r (la_i (la_r la_n))) (ll_r (ll_i (ll_r ll_n))) ?_
  intro p e s m below meth c X hcw hmm hcc hnm hname
  have hno := noh hcw hnm hmm hcc
  unfold m_X28_write
  refine g_aload_n (pc := 0) X (j := 0) (i := 0) (q := 0) (x := a0) rfl rfl (dl_at t_X28_write 0 rfl) ?_
  refine g_iload_n (pc := 1) X (j := 1) (i := 1) (q := 1) (x := a1) rfl rfl (dl_at t_X28_write 1 rfl) ?_
  refine r_callRi (pc := 2) X (fun _ hv => s_X28_breakOf hk r1 hv) cw_code q2939 q396 (in_Vk X (As := [iv a1]) kX28 hk (Or.inl q2936) q2938 qs189 cw_code q2939 ⟨by decide, by decide⟩ rfl (dl_at t_X28_write 2 rfl)) (dl_at t_X28_write 2 rfl) (cat24 (st := []) (Nat.le_of_ble_eq_true rfl)) (Nat.le_of_ble_eq_true rfl) (Nat.le_of_ble_eq_true rfl) fun v2 g2 => ?_
  refine g_join (γ := Int) (fun q => r32 q) 21 (fun q => [(0, rv D a0), (1, iv a1), (2, rv D a2)]) (fun q => [iv q]) (fun q => h) (fun q => m_X28_write_j21 a0 a1 a2 q h) ?_ ?_
  · rintro s0_21 rs0_21
    try dsimp only
    unfold m_X28_write_j21
    refine g_istore_nN (pc := 21) X (j := 3) (i := 3) (x := s0_21) (b := 2) (w := rv D a2) (rest := [(0, rv D a0), (1, iv a1)]) rfl (Nat.le_of_ble_eq_true rfl) [2, 0, 1] rfl (by decide) rv_cat rfl (dl_at t_X28_write 11 rfl) ?_
    refine g_aload_n (pc := 22) X (j := 0) (i := 0) (q := 2) (x := a0) rfl rfl (dl_at t_X28_write 12 rfl) ?_
    refine g_iload_n (pc := 23) X (j := 1) (i := 1) (q := 3) (x := a1) rfl rfl (dl_at t_X28_write 13 rfl) ?_
    refine g_iconst (pc := 24) X (n := 1) (dl_at t_X28_write 14 rfl) ?_
    refine g_iadd (pc := 25) X r1 (r32_c rfl) (dl_at t_X28_write 15 rfl) ?_
    refine r_callRi (pc := 26) X (fun _ hv => s_X28_breakOf hk (r32_w _) hv) cw_code q2939 q396 (in_Vk X (As := [iv (w32 (a1 + 1))]) kX28 hk (Or.inl q2936) q2938 qs189 cw_code q2939 ⟨by decide, by decide⟩ rfl (dl_at t_X28_write 16 rfl)) (dl_at t_X28_write 16 rfl) (cat24 (st := []) (Nat.le_of_ble_eq_true rfl)) (Nat.le_of_ble_eq_true rfl) (Nat.le_of_ble_eq_true rfl) fun v26 g26 => ?_
    refine g_istoreN (pc := 29) X (i := 4) (x := v26) (b := 3) (w := iv s0_21) (rest := [(2, rv D a2), (0, rv D a0)]) (Nat.le_of_ble_eq_true rfl) [0, 1, 2] rfl (by decide) rfl rfl (dl_at t_X28_write 17 rfl) ?_
    refine g_aload_n (pc := 31) X (j := 2) (i := 2) (q := 2) (x := a2) rfl rfl (dl_at t_X28_write 18 rfl) ?_
    refine g_aload_n (pc := 32) X (j := 0) (i := 0) (q := 3) (x := a0) rfl rfl (dl_at t_X28_write 19 rfl) ?_
    refine r_getr (pc := 33) X fX28_0 hk q2528 (dl_at t_X28_write 20 rfl) ?_
    refine g_gd fun k36 => ?_
    refine r_getrN (pc := 36) X fX15_0 k36 (nw_in q1128 rfl) (dl_at t_X28_write 21 rfl) ?_
    refine g_aload_n (pc := 39) X (j := 0) (i := 0) (q := 3) (x := a0) rfl rfl (dl_at t_X28_write 22 rfl) ?_
    refine r_geti (pc := 40) X fX28_1 hk q2529 (dl_at t_X28_write 23 rfl) fun g40 => ?_
    refine g_iload_n (pc := 43) X (j := 3) (i := 3) (q := 1) (x := s0_21) rfl rfl (dl_at t_X28_write 24 rfl) ?_
    refine g_iadd (pc := 44) X g40 rs0_21 (dl_at t_X28_write 25 rfl) ?_
    refine g_aload_n (pc := 45) X (j := 0) (i := 0) (q := 3) (x := a0) rfl rfl (dl_at t_X28_write 26 rfl) ?_
    refine g_iload (pc := 46) X (i := 4) (q := 0) (x := v26) rfl (dl_at t_X28_write 27 rfl) ?_
    refine r_callRi (pc := 48) X (fun _ hv => s_X28_endAt hk g26 hv) cw_code q2866 q396 (in_Vk X (As := [iv v26]) kX28 hk (Or.inl q2863) q2865 qs175 cw_code q2866 ⟨by decide, by decide⟩ rfl (dl_at t_X28_write 28 rfl)) (dl_at t_X28_write 28 rfl) (cat24 (st := [iv (w32 ((h a0 1) + s0_21)), rv D (h (h a0 0) 0), rv D a2]) (Nat.le_of_ble_eq_true rfl)) (Nat.le_of_ble_eq_true rfl) (Nat.le_of_ble_eq_true rfl) fun v48 g48 => ?_
    refine g_iload_n (pc := 51) X (j := 3) (i := 3) (q := 1) (x := s0_21) rfl rfl (dl_at t_X28_write 29 rfl) ?_
    refine g_isub (pc := 52) X g48 rs0_21 (dl_at t_X28_write 30 rfl) ?_
    refine g_gd fun k53 => ?_
    refine r_callTv (pc := 53) X (fun _ hv => s_X5_addAll k53 (r32_w _) (r32_w _) hv) cw_code q2034 q359 (in_Vk X (As := [rv D (h (h a0 0) 0), iv (w32 ((h a0 1) + s0_21)), iv (w32 (v48 - s0_21))]) kX5 k53 (Or.inr ⟨_, nw_in q3240 rfl⟩) q2033 qs43 cw_code q2034 ⟨by decide, by decide⟩ rfl (dl_at t_X28_write 31 rfl)) (dl_at t_X28_write 31 rfl) (cat24 (st := []) (Nat.le_of_ble_eq_true rfl)) (Nat.le_of_ble_eq_true rfl) (Nat.le_of_ble_eq_true rfl) (fun v53 h53 E53 => ?_) (fun _ _ ha _ => gt_at fun Q hQ => gt_out (Q := Q) X rfl ha (hno _) _ Q rfl hQ)
    refine g_aload_n (pc := 56) X (j := 0) (i := 0) (q := 3) (x := a0) rfl rfl (dl_at t_X28_write 32 rfl) ?_
    refine g_iload (pc := 57) X (i := 4) (q := 0) (x := v26) rfl (dl_at t_X28_write 33 rfl) ?_
    have k59 := kx E53 (by decide) hk
    refine r_callRi (pc := 59) X (fun _ hv => s_X28_kind k59 g26 hv) cw_code q2862 q396 (in_Vk X (As := [iv v26]) kX28 k59 (Or.inl q2859) q2861 qs174 cw_code q2862 ⟨by decide, by decide⟩ rfl (dl_at t_X28_write 34 rfl)) (dl_at t_X28_write 34 rfl) (cat24 (st := []) (Nat.le_of_ble_eq_true rfl)) (Nat.le_of_ble_eq_true rfl) (Nat.le_of_ble_eq_true rfl) fun v59 g59 => ?_
    refine g_iconst (pc := 62) X (n := 1) (dl_at t_X28_write 35 rfl) ?_
    refine g_icmpne (pc := 63) X g59 (r32_c rfl) (off := 9) (tgt := 72) rfl (dl_at t_X28_write 36 rfl) (fun _ => ?_) (fun _ => ?_)
    · exact g_vret (pc := 72) X (v := 0) rfl rfl (dl_at t_X28_write 40 rfl)
    refine g_aload_n (pc := 66) X (j := 2) (i := 2) (q := 2) (x := a2) rfl rfl (dl_at t_X28_write 37 rfl) ?_
    refine g_bipush (pc := 67) X (n := 45) rfl (dl_at t_X28_write 38 rfl) ?_
    have k69 := kx E53 (by decide) k53
    refine r_callTv (pc := 69) X (fun _ hv => s_X5_add k69 (r32_c rfl) hv) cw_code q2038 q359 (in_Vk X (As := [iv 45]) kX5 k69 (Or.inr ⟨_, nw_in q3241 rfl⟩) q2037 qs44 cw_code q2038 ⟨by decide, by decide⟩ rfl (dl_at t_X28_write 39 rfl)) (dl_at t_X28_write 39 rfl) (cat24 (st := []) (Nat.le_of_ble_eq_true rfl)) (Nat.le_of_ble_eq_true rfl) (Nat.le_of_ble_eq_true rfl) (fun v69 h69 E69 => ?_) (fun _ _ ha _ => gt_at fun Q hQ => gt_out (Q := Q) X rfl ha (hno _) _ Q rfl hQ)
    exact g_vret (pc := 72) X (v := 0) rfl rfl (dl_at t_X28_write 40 rfl)
  intro J21
  refine g_ifne (pc := 5) X g2 (off := 7) (tgt := 12) rfl (dl_at t_X28_write 3 rfl) (fun _ => ?_) (fun _ => ?_)
  · refine g_aload_n (pc := 12) X (j := 0) (i := 0) (q := 0) (x := a0) rfl rfl (dl_at t_X28_write 6 rfl) ?_
    refine g_aload_n (pc := 13) X (j := 0) (i := 0) (q := 0) (x := a0) rfl rfl (dl_at t_X28_write 7 rfl) ?_
    refine g_iload_n (pc := 14) X (j := 1) (i := 1) (q := 1) (x := a1) rfl rfl (dl_at t_X28_write 8 rfl) ?_
    refine r_callRi (pc := 15) X (fun _ hv => s_X28_breakOf hk r1 hv) cw_code q2939 q396 (in_Vk X (As := [iv a1]) kX28 hk (Or.inl q2936) q2938 qs189 cw_code q2939 ⟨by decide, by decide⟩ rfl (dl_at t_X28_write 9 rfl)) (dl_at t_X28_write 9 rfl) (cat24 (st := [rv D a0]) (Nat.le_of_ble_eq_true rfl)) (Nat.le_of_ble_eq_true rfl) (Nat.le_of_ble_eq_true rfl) fun v15 g15 => ?_
    refine r_callRi (pc := 18) X (fun _ hv => s_X28_nextAt hk g15 hv) cw_code q2964 q396 (in_Vk X (As := [iv v15]) kX28 hk (Or.inl q3239) q2963 qs195 cw_code q2964 ⟨by decide, by decide⟩ rfl (dl_at t_X28_write 10 rfl)) (dl_at t_X28_write 10 rfl) (cat24 (st := []) (Nat.le_of_ble_eq_true rfl)) (Nat.le_of_ble_eq_true rfl) (Nat.le_of_ble_eq_true rfl) fun v18 g18 => ?_
    exact J21 v18 g18
  refine g_iconst (pc := 8) X (n := 0) (dl_at t_X28_write 4 rfl) ?_
  refine g_goto (pc := 9) X (off := 12) (tgt := 21) rfl (dl_at t_X28_write 5 rfl) ?_
  exact J21 0 (r32_c rfl)
def k_X14_printLine : List (Nat × Instr × Nat) := [(0, .aload 7, 2), (2, .lload_n 3, 1), (3, .invokevirtual 522, 3), (6, .aload 7, 2), (8, .bipush 32, 2), (10, .invokevirtual 526, 3), (13, .aload 7, 2), (15, .lload 5, 2), (17, .aload_n 1, 1), (18, .iload_n 2, 1), (19, .invokevirtual 769, 3), (22, .i2l, 1), (23, .ladd, 1), (24, .invokevirtual 522, 3), (27, .aload 7, 2), (29, .bipush 32, 2), (31, .invokevirtual 526, 3), (34, .aload_n 1, 1), (35, .iload_n 2, 1), (36, .aload 7, 2), (38, .invokevirtual 772, 3), (41, .aload 7, 2), (43, .bipush 10, 2), (45, .invokevirtual 526, 3), (48, .return_, 1)]
theorem t_X14_printLine : ∀ q ∈ k_X14_printLine, decode cX14_printLine q.1 = .ok q.2 := dl_all (by decide +kernel)
noncomputable def m_X14_printLine (a0 a1 a2 a3 a5 a7 : Int) (h : Hp) : Option ((Int × Int) × Hp) :=
  gd (h a7 (-2) = 80) (bT (m_X5_number 24 a7 a3 h) (fun _ h3 =>
  bT (m_X5_add a7 32 h3) (fun _ h10 =>
  gd (h10 a1 (-2) = 288) ((m_X28_startOf a1 a2 h10).bind fun v19 =>
  bT (m_X5_number 24 a7 (w64 (a5 + v19)) h10) (fun _ h24 =>
  bT (m_X5_add a7 32 h24) (fun _ h31 =>
  bT (m_X28_write a1 a2 a7 h31) (fun _ h38 =>
  bT (m_X5_add a7 10 h38) (fun _ h45 =>
  some ((0, 0), h45)) (fun a_ h_ => some ((1, a_), h_))) (fun a_ h_ => some ((1, a_), h_))) (fun a_ h_ => some ((1, a_), h_))) (fun a_ h_ => some ((1, a_), h_)))) (fun a_ h_ => some ((1, a_), h_))) (fun a_ h_ => some ((1, a_), h_)))
theorem s_X14_printLine {l : Launch} [NoTr l] {D : SD} {a0 a1 a2 a3 a5 a7 : Int} {h : Hp} (hk : h a0 (-2) = 224) (r2 : r32 a2) (r3 : r64 a3) (r5 : r64 a5) {r : (Int × Int) × Hp} (hm : m_X14_printLine a0 a1 a2 a3 a5 a7 h = some r) : Sim l D yX14_printLine (Cond.code yX14_printLine cX14_printLine 8 (Option.none : Option Jvm.ClassFile.FieldType)) 36 1359 [rv D a0, rv D a1, iv a2, jv a3, jv a5, rv D a7] h 0 r := by
  refine Sim.of (fin := fun (v : (Int × Int) × Hp) => v) (lsE := [(0, rv D a0), (1, rv D a1), (2, iv a2), (3, jv a3), (5, jv a5), (7, rv D a7)]) hm rfl cwS_code (la_r (la_r (la_i (la_j (la_j (la_r la_n)))))) (ll_r (ll_r (ll_i (ll_j (ll_j (ll_r ll_n)))))) ?_
  intro p e s m below meth c X hcw hmm hcc hnm hname
  have hno := noh hcw hnm hmm hcc
  unfold m_X14_printLine
  refine g_aload (pc := 0) X (i := 7) (q := 5) (x := a7) rfl (dl_at t_X14_printLine 0 rfl) ?_
  refine g_lload_n (pc := 2) X (j := 3) (i := 3) (q := 3) (x := a3) rfl rfl (dl_at t_X14_printLine 1 rfl) ?_
  refine g_gd fun k3 => ?_
  refine r_callTv (pc := 3) X (fun _ hv => s_X5_number (d := 24) k3 r3 hv) cw_code q2441 q359 (in_Vk X (As := [jv a3]) kX5 k3 (Or.inr ⟨_, nw_in q2685 rfl⟩) q2440 qs105 cw_code q2441 ⟨by decide, by decide⟩ rfl (dl_at t_X14_printLine 2 rfl)) (dl_at t_X14_printLine 2 rfl) (cat24 (st := []) (Nat.le_of_ble_eq_true rfl)) (Nat.le_of_ble_eq_true rfl) (Nat.le_of_ble_eq_true rfl) (fun v3 h3 E3 => ?_) (fun _ _ ha _ => gt_at fun Q hQ => gt_out (Q := Q) X rfl ha (hno _) _ Q rfl hQ)
  refine g_aload (pc := 6) X (i := 7) (q := 5) (x := a7) rfl (dl_at t_X14_printLine 3 rfl) ?_
  refine g_bipush (pc := 8) X (n := 32) rfl (dl_at t_X14_printLine 4 rfl) ?_
  have k10 := kx E3 (by decide) k3
  refine r_callTv (pc := 10) X (fun _ hv => s_X5_add k10 (r32_c rfl) hv) cw_code q2038 q359 (in_Vk X (As := [iv 32]) kX5 k10 (Or.inr ⟨_, nw_in q2704 rfl⟩) q2037 qs44 cw_code q2038 ⟨by decide, by decide⟩ rfl (dl_at t_X14_printLine 5 rfl)) (dl_at t_X14_printLine 5 rfl) (cat24 (st := []) (Nat.le_of_ble_eq_true rfl)) (Nat.le_of_ble_eq_true rfl) (Nat.le_of_ble_eq_true rfl) (fun v10 h10 E10 => ?_) (fun _ _ ha _ => gt_at fun Q hQ => gt_out (Q := Q) X rfl ha (hno _) _ Q rfl hQ)
  refine g_aload (pc := 13) X (i := 7) (q := 5) (x := a7) rfl (dl_at t_X14_printLine 6 rfl) ?_
  refine g_lload (pc := 15) X (i := 5) (q := 4) (x := a5) rfl (dl_at t_X14_printLine 7 rfl) ?_
  refine g_aload_n (pc := 17) X (j := 1) (i := 1) (q := 1) (x := a1) rfl rfl (dl_at t_X14_printLine 8 rfl) ?_
  refine g_iload_n (pc := 18) X (j := 2) (i := 2) (q := 2) (x := a2) rfl rfl (dl_at t_X14_printLine 9 rfl) ?_
  refine g_gd fun k19 => ?_
  refine r_callRi (pc := 19) X (fun _ hv => s_X28_startOf k19 r2 hv) cw_code q3107 q396 (in_Vk X (As := [iv a2]) kX28 k19 (Or.inr ⟨_, nw_in q3234 rfl⟩) q3106 qs221 cw_code q3107 ⟨by decide, by decide⟩ rfl (dl_at t_X14_printLine 10 rfl)) (dl_at t_X14_printLine 10 rfl) (cat24 (st := [jv a5, rv D a7]) (Nat.le_of_ble_eq_true rfl)) (Nat.le_of_ble_eq_true rfl) (Nat.le_of_ble_eq_true rfl) fun v19 g19 => ?_
  refine g_i2l (pc := 22) X g19 (dl_at t_X14_printLine 11 rfl) ?_
  refine g_ladd (pc := 23) X r5 (r64_of g19) (dl_at t_X14_printLine 12 rfl) ?_
  have k24 := kx E10 (by decide) k10
  refine r_callTv (pc := 24) X (fun _ hv => s_X5_number (d := 24) k24 (r64_w _) hv) cw_code q2441 q359 (in_Vk X (As := [jv (w64 (a5 + v19))]) kX5 k24 (Or.inr ⟨_, nw_in q2685 rfl⟩) q2440 qs105 cw_code q2441 ⟨by decide, by decide⟩ rfl (dl_at t_X14_printLine 13 rfl)) (dl_at t_X14_printLine 13 rfl) (cat24 (st := []) (Nat.le_of_ble_eq_true rfl)) (Nat.le_of_ble_eq_true rfl) (Nat.le_of_ble_eq_true rfl) (fun v24 h24 E24 => ?_) (fun _ _ ha _ => gt_at fun Q hQ => gt_out (Q := Q) X rfl ha (hno _) _ Q rfl hQ)
  refine g_aload (pc := 27) X (i := 7) (q := 5) (x := a7) rfl (dl_at t_X14_printLine 14 rfl) ?_
  refine g_bipush (pc := 29) X (n := 32) rfl (dl_at t_X14_printLine 15 rfl) ?_
  have k31 := kx E24 (by decide) k24
  refine r_callTv (pc := 31) X (fun _ hv => s_X5_add k31 (r32_c rfl) hv) cw_code q2038 q359 (in_Vk X (As := [iv 32]) kX5 k31 (Or.inr ⟨_, nw_in q2704 rfl⟩) q2037 qs44 cw_code q2038 ⟨by decide, by decide⟩ rfl (dl_at t_X14_printLine 16 rfl)) (dl_at t_X14_printLine 16 rfl) (cat24 (st := []) (Nat.le_of_ble_eq_true rfl)) (Nat.le_of_ble_eq_true rfl) (Nat.le_of_ble_eq_true rfl) (fun v31 h31 E31 => ?_) (fun _ _ ha _ => gt_at fun Q hQ => gt_out (Q := Q) X rfl ha (hno _) _ Q rfl hQ)
  refine g_aload_n (pc := 34) X (j := 1) (i := 1) (q := 1) (x := a1) rfl rfl (dl_at t_X14_printLine 17 rfl) ?_
  refine g_iload_n (pc := 35) X (j := 2) (i := 2) (q := 2) (x := a2) rfl rfl (dl_at t_X14_printLine 18 rfl) ?_
  refine g_aload (pc := 36) X (i := 7) (q := 5) (x := a7) rfl (dl_at t_X14_printLine 19 rfl) ?_
  have k38 := kx (E24.trans E31) (by decide) k19
  refine r_callTv (pc := 38) X (fun _ hv => s_X28_write k38 r2 hv) cw_code q3238 q396 (in_Vk X (As := [iv a2, rv D a7]) kX28 k38 (Or.inr ⟨_, nw_in q3235 rfl⟩) q3237 qs235 cw_code q3238 ⟨by decide, by decide⟩ rfl (dl_at t_X14_printLine 20 rfl)) (dl_at t_X14_printLine 20 rfl) (cat24 (st := []) (Nat.le_of_ble_eq_true rfl)) (Nat.le_of_ble_eq_true rfl) (Nat.le_of_ble_eq_true rfl) (fun v38 h38 E38 => ?_) (fun _ _ ha _ => gt_at fun Q hQ => gt_out (Q := Q) X rfl ha (hno _) _ Q rfl hQ)
  refine g_aload (pc := 41) X (i := 7) (q := 5) (x := a7) rfl (dl_at t_X14_printLine 21 rfl) ?_
  refine g_bipush (pc := 43) X (n := 10) rfl (dl_at t_X14_printLine 22 rfl) ?_
  have k45 := kx (E31.trans E38) (by decide) k31
  refine r_callTv (pc := 45) X (fun _ hv => s_X5_add k45 (r32_c rfl) hv) cw_code q2038 q359 (in_Vk X (As := [iv 10]) kX5 k45 (Or.inr ⟨_, nw_in q2704 rfl⟩) q2037 qs44 cw_code q2038 ⟨by decide, by decide⟩ rfl (dl_at t_X14_printLine 23 rfl)) (dl_at t_X14_printLine 23 rfl) (cat24 (st := []) (Nat.le_of_ble_eq_true rfl)) (Nat.le_of_ble_eq_true rfl) (Nat.le_of_ble_eq_true rfl) (fun v45 h45 E45 => ?_) (fun _ _ ha _ => gt_at fun Q hQ => gt_out (Q := Q) X rfl ha (hno _) _ Q rfl hQ)
  exact g_vret (pc := 48) X (v := 0) rfl rfl (dl_at t_X14_printLine 24 rfl)
def k_X14_printRow : List (Nat × Instr × Nat) := [(0, .iconst 0, 1), (1, .istore 6, 2), (3, .iload 6, 2), (5, .aload_n 0, 1), (6, .getfield 47, 3), (9, .iload_n 1, 1), (10, .iaload, 1), (11, .if_icmp .ge 82, 3), (14, .aload_n 0, 1), (15, .getfield 50, 3), (18, .bipush 8, 2), (20, .iload_n 1, 1), (21, .imul, 1), (22, .iload 6, 2), (24, .iadd, 1), (25, .iaload, 1), (26, .istore 7, 2), (28, .iload 7, 2), (30, .ifCond .ge 6, 3), (33, .goto 54, 3), (36, .aload_n 0, 1), (37, .getfield 24, 3), (40, .iload 7, 2), (42, .aaload, 1), (43, .astore 8, 2), (45, .iconst 0, 1), (46, .istore 9, 2), (48, .iload 9, 2), (50, .aload 8, 2), (52, .getfield 645, 3), (55, .if_icmp .ge 32, 3), (58, .aload_n 0, 1), (59, .aload 8, 2), (61, .iload 9, 2), (63, .iload_n 2, 1), (64, .i2l, 1), (65, .iload 9, 2), (67, .aload 8, 2), (69, .getfield 336, 3), (72, .imul, 1), (73, .i2l, 1), (74, .ladd, 1), (75, .lload_n 3, 1), (76, .aload 5, 2), (78, .invokevirtual 757, 3), (81, .iinc 9 1, 3), (84, .goto (-36), 3), (87, .iinc 6 1, 3), (90, .goto (-87), 3), (93, .return_, 1)]
theorem t_X14_printRow : ∀ q ∈ k_X14_printRow, decode cX14_printRow q.1 = .ok q.2 := dl_all (by decide +kernel)
noncomputable def m_X14_printRow_j87 (x6_3 : Int) (h_87 : Hp) : Option ((Int × Hp) ⊕ (((Int × Int) × Hp))) :=
  lt_ (w32 (x6_3 + 1)) fun x6_87 =>
  some (.inl (x6_87, h_87))
noncomputable def m_X14_printRow_l48 (a0 a2 a3 a5 x8_43 x9_48 : Int) (h_48 : Hp) : Option ((Int × Hp) ⊕ ((Hp) ⊕ (((Int × Hp) ⊕ (((Int × Int) × Hp)))))) :=
  gd (h_48 x8_43 (-2) = 288) (if (h_48 x8_43 18) ≤ x9_48 then (some (.inr (.inl h_48)))
  else (bT (m_X14_printLine a0 x8_43 x9_48 (w64 (a2 + (w32 (x9_48 * (h_48 x8_43 7))))) a3 a5 h_48) (fun _ h78 =>
  lt_ (w32 (x9_48 + 1)) fun x9_81 =>
  some (.inl (x9_81, h78))) (fun a_ h_ => some (.inr (.inr (.inr ((1, a_), h_)))))))
noncomputable def m_X14_printRow_l3 (a0 a1 a2 a3 a5 x6_3 : Int) (h_3 : Hp) : Option ((Int × Hp) ⊕ (((Int × Int) × Hp))) :=
  gd (h_3 (h_3 a0 19) (-2) % 16 = 1 ∧ (0 : Int) ≤ a1 ∧ a1 < h_3 (h_3 a0 19) (-1)) (if (h_3 (h_3 a0 19) a1) ≤ x6_3 then (some (.inr ((0, 0), h_3)))
  else (gd (h_3 (h_3 a0 20) (-2) % 16 = 1 ∧ (0 : Int) ≤ (w32 ((w32 (8 * a1)) + x6_3)) ∧ (w32 ((w32 (8 * a1)) + x6_3)) < h_3 (h_3 a0 20) (-1)) (lt_ (h_3 (h_3 a0 20) (w32 ((w32 (8 * a1)) + x6_3))) fun x7_26 =>
  if 0 ≤ x7_26 then (gd (h_3 (h_3 a0 10) (-2) % 16 = 9 ∧ (0 : Int) ≤ x7_26 ∧ x7_26 < h_3 (h_3 a0 10) (-1)) (lt_ (h_3 (h_3 a0 10) x7_26) fun x8_43 =>
  lt_ 0 fun x9_46 =>
  (lp (fun (q : Int × Hp) => m_X14_printRow_l48 a0 a2 a3 a5 x8_43 q.1 q.2) (x9_46, h_3)).bind (sE (fun (y87 : Hp) => m_X14_printRow_j87 x6_3 y87) (fun (x : (Int × Hp) ⊕ (((Int × Int) × Hp))) => some x))))
  else (m_X14_printRow_j87 x6_3 h_3))))
noncomputable def m_X14_printRow (a0 a1 a2 a3 a5 : Int) (h : Hp) : Option ((Int × Int) × Hp) :=
  lt_ 0 fun x6_1 =>
  (lp (fun (q : Int × Hp) => m_X14_printRow_l3 a0 a1 a2 a3 a5 q.1 q.2) (x6_1, h)).bind (fun (x : (Int × Int) × Hp) => some x)
theorem s_X14_printRow {l : Launch} [NoTr l] {D : SD} {a0 a1 a2 a3 a5 : Int} {h : Hp} (hk : h a0 (-2) = 224) (r1 : r32 a1) (r2 : r32 a2) (r3 : r64 a3) {r : (Int × Int) × Hp} (hm : m_X14_printRow a0 a1 a2 a3 a5 h = some r) : Sim l D yX14_printRow (Cond.code yX14_printRow cX14_printRow 10 (Option.none : Option Jvm.ClassFile.FieldType)) 37 1402 [rv D a0, iv a1, iv a2, jv a3, rv D a5] h 0 r := by
  refine Sim.of (fin := fun (v : (Int × Int) × Hp) => v) (lsE := [(0, rv D a0), (1, iv a1), (2, iv a2), (3, jv a3), (5, rv D a5)]) hm rfl cwS_code (la_r (la_i (la_i (la_j (la_r la_n))))) (ll_r (ll_i (ll_i (ll_j (ll_r ll_n))))) ?_
  intro p e s m below meth c X hcw hmm hcc hnm hname
  have hno := noh hcw hnm hmm hcc
  unfold m_X14_printRow
  refine g_iconst (pc := 0) X (n := 0) (dl_at t_X14_printRow 0 rfl) ?_
  refine g_ltz (Or.inl rfl) fun x6_1 r6_1 => ?_
  refine g_istoreN (pc := 1) X (i := 6) (x := x6_1) (b := 5) (w := rv D a5) (rest := [(0, rv D a0), (1, iv a1), (2, iv a2), (3, jv a3)]) (Nat.le_of_ble_eq_true rfl) [4, 0, 1, 2, 3] rfl (by decide) rv_cat rfl (dl_at t_X14_printRow 1 rfl) ?_
  refine g_ls (ls2 := [(0, rv D a0), (1, iv a1), (2, iv a2), (3, jv a3), (5, rv D a5), (6, iv x6_1)]) [2, 3, 4, 5, 1, 0] rfl ?_
  refine g_loop0F (fun (q : Int × Hp) => [(0, rv D a0), (1, iv a1), (2, iv a2), (3, jv a3), (5, rv D a5), (6, iv q.1)]) (fun (q : Int × Hp) => q.2) (fun (q : Int × Hp) => r32 q.1 ∧ Ext h q.2) (x6_1, h) ⟨(r32_z r6_1), (Ext.refl _)⟩ ?_ (fun _ => rfl)
  · rintro ⟨x6_3, h_3⟩ ⟨r6_3, E_3⟩
    try dsimp only
    unfold m_X14_printRow_l3
    refine g_iload (pc := 3) X (i := 6) (q := 5) (x := x6_3) rfl (dl_at t_X14_printRow 2 rfl) ?_
    refine g_aload_n (pc := 5) X (j := 0) (i := 0) (q := 0) (x := a0) rfl rfl (dl_at t_X14_printRow 3 rfl) ?_
    have k6 := kx E_3 (by decide) hk
    refine r_getr (pc := 6) X fX14_19 k6 q1271 (dl_at t_X14_printRow 4 rfl) ?_
    refine g_iload_n (pc := 9) X (j := 1) (i := 1) (q := 1) (x := a1) rfl rfl (dl_at t_X14_printRow 5 rfl) ?_
    refine g_gd fun k10 => ?_
    refine g_iald (pc := 10) X r1 k10 (dl_at t_X14_printRow 6 rfl) fun g10 => ?_
    refine g_icmpge (pc := 11) X r6_3 g10 (off := 82) (tgt := 93) rfl (dl_at t_X14_printRow 7 rfl) (fun _ => ?_) (fun _ => ?_)
    · exact g_at fun Q hQ => (g_vret (pc := 93) X (v := 0) rfl rfl (dl_at t_X14_printRow 49 rfl)) _ Q rfl hQ
    refine g_aload_n (pc := 14) X (j := 0) (i := 0) (q := 0) (x := a0) rfl rfl (dl_at t_X14_printRow 8 rfl) ?_
    refine r_getr (pc := 15) X fX14_20 k6 q1272 (dl_at t_X14_printRow 9 rfl) ?_
    refine g_bipush (pc := 18) X (n := 8) rfl (dl_at t_X14_printRow 10 rfl) ?_
    refine g_iload_n (pc := 20) X (j := 1) (i := 1) (q := 1) (x := a1) rfl rfl (dl_at t_X14_printRow 11 rfl) ?_
    refine g_imul (pc := 21) X (r32_c rfl) r1 (dl_at t_X14_printRow 12 rfl) ?_
    refine g_iload (pc := 22) X (i := 6) (q := 5) (x := x6_3) rfl (dl_at t_X14_printRow 13 rfl) ?_
    refine g_iadd (pc := 24) X (r32_w _) r6_3 (dl_at t_X14_printRow 14 rfl) ?_
    refine g_gd fun k25 => ?_
    refine g_iald (pc := 25) X (r32_w _) k25 (dl_at t_X14_printRow 15 rfl) fun g25 => ?_
    refine g_lti g25 fun x7_26 r7_26 => ?_
    refine g_istoreN (pc := 26) X (i := 7) (x := x7_26) (b := 6) (w := iv x6_3) (rest := [(0, rv D a0), (1, iv a1), (2, iv a2), (3, jv a3), (5, rv D a5)]) (Nat.le_of_ble_eq_true rfl) [5, 0, 1, 2, 3, 4] rfl (by decide) rfl rfl (dl_at t_X14_printRow 16 rfl) ?_
    refine g_iload (pc := 28) X (i := 7) (q := 0) (x := x7_26) rfl (dl_at t_X14_printRow 17 rfl) ?_
    refine g_join (γ := Hp) (fun q => Ext h_3 q) 87 (fun q => [(0, rv D a0), (1, iv a1), (2, iv a2), (3, jv a3), (5, rv D a5), (6, iv x6_3)]) (fun q => []) (fun q => q) (fun q => m_X14_printRow_j87 x6_3 q) ?_ ?_
    · rintro h_87 E_87
      try dsimp only
      unfold m_X14_printRow_j87
      refine r_iincN (pc := 87) X (i := 6) (q := 5) (n := 1) (x := x6_3) (b := 5) (w := rv D a5) (rest := [(0, rv D a0), (1, iv a1), (2, iv a2), (3, jv a3)]) rfl r6_3 (r32_c rfl) (Nat.le_of_ble_eq_true rfl) [4, 0, 1, 2, 3] rfl (by decide) rv_cat rfl (dl_at t_X14_printRow 47 rfl) fun x6_87 r6_87 => ?_
      refine g_goto (pc := 90) X (off := (-87)) (tgt := 3) rfl (dl_at t_X14_printRow 48 rfl) ?_
      refine g_ls (ls2 := [(0, rv D a0), (1, iv a1), (2, iv a2), (3, jv a3), (5, rv D a5), (6, iv x6_87)]) [2, 3, 4, 5, 1, 0] rfl ?_
      exact g_at fun Q hQ => hQ ⟨r6_87, (E_3.trans E_87)⟩
    intro J87
    refine g_ifge (pc := 30) X r7_26 (off := 6) (tgt := 36) rfl (dl_at t_X14_printRow 18 rfl) (fun _ => ?_) (fun _ => ?_)
    · refine g_aload_n (pc := 36) X (j := 0) (i := 0) (q := 2) (x := a0) rfl rfl (dl_at t_X14_printRow 20 rfl) ?_
      refine r_getr (pc := 37) X fX14_10 k6 q1256 (dl_at t_X14_printRow 21 rfl) ?_
      refine g_iload (pc := 40) X (i := 7) (q := 0) (x := x7_26) rfl (dl_at t_X14_printRow 22 rfl) ?_
      refine g_gd fun k42 => ?_
      refine g_aald (pc := 42) X 9 (Nat.le_of_ble_eq_true rfl) (Nat.le_of_ble_eq_true rfl) r7_26 rfl k42 (dl_at t_X14_printRow 23 rfl) ?_
      refine g_ltr fun x8_43 => ?_
      refine g_astore (pc := 43) X (i := 8) (x := x8_43) (rest := [(6, iv x6_3), (0, rv D a0), (1, iv a1), (2, iv a2), (3, jv a3), (5, rv D a5)]) (Nat.le_of_ble_eq_true rfl) [1, 2, 3, 4, 5, 6] rfl rfl (dl_at t_X14_printRow 24 rfl) ?_
      refine g_iconst (pc := 45) X (n := 0) (dl_at t_X14_printRow 25 rfl) ?_
      refine g_ltz (Or.inl rfl) fun x9_46 r9_46 => ?_
      refine g_istoreN (pc := 46) X (i := 9) (x := x9_46) (b := 8) (w := rv D x8_43) (rest := [(6, iv x6_3), (0, rv D a0), (1, iv a1), (2, iv a2), (3, jv a3), (5, rv D a5)]) (Nat.le_of_ble_eq_true rfl) [0, 1, 2, 3, 4, 5, 6] rfl (by decide) rv_cat rfl (dl_at t_X14_printRow 26 rfl) ?_
      refine g_ls (ls2 := [(0, rv D a0), (1, iv a1), (2, iv a2), (3, jv a3), (5, rv D a5), (6, iv x6_3), (8, rv D x8_43), (9, iv x9_46)]) [3, 4, 5, 6, 7, 2, 1, 0] rfl ?_
      refine g_loop1F (fun (q : Int × Hp) => [(0, rv D a0), (1, iv a1), (2, iv a2), (3, jv a3), (5, rv D a5), (6, iv x6_3), (8, rv D x8_43), (9, iv q.1)]) (fun (q : Int × Hp) => q.2) (fun (q : Int × Hp) => r32 q.1 ∧ Ext h_3 q.2) 87 (fun (y87 : Hp) => [(0, rv D a0), (1, iv a1), (2, iv a2), (3, jv a3), (5, rv D a5), (6, iv x6_3)]) (fun (y87 : Hp) => y87) (fun (y87 : Hp) => Ext h_3 y87) (x9_46, h_3) ⟨(r32_z r9_46), (Ext.refl _)⟩ ?_ ?_ (fun _ => rfl)
      · rintro ⟨x9_48, h_48⟩ ⟨r9_48, E_48⟩
        try dsimp only
        unfold m_X14_printRow_l48
        refine g_iload (pc := 48) X (i := 9) (q := 7) (x := x9_48) rfl (dl_at t_X14_printRow 27 rfl) ?_
        refine g_aload (pc := 50) X (i := 8) (q := 6) (x := x8_43) rfl (dl_at t_X14_printRow 28 rfl) ?_
        refine g_gd fun k52 => ?_
        refine r_getiN (pc := 52) X fX28_18 k52 (nw_in q2563 rfl) (dl_at t_X14_printRow 29 rfl) fun g52 => ?_
        refine g_icmpge (pc := 55) X r9_48 g52 (off := 32) (tgt := 87) rfl (dl_at t_X14_printRow 30 rfl) (fun _ => ?_) (fun _ => ?_)
        · refine g_ls (ls2 := [(0, rv D a0), (1, iv a1), (2, iv a2), (3, jv a3), (5, rv D a5), (6, iv x6_3)]) [0, 1, 2, 3, 4, 5] rfl ?_
          exact g_at fun Q hQ => hQ E_48
        refine g_aload_n (pc := 58) X (j := 0) (i := 0) (q := 0) (x := a0) rfl rfl (dl_at t_X14_printRow 31 rfl) ?_
        refine g_aload (pc := 59) X (i := 8) (q := 6) (x := x8_43) rfl (dl_at t_X14_printRow 32 rfl) ?_
        refine g_iload (pc := 61) X (i := 9) (q := 7) (x := x9_48) rfl (dl_at t_X14_printRow 33 rfl) ?_
        refine g_iload_n (pc := 63) X (j := 2) (i := 2) (q := 2) (x := a2) rfl rfl (dl_at t_X14_printRow 34 rfl) ?_
        refine g_i2l (pc := 64) X r2 (dl_at t_X14_printRow 35 rfl) ?_
        refine g_iload (pc := 65) X (i := 9) (q := 7) (x := x9_48) rfl (dl_at t_X14_printRow 36 rfl) ?_
        refine g_aload (pc := 67) X (i := 8) (q := 6) (x := x8_43) rfl (dl_at t_X14_printRow 37 rfl) ?_
        refine r_getiN (pc := 69) X fX28_7 k52 (nw_in q2546 rfl) (dl_at t_X14_printRow 38 rfl) fun g69 => ?_
        refine g_imul (pc := 72) X r9_48 g69 (dl_at t_X14_printRow 39 rfl) ?_
        refine g_i2l (pc := 73) X (r32_w _) (dl_at t_X14_printRow 40 rfl) ?_
        refine g_ladd (pc := 74) X (r64_of r2) (r64_of (r32_w _)) (dl_at t_X14_printRow 41 rfl) ?_
        refine g_lload_n (pc := 75) X (j := 3) (i := 3) (q := 3) (x := a3) rfl rfl (dl_at t_X14_printRow 42 rfl) ?_
        refine g_aload (pc := 76) X (i := 5) (q := 4) (x := a5) rfl (dl_at t_X14_printRow 43 rfl) ?_
        have k78 := kx E_48 (by decide) k6
        refine r_callTv (pc := 78) X (fun _ hv => s_X14_printLine k78 r9_48 (r64_w _) r3 hv) cw_code q3233 q368 (in_Vk X (As := [rv D x8_43, iv x9_48, jv (w64 (a2 + (w32 (x9_48 * (h_48 x8_43 7))))), jv a3, rv D a5]) kX14 k78 (Or.inl q3230) q3232 qs234 cw_code q3233 ⟨by decide, by decide⟩ rfl (dl_at t_X14_printRow 44 rfl)) (dl_at t_X14_printRow 44 rfl) (cat24 (st := []) (Nat.le_of_ble_eq_true rfl)) (Nat.le_of_ble_eq_true rfl) (Nat.le_of_ble_eq_true rfl) (fun v78 h78 E78 => ?_) (fun _ _ ha _ => gt_at fun Q hQ => gt_out (Q := Q) X rfl ha (hno _) _ Q rfl hQ)
        refine r_iincN (pc := 81) X (i := 9) (q := 7) (n := 1) (x := x9_48) (b := 8) (w := rv D x8_43) (rest := [(0, rv D a0), (1, iv a1), (2, iv a2), (3, jv a3), (5, rv D a5), (6, iv x6_3)]) rfl r9_48 (r32_c rfl) (Nat.le_of_ble_eq_true rfl) [6, 0, 1, 2, 3, 4, 5] rfl (by decide) rv_cat rfl (dl_at t_X14_printRow 45 rfl) fun x9_81 r9_81 => ?_
        refine g_goto (pc := 84) X (off := (-36)) (tgt := 48) rfl (dl_at t_X14_printRow 46 rfl) ?_
        refine g_ls (ls2 := [(0, rv D a0), (1, iv a1), (2, iv a2), (3, jv a3), (5, rv D a5), (6, iv x6_3), (8, rv D x8_43), (9, iv x9_81)]) [2, 3, 4, 5, 6, 7, 1, 0] rfl ?_
        exact g_at fun Q hQ => hQ ⟨r9_81, (E_48.trans E78)⟩
      · rintro h_87_1 E_87_1
        try dsimp only [sE]
        exact J87 h_87_1 E_87_1
    refine g_goto (pc := 33) X (off := 54) (tgt := 87) rfl (dl_at t_X14_printRow 19 rfl) ?_
    refine g_ls (ls2 := [(0, rv D a0), (1, iv a1), (2, iv a2), (3, jv a3), (5, rv D a5), (6, iv x6_3)]) [2, 3, 4, 5, 6, 1] rfl ?_
    exact J87 h_3 (Ext.refl _)
def k_X14_printColumn : List (Nat × Instr × Nat) := [(0, .iconst 0, 1), (1, .istore 5, 2), (3, .aload_n 0, 1), (4, .getfield 142, 3), (7, .iload_n 1, 1), (8, .iaload, 1), (9, .istore 6, 2), (11, .iload 6, 2), (13, .aload_n 0, 1), (14, .getfield 145, 3), (17, .iload_n 1, 1), (18, .iaload, 1), (19, .if_icmp .ge 49, 3), (22, .aload 4, 2), (24, .iload 5, 2), (26, .i2l, 1), (27, .invokevirtual 522, 3), (30, .aload 4, 2), (32, .bipush 32, 2), (34, .invokevirtual 526, 3), (37, .aload 4, 2), (39, .bipush 61, 2), (41, .invokevirtual 526, 3), (44, .aload 4, 2), (46, .bipush 10, 2), (48, .invokevirtual 526, 3), (51, .iload 5, 2), (53, .aload_n 0, 1), (54, .iload 6, 2), (56, .invokevirtual 673, 3), (59, .iadd, 1), (60, .istore 5, 2), (62, .iinc 6 1, 3), (65, .goto (-54), 3), (68, .aload_n 0, 1), (69, .getfield 130, 3), (72, .iload_n 1, 1), (73, .iaload, 1), (74, .istore 6, 2), (76, .iload 6, 2), (78, .aload_n 0, 1), (79, .getfield 133, 3), (82, .iload_n 1, 1), (83, .iaload, 1), (84, .if_icmp .ge 79, 3), (87, .aload_n 0, 1), (88, .getfield 27, 3), (91, .iload 6, 2), (93, .iaload, 1), (94, .ifCond .lt 40, 3), (97, .aload_n 0, 1), (98, .aload_n 0, 1), (99, .getfield 24, 3), (102, .aload_n 0, 1), (103, .getfield 27, 3), (106, .iload 6, 2), (108, .iaload, 1), (109, .aaload, 1), (110, .aload_n 0, 1), (111, .getfield 31, 3), (114, .iload 6, 2), (116, .iaload, 1), (117, .aload_n 0, 1), (118, .getfield 151, 3), (121, .iload 6, 2), (123, .iaload, 1), (124, .i2l, 1), (125, .lload_n 2, 1), (126, .aload 4, 2), (128, .invokevirtual 757, 3), (131, .goto 26, 3), (134, .aload_n 0, 1), (135, .iconst (-1), 1), (136, .aload_n 0, 1), (137, .getfield 27, 3), (140, .iload 6, 2), (142, .iaload, 1), (143, .isub, 1), (144, .aload_n 0, 1), (145, .getfield 151, 3), (148, .iload 6, 2), (150, .iaload, 1), (151, .lload_n 2, 1), (152, .aload 4, 2), (154, .invokevirtual 761, 3), (157, .iinc 6 1, 3), (160, .goto (-84), 3), (163, .aload_n 0, 1), (164, .getfield 136, 3), (167, .iload_n 1, 1), (168, .iaload, 1), (169, .istore 6, 2), (171, .iload 6, 2), (173, .aload_n 0, 1), (174, .getfield 139, 3), (177, .iload_n 1, 1), (178, .iaload, 1), (179, .if_icmp .ge 49, 3), (182, .aload_n 0, 1), (183, .getfield 127, 3), (186, .iload 6, 2), (188, .iaload, 1), (189, .istore 7, 2), (191, .aload_n 0, 1), (192, .aload_n 0, 1), (193, .getfield 83, 3), (196, .iload 7, 2), (198, .aaload, 1), (199, .iload 6, 2), (201, .aload_n 0, 1), (202, .getfield 120, 3), (205, .iload 7, 2), (207, .iaload, 1), (208, .isub, 1), (209, .aload_n 0, 1), (210, .iload 6, 2), (212, .iload_n 1, 1), (213, .invokevirtual 765, 3), (216, .lload_n 2, 1), (217, .aload 4, 2), (219, .invokevirtual 757, 3), (222, .iinc 6 1, 3), (225, .goto (-54), 3), (228, .return_, 1)]
theorem t_X14_printColumn : ∀ q ∈ k_X14_printColumn, decode cX14_printColumn q.1 = .ok q.2 := dl_all (by decide +kernel)
noncomputable def m_X14_printColumn_l11 (a0 a1 a4 x5_11 x6_11 : Int) (h_11 : Hp) : Option ((Int × Int × Hp) ⊕ ((Hp) ⊕ (((Int × Int) × Hp)))) :=
  gd (h_11 (h_11 a0 64) (-2) % 16 = 1 ∧ (0 : Int) ≤ a1 ∧ a1 < h_11 (h_11 a0 64) (-1)) (if (h_11 (h_11 a0 64) a1) ≤ x6_11 then (some (.inr (.inl h_11)))
  else (gd (h_11 a4 (-2) = 80) (bT (m_X5_number 24 a4 x5_11 h_11) (fun _ h27 =>
  bT (m_X5_add a4 32 h27) (fun _ h34 =>
  bT (m_X5_add a4 61 h34) (fun _ h41 =>
  bT (m_X5_add a4 10 h41) (fun _ h48 =>
  (m_X14_floatHeight a0 x6_11 h48).bind fun v56 =>
  lt_ (w32 (x5_11 + v56)) fun x5_60 =>
  lt_ (w32 (x6_11 + 1)) fun x6_62 =>
  some (.inl (x5_60, x6_62, h48))) (fun a_ h_ => some (.inr (.inr ((1, a_), h_))))) (fun a_ h_ => some (.inr (.inr ((1, a_), h_))))) (fun a_ h_ => some (.inr (.inr ((1, a_), h_))))) (fun a_ h_ => some (.inr (.inr ((1, a_), h_)))))))
noncomputable def m_X14_printColumn_j157 (x6_76 : Int) (h_157 : Hp) : Option ((Int × Hp) ⊕ ((Hp) ⊕ (((Int × Int) × Hp)))) :=
  lt_ (w32 (x6_76 + 1)) fun x6_157 =>
  some (.inl (x6_157, h_157))
noncomputable def m_X14_printColumn_l76 (a0 a1 a2 a4 x6_76 : Int) (h_76 : Hp) : Option ((Int × Hp) ⊕ ((Hp) ⊕ (((Int × Int) × Hp)))) :=
  gd (h_76 (h_76 a0 60) (-2) % 16 = 1 ∧ (0 : Int) ≤ a1 ∧ a1 < h_76 (h_76 a0 60) (-1)) (if (h_76 (h_76 a0 60) a1) ≤ x6_76 then (some (.inr (.inl h_76)))
  else (gd (h_76 (h_76 a0 12) (-2) % 16 = 1 ∧ (0 : Int) ≤ x6_76 ∧ x6_76 < h_76 (h_76 a0 12) (-1)) (if (h_76 (h_76 a0 12) x6_76) < 0 then (gd (h_76 (h_76 a0 66) (-2) % 16 = 1 ∧ (0 : Int) ≤ x6_76 ∧ x6_76 < h_76 (h_76 a0 66) (-1)) (bT (m_X14_printRow a0 (w32 ((-1) - (h_76 (h_76 a0 12) x6_76))) (h_76 (h_76 a0 66) x6_76) a2 a4 h_76) (fun _ h154 =>
  m_X14_printColumn_j157 x6_76 h154) (fun a_ h_ => some (.inr (.inr ((1, a_), h_))))))
  else (gd (h_76 (h_76 a0 10) (-2) % 16 = 9 ∧ (0 : Int) ≤ (h_76 (h_76 a0 12) x6_76) ∧ (h_76 (h_76 a0 12) x6_76) < h_76 (h_76 a0 10) (-1)) (gd (h_76 (h_76 a0 13) (-2) % 16 = 1 ∧ (0 : Int) ≤ x6_76 ∧ x6_76 < h_76 (h_76 a0 13) (-1)) (gd (h_76 (h_76 a0 66) (-2) % 16 = 1 ∧ (0 : Int) ≤ x6_76 ∧ x6_76 < h_76 (h_76 a0 66) (-1)) (bT (m_X14_printLine a0 (h_76 (h_76 a0 10) (h_76 (h_76 a0 12) x6_76)) (h_76 (h_76 a0 13) x6_76) (h_76 (h_76 a0 66) x6_76) a2 a4 h_76) (fun _ h128 =>
  m_X14_printColumn_j157 x6_76 h128) (fun a_ h_ => some (.inr (.inr ((1, a_), h_)))))))))))
noncomputable def m_X14_printColumn_l171 (a0 a1 a2 a4 x6_171 : Int) (h_171 : Hp) : Option ((Int × Hp) ⊕ (((Int × Int) × Hp))) :=
  gd (h_171 (h_171 a0 62) (-2) % 16 = 1 ∧ (0 : Int) ≤ a1 ∧ a1 < h_171 (h_171 a0 62) (-1)) (if (h_171 (h_171 a0 62) a1) ≤ x6_171 then (some (.inr ((0, 0), h_171)))
  else (gd (h_171 (h_171 a0 56) (-2) % 16 = 1 ∧ (0 : Int) ≤ x6_171 ∧ x6_171 < h_171 (h_171 a0 56) (-1)) (lt_ (h_171 (h_171 a0 56) x6_171) fun x7_189 =>
  gd (h_171 (h_171 a0 34) (-2) % 16 = 9 ∧ (0 : Int) ≤ x7_189 ∧ x7_189 < h_171 (h_171 a0 34) (-1)) (gd (h_171 (h_171 a0 54) (-2) % 16 = 1 ∧ (0 : Int) ≤ x7_189 ∧ x7_189 < h_171 (h_171 a0 54) (-1)) ((m_X14_noteTop a0 x6_171 a1 h_171).bind fun v213 =>
  bT (m_X14_printLine a0 (h_171 (h_171 a0 34) x7_189) (w32 (x6_171 - (h_171 (h_171 a0 54) x7_189))) v213 a2 a4 h_171) (fun _ h219 =>
  lt_ (w32 (x6_171 + 1)) fun x6_222 =>
  some (.inl (x6_222, h219))) (fun a_ h_ => some (.inr ((1, a_), h_))))))))
noncomputable def m_X14_printColumn (a0 a1 a2 a4 : Int) (h : Hp) : Option ((Int × Int) × Hp) :=
  lt_ 0 fun x5_1 =>
  gd (h (h a0 63) (-2) % 16 = 1 ∧ (0 : Int) ≤ a1 ∧ a1 < h (h a0 63) (-1)) (lt_ (h (h a0 63) a1) fun x6_9 =>
  (lp (fun (q : Int × Int × Hp) => m_X14_printColumn_l11 a0 a1 a4 q.1 q.2.1 q.2.2) (x5_1, x6_9, h)).bind (sE (fun (y68 : Hp) => gd (y68 (y68 a0 59) (-2) % 16 = 1 ∧ (0 : Int) ≤ a1 ∧ a1 < y68 (y68 a0 59) (-1)) (lt_ (y68 (y68 a0 59) a1) fun x6_74 =>
  (lp (fun (q : Int × Hp) => m_X14_printColumn_l76 a0 a1 a2 a4 q.1 q.2) (x6_74, y68)).bind (sE (fun (y163 : Hp) => gd (y163 (y163 a0 61) (-2) % 16 = 1 ∧ (0 : Int) ≤ a1 ∧ a1 < y163 (y163 a0 61) (-1)) (lt_ (y163 (y163 a0 61) a1) fun x6_169 =>
  (lp (fun (q : Int × Hp) => m_X14_printColumn_l171 a0 a1 a2 a4 q.1 q.2) (x6_169, y163)).bind (fun (x : (Int × Int) × Hp) => some x))) (fun (x : (Int × Int) × Hp) => some x)))) (fun (x : (Int × Int) × Hp) => some x)))
theorem s_X14_printColumn {l : Launch} [NoTr l] {D : SD} {a0 a1 a2 a4 : Int} {h : Hp} (hk : h a0 (-2) = 224) (r1 : r32 a1) (r2 : r64 a2) {r : (Int × Int) × Hp} (hm : m_X14_printColumn a0 a1 a2 a4 h = some r) : Sim l D yX14_printColumn (Cond.code yX14_printColumn cX14_printColumn 8 (Option.none : Option Jvm.ClassFile.FieldType)) 38 1447 [rv D a0, iv a1, jv a2, rv D a4] h 0 r := by
  refine Sim.of (fin := fun (v : (Int × Int) × Hp) => v) (lsE := [(0, rv D a0), (1, iv a1), (2, jv a2), (4, rv D a4)]) hm rfl cwS_code (la_r (la_i (la_j (la_r la_n)))) (ll_r (ll_i (ll_j (ll_r ll_n)))) ?_
  intro p e s m below meth c X hcw hmm hcc hnm hname
  have hno := noh hcw hnm hmm hcc
  unfold m_X14_printColumn
  refine g_iconst (pc := 0) X (n := 0) (dl_at t_X14_printColumn 0 rfl) ?_
  refine g_ltz (Or.inl rfl) fun x5_1 r5_1 => ?_
  refine g_istoreN (pc := 1) X (i := 5) (x := x5_1) (b := 4) (w := rv D a4) (rest := [(0, rv D a0), (1, iv a1), (2, jv a2)]) (Nat.le_of_ble_eq_true rfl) [3, 0, 1, 2] rfl (by decide) rv_cat rfl (dl_at t_X14_printColumn 1 rfl) ?_
  refine g_aload_n (pc := 3) X (j := 0) (i := 0) (q := 2) (x := a0) rfl rfl (dl_at t_X14_printColumn 2 rfl) ?_
  refine r_getr (pc := 4) X fX14_63 hk q1328 (dl_at t_X14_printColumn 3 rfl) ?_
  refine g_iload_n (pc := 7) X (j := 1) (i := 1) (q := 3) (x := a1) rfl rfl (dl_at t_X14_printColumn 4 rfl) ?_
  refine g_gd fun k8 => ?_
  refine g_iald (pc := 8) X r1 k8 (dl_at t_X14_printColumn 5 rfl) fun g8 => ?_
  refine g_lti g8 fun x6_9 r6_9 => ?_
  refine g_istoreN (pc := 9) X (i := 6) (x := x6_9) (b := 5) (w := iv x5_1) (rest := [(4, rv D a4), (0, rv D a0), (1, iv a1), (2, jv a2)]) (Nat.le_of_ble_eq_true rfl) [0, 1, 2, 3, 4] rfl (by decide) rfl rfl (dl_at t_X14_printColumn 6 rfl) ?_
  refine g_ls (ls2 := [(0, rv D a0), (1, iv a1), (2, jv a2), (4, rv D a4), (5, iv x5_1), (6, iv x6_9)]) [3, 4, 5, 2, 1, 0] rfl ?_
  refine g_loop1F (fun (q : Int × Int × Hp) => [(0, rv D a0), (1, iv a1), (2, jv a2), (4, rv D a4), (5, iv q.1), (6, iv q.2.1)]) (fun (q : Int × Int × Hp) => q.2.2) (fun (q : Int × Int × Hp) => r32 q.1 ∧ r32 q.2.1 ∧ Ext h q.2.2) 68 (fun (y68 : Hp) => [(0, rv D a0), (1, iv a1), (2, jv a2), (4, rv D a4)]) (fun (y68 : Hp) => y68) (fun (y68 : Hp) => Ext h y68) (x5_1, x6_9, h) ⟨(r32_z r5_1), r6_9, (Ext.refl _)⟩ ?_ ?_ (fun _ => rfl)
  · rintro ⟨x5_11, x6_11, h_11⟩ ⟨r5_11, r6_11, E_11⟩
    try dsimp only
    unfold m_X14_printColumn_l11
    refine g_iload (pc := 11) X (i := 6) (q := 5) (x := x6_11) rfl (dl_at t_X14_printColumn 7 rfl) ?_
    refine g_aload_n (pc := 13) X (j := 0) (i := 0) (q := 0) (x := a0) rfl rfl (dl_at t_X14_printColumn 8 rfl) ?_
    have k14 := kx E_11 (by decide) hk
    refine r_getr (pc := 14) X fX14_64 k14 q1329 (dl_at t_X14_printColumn 9 rfl) ?_
    refine g_iload_n (pc := 17) X (j := 1) (i := 1) (q := 1) (x := a1) rfl rfl (dl_at t_X14_printColumn 10 rfl) ?_
    refine g_gd fun k18 => ?_
    refine g_iald (pc := 18) X r1 k18 (dl_at t_X14_printColumn 11 rfl) fun g18 => ?_
    refine g_icmpge (pc := 19) X r6_11 g18 (off := 49) (tgt := 68) rfl (dl_at t_X14_printColumn 12 rfl) (fun _ => ?_) (fun _ => ?_)
    · refine g_ls (ls2 := [(0, rv D a0), (1, iv a1), (2, jv a2), (4, rv D a4)]) [0, 1, 2, 3] rfl ?_
      exact g_at fun Q hQ => hQ E_11
    refine g_aload (pc := 22) X (i := 4) (q := 3) (x := a4) rfl (dl_at t_X14_printColumn 13 rfl) ?_
    refine g_iload (pc := 24) X (i := 5) (q := 4) (x := x5_11) rfl (dl_at t_X14_printColumn 14 rfl) ?_
    refine g_i2l (pc := 26) X r5_11 (dl_at t_X14_printColumn 15 rfl) ?_
    refine g_gd fun k27 => ?_
    refine r_callTv (pc := 27) X (fun _ hv => s_X5_number (d := 24) k27 (r64_of r5_11) hv) cw_code q2441 q359 (in_Vk X (As := [jv x5_11]) kX5 k27 (Or.inr ⟨_, nw_in q2685 rfl⟩) q2440 qs105 cw_code q2441 ⟨by decide, by decide⟩ rfl (dl_at t_X14_printColumn 16 rfl)) (dl_at t_X14_printColumn 16 rfl) (cat24 (st := []) (Nat.le_of_ble_eq_true rfl)) (Nat.le_of_ble_eq_true rfl) (Nat.le_of_ble_eq_true rfl) (fun v27 h27 E27 => ?_) (fun _ _ ha _ => gt_at fun Q hQ => gt_out (Q := Q) X rfl ha (hno _) _ Q rfl hQ)
    refine g_aload (pc := 30) X (i := 4) (q := 3) (x := a4) rfl (dl_at t_X14_printColumn 17 rfl) ?_
    refine g_bipush (pc := 32) X (n := 32) rfl (dl_at t_X14_printColumn 18 rfl) ?_
    have k34 := kx E27 (by decide) k27
    refine r_callTv (pc := 34) X (fun _ hv => s_X5_add k34 (r32_c rfl) hv) cw_code q2038 q359 (in_Vk X (As := [iv 32]) kX5 k34 (Or.inr ⟨_, nw_in q2704 rfl⟩) q2037 qs44 cw_code q2038 ⟨by decide, by decide⟩ rfl (dl_at t_X14_printColumn 19 rfl)) (dl_at t_X14_printColumn 19 rfl) (cat24 (st := []) (Nat.le_of_ble_eq_true rfl)) (Nat.le_of_ble_eq_true rfl) (Nat.le_of_ble_eq_true rfl) (fun v34 h34 E34 => ?_) (fun _ _ ha _ => gt_at fun Q hQ => gt_out (Q := Q) X rfl ha (hno _) _ Q rfl hQ)
    refine g_aload (pc := 37) X (i := 4) (q := 3) (x := a4) rfl (dl_at t_X14_printColumn 20 rfl) ?_
    refine g_bipush (pc := 39) X (n := 61) rfl (dl_at t_X14_printColumn 21 rfl) ?_
    have k41 := kx E34 (by decide) k34
    refine r_callTv (pc := 41) X (fun _ hv => s_X5_add k41 (r32_c rfl) hv) cw_code q2038 q359 (in_Vk X (As := [iv 61]) kX5 k41 (Or.inr ⟨_, nw_in q2704 rfl⟩) q2037 qs44 cw_code q2038 ⟨by decide, by decide⟩ rfl (dl_at t_X14_printColumn 22 rfl)) (dl_at t_X14_printColumn 22 rfl) (cat24 (st := []) (Nat.le_of_ble_eq_true rfl)) (Nat.le_of_ble_eq_true rfl) (Nat.le_of_ble_eq_true rfl) (fun v41 h41 E41 => ?_) (fun _ _ ha _ => gt_at fun Q hQ => gt_out (Q := Q) X rfl ha (hno _) _ Q rfl hQ)
    refine g_aload (pc := 44) X (i := 4) (q := 3) (x := a4) rfl (dl_at t_X14_printColumn 23 rfl) ?_
    refine g_bipush (pc := 46) X (n := 10) rfl (dl_at t_X14_printColumn 24 rfl) ?_
    have k48 := kx E41 (by decide) k41
    refine r_callTv (pc := 48) X (fun _ hv => s_X5_add k48 (r32_c rfl) hv) cw_code q2038 q359 (in_Vk X (As := [iv 10]) kX5 k48 (Or.inr ⟨_, nw_in q2704 rfl⟩) q2037 qs44 cw_code q2038 ⟨by decide, by decide⟩ rfl (dl_at t_X14_printColumn 25 rfl)) (dl_at t_X14_printColumn 25 rfl) (cat24 (st := []) (Nat.le_of_ble_eq_true rfl)) (Nat.le_of_ble_eq_true rfl) (Nat.le_of_ble_eq_true rfl) (fun v48 h48 E48 => ?_) (fun _ _ ha _ => gt_at fun Q hQ => gt_out (Q := Q) X rfl ha (hno _) _ Q rfl hQ)
    refine g_iload (pc := 51) X (i := 5) (q := 4) (x := x5_11) rfl (dl_at t_X14_printColumn 26 rfl) ?_
    refine g_aload_n (pc := 53) X (j := 0) (i := 0) (q := 0) (x := a0) rfl rfl (dl_at t_X14_printColumn 27 rfl) ?_
    refine g_iload (pc := 54) X (i := 6) (q := 5) (x := x6_11) rfl (dl_at t_X14_printColumn 28 rfl) ?_
    have k56 := kx (E27.trans (E34.trans (E41.trans E48))) (by decide) k14
    refine r_callRi (pc := 56) X (fun _ hv => s_X14_floatHeight k56 r6_11 hv) cw_code q3004 q368 (in_Vk X (As := [iv x6_11]) kX14 k56 (Or.inl q3001) q3003 qs204 cw_code q3004 ⟨by decide, by decide⟩ rfl (dl_at t_X14_printColumn 29 rfl)) (dl_at t_X14_printColumn 29 rfl) (cat24 (st := [iv x5_11]) (Nat.le_of_ble_eq_true rfl)) (Nat.le_of_ble_eq_true rfl) (Nat.le_of_ble_eq_true rfl) fun v56 g56 => ?_
    refine g_iadd (pc := 59) X r5_11 g56 (dl_at t_X14_printColumn 30 rfl) ?_
    refine g_lti (r32_w _) fun x5_60 r5_60 => ?_
    refine g_istoreN (pc := 60) X (i := 5) (x := x5_60) (b := 4) (w := rv D a4) (rest := [(0, rv D a0), (1, iv a1), (2, jv a2), (6, iv x6_11)]) (Nat.le_of_ble_eq_true rfl) [3, 0, 1, 2, 5] rfl (by decide) rv_cat rfl (dl_at t_X14_printColumn 31 rfl) ?_
    refine r_iincN (pc := 62) X (i := 6) (q := 5) (n := 1) (x := x6_11) (b := 5) (w := iv x5_60) (rest := [(4, rv D a4), (0, rv D a0), (1, iv a1), (2, jv a2)]) rfl r6_11 (r32_c rfl) (Nat.le_of_ble_eq_true rfl) [0, 1, 2, 3, 4] rfl (by decide) rfl rfl (dl_at t_X14_printColumn 32 rfl) fun x6_62 r6_62 => ?_
    refine g_goto (pc := 65) X (off := (-54)) (tgt := 11) rfl (dl_at t_X14_printColumn 33 rfl) ?_
    refine g_ls (ls2 := [(0, rv D a0), (1, iv a1), (2, jv a2), (4, rv D a4), (5, iv x5_60), (6, iv x6_62)]) [3, 4, 5, 2, 1, 0] rfl ?_
    exact g_at fun Q hQ => hQ ⟨r5_60, r6_62, (E_11.trans (E27.trans (E34.trans (E41.trans E48))))⟩
  · rintro h_68 E_68
    try dsimp only [sE]
    refine g_aload_n (pc := 68) X (j := 0) (i := 0) (q := 0) (x := a0) rfl rfl (dl_at t_X14_printColumn 34 rfl) ?_
    have k69 := kx E_68 (by decide) hk
    refine r_getr (pc := 69) X fX14_59 k69 q1323 (dl_at t_X14_printColumn 35 rfl) ?_
    refine g_iload_n (pc := 72) X (j := 1) (i := 1) (q := 1) (x := a1) rfl rfl (dl_at t_X14_printColumn 36 rfl) ?_
    refine g_gd fun k73 => ?_
    refine g_iald (pc := 73) X r1 k73 (dl_at t_X14_printColumn 37 rfl) fun g73 => ?_
    refine g_lti g73 fun x6_74 r6_74 => ?_
    refine g_istore (pc := 74) X (i := 6) (x := x6_74) (rest := [(0, rv D a0), (1, iv a1), (2, jv a2), (4, rv D a4)]) (Nat.le_of_ble_eq_true rfl) [0, 1, 2, 3] rfl rfl (dl_at t_X14_printColumn 38 rfl) ?_
    refine g_ls (ls2 := [(0, rv D a0), (1, iv a1), (2, jv a2), (4, rv D a4), (6, iv x6_74)]) [1, 2, 3, 4, 0] rfl ?_
    refine g_loop1F (fun (q : Int × Hp) => [(0, rv D a0), (1, iv a1), (2, jv a2), (4, rv D a4), (6, iv q.1)]) (fun (q : Int × Hp) => q.2) (fun (q : Int × Hp) => r32 q.1 ∧ Ext h_68 q.2) 163 (fun (y163 : Hp) => [(0, rv D a0), (1, iv a1), (2, jv a2), (4, rv D a4)]) (fun (y163 : Hp) => y163) (fun (y163 : Hp) => Ext h_68 y163) (x6_74, h_68) ⟨r6_74, (Ext.refl _)⟩ ?_ ?_ (fun _ => rfl)
    · rintro ⟨x6_76, h_76⟩ ⟨r6_76, E_76⟩
      try dsimp only
      unfold m_X14_printColumn_l76
      refine g_iload (pc := 76) X (i := 6) (q := 4) (x := x6_76) rfl (dl_at t_X14_printColumn 39 rfl) ?_
      refine g_aload_n (pc := 78) X (j := 0) (i := 0) (q := 0) (x := a0) rfl rfl (dl_at t_X14_printColumn 40 rfl) ?_
      have k79 := kx E_76 (by decide) k69
      refine r_getr (pc := 79) X fX14_60 k79 q1324 (dl_at t_X14_printColumn 41 rfl) ?_
      refine g_iload_n (pc := 82) X (j := 1) (i := 1) (q := 1) (x := a1) rfl rfl (dl_at t_X14_printColumn 42 rfl) ?_
      refine g_gd fun k83 => ?_
      refine g_iald (pc := 83) X r1 k83 (dl_at t_X14_printColumn 43 rfl) fun g83 => ?_
      refine g_icmpge (pc := 84) X r6_76 g83 (off := 79) (tgt := 163) rfl (dl_at t_X14_printColumn 44 rfl) (fun _ => ?_) (fun _ => ?_)
      · refine g_ls (ls2 := [(0, rv D a0), (1, iv a1), (2, jv a2), (4, rv D a4)]) [0, 1, 2, 3] rfl ?_
        exact g_at fun Q hQ => hQ E_76
      refine g_aload_n (pc := 87) X (j := 0) (i := 0) (q := 0) (x := a0) rfl rfl (dl_at t_X14_printColumn 45 rfl) ?_
      refine r_getr (pc := 88) X fX14_12 k79 q1260 (dl_at t_X14_printColumn 46 rfl) ?_
      refine g_iload (pc := 91) X (i := 6) (q := 4) (x := x6_76) rfl (dl_at t_X14_printColumn 47 rfl) ?_
      refine g_gd fun k93 => ?_
      refine g_iald (pc := 93) X r6_76 k93 (dl_at t_X14_printColumn 48 rfl) fun g93 => ?_
      refine g_join (γ := Hp) (fun q => Ext h_76 q) 157 (fun q => [(0, rv D a0), (1, iv a1), (2, jv a2), (4, rv D a4), (6, iv x6_76)]) (fun q => []) (fun q => q) (fun q => m_X14_printColumn_j157 x6_76 q) ?_ ?_
      · rintro h_157 E_157
        try dsimp only
        unfold m_X14_printColumn_j157
        refine r_iinc (pc := 157) X (i := 6) (q := 4) (n := 1) (x := x6_76) (rest := [(0, rv D a0), (1, iv a1), (2, jv a2), (4, rv D a4)]) rfl r6_76 (r32_c rfl) (Nat.le_of_ble_eq_true rfl) [0, 1, 2, 3] rfl rfl (dl_at t_X14_printColumn 85 rfl) fun x6_157 r6_157 => ?_
        refine g_goto (pc := 160) X (off := (-84)) (tgt := 76) rfl (dl_at t_X14_printColumn 86 rfl) ?_
        refine g_ls (ls2 := [(0, rv D a0), (1, iv a1), (2, jv a2), (4, rv D a4), (6, iv x6_157)]) [1, 2, 3, 4, 0] rfl ?_
        exact g_at fun Q hQ => hQ ⟨r6_157, (E_76.trans E_157)⟩
      intro J157
      refine g_iflt (pc := 94) X g93 (off := 40) (tgt := 134) rfl (dl_at t_X14_printColumn 49 rfl) (fun _ => ?_) (fun _ => ?_)
      · refine g_aload_n (pc := 134) X (j := 0) (i := 0) (q := 0) (x := a0) rfl rfl (dl_at t_X14_printColumn 71 rfl) ?_
        refine g_iconst (pc := 135) X (n := (-1)) (dl_at t_X14_printColumn 72 rfl) ?_
        refine g_aload_n (pc := 136) X (j := 0) (i := 0) (q := 0) (x := a0) rfl rfl (dl_at t_X14_printColumn 73 rfl) ?_
        refine r_getr (pc := 137) X fX14_12 k79 q1260 (dl_at t_X14_printColumn 74 rfl) ?_
        refine g_iload (pc := 140) X (i := 6) (q := 4) (x := x6_76) rfl (dl_at t_X14_printColumn 75 rfl) ?_
        refine g_iald (pc := 142) X r6_76 k93 (dl_at t_X14_printColumn 76 rfl) fun g142 => ?_
        refine g_isub (pc := 143) X (r32_c rfl) g142 (dl_at t_X14_printColumn 77 rfl) ?_
        refine g_aload_n (pc := 144) X (j := 0) (i := 0) (q := 0) (x := a0) rfl rfl (dl_at t_X14_printColumn 78 rfl) ?_
        refine r_getr (pc := 145) X fX14_66 k79 q1332 (dl_at t_X14_printColumn 79 rfl) ?_
        refine g_iload (pc := 148) X (i := 6) (q := 4) (x := x6_76) rfl (dl_at t_X14_printColumn 80 rfl) ?_
        refine g_gd fun k150 => ?_
        refine g_iald (pc := 150) X r6_76 k150 (dl_at t_X14_printColumn 81 rfl) fun g150 => ?_
        refine g_lload_n (pc := 151) X (j := 2) (i := 2) (q := 2) (x := a2) rfl rfl (dl_at t_X14_printColumn 82 rfl) ?_
        refine g_aload (pc := 152) X (i := 4) (q := 3) (x := a4) rfl (dl_at t_X14_printColumn 83 rfl) ?_
        refine r_callTv (pc := 154) X (fun _ hv => s_X14_printRow k79 (r32_w _) g150 r2 hv) cw_code q3245 q368 (in_Vk X (As := [iv (w32 ((-1) - (h_76 (h_76 a0 12) x6_76))), iv (h_76 (h_76 a0 66) x6_76), jv a2, rv D a4]) kX14 k79 (Or.inl q3242) q3244 qs236 cw_code q3245 ⟨by decide, by decide⟩ rfl (dl_at t_X14_printColumn 84 rfl)) (dl_at t_X14_printColumn 84 rfl) (cat24 (st := []) (Nat.le_of_ble_eq_true rfl)) (Nat.le_of_ble_eq_true rfl) (Nat.le_of_ble_eq_true rfl) (fun v154 h154 E154 => ?_) (fun _ _ ha _ => gt_at fun Q hQ => gt_out (Q := Q) X rfl ha (hno _) _ Q rfl hQ)
        exact J157 h154 E154
      refine g_aload_n (pc := 97) X (j := 0) (i := 0) (q := 0) (x := a0) rfl rfl (dl_at t_X14_printColumn 50 rfl) ?_
      refine g_aload_n (pc := 98) X (j := 0) (i := 0) (q := 0) (x := a0) rfl rfl (dl_at t_X14_printColumn 51 rfl) ?_
      refine r_getr (pc := 99) X fX14_10 k79 q1256 (dl_at t_X14_printColumn 52 rfl) ?_
      refine g_aload_n (pc := 102) X (j := 0) (i := 0) (q := 0) (x := a0) rfl rfl (dl_at t_X14_printColumn 53 rfl) ?_
      refine r_getr (pc := 103) X fX14_12 k79 q1260 (dl_at t_X14_printColumn 54 rfl) ?_
      refine g_iload (pc := 106) X (i := 6) (q := 4) (x := x6_76) rfl (dl_at t_X14_printColumn 55 rfl) ?_
      refine g_iald (pc := 108) X r6_76 k93 (dl_at t_X14_printColumn 56 rfl) fun g108 => ?_
      refine g_gd fun k109 => ?_
      refine g_aald (pc := 109) X 9 (Nat.le_of_ble_eq_true rfl) (Nat.le_of_ble_eq_true rfl) g108 rfl k109 (dl_at t_X14_printColumn 57 rfl) ?_
      refine g_aload_n (pc := 110) X (j := 0) (i := 0) (q := 0) (x := a0) rfl rfl (dl_at t_X14_printColumn 58 rfl) ?_
      refine r_getr (pc := 111) X fX14_13 k79 q1262 (dl_at t_X14_printColumn 59 rfl) ?_
      refine g_iload (pc := 114) X (i := 6) (q := 4) (x := x6_76) rfl (dl_at t_X14_printColumn 60 rfl) ?_
      refine g_gd fun k116 => ?_
      refine g_iald (pc := 116) X r6_76 k116 (dl_at t_X14_printColumn 61 rfl) fun g116 => ?_
      refine g_aload_n (pc := 117) X (j := 0) (i := 0) (q := 0) (x := a0) rfl rfl (dl_at t_X14_printColumn 62 rfl) ?_
      refine r_getr (pc := 118) X fX14_66 k79 q1332 (dl_at t_X14_printColumn 63 rfl) ?_
      refine g_iload (pc := 121) X (i := 6) (q := 4) (x := x6_76) rfl (dl_at t_X14_printColumn 64 rfl) ?_
      refine g_gd fun k123 => ?_
      refine g_iald (pc := 123) X r6_76 k123 (dl_at t_X14_printColumn 65 rfl) fun g123 => ?_
      refine g_i2l (pc := 124) X g123 (dl_at t_X14_printColumn 66 rfl) ?_
      refine g_lload_n (pc := 125) X (j := 2) (i := 2) (q := 2) (x := a2) rfl rfl (dl_at t_X14_printColumn 67 rfl) ?_
      refine g_aload (pc := 126) X (i := 4) (q := 3) (x := a4) rfl (dl_at t_X14_printColumn 68 rfl) ?_
      refine r_callTv (pc := 128) X (fun _ hv => s_X14_printLine k79 g116 (r64_of g123) r2 hv) cw_code q3233 q368 (in_Vk X (As := [rv D (h_76 (h_76 a0 10) (h_76 (h_76 a0 12) x6_76)), iv (h_76 (h_76 a0 13) x6_76), jv (h_76 (h_76 a0 66) x6_76), jv a2, rv D a4]) kX14 k79 (Or.inl q3230) q3232 qs234 cw_code q3233 ⟨by decide, by decide⟩ rfl (dl_at t_X14_printColumn 69 rfl)) (dl_at t_X14_printColumn 69 rfl) (cat24 (st := []) (Nat.le_of_ble_eq_true rfl)) (Nat.le_of_ble_eq_true rfl) (Nat.le_of_ble_eq_true rfl) (fun v128 h128 E128 => ?_) (fun _ _ ha _ => gt_at fun Q hQ => gt_out (Q := Q) X rfl ha (hno _) _ Q rfl hQ)
      refine g_goto (pc := 131) X (off := 26) (tgt := 157) rfl (dl_at t_X14_printColumn 70 rfl) ?_
      exact J157 h128 E128
    · rintro h_163 E_163
      try dsimp only [sE]
      refine g_aload_n (pc := 163) X (j := 0) (i := 0) (q := 0) (x := a0) rfl rfl (dl_at t_X14_printColumn 87 rfl) ?_
      have k164 := kx E_163 (by decide) k69
      refine r_getr (pc := 164) X fX14_61 k164 q1325 (dl_at t_X14_printColumn 88 rfl) ?_
      refine g_iload_n (pc := 167) X (j := 1) (i := 1) (q := 1) (x := a1) rfl rfl (dl_at t_X14_printColumn 89 rfl) ?_
      refine g_gd fun k168 => ?_
      refine g_iald (pc := 168) X r1 k168 (dl_at t_X14_printColumn 90 rfl) fun g168 => ?_
      refine g_lti g168 fun x6_169 r6_169 => ?_
      refine g_istore (pc := 169) X (i := 6) (x := x6_169) (rest := [(0, rv D a0), (1, iv a1), (2, jv a2), (4, rv D a4)]) (Nat.le_of_ble_eq_true rfl) [0, 1, 2, 3] rfl rfl (dl_at t_X14_printColumn 91 rfl) ?_
      refine g_ls (ls2 := [(0, rv D a0), (1, iv a1), (2, jv a2), (4, rv D a4), (6, iv x6_169)]) [1, 2, 3, 4, 0] rfl ?_
      refine g_loop0F (fun (q : Int × Hp) => [(0, rv D a0), (1, iv a1), (2, jv a2), (4, rv D a4), (6, iv q.1)]) (fun (q : Int × Hp) => q.2) (fun (q : Int × Hp) => r32 q.1 ∧ Ext h_163 q.2) (x6_169, h_163) ⟨r6_169, (Ext.refl _)⟩ ?_ (fun _ => rfl)
      · rintro ⟨x6_171, h_171⟩ ⟨r6_171, E_171⟩
        try dsimp only
        unfold m_X14_printColumn_l171
        refine g_iload (pc := 171) X (i := 6) (q := 4) (x := x6_171) rfl (dl_at t_X14_printColumn 92 rfl) ?_
        refine g_aload_n (pc := 173) X (j := 0) (i := 0) (q := 0) (x := a0) rfl rfl (dl_at t_X14_printColumn 93 rfl) ?_
        have k174 := kx E_171 (by decide) k164
        refine r_getr (pc := 174) X fX14_62 k174 q1326 (dl_at t_X14_printColumn 94 rfl) ?_
        refine g_iload_n (pc := 177) X (j := 1) (i := 1) (q := 1) (x := a1) rfl rfl (dl_at t_X14_printColumn 95 rfl) ?_
        refine g_gd fun k178 => ?_
        refine g_iald (pc := 178) X r1 k178 (dl_at t_X14_printColumn 96 rfl) fun g178 => ?_
        refine g_icmpge (pc := 179) X r6_171 g178 (off := 49) (tgt := 228) rfl (dl_at t_X14_printColumn 97 rfl) (fun _ => ?_) (fun _ => ?_)
        · exact g_at fun Q hQ => (g_vret (pc := 228) X (v := 0) rfl rfl (dl_at t_X14_printColumn 123 rfl)) _ Q rfl hQ
        refine g_aload_n (pc := 182) X (j := 0) (i := 0) (q := 0) (x := a0) rfl rfl (dl_at t_X14_printColumn 98 rfl) ?_
        refine r_getr (pc := 183) X fX14_56 k174 q1319 (dl_at t_X14_printColumn 99 rfl) ?_
        refine g_iload (pc := 186) X (i := 6) (q := 4) (x := x6_171) rfl (dl_at t_X14_printColumn 100 rfl) ?_
        refine g_gd fun k188 => ?_
        refine g_iald (pc := 188) X r6_171 k188 (dl_at t_X14_printColumn 101 rfl) fun g188 => ?_
        refine g_lti g188 fun x7_189 r7_189 => ?_
        refine g_istoreN (pc := 189) X (i := 7) (x := x7_189) (b := 6) (w := iv x6_171) (rest := [(0, rv D a0), (1, iv a1), (2, jv a2), (4, rv D a4)]) (Nat.le_of_ble_eq_true rfl) [4, 0, 1, 2, 3] rfl (by decide) rfl rfl (dl_at t_X14_printColumn 102 rfl) ?_
        refine g_aload_n (pc := 191) X (j := 0) (i := 0) (q := 2) (x := a0) rfl rfl (dl_at t_X14_printColumn 103 rfl) ?_
        refine g_aload_n (pc := 192) X (j := 0) (i := 0) (q := 2) (x := a0) rfl rfl (dl_at t_X14_printColumn 104 rfl) ?_
        refine r_getr (pc := 193) X fX14_34 k174 q1290 (dl_at t_X14_printColumn 105 rfl) ?_
        refine g_iload (pc := 196) X (i := 7) (q := 0) (x := x7_189) rfl (dl_at t_X14_printColumn 106 rfl) ?_
        refine g_gd fun k198 => ?_
        refine g_aald (pc := 198) X 9 (Nat.le_of_ble_eq_true rfl) (Nat.le_of_ble_eq_true rfl) r7_189 rfl k198 (dl_at t_X14_printColumn 107 rfl) ?_
        refine g_iload (pc := 199) X (i := 6) (q := 1) (x := x6_171) rfl (dl_at t_X14_printColumn 108 rfl) ?_
        refine g_aload_n (pc := 201) X (j := 0) (i := 0) (q := 2) (x := a0) rfl rfl (dl_at t_X14_printColumn 109 rfl) ?_
        refine r_getr (pc := 202) X fX14_54 k174 q1316 (dl_at t_X14_printColumn 110 rfl) ?_
        refine g_iload (pc := 205) X (i := 7) (q := 0) (x := x7_189) rfl (dl_at t_X14_printColumn 111 rfl) ?_
        refine g_gd fun k207 => ?_
        refine g_iald (pc := 207) X r7_189 k207 (dl_at t_X14_printColumn 112 rfl) fun g207 => ?_
        refine g_isub (pc := 208) X r6_171 g207 (dl_at t_X14_printColumn 113 rfl) ?_
        refine g_aload_n (pc := 209) X (j := 0) (i := 0) (q := 2) (x := a0) rfl rfl (dl_at t_X14_printColumn 114 rfl) ?_
        refine g_iload (pc := 210) X (i := 6) (q := 1) (x := x6_171) rfl (dl_at t_X14_printColumn 115 rfl) ?_
        refine g_iload_n (pc := 212) X (j := 1) (i := 1) (q := 3) (x := a1) rfl rfl (dl_at t_X14_printColumn 116 rfl) ?_
        refine r_callRl (pc := 213) X (fun _ hv => s_X14_noteTop k174 r6_171 r1 hv) cw_code q3203 q368 (in_Vk X (As := [iv x6_171, iv a1]) kX14 k174 (Or.inl q3246) q3202 qs230 cw_code q3203 ⟨by decide, by decide⟩ rfl (dl_at t_X14_printColumn 117 rfl)) (dl_at t_X14_printColumn 117 rfl) (cat24 (st := [iv (w32 (x6_171 - (h_171 (h_171 a0 54) x7_189))), rv D (h_171 (h_171 a0 34) x7_189), rv D a0]) (Nat.le_of_ble_eq_true rfl)) (Nat.le_of_ble_eq_true rfl) (Nat.le_of_ble_eq_true rfl) fun v213 g213 => ?_
        refine g_lload_n (pc := 216) X (j := 2) (i := 2) (q := 4) (x := a2) rfl rfl (dl_at t_X14_printColumn 118 rfl) ?_
        refine g_aload (pc := 217) X (i := 4) (q := 5) (x := a4) rfl (dl_at t_X14_printColumn 119 rfl) ?_
        refine r_callTv (pc := 219) X (fun _ hv => s_X14_printLine k174 (r32_w _) g213 r2 hv) cw_code q3233 q368 (in_Vk X (As := [rv D (h_171 (h_171 a0 34) x7_189), iv (w32 (x6_171 - (h_171 (h_171 a0 54) x7_189))), jv v213, jv a2, rv D a4]) kX14 k174 (Or.inl q3230) q3232 qs234 cw_code q3233 ⟨by decide, by decide⟩ rfl (dl_at t_X14_printColumn 120 rfl)) (dl_at t_X14_printColumn 120 rfl) (cat24 (st := []) (Nat.le_of_ble_eq_true rfl)) (Nat.le_of_ble_eq_true rfl) (Nat.le_of_ble_eq_true rfl) (fun v219 h219 E219 => ?_) (fun _ _ ha _ => gt_at fun Q hQ => gt_out (Q := Q) X rfl ha (hno _) _ Q rfl hQ)
        refine r_iinc (pc := 222) X (i := 6) (q := 1) (n := 1) (x := x6_171) (rest := [(0, rv D a0), (1, iv a1), (2, jv a2), (4, rv D a4)]) rfl r6_171 (r32_c rfl) (Nat.le_of_ble_eq_true rfl) [2, 3, 4, 5] rfl rfl (dl_at t_X14_printColumn 121 rfl) fun x6_222 r6_222 => ?_
        refine g_goto (pc := 225) X (off := (-54)) (tgt := 171) rfl (dl_at t_X14_printColumn 122 rfl) ?_
        refine g_ls (ls2 := [(0, rv D a0), (1, iv a1), (2, jv a2), (4, rv D a4), (6, iv x6_222)]) [1, 2, 3, 4, 0] rfl ?_
        exact g_at fun Q hQ => hQ ⟨r6_222, (E_171.trans E219)⟩
def k_X14_print : List (Nat × Instr × Nat) := [(0, .aload_n 2, 1), (1, .iload_n 1, 1), (2, .i2l, 1), (3, .invokevirtual 522, 3), (6, .aload_n 2, 1), (7, .bipush 32, 2), (9, .invokevirtual 526, 3), (12, .aload_n 0, 1), (13, .iload_n 1, 1), (14, .invokevirtual 749, 3), (17, .istore_n 3, 1), (18, .iload_n 3, 1), (19, .ifCond .lt 12, 3), (22, .aload_n 0, 1), (23, .getfield 158, 3), (26, .iload_n 3, 1), (27, .aload_n 2, 1), (28, .invokevirtual 617, 3), (31, .aload_n 2, 1), (32, .bipush 10, 2), (34, .invokevirtual 526, 3), (37, .iload_n 1, 1), (38, .iconst 1, 1), (39, .isub, 1), (40, .aload_n 0, 1), (41, .getfield 168, 3), (44, .getfield 747, 3), (47, .imul, 1), (48, .istore 4, 2), (50, .iload 4, 2), (52, .iload_n 1, 1), (53, .aload_n 0, 1), (54, .getfield 168, 3), (57, .getfield 747, 3), (60, .imul, 1), (61, .if_icmp .ge 53, 3), (64, .iload 4, 2), (66, .aload_n 0, 1), (67, .getfield 217, 3), (70, .if_icmp .ge 44, 3), (73, .aload_n 0, 1), (74, .iload 4, 2), (76, .iload 4, 2), (78, .aload_n 0, 1), (79, .getfield 168, 3), (82, .getfield 747, 3), (85, .irem, 1), (86, .i2l, 1), (87, .aload_n 0, 1), (88, .getfield 168, 3), (91, .getfield 284, 3), (94, .aload_n 0, 1), (95, .getfield 168, 3), (98, .getfield 752, 3), (101, .iadd, 1), (102, .i2l, 1), (103, .lmul, 1), (104, .aload_n 2, 1), (105, .invokevirtual 753, 3), (108, .iinc 4 1, 3), (111, .goto (-61), 3), (114, .return_, 1)]
theorem t_X14_print : ∀ q ∈ k_X14_print, decode cX14_print q.1 = .ok q.2 := dl_all (by decide +kernel)
noncomputable def m_X14_print_l50 (a0 a1 a2 x4_50 : Int) (h_50 : Hp) : Option ((Int × Hp) ⊕ (((Int × Int) × Hp))) :=
  gd (h_50 (h_50 a0 3) (-2) = 48) (if (w32 (a1 * (h_50 (h_50 a0 3) 25))) ≤ x4_50 then (some (.inr ((0, 0), h_50)))
  else (if (h_50 a0 58) ≤ x4_50 then (some (.inr ((0, 0), h_50)))
  else (gd ((h_50 (h_50 a0 3) 25) ≠ 0) (bT (m_X14_printColumn a0 x4_50 (w64 ((Int.tmod x4_50 (h_50 (h_50 a0 3) 25)) * (w32 ((h_50 (h_50 a0 3) 23) + (h_50 (h_50 a0 3) 26))))) a2 h_50) (fun _ h105 =>
  lt_ (w32 (x4_50 + 1)) fun x4_108 =>
  some (.inl (x4_108, h105))) (fun a_ h_ => some (.inr ((1, a_), h_)))))))
noncomputable def m_X14_print_j31 (a2 a0 a1 : Int) (h_31 : Hp) : Option ((Int × Int) × Hp) :=
  bT (m_X5_add a2 10 h_31) (fun _ h34 =>
  gd (h34 (h34 a0 3) (-2) = 48) (lt_ (w32 ((w32 (a1 - 1)) * (h34 (h34 a0 3) 25))) fun x4_48 =>
  (lp (fun (q : Int × Hp) => m_X14_print_l50 a0 a1 a2 q.1 q.2) (x4_48, h34)).bind (fun (x : (Int × Int) × Hp) => some x))) (fun a_ h_ => some ((1, a_), h_))
noncomputable def m_X14_print (a0 a1 a2 : Int) (h : Hp) : Option ((Int × Int) × Hp) :=
  gd (h a2 (-2) = 80) (bT (m_X5_number 24 a2 a1 h) (fun _ h3 =>
  bT (m_X5_add a2 32 h3) (fun _ h9 =>
  (m_X14_headOf a0 a1 h9).bind fun v14 =>
  if v14 < 0 then (m_X14_print_j31 a2 a0 a1 h9)
  else (gd (h9 (h9 a0 2) (-2) = 112) (bT (m_X7_title (h9 a0 2) v14 a2 h9) (fun _ h28 =>
  m_X14_print_j31 a2 a0 a1 h28) (fun a_ h_ => some ((1, a_), h_))))) (fun a_ h_ => some ((1, a_), h_))) (fun a_ h_ => some ((1, a_), h_)))
theorem s_X14_print {l : Launch} [NoTr l] {D : SD} {a0 a1 a2 : Int} {h : Hp} (hk : h a0 (-2) = 224) (r1 : r32 a1) {r : (Int × Int) × Hp} (hm : m_X14_print a0 a1 a2 h = some r) : Sim l D yX14_print (Cond.code yX14_print cX14_print 5 (Option.none : Option Jvm.ClassFile.FieldType)) 41 1558 [rv D a0, iv a1, rv D a2] h 0 r := by
  refine Sim.of (fin := fun (v : (Int × Int) × Hp) => v) (lsE := [(0, rv D a0), (1, iv a1), (2, rv D a2)]) hm rfl cwS_code (la_r (la_i (la_r la_n))) (ll_r (ll_i (ll_r ll_n))) ?_
  intro p e s m below meth c X hcw hmm hcc hnm hname
  have hno := noh hcw hnm hmm hcc
  unfold m_X14_print
  refine g_aload_n (pc := 0) X (j := 2) (i := 2) (q := 2) (x := a2) rfl rfl (dl_at t_X14_print 0 rfl) ?_
  refine g_iload_n (pc := 1) X (j := 1) (i := 1) (q := 1) (x := a1) rfl rfl (dl_at t_X14_print 1 rfl) ?_
  refine g_i2l (pc := 2) X r1 (dl_at t_X14_print 2 rfl) ?_
  refine g_gd fun k3 => ?_
  refine r_callTv (pc := 3) X (fun _ hv => s_X5_number (d := 24) k3 (r64_of r1) hv) cw_code q2441 q359 (in_Vk X (As := [jv a1]) kX5 k3 (Or.inr ⟨_, nw_in q2685 rfl⟩) q2440 qs105 cw_code q2441 ⟨by decide, by decide⟩ rfl (dl_at t_X14_print 3 rfl)) (dl_at t_X14_print 3 rfl) (cat24 (st := []) (Nat.le_of_ble_eq_true rfl)) (Nat.le_of_ble_eq_true rfl) (Nat.le_of_ble_eq_true rfl) (fun v3 h3 E3 => ?_) (fun _ _ ha _ => gt_at fun Q hQ => gt_out (Q := Q) X rfl ha (hno _) _ Q rfl hQ)
  refine g_aload_n (pc := 6) X (j := 2) (i := 2) (q := 2) (x := a2) rfl rfl (dl_at t_X14_print 4 rfl) ?_
  refine g_bipush (pc := 7) X (n := 32) rfl (dl_at t_X14_print 5 rfl) ?_
  have k9 := kx E3 (by decide) k3
  refine r_callTv (pc := 9) X (fun _ hv => s_X5_add k9 (r32_c rfl) hv) cw_code q2038 q359 (in_Vk X (As := [iv 32]) kX5 k9 (Or.inr ⟨_, nw_in q2704 rfl⟩) q2037 qs44 cw_code q2038 ⟨by decide, by decide⟩ rfl (dl_at t_X14_print 6 rfl)) (dl_at t_X14_print 6 rfl) (cat24 (st := []) (Nat.le_of_ble_eq_true rfl)) (Nat.le_of_ble_eq_true rfl) (Nat.le_of_ble_eq_true rfl) (fun v9 h9 E9 => ?_) (fun _ _ ha _ => gt_at fun Q hQ => gt_out (Q := Q) X rfl ha (hno _) _ Q rfl hQ)
  refine g_aload_n (pc := 12) X (j := 0) (i := 0) (q := 0) (x := a0) rfl rfl (dl_at t_X14_print 7 rfl) ?_
  refine g_iload_n (pc := 13) X (j := 1) (i := 1) (q := 1) (x := a1) rfl rfl (dl_at t_X14_print 8 rfl) ?_
  have k14 := kx (E3.trans E9) (by decide) hk
  refine r_callRi (pc := 14) X (fun _ hv => s_X14_headOf k14 r1 hv) cw_code q3225 q368 (in_Vk X (As := [iv a1]) kX14 k14 (Or.inl q3222) q3224 qs232 cw_code q3225 ⟨by decide, by decide⟩ rfl (dl_at t_X14_print 9 rfl)) (dl_at t_X14_print 9 rfl) (cat24 (st := []) (Nat.le_of_ble_eq_true rfl)) (Nat.le_of_ble_eq_true rfl) (Nat.le_of_ble_eq_true rfl) fun v14 g14 => ?_
  refine g_istore_nN (pc := 17) X (j := 3) (i := 3) (x := v14) (b := 2) (w := rv D a2) (rest := [(0, rv D a0), (1, iv a1)]) rfl (Nat.le_of_ble_eq_true rfl) [2, 0, 1] rfl (by decide) rv_cat rfl (dl_at t_X14_print 10 rfl) ?_
  refine g_iload_n (pc := 18) X (j := 3) (i := 3) (q := 0) (x := v14) rfl rfl (dl_at t_X14_print 11 rfl) ?_
  refine g_join (γ := Hp) (fun q => Ext h9 q) 31 (fun q => [(0, rv D a0), (1, iv a1), (2, rv D a2)]) (fun q => []) (fun q => q) (fun q => m_X14_print_j31 a2 a0 a1 q) ?_ ?_
  · rintro h_31 E_31
    try dsimp only
    unfold m_X14_print_j31
    refine g_aload_n (pc := 31) X (j := 2) (i := 2) (q := 2) (x := a2) rfl rfl (dl_at t_X14_print 18 rfl) ?_
    refine g_bipush (pc := 32) X (n := 10) rfl (dl_at t_X14_print 19 rfl) ?_
    have k34 := kx (E9.trans E_31) (by decide) k9
    refine r_callTv (pc := 34) X (fun _ hv => s_X5_add k34 (r32_c rfl) hv) cw_code q2038 q359 (in_Vk X (As := [iv 10]) kX5 k34 (Or.inr ⟨_, nw_in q2704 rfl⟩) q2037 qs44 cw_code q2038 ⟨by decide, by decide⟩ rfl (dl_at t_X14_print 20 rfl)) (dl_at t_X14_print 20 rfl) (cat24 (st := []) (Nat.le_of_ble_eq_true rfl)) (Nat.le_of_ble_eq_true rfl) (Nat.le_of_ble_eq_true rfl) (fun v34 h34 E34 => ?_) (fun _ _ ha _ => gt_at fun Q hQ => gt_out (Q := Q) X rfl ha (hno _) _ Q rfl hQ)
    refine g_iload_n (pc := 37) X (j := 1) (i := 1) (q := 1) (x := a1) rfl rfl (dl_at t_X14_print 21 rfl) ?_
    refine g_iconst (pc := 38) X (n := 1) (dl_at t_X14_print 22 rfl) ?_
    refine g_isub (pc := 39) X r1 (r32_c rfl) (dl_at t_X14_print 23 rfl) ?_
    refine g_aload_n (pc := 40) X (j := 0) (i := 0) (q := 0) (x := a0) rfl rfl (dl_at t_X14_print 24 rfl) ?_
    have k41 := kx (E_31.trans E34) (by decide) k14
    refine r_getr (pc := 41) X fX14_3 k41 q1245 (dl_at t_X14_print 25 rfl) ?_
    refine g_gd fun k44 => ?_
    refine r_getiN (pc := 44) X fX3_25 k44 (nw_in q569 rfl) (dl_at t_X14_print 26 rfl) fun g44 => ?_
    refine g_imul (pc := 47) X (r32_w _) g44 (dl_at t_X14_print 27 rfl) ?_
    refine g_lti (r32_w _) fun x4_48 r4_48 => ?_
    refine g_istore (pc := 48) X (i := 4) (x := x4_48) (rest := [(0, rv D a0), (1, iv a1), (2, rv D a2)]) (Nat.le_of_ble_eq_true rfl) [0, 1, 2] rfl rfl (dl_at t_X14_print 28 rfl) ?_
    refine g_ls (ls2 := [(0, rv D a0), (1, iv a1), (2, rv D a2), (4, iv x4_48)]) [1, 2, 3, 0] rfl ?_
    refine g_loop0F (fun (q : Int × Hp) => [(0, rv D a0), (1, iv a1), (2, rv D a2), (4, iv q.1)]) (fun (q : Int × Hp) => q.2) (fun (q : Int × Hp) => r32 q.1 ∧ Ext h34 q.2) (x4_48, h34) ⟨r4_48, (Ext.refl _)⟩ ?_ (fun _ => rfl)
    · rintro ⟨x4_50, h_50⟩ ⟨r4_50, E_50⟩
      try dsimp only
      unfold m_X14_print_l50
      refine g_iload (pc := 50) X (i := 4) (q := 3) (x := x4_50) rfl (dl_at t_X14_print 29 rfl) ?_
      refine g_iload_n (pc := 52) X (j := 1) (i := 1) (q := 1) (x := a1) rfl rfl (dl_at t_X14_print 30 rfl) ?_
      refine g_aload_n (pc := 53) X (j := 0) (i := 0) (q := 0) (x := a0) rfl rfl (dl_at t_X14_print 31 rfl) ?_
      have k54 := kx E_50 (by decide) k41
      refine r_getr (pc := 54) X fX14_3 k54 q1245 (dl_at t_X14_print 32 rfl) ?_
      refine g_gd fun k57 => ?_
      refine r_getiN (pc := 57) X fX3_25 k57 (nw_in q569 rfl) (dl_at t_X14_print 33 rfl) fun g57 => ?_
      refine g_imul (pc := 60) X r1 g57 (dl_at t_X14_print 34 rfl) ?_
      refine g_icmpge (pc := 61) X r4_50 (r32_w _) (off := 53) (tgt := 114) rfl (dl_at t_X14_print 35 rfl) (fun _ => ?_) (fun _ => ?_)
      · exact g_at fun Q hQ => (g_vret (pc := 114) X (v := 0) rfl rfl (dl_at t_X14_print 61 rfl)) _ Q rfl hQ
      refine g_iload (pc := 64) X (i := 4) (q := 3) (x := x4_50) rfl (dl_at t_X14_print 36 rfl) ?_
      refine g_aload_n (pc := 66) X (j := 0) (i := 0) (q := 0) (x := a0) rfl rfl (dl_at t_X14_print 37 rfl) ?_
      refine r_geti (pc := 67) X fX14_58 k54 q1321 (dl_at t_X14_print 38 rfl) fun g67 => ?_
      refine g_icmpge (pc := 70) X r4_50 g67 (off := 44) (tgt := 114) rfl (dl_at t_X14_print 39 rfl) (fun _ => ?_) (fun _ => ?_)
      · exact g_at fun Q hQ => (g_vret (pc := 114) X (v := 0) rfl rfl (dl_at t_X14_print 61 rfl)) _ Q rfl hQ
      refine g_aload_n (pc := 73) X (j := 0) (i := 0) (q := 0) (x := a0) rfl rfl (dl_at t_X14_print 40 rfl) ?_
      refine g_iload (pc := 74) X (i := 4) (q := 3) (x := x4_50) rfl (dl_at t_X14_print 41 rfl) ?_
      refine g_iload (pc := 76) X (i := 4) (q := 3) (x := x4_50) rfl (dl_at t_X14_print 42 rfl) ?_
      refine g_aload_n (pc := 78) X (j := 0) (i := 0) (q := 0) (x := a0) rfl rfl (dl_at t_X14_print 43 rfl) ?_
      refine r_getr (pc := 79) X fX14_3 k54 q1245 (dl_at t_X14_print 44 rfl) ?_
      refine r_getiN (pc := 82) X fX3_25 k57 (nw_in q569 rfl) (dl_at t_X14_print 45 rfl) fun g82 => ?_
      refine g_gd fun z85 => ?_
      refine g_irem (pc := 85) X r4_50 g82 z85 (dl_at t_X14_print 46 rfl) ?_
      refine g_i2l (pc := 86) X (r32_tmod r4_50) (dl_at t_X14_print 47 rfl) ?_
      refine g_aload_n (pc := 87) X (j := 0) (i := 0) (q := 0) (x := a0) rfl rfl (dl_at t_X14_print 48 rfl) ?_
      refine r_getr (pc := 88) X fX14_3 k54 q1245 (dl_at t_X14_print 49 rfl) ?_
      refine r_getiN (pc := 91) X fX3_23 k57 (nw_in q565 rfl) (dl_at t_X14_print 50 rfl) fun g91 => ?_
      refine g_aload_n (pc := 94) X (j := 0) (i := 0) (q := 0) (x := a0) rfl rfl (dl_at t_X14_print 51 rfl) ?_
      refine r_getr (pc := 95) X fX14_3 k54 q1245 (dl_at t_X14_print 52 rfl) ?_
      refine r_getiN (pc := 98) X fX3_26 k57 (nw_in q571 rfl) (dl_at t_X14_print 53 rfl) fun g98 => ?_
      refine g_iadd (pc := 101) X g91 g98 (dl_at t_X14_print 54 rfl) ?_
      refine g_i2l (pc := 102) X (r32_w _) (dl_at t_X14_print 55 rfl) ?_
      refine g_lmul (pc := 103) X (r64_of (r32_tmod r4_50)) (r64_of (r32_w _)) (dl_at t_X14_print 56 rfl) ?_
      refine g_aload_n (pc := 104) X (j := 2) (i := 2) (q := 2) (x := a2) rfl rfl (dl_at t_X14_print 57 rfl) ?_
      refine r_callTv (pc := 105) X (fun _ hv => s_X14_printColumn k54 r4_50 (r64_w _) hv) cw_code q3229 q368 (in_Vk X (As := [iv x4_50, jv (w64 ((Int.tmod x4_50 (h_50 (h_50 a0 3) 25)) * (w32 ((h_50 (h_50 a0 3) 23) + (h_50 (h_50 a0 3) 26))))), rv D a2]) kX14 k54 (Or.inl q3226) q3228 qs233 cw_code q3229 ⟨by decide, by decide⟩ rfl (dl_at t_X14_print 58 rfl)) (dl_at t_X14_print 58 rfl) (cat24 (st := []) (Nat.le_of_ble_eq_true rfl)) (Nat.le_of_ble_eq_true rfl) (Nat.le_of_ble_eq_true rfl) (fun v105 h105 E105 => ?_) (fun _ _ ha _ => gt_at fun Q hQ => gt_out (Q := Q) X rfl ha (hno _) _ Q rfl hQ)
      refine r_iinc (pc := 108) X (i := 4) (q := 3) (n := 1) (x := x4_50) (rest := [(0, rv D a0), (1, iv a1), (2, rv D a2)]) rfl r4_50 (r32_c rfl) (Nat.le_of_ble_eq_true rfl) [0, 1, 2] rfl rfl (dl_at t_X14_print 59 rfl) fun x4_108 r4_108 => ?_
      refine g_goto (pc := 111) X (off := (-61)) (tgt := 50) rfl (dl_at t_X14_print 60 rfl) ?_
      refine g_ls (ls2 := [(0, rv D a0), (1, iv a1), (2, rv D a2), (4, iv x4_108)]) [1, 2, 3, 0] rfl ?_
      exact g_at fun Q hQ => hQ ⟨r4_108, (E_50.trans E105)⟩
  intro J31
  refine g_iflt (pc := 19) X g14 (off := 12) (tgt := 31) rfl (dl_at t_X14_print 12 rfl) (fun _ => ?_) (fun _ => ?_)
  · refine g_ls (ls2 := [(0, rv D a0), (1, iv a1), (2, rv D a2)]) [2, 3, 1] rfl ?_
    exact J31 h9 (Ext.refl _)
  refine g_aload_n (pc := 22) X (j := 0) (i := 0) (q := 2) (x := a0) rfl rfl (dl_at t_X14_print 13 rfl) ?_
  refine r_getr (pc := 23) X fX14_2 k14 q1243 (dl_at t_X14_print 14 rfl) ?_
  refine g_iload_n (pc := 26) X (j := 3) (i := 3) (q := 0) (x := v14) rfl rfl (dl_at t_X14_print 15 rfl) ?_
  refine g_aload_n (pc := 27) X (j := 2) (i := 2) (q := 1) (x := a2) rfl rfl (dl_at t_X14_print 16 rfl) ?_
  refine g_gd fun k28 => ?_
  refine r_callTv (pc := 28) X (fun _ hv => s_X7_title k28 g14 hv) cw_code q2404 q361 (in_Vk X (As := [iv v14, rv D a2]) kX7 k28 (Or.inr ⟨_, nw_in q2747 rfl⟩) q2403 qs99 cw_code q2404 ⟨by decide, by decide⟩ rfl (dl_at t_X14_print 17 rfl)) (dl_at t_X14_print 17 rfl) (cat24 (st := []) (Nat.le_of_ble_eq_true rfl)) (Nat.le_of_ble_eq_true rfl) (Nat.le_of_ble_eq_true rfl) (fun v28 h28 E28 => ?_) (fun _ _ ha _ => gt_at fun Q hQ => gt_out (Q := Q) X rfl ha (hno _) _ Q rfl hQ)
  refine g_ls (ls2 := [(0, rv D a0), (1, iv a1), (2, rv D a2)]) [2, 3, 1] rfl ?_
  exact J31 h28 E28
def k_X1_print : List (Nat × Instr × Nat) := [(0, .aload_n 0, 1), (1, .getfield 169, 3), (4, .ifnull 7, 3), (7, .iconst 1, 1), (8, .goto 4, 3), (11, .iconst 0, 1), (12, .invokestatic 212, 3), (15, .iload_n 1, 1), (16, .iconst 1, 1), (17, .if_icmp .lt 18, 3), (20, .iload_n 1, 1), (21, .aload_n 0, 1), (22, .getfield 169, 3), (25, .invokevirtual 309, 3), (28, .if_icmp .gt 7, 3), (31, .iconst 1, 1), (32, .goto 4, 3), (35, .iconst 0, 1), (36, .invokestatic 127, 3), (39, .aload_n 0, 1), (40, .getfield 117, 3), (43, .iconst 0, 1), (44, .putfield 282, 3), (47, .aload_n 0, 1), (48, .getfield 169, 3), (51, .iload_n 1, 1), (52, .aload_n 0, 1), (53, .getfield 117, 3), (56, .invokevirtual 455, 3), (59, .aload_n 0, 1), (60, .getfield 113, 3), (63, .astore_n 2, 1), (64, .aload_n 0, 1), (65, .aload_n 0, 1), (66, .getfield 117, 3), (69, .putfield 113, 3), (72, .aload_n 0, 1), (73, .aload_n 2, 1), (74, .putfield 117, 3), (77, .aload_n 0, 1), (78, .getfield 113, 3), (81, .getfield 282, 3), (84, .ireturn, 1)]
theorem t_X1_print : ∀ q ∈ k_X1_print, decode cX1_print q.1 = .ok q.2 := dl_all (by decide +kernel)
noncomputable def m_X1_print_j36 (a0 a1 s0_36 : Int) (h12 : Hp) : Option ((Int × Int) × Hp) :=
  bT (m_X1_room s0_36 h12) (fun _ h36 =>
  gd (h36 (h36 a0 21) (-2) = 80) (pt h36 (h36 a0 21) 1 0 fun h44 =>
  gd (h44 (h44 a0 18) (-2) = 224) (bT (m_X14_print (h44 a0 18) a1 (h44 a0 21) h44) (fun _ h56 =>
  lt_ (h56 a0 20) fun x2_63 =>
  pt h56 a0 20 (h56 a0 21) fun h69 =>
  pt h69 a0 21 x2_63 fun h74 =>
  gd (h74 (h74 a0 20) (-2) = 80) (some ((0, (h74 (h74 a0 20) 1)), h74))) (fun a_ h_ => some ((1, a_), h_))))) (fun a_ h_ => some ((1, a_), h_))
noncomputable def m_X1_print_j35 (a0 a1 : Int) (h12 : Hp) : Option ((Int × Int) × Hp) :=
  m_X1_print_j36 a0 a1 0 h12
noncomputable def m_X1_print_j12 (a0 a1 s0_12 : Int) (h : Hp) : Option ((Int × Int) × Hp) :=
  bT (m_X1_state s0_12 h) (fun _ h12 =>
  if a1 < 1 then (m_X1_print_j35 a0 a1 h12)
  else (gd (h12 (h12 a0 18) (-2) = 224) ((m_X14_pages (h12 a0 18) h12).bind fun v25 =>
  if v25 < a1 then (m_X1_print_j35 a0 a1 h12)
  else (m_X1_print_j36 a0 a1 1 h12)))) (fun a_ h_ => some ((1, a_), h_))
noncomputable def m_X1_print (a0 a1 : Int) (h : Hp) : Option ((Int × Int) × Hp) :=
  if (h a0 18) = 0 then (m_X1_print_j12 a0 a1 0 h)
  else (m_X1_print_j12 a0 a1 1 h)
theorem s_X1_print {l : Launch} [NoTr l] {D : SD} {a0 a1 : Int} {h : Hp} (hk : h a0 (-2) = 16) (r1 : r32 a1) {r : (Int × Int) × Hp} (hm : m_X1_print a0 a1 h = some r) : Sim l D yX1_print (Cond.code yX1_print cX1_print 3 (Option.some Jvm.ClassFile.FieldType.int)) 42 1598 [rv D a0, iv a1] h 1 r := by
  refine Sim.of (fin := fun (v : (Int × Int) × Hp) => v) (lsE := [(0, rv D a0), (1, iv a1)]) hm rfl cwS_code (la_r (la_i la_n)) (ll_r (ll_i ll_n)) ?_
  intro p e s m below meth c X hcw hmm hcc hnm hname
  have hno := noh hcw hnm hmm hcc
  unfold m_X1_print
  refine g_aload_n (pc := 0) X (j := 0) (i := 0) (q := 0) (x := a0) rfl rfl (dl_at t_X1_print 0 rfl) ?_
  refine r_getr (pc := 1) X fX1_18 hk q1506 (dl_at t_X1_print 1 rfl) ?_
  refine g_join (γ := Int) (fun q => (q = 0 ∨ q = 1)) 12 (fun q => [(0, rv D a0), (1, iv a1)]) (fun q => [iv q]) (fun q => h) (fun q => m_X1_print_j12 a0 a1 q h) ?_ ?_
  · rintro s0_12 rs0_12
    try dsimp only
    unfold m_X1_print_j12
    refine r_callTv (pc := 12) X (fun _ hv => s_X1_state rs0_12 hv) cw_code q2244 q355 (in_Sc X (As := [iv s0_12]) (Or.inl q2242) q2243 q355 q2244 ⟨by decide, by decide⟩ rfl (dl_at t_X1_print 6 rfl)) (dl_at t_X1_print 6 rfl) (cat24 (st := []) (Nat.le_of_ble_eq_true rfl)) (Nat.le_of_ble_eq_true rfl) (Nat.le_of_ble_eq_true rfl) (fun v12 h12 E12 => ?_) (fun _ _ ha _ => gt_at fun Q hQ => gt_out (Q := Q) X rfl ha (hno _) _ Q rfl hQ)
    refine g_iload_n (pc := 15) X (j := 1) (i := 1) (q := 1) (x := a1) rfl rfl (dl_at t_X1_print 7 rfl) ?_
    refine g_iconst (pc := 16) X (n := 1) (dl_at t_X1_print 8 rfl) ?_
    refine g_join (γ := Int) (fun q => (q = 0 ∨ q = 1)) 36 (fun q => [(0, rv D a0), (1, iv a1)]) (fun q => [iv q]) (fun q => h12) (fun q => m_X1_print_j36 a0 a1 q h12) ?_ ?_
    · rintro s0_36 rs0_36
      try dsimp only
      unfold m_X1_print_j36
      refine r_callTv (pc := 36) X (fun _ hv => s_X1_room rs0_36 hv) cw_code q1653 q355 (in_Sc X (As := [iv s0_36]) (Or.inl q1651) q1652 q355 q1653 ⟨by decide, by decide⟩ rfl (dl_at t_X1_print 18 rfl)) (dl_at t_X1_print 18 rfl) (cat24 (st := []) (Nat.le_of_ble_eq_true rfl)) (Nat.le_of_ble_eq_true rfl) (Nat.le_of_ble_eq_true rfl) (fun v36 h36 E36 => ?_) (fun _ _ ha _ => gt_at fun Q hQ => gt_out (Q := Q) X rfl ha (hno _) _ Q rfl hQ)
      refine g_aload_n (pc := 39) X (j := 0) (i := 0) (q := 0) (x := a0) rfl rfl (dl_at t_X1_print 19 rfl) ?_
      have k40 := kx (E12.trans E36) (by decide) hk
      refine r_getr (pc := 40) X fX1_21 k40 q1509 (dl_at t_X1_print 20 rfl) ?_
      refine g_iconst (pc := 43) X (n := 0) (dl_at t_X1_print 21 rfl) ?_
      refine g_gd fun k44 => ?_
      refine r_putiN (pc := 44) X fX5_1 k44 (nw_in q509 rfl) rfl (dl_at t_X1_print 22 rfl) (r32_c rfl) (fun h44 E44 => ?_)
      refine g_aload_n (pc := 47) X (j := 0) (i := 0) (q := 0) (x := a0) rfl rfl (dl_at t_X1_print 23 rfl) ?_
      have k48 := kx E44 (by decide) k40
      refine r_getr (pc := 48) X fX1_18 k48 q1506 (dl_at t_X1_print 24 rfl) ?_
      refine g_iload_n (pc := 51) X (j := 1) (i := 1) (q := 1) (x := a1) rfl rfl (dl_at t_X1_print 25 rfl) ?_
      refine g_aload_n (pc := 52) X (j := 0) (i := 0) (q := 0) (x := a0) rfl rfl (dl_at t_X1_print 26 rfl) ?_
      refine r_getr (pc := 53) X fX1_21 k48 q1509 (dl_at t_X1_print 27 rfl) ?_
      refine g_gd fun k56 => ?_
      refine r_callTv (pc := 56) X (fun _ hv => s_X14_print k56 r1 hv) cw_code q3221 q368 (in_Vk X (As := [iv a1, rv D (h44 a0 21)]) kX14 k56 (Or.inr ⟨_, nw_in q3218 rfl⟩) q3220 qs231 cw_code q3221 ⟨by decide, by decide⟩ rfl (dl_at t_X1_print 28 rfl)) (dl_at t_X1_print 28 rfl) (cat24 (st := []) (Nat.le_of_ble_eq_true rfl)) (Nat.le_of_ble_eq_true rfl) (Nat.le_of_ble_eq_true rfl) (fun v56 h56 E56 => ?_) (fun _ _ ha _ => gt_at fun Q hQ => gt_out (Q := Q) X rfl ha (hno _) _ Q rfl hQ)
      refine g_aload_n (pc := 59) X (j := 0) (i := 0) (q := 0) (x := a0) rfl rfl (dl_at t_X1_print 29 rfl) ?_
      have k60 := kx E56 (by decide) k48
      refine r_getr (pc := 60) X fX1_20 k60 q1508 (dl_at t_X1_print 30 rfl) ?_
      refine g_ltr fun x2_63 => ?_
      refine g_astore_n (pc := 63) X (j := 2) (i := 2) (x := x2_63) (rest := [(0, rv D a0)]) rfl (Nat.le_of_ble_eq_true rfl) [0] rfl rfl (dl_at t_X1_print 31 rfl) ?_
      refine g_aload_n (pc := 64) X (j := 0) (i := 0) (q := 1) (x := a0) rfl rfl (dl_at t_X1_print 32 rfl) ?_
      refine g_aload_n (pc := 65) X (j := 0) (i := 0) (q := 1) (x := a0) rfl rfl (dl_at t_X1_print 33 rfl) ?_
      refine r_getr (pc := 66) X fX1_21 k60 q1509 (dl_at t_X1_print 34 rfl) ?_
      refine r_putr (pc := 69) X fX1_20 k60 q1508 rfl (dl_at t_X1_print 35 rfl)  (fun h69 E69 => ?_)
      refine g_aload_n (pc := 72) X (j := 0) (i := 0) (q := 1) (x := a0) rfl rfl (dl_at t_X1_print 36 rfl) ?_
      refine g_aload_n (pc := 73) X (j := 2) (i := 2) (q := 0) (x := x2_63) rfl rfl (dl_at t_X1_print 37 rfl) ?_
      have k74 := kx E69 (by decide) k60
      refine r_putr (pc := 74) X fX1_21 k74 q1509 rfl (dl_at t_X1_print 38 rfl)  (fun h74 E74 => ?_)
      refine g_aload_n (pc := 77) X (j := 0) (i := 0) (q := 1) (x := a0) rfl rfl (dl_at t_X1_print 39 rfl) ?_
      have k78 := kx E74 (by decide) k74
      refine r_getr (pc := 78) X fX1_20 k78 q1508 (dl_at t_X1_print 40 rfl) ?_
      refine g_gd fun k81 => ?_
      refine r_getiN (pc := 81) X fX5_1 k81 (nw_in q509 rfl) (dl_at t_X1_print 41 rfl) fun g81 => ?_
      exact g_iret (pc := 84) X g81 rfl rfl (dl_at t_X1_print 42 rfl)
    intro J36
    refine g_join (γ := Unit) (fun q => True) 35 (fun q => [(0, rv D a0), (1, iv a1)]) (fun q => []) (fun q => h12) (fun q => m_X1_print_j35 a0 a1 h12) ?_ ?_
    · rintro _ _
      try dsimp only
      unfold m_X1_print_j35
      refine g_iconst (pc := 35) X (n := 0) (dl_at t_X1_print 17 rfl) ?_
      exact J36 0 (Or.inl rfl)
    intro J35
    refine g_icmplt (pc := 17) X r1 (r32_c rfl) (off := 18) (tgt := 35) rfl (dl_at t_X1_print 9 rfl) (fun _ => ?_) (fun _ => ?_)
    · exact J35 () trivial
    refine g_iload_n (pc := 20) X (j := 1) (i := 1) (q := 1) (x := a1) rfl rfl (dl_at t_X1_print 10 rfl) ?_
    refine g_aload_n (pc := 21) X (j := 0) (i := 0) (q := 0) (x := a0) rfl rfl (dl_at t_X1_print 11 rfl) ?_
    have k22 := kx E12 (by decide) hk
    refine r_getr (pc := 22) X fX1_18 k22 q1506 (dl_at t_X1_print 12 rfl) ?_
    refine g_gd fun k25 => ?_
    refine r_callRi (pc := 25) X (fun _ hv => s_X14_pages k25 hv) cw_code q3079 q368 (in_Vk X (As := []) kX14 k25 (Or.inr ⟨_, nw_in q3076 rfl⟩) q3078 qs216 cw_code q3079 ⟨by decide, by decide⟩ rfl (dl_at t_X1_print 13 rfl)) (dl_at t_X1_print 13 rfl) (cat24 (st := [iv a1]) (Nat.le_of_ble_eq_true rfl)) (Nat.le_of_ble_eq_true rfl) (Nat.le_of_ble_eq_true rfl) fun v25 g25 => ?_
    refine g_icmpgt (pc := 28) X r1 g25 (off := 7) (tgt := 35) rfl (dl_at t_X1_print 14 rfl) (fun _ => ?_) (fun _ => ?_)
    · exact J35 () trivial
    refine g_iconst (pc := 31) X (n := 1) (dl_at t_X1_print 15 rfl) ?_
    refine g_goto (pc := 32) X (off := 4) (tgt := 36) rfl (dl_at t_X1_print 16 rfl) ?_
    exact J36 1 (Or.inr rfl)
  intro J12
  refine g_ifnull (pc := 4) X (off := 7) (tgt := 11) rfl (dl_at t_X1_print 2 rfl) (fun _ => ?_) (fun _ => ?_)
  · refine g_iconst (pc := 11) X (n := 0) (dl_at t_X1_print 5 rfl) ?_
    exact J12 0 (Or.inl rfl)
  refine g_iconst (pc := 7) X (n := 1) (dl_at t_X1_print 3 rfl) ?_
  refine g_goto (pc := 8) X (off := 4) (tgt := 12) rfl (dl_at t_X1_print 4 rfl) ?_
  exact J12 1 (Or.inr rfl)
def k_X0_print : List (Nat × Instr × Nat) := [(0, .aload_n 2, 1), (1, .iconst 0, 1), (2, .aload_n 0, 1), (3, .iload_n 1, 1), (4, .invokevirtual 78, 3), (7, .i2l, 1), (8, .lastore, 1), (9, .goto 9, 3), (12, .astore_n 3, 1), (13, .iconst 1, 1), (14, .ireturn, 1), (15, .astore_n 3, 1), (16, .iconst 2, 1), (17, .ireturn, 1), (18, .iconst 0, 1), (19, .ireturn, 1)]
theorem t_X0_print : ∀ q ∈ k_X0_print, decode cX0_print q.1 = .ok q.2 := dl_all (by decide +kernel)
noncomputable def m_X0_print (a0 a1 a2 : Int) (h : Hp) : Option (Int × Hp) :=
  gd (h a0 (-2) = 16) (bT (m_X1_print a0 a1 h) (fun v4 h4_1 =>
  gd (h4_1 a2 (-2) % 16 = 4 ∧ (0 : Int) ≤ 0 ∧ 0 < h4_1 a2 (-1)) (pt h4_1 a2 0 v4 fun h8 =>
  some (0, h8))) (fun a4 h4 => if h4 a4 (-2) = 480 then (some (2, h4))
  else (if h4 a4 (-2) = 528 then (some (1, h4))
  else (none))))
theorem s_X0_print {l : Launch} [NoTr l] {D : SD} {a0 a1 a2 : Int} {h : Hp} (r1 : r32 a1) {r : Int × Hp} (hm : m_X0_print a0 a1 a2 h = some r) : Sim l D yX0_print (Cond.codeWith yX0_print cX0_print 4 (Option.some Jvm.ClassFile.FieldType.int) [((0 : Nat), (9 : Nat), (12 : Nat), (40 : Nat)), ((0 : Nat), (9 : Nat), (15 : Nat), (13 : Nat))]) 43 1636 [rv D a0, iv a1, rv D a2] h 1 ((0, r.1), r.2) := by
  refine Sim.of (fin := fun (v : Int × Hp) => ((0, v.1), v.2)) (lsE := [(0, rv D a0), (1, iv a1), (2, rv D a2)]) hm rfl cwS_with (la_r (la_i (la_r la_n))) (ll_r (ll_i (ll_r ll_n))) ?_
  intro p e s m below meth c X hcw hmm hcc hnm hname
  have htb := tabW hcw hnm hmm hcc
  unfold m_X0_print
  refine g_aload_n (pc := 0) X (j := 2) (i := 2) (q := 2) (x := a2) rfl rfl (dl_at t_X0_print 0 rfl) ?_
  refine g_iconst (pc := 1) X (n := 0) (dl_at t_X0_print 1 rfl) ?_
  refine g_aload_n (pc := 2) X (j := 0) (i := 0) (q := 0) (x := a0) rfl rfl (dl_at t_X0_print 2 rfl) ?_
  refine g_iload_n (pc := 3) X (j := 1) (i := 1) (q := 1) (x := a1) rfl rfl (dl_at t_X0_print 3 rfl) ?_
  refine g_gd fun k4 => ?_
  refine r_callTi (pc := 4) X (fun _ hv => s_X1_print k4 r1 hv) cw_code q3217 q355 (in_Vk X (As := [iv a1]) kX1 k4 (Or.inl q3214) q3215 q3216 cw_code q3217 ⟨by decide, by decide⟩ rfl (dl_at t_X0_print 4 rfl)) (dl_at t_X0_print 4 rfl) (cat24 (st := [iv 0, rv D a2]) (Nat.le_of_ble_eq_true rfl)) (Nat.le_of_ble_eq_true rfl) (Nat.le_of_ble_eq_true rfl) (fun v4 h4_1 g4 E4_1 => ?_) (fun a4 h4 p4 E4 => ?_)
  · refine g_i2l (pc := 7) X g4 (dl_at t_X0_print 5 rfl) ?_
    refine g_gd fun k8 => ?_
    refine r_last (pc := 8) X (r32_c rfl) (r64_of g4) k8 (dl_at t_X0_print 6 rfl) (fun h8 E8 => ?_)
    refine g_goto (pc := 9) X (off := 9) (tgt := 18) rfl (dl_at t_X0_print 7 rfl) ?_
    refine g_iconst (pc := 18) X (n := 0) (dl_at t_X0_print 14 rfl) ?_
    exact g_iret (pc := 19) X (r32_c rfl) rfl rfl (dl_at t_X0_print 15 rfl)
  refine gt_case (fun k4_1 => ?_) (fun _ => ?_)
  · refine gt_catch (pc := 4) X kJ3 k4_1 [((0, 9, 12, 40), "java/lang/IllegalStateException", false), ((0, 9, 15, 13), "java/lang/IndexOutOfBoundsException", true)] (hp := 15) rfl (by decide +kernel) (List.forall_mem_cons.mpr ⟨⟨q2237, by decide⟩, (List.forall_mem_cons.mpr ⟨⟨q1565, by decide⟩, fun _ h => absurd h List.not_mem_nil⟩)⟩) htb ?_
    refine g_astore_n (pc := 15) X (j := 3) (i := 3) (x := a4) (rest := []) rfl (Nat.le_of_ble_eq_true rfl) [] rfl rfl (dl_at t_X0_print 11 rfl) ?_
    refine g_iconst (pc := 16) X (n := 2) (dl_at t_X0_print 12 rfl) ?_
    exact g_iret (pc := 17) X (r32_c rfl) rfl rfl (dl_at t_X0_print 13 rfl)
  refine gt_case (fun k4_2 => ?_) (fun _ => ?_)
  · refine gt_catch (pc := 4) X kJ11 k4_2 [((0, 9, 12, 40), "java/lang/IllegalStateException", true), ((0, 9, 15, 13), "java/lang/IndexOutOfBoundsException", false)] (hp := 12) rfl (by decide +kernel) (List.forall_mem_cons.mpr ⟨⟨q2237, by decide⟩, (List.forall_mem_cons.mpr ⟨⟨q1565, by decide⟩, fun _ h => absurd h List.not_mem_nil⟩)⟩) htb ?_
    refine g_astore_n (pc := 12) X (j := 3) (i := 3) (x := a4) (rest := []) rfl (Nat.le_of_ble_eq_true rfl) [] rfl rfl (dl_at t_X0_print 8 rfl) ?_
    refine g_iconst (pc := 13) X (n := 1) (dl_at t_X0_print 9 rfl) ?_
    exact g_iret (pc := 14) X (r32_c rfl) rfl rfl (dl_at t_X0_print 10 rfl)
  exact gt_none
def k_X1_word : List (Nat × Instr × Nat) := [(0, .iload_n 1, 1), (1, .ifCond .lt 18, 3), (4, .iload_n 1, 1), (5, .aload_n 0, 1), (6, .getfield 113, 3), (9, .getfield 282, 3), (12, .if_icmp .ge 7, 3), (15, .iconst 1, 1), (16, .goto 4, 3), (19, .iconst 0, 1), (20, .invokestatic 127, 3), (23, .lconst 0, 1), (24, .lstore_n 2, 1), (25, .iload_n 1, 1), (26, .istore 4, 2), (28, .iload 4, 2), (30, .iload_n 1, 1), (31, .bipush 8, 2), (33, .iadd, 1), (34, .if_icmp .ge 46, 3), (37, .lload_n 2, 1), (38, .bipush 8, 2), (40, .lshl, 1), (41, .iload 4, 2), (43, .aload_n 0, 1), (44, .getfield 113, 3), (47, .getfield 282, 3), (50, .if_icmp .ge 21, 3), (53, .aload_n 0, 1), (54, .getfield 113, 3), (57, .getfield 458, 3), (60, .iload 4, 2), (62, .baload, 1), (63, .i2l, 1), (64, .ldc2_w 461, 3), (67, .land, 1), (68, .goto 4, 3), (71, .lconst 0, 1), (72, .lor, 1), (73, .lstore_n 2, 1), (74, .iinc 4 1, 3), (77, .goto (-49), 3), (80, .lload_n 2, 1), (81, .lreturn, 1)]
theorem t_X1_word : ∀ q ∈ k_X1_word, decode cX1_word q.1 = .ok q.2 := dl_all (by decide +kernel)
noncomputable def m_X1_word_j72 (x4_28 s0_72 s1_72 : Int) : Option ((Int × Int) ⊕ (((Int × Int) × Hp))) :=
  lt_ (lor_ s0_72 s1_72) fun x2_73 =>
  lt_ (w32 (x4_28 + 1)) fun x4_74 =>
  some (.inl (x2_73, x4_74))
noncomputable def m_X1_word_l28 (a0 a1 x2_28 x4_28 : Int) (h20 : Hp) : Option ((Int × Int) ⊕ (((Int × Int) × Hp))) :=
  if (w32 (a1 + 8)) ≤ x4_28 then (some (.inr ((0, x2_28), h20)))
  else (gd (h20 (h20 a0 20) (-2) = 80) (if (h20 (h20 a0 20) 1) ≤ x4_28 then (m_X1_word_j72 x4_28 (lshl_ x2_28 8) 0)
  else (gd (h20 (h20 (h20 a0 20) 0) (-2) % 16 = 2 ∧ (0 : Int) ≤ x4_28 ∧ x4_28 < h20 (h20 (h20 a0 20) 0) (-1)) (m_X1_word_j72 x4_28 (lshl_ x2_28 8) (land_ (h20 (h20 (h20 a0 20) 0) x4_28) 255)))))
noncomputable def m_X1_word_j20 (a0 a1 s0_20 : Int) (h : Hp) : Option ((Int × Int) × Hp) :=
  bT (m_X1_room s0_20 h) (fun _ h20 =>
  lt_ 0 fun x2_24 =>
  (lp (fun (q : Int × Int) => m_X1_word_l28 a0 a1 q.1 q.2 h20) (x2_24, a1)).bind (fun (x : (Int × Int) × Hp) => some x)) (fun a_ h_ => some ((1, a_), h_))
noncomputable def m_X1_word_j19 (a0 a1 : Int) (h : Hp) : Option ((Int × Int) × Hp) :=
  m_X1_word_j20 a0 a1 0 h
noncomputable def m_X1_word (a0 a1 : Int) (h : Hp) : Option ((Int × Int) × Hp) :=
  if a1 < 0 then (m_X1_word_j19 a0 a1 h)
  else (gd (h (h a0 20) (-2) = 80) (if (h (h a0 20) 1) ≤ a1 then (m_X1_word_j19 a0 a1 h)
  else (m_X1_word_j20 a0 a1 1 h)))
theorem s_X1_word {l : Launch} [NoTr l] {D : SD} {a0 a1 : Int} {h : Hp} (hk : h a0 (-2) = 16) (r1 : r32 a1) {r : (Int × Int) × Hp} (hm : m_X1_word a0 a1 h = some r) : Sim l D yX1_word (Cond.code yX1_word cX1_word 5 (Option.some Jvm.ClassFile.FieldType.long)) 10 372 [rv D a0, iv a1] h 4 r := by
  refine Sim.of (fin := fun (v : (Int × Int) × Hp) => v) (lsE := [(0, rv D a0), (1, iv a1)]) hm rfl cwS_code (la_r (la_i la_n)) (ll_r (ll_i ll_n)) ?_
  intro p e s m below meth c X hcw hmm hcc hnm hname
  have hno := noh hcw hnm hmm hcc
  unfold m_X1_word
  refine g_iload_n (pc := 0) X (j := 1) (i := 1) (q := 1) (x := a1) rfl rfl (dl_at t_X1_word 0 rfl) ?_
  refine g_join (γ := Int) (fun q => (q = 0 ∨ q = 1)) 20 (fun q => [(0, rv D a0), (1, iv a1)]) (fun q => [iv q]) (fun q => h) (fun q => m_X1_word_j20 a0 a1 q h) ?_ ?_
  · rintro s0_20 rs0_20
    try dsimp only
    unfold m_X1_word_j20
    refine r_callTv (pc := 20) X (fun _ hv => s_X1_room rs0_20 hv) cw_code q1653 q355 (in_Sc X (As := [iv s0_20]) (Or.inl q1651) q1652 q355 q1653 ⟨by decide, by decide⟩ rfl (dl_at t_X1_word 10 rfl)) (dl_at t_X1_word 10 rfl) (cat24 (st := []) (Nat.le_of_ble_eq_true rfl)) (Nat.le_of_ble_eq_true rfl) (Nat.le_of_ble_eq_true rfl) (fun v20 h20 E20 => ?_) (fun _ _ ha _ => gt_at fun Q hQ => gt_out (Q := Q) X rfl ha (hno _) _ Q rfl hQ)
    refine g_lconst0 (pc := 23) X (dl_at t_X1_word 11 rfl) ?_
    refine g_ltl (r64_c rfl) fun x2_24 r2_24 => ?_
    refine g_lstore_nN (pc := 24) X (j := 2) (i := 2) (x := x2_24) (b := 1) (w := iv a1) (rest := [(0, rv D a0)]) rfl (Nat.le_of_ble_eq_true rfl) [1, 0] rfl (by decide) (by decide) rfl rfl (dl_at t_X1_word 12 rfl) ?_
    refine g_iload_n (pc := 25) X (j := 1) (i := 1) (q := 1) (x := a1) rfl rfl (dl_at t_X1_word 13 rfl) ?_
    refine g_istore (pc := 26) X (i := 4) (x := a1) (rest := [(2, jv x2_24), (1, iv a1), (0, rv D a0)]) (Nat.le_of_ble_eq_true rfl) [0, 1, 2] rfl rfl (dl_at t_X1_word 14 rfl) ?_
    refine g_ls (ls2 := [(0, rv D a0), (1, iv a1), (2, jv x2_24), (4, iv a1)]) [3, 2, 1, 0] rfl ?_
    refine g_loop0F (fun (q : Int × Int) => [(0, rv D a0), (1, iv a1), (2, jv q.1), (4, iv q.2)]) (fun (q : Int × Int) => h20) (fun (q : Int × Int) => r64 q.1 ∧ r32 q.2) (x2_24, a1) ⟨r2_24, r1⟩ ?_ (fun _ => rfl)
    · rintro ⟨x2_28, x4_28⟩ ⟨r2_28, r4_28⟩
      try dsimp only
      unfold m_X1_word_l28
      refine g_iload (pc := 28) X (i := 4) (q := 3) (x := x4_28) rfl (dl_at t_X1_word 15 rfl) ?_
      refine g_iload_n (pc := 30) X (j := 1) (i := 1) (q := 1) (x := a1) rfl rfl (dl_at t_X1_word 16 rfl) ?_
      refine g_bipush (pc := 31) X (n := 8) rfl (dl_at t_X1_word 17 rfl) ?_
      refine g_iadd (pc := 33) X r1 (r32_c rfl) (dl_at t_X1_word 18 rfl) ?_
      refine g_icmpge (pc := 34) X r4_28 (r32_w _) (off := 46) (tgt := 80) rfl (dl_at t_X1_word 19 rfl) (fun _ => ?_) (fun _ => ?_)
      · refine g_lload_n (pc := 80) X (j := 2) (i := 2) (q := 2) (x := x2_28) rfl rfl (dl_at t_X1_word 42 rfl) ?_
        exact g_at fun Q hQ => (g_lret (pc := 81) X r2_28 rfl rfl (dl_at t_X1_word 43 rfl)) _ Q rfl hQ
      refine g_lload_n (pc := 37) X (j := 2) (i := 2) (q := 2) (x := x2_28) rfl rfl (dl_at t_X1_word 20 rfl) ?_
      refine g_bipush (pc := 38) X (n := 8) rfl (dl_at t_X1_word 21 rfl) ?_
      refine g_lshl (pc := 40) X (dl_at t_X1_word 22 rfl) ?_
      refine g_iload (pc := 41) X (i := 4) (q := 3) (x := x4_28) rfl (dl_at t_X1_word 23 rfl) ?_
      refine g_aload_n (pc := 43) X (j := 0) (i := 0) (q := 0) (x := a0) rfl rfl (dl_at t_X1_word 24 rfl) ?_
      have k44 := kx E20 (by decide) hk
      refine r_getr (pc := 44) X fX1_20 k44 q1508 (dl_at t_X1_word 25 rfl) ?_
      refine g_gd fun k47 => ?_
      refine r_getiN (pc := 47) X fX5_1 k47 (nw_in q509 rfl) (dl_at t_X1_word 26 rfl) fun g47 => ?_
      refine g_join (γ := Int × Int) (fun q => r64 q.1 ∧ r64 q.2) 72 (fun q => [(0, rv D a0), (1, iv a1), (4, iv x4_28)]) (fun q => [jv q.2, jv q.1]) (fun q => h20) (fun q => m_X1_word_j72 x4_28 q.1 q.2) ?_ ?_
      · rintro ⟨s0_72, s1_72⟩ ⟨rs0_72, rs1_72⟩
        try dsimp only
        unfold m_X1_word_j72
        refine g_lor (pc := 72) X (dl_at t_X1_word 38 rfl) ?_
        refine g_ltl (r64_lor _ _) fun x2_73 r2_73 => ?_
        refine g_lstore_nN (pc := 73) X (j := 2) (i := 2) (x := x2_73) (b := 1) (w := iv a1) (rest := [(0, rv D a0), (4, iv x4_28)]) rfl (Nat.le_of_ble_eq_true rfl) [1, 0, 2] rfl (by decide) (by decide) rfl rfl (dl_at t_X1_word 39 rfl) ?_
        refine r_iinc (pc := 74) X (i := 4) (q := 3) (n := 1) (x := x4_28) (rest := [(2, jv x2_73), (1, iv a1), (0, rv D a0)]) rfl r4_28 (r32_c rfl) (Nat.le_of_ble_eq_true rfl) [0, 1, 2] rfl rfl (dl_at t_X1_word 40 rfl) fun x4_74 r4_74 => ?_
        refine g_goto (pc := 77) X (off := (-49)) (tgt := 28) rfl (dl_at t_X1_word 41 rfl) ?_
        refine g_ls (ls2 := [(0, rv D a0), (1, iv a1), (2, jv x2_73), (4, iv x4_74)]) [3, 2, 1, 0] rfl ?_
        exact g_at fun Q hQ => hQ ⟨r2_73, r4_74⟩
      intro J72
      refine g_icmpge (pc := 50) X r4_28 g47 (off := 21) (tgt := 71) rfl (dl_at t_X1_word 27 rfl) (fun _ => ?_) (fun _ => ?_)
      · refine g_lconst0 (pc := 71) X (dl_at t_X1_word 37 rfl) ?_
        refine g_ls (ls2 := [(0, rv D a0), (1, iv a1), (4, iv x4_28)]) [0, 1, 3] rfl ?_
        exact J72 ((lshl_ x2_28 8), 0) ⟨(r64_lshl _ _), (r64_c rfl)⟩
      refine g_aload_n (pc := 53) X (j := 0) (i := 0) (q := 0) (x := a0) rfl rfl (dl_at t_X1_word 28 rfl) ?_
      refine r_getr (pc := 54) X fX1_20 k44 q1508 (dl_at t_X1_word 29 rfl) ?_
      refine r_getrN (pc := 57) X fX5_0 k47 (nw_in q503 rfl) (dl_at t_X1_word 30 rfl) ?_
      refine g_iload (pc := 60) X (i := 4) (q := 3) (x := x4_28) rfl (dl_at t_X1_word 31 rfl) ?_
      refine g_gd fun k62 => ?_
      refine g_bald (pc := 62) X r4_28 k62 (dl_at t_X1_word 32 rfl) fun g62 => ?_
      refine g_i2l (pc := 63) X (r32_b g62) (dl_at t_X1_word 33 rfl) ?_
      refine g_ldc2 (pc := 64) X (index := 461) (n := 255) q3254 (dl_at t_X1_word 34 rfl) ?_
      refine g_land (pc := 67) X (dl_at t_X1_word 35 rfl) ?_
      refine g_goto (pc := 68) X (off := 4) (tgt := 72) rfl (dl_at t_X1_word 36 rfl) ?_
      refine g_ls (ls2 := [(0, rv D a0), (1, iv a1), (4, iv x4_28)]) [0, 1, 3] rfl ?_
      exact J72 ((lshl_ x2_28 8), (land_ (h20 (h20 (h20 a0 20) 0) x4_28) 255)) ⟨(r64_lshl _ _), (r64_land _ _)⟩
  intro J20
  refine g_join (γ := Unit) (fun q => True) 19 (fun q => [(0, rv D a0), (1, iv a1)]) (fun q => []) (fun q => h) (fun q => m_X1_word_j19 a0 a1 h) ?_ ?_
  · rintro _ _
    try dsimp only
    unfold m_X1_word_j19
    refine g_iconst (pc := 19) X (n := 0) (dl_at t_X1_word 9 rfl) ?_
    exact J20 0 (Or.inl rfl)
  intro J19
  refine g_iflt (pc := 1) X r1 (off := 18) (tgt := 19) rfl (dl_at t_X1_word 1 rfl) (fun _ => ?_) (fun _ => ?_)
  · exact J19 () trivial
  refine g_iload_n (pc := 4) X (j := 1) (i := 1) (q := 1) (x := a1) rfl rfl (dl_at t_X1_word 2 rfl) ?_
  refine g_aload_n (pc := 5) X (j := 0) (i := 0) (q := 0) (x := a0) rfl rfl (dl_at t_X1_word 3 rfl) ?_
  refine r_getr (pc := 6) X fX1_20 hk q1508 (dl_at t_X1_word 4 rfl) ?_
  refine g_gd fun k9 => ?_
  refine r_getiN (pc := 9) X fX5_1 k9 (nw_in q509 rfl) (dl_at t_X1_word 5 rfl) fun g9 => ?_
  refine g_icmpge (pc := 12) X r1 g9 (off := 7) (tgt := 19) rfl (dl_at t_X1_word 6 rfl) (fun _ => ?_) (fun _ => ?_)
  · exact J19 () trivial
  refine g_iconst (pc := 15) X (n := 1) (dl_at t_X1_word 7 rfl) ?_
  refine g_goto (pc := 16) X (off := 4) (tgt := 20) rfl (dl_at t_X1_word 8 rfl) ?_
  exact J20 1 (Or.inr rfl)
def k_X0_word : List (Nat × Instr × Nat) := [(0, .aload_n 2, 1), (1, .iconst 0, 1), (2, .aload_n 0, 1), (3, .iload_n 1, 1), (4, .invokevirtual 81, 3), (7, .lastore, 1), (8, .goto 6, 3), (11, .astore_n 3, 1), (12, .iconst 1, 1), (13, .ireturn, 1), (14, .iconst 0, 1), (15, .ireturn, 1)]
theorem t_X0_word : ∀ q ∈ k_X0_word, decode cX0_word q.1 = .ok q.2 := dl_all (by decide +kernel)
noncomputable def m_X0_word (a0 a1 a2 : Int) (h : Hp) : Option (Int × Hp) :=
  gd (h a0 (-2) = 16) (bT (m_X1_word a0 a1 h) (fun v4 h4_1 =>
  gd (h4_1 a2 (-2) % 16 = 4 ∧ (0 : Int) ≤ 0 ∧ 0 < h4_1 a2 (-1)) (pt h4_1 a2 0 v4 fun h7 =>
  some (0, h7))) (fun a4 h4 => if h4 a4 (-2) = 480 then (some (1, h4))
  else (none)))
theorem s_X0_word {l : Launch} [NoTr l] {D : SD} {a0 a1 a2 : Int} {h : Hp} (r1 : r32 a1) {r : Int × Hp} (hm : m_X0_word a0 a1 a2 h = some r) : Sim l D yX0_word (Cond.codeWith yX0_word cX0_word 4 (Option.some Jvm.ClassFile.FieldType.int) [((0 : Nat), (8 : Nat), (11 : Nat), (13 : Nat))]) 11 412 [rv D a0, iv a1, rv D a2] h 1 ((0, r.1), r.2) := by
  refine Sim.of (fin := fun (v : Int × Hp) => ((0, v.1), v.2)) (lsE := [(0, rv D a0), (1, iv a1), (2, rv D a2)]) hm rfl cwS_with (la_r (la_i (la_r la_n))) (ll_r (ll_i (ll_r ll_n))) ?_
  intro p e s m below meth c X hcw hmm hcc hnm hname
  have htb := tabW hcw hnm hmm hcc
  unfold m_X0_word
  refine g_aload_n (pc := 0) X (j := 2) (i := 2) (q := 2) (x := a2) rfl rfl (dl_at t_X0_word 0 rfl) ?_
  refine g_iconst (pc := 1) X (n := 0) (dl_at t_X0_word 1 rfl) ?_
  refine g_aload_n (pc := 2) X (j := 0) (i := 0) (q := 0) (x := a0) rfl rfl (dl_at t_X0_word 2 rfl) ?_
  refine g_iload_n (pc := 3) X (j := 1) (i := 1) (q := 1) (x := a1) rfl rfl (dl_at t_X0_word 3 rfl) ?_
  refine g_gd fun k4 => ?_
  refine r_callTl (pc := 4) X (fun _ hv => s_X1_word k4 r1 hv) cw_code q3253 q355 (in_Vk X (As := [iv a1]) kX1 k4 (Or.inl q3250) q3251 q3252 cw_code q3253 ⟨by decide, by decide⟩ rfl (dl_at t_X0_word 4 rfl)) (dl_at t_X0_word 4 rfl) (cat24 (st := [iv 0, rv D a2]) (Nat.le_of_ble_eq_true rfl)) (Nat.le_of_ble_eq_true rfl) (Nat.le_of_ble_eq_true rfl) (fun v4 h4_1 g4 E4_1 => ?_) (fun a4 h4 p4 E4 => ?_)
  · refine g_gd fun k7 => ?_
    refine r_last (pc := 7) X (r32_c rfl) g4 k7 (dl_at t_X0_word 5 rfl) (fun h7 E7 => ?_)
    refine g_goto (pc := 8) X (off := 6) (tgt := 14) rfl (dl_at t_X0_word 6 rfl) ?_
    refine g_iconst (pc := 14) X (n := 0) (dl_at t_X0_word 10 rfl) ?_
    exact g_iret (pc := 15) X (r32_c rfl) rfl rfl (dl_at t_X0_word 11 rfl)
  refine gt_case (fun k4_1 => ?_) (fun _ => ?_)
  · refine gt_catch (pc := 4) X kJ3 k4_1 [((0, 8, 11, 13), "java/lang/IndexOutOfBoundsException", true)] (hp := 11) rfl (by decide +kernel) (List.forall_mem_cons.mpr ⟨⟨q1565, by decide⟩, fun _ h => absurd h List.not_mem_nil⟩) htb ?_
    refine g_astore_n (pc := 11) X (j := 3) (i := 3) (x := a4) (rest := []) rfl (Nat.le_of_ble_eq_true rfl) [] rfl rfl (dl_at t_X0_word 7 rfl) ?_
    refine g_iconst (pc := 12) X (n := 1) (dl_at t_X0_word 8 rfl) ?_
    exact g_iret (pc := 13) X (r32_c rfl) rfl rfl (dl_at t_X0_word 9 rfl)
  exact gt_none
def k_X2_init : List (Nat × Instr × Nat) := [(0, .aload_n 0, 1), (1, .invokespecial 1, 3), (4, .aload_n 0, 1), (5, .aload_n 1, 1), (6, .putfield 7, 3), (9, .return_, 1)]
theorem t_X2_init : ∀ q ∈ k_X2_init, decode cX2_init q.1 = .ok q.2 := dl_all (by decide +kernel)
noncomputable def m_X2_init (a0 a1 : Int) (h : Hp) : Option (Hp) :=
  pt h a0 0 a1 fun h6 =>
  some h6
theorem s_X2_init {l : Launch} [NoTr l] {D : SD} {a0 a1 : Int} {h : Hp} (hk : h a0 (-2) = 32) {r : Hp} (hm : m_X2_init a0 a1 h = some r) : Sim l D yX2_init (Cond.code yX2_init cX2_init 2 (Option.none : Option Jvm.ClassFile.FieldType)) 1 36 [rv D a0, rv D a1] h 0 ((0, 0), r) := by
  refine Sim.of (fin := fun (v : Hp) => ((0, 0), v)) (lsE := [(0, rv D a0), (1, rv D a1)]) hm rfl cwS_code (la_r (la_r la_n)) (ll_r (ll_r ll_n)) ?_
  intro p e s m below meth c X hcw hmm hcc hnm hname
  unfold m_X2_init
  refine g_aload_n (pc := 0) X (j := 0) (i := 0) (q := 0) (x := a0) rfl rfl (dl_at t_X2_init 0 rfl) ?_
  refine r_oinitK (pc := 1) X hk (by decide) q413 q406 q407 (Nat.le_of_ble_eq_true rfl) (Nat.le_trans (Nat.add_le_add_right (cat24 (st := []) (Nat.le_of_ble_eq_true rfl)) 12) (Nat.le_of_ble_eq_true rfl)) (dl_at t_X2_init 1 rfl) ?_
  refine g_aload_n (pc := 4) X (j := 0) (i := 0) (q := 0) (x := a0) rfl rfl (dl_at t_X2_init 2 rfl) ?_
  refine g_aload_n (pc := 5) X (j := 1) (i := 1) (q := 1) (x := a1) rfl rfl (dl_at t_X2_init 3 rfl) ?_
  refine r_putrF (pc := 6) X hname fX2_0 hk q414 rfl rfl (dl_at t_X2_init 4 rfl)  (fun h6 E6 => ?_)
  exact g_vret (pc := 9) X (v := 0) rfl rfl (dl_at t_X2_init 5 rfl)
def k_X4_init : List (Nat × Instr × Nat) := [(0, .aload_n 0, 1), (1, .invokespecial 3, 3), (4, .aload_n 0, 1), (5, .sipush 16384, 3), (8, .newarray .byte, 2), (10, .putfield 9, 3), (13, .aload_n 0, 1), (14, .sipush 128, 3), (17, .newarray .int, 2), (19, .putfield 15, 3), (22, .aload_n 0, 1), (23, .iload_n 1, 1), (24, .newarray .int, 2), (26, .putfield 19, 3), (29, .aload_n 0, 1), (30, .iload_n 1, 1), (31, .newarray .int, 2), (33, .putfield 22, 3), (36, .aload_n 0, 1), (37, .invokevirtual 25, 3), (40, .return_, 1)]
theorem t_X4_init : ∀ q ∈ k_X4_init, decode cX4_init q.1 = .ok q.2 := dl_all (by decide +kernel)
noncomputable def m_X4_init (a0 a1 : Int) (h : Hp) : Option (Hp) :=
  al h 18 16384 fun a8 h8 =>
  pt h8 a0 0 a8 fun h10 =>
  al h10 33 128 fun a17 h17 =>
  pt h17 a0 4 a17 fun h19 =>
  al h19 49 a1 fun a24 h24 =>
  pt h24 a0 2 a24 fun h26 =>
  al h26 65 a1 fun a31 h31 =>
  pt h31 a0 5 a31 fun h33 =>
  (m_X4_clear a0 h33).bind fun h37 =>
  some h37
theorem s_X4_init {l : Launch} [NoTr l] {D : SD} {a0 a1 : Int} {h : Hp} (hk : h a0 (-2) = 64) (r1 : r32 a1) {r : Hp} (hm : m_X4_init a0 a1 h = some r) : Sim l D yX4_init (Cond.code yX4_init cX4_init 2 (Option.none : Option Jvm.ClassFile.FieldType)) 1 37 [rv D a0, iv a1] h 0 ((0, 0), r) := by
  refine Sim.of (fin := fun (v : Hp) => ((0, 0), v)) (lsE := [(0, rv D a0), (1, iv a1)]) hm rfl cwS_code (la_r (la_i la_n)) (ll_r (ll_i ll_n)) ?_
  intro p e s m below meth c X hcw hmm hcc hnm hname
  unfold m_X4_init
  refine g_aload_n (pc := 0) X (j := 0) (i := 0) (q := 0) (x := a0) rfl rfl (dl_at t_X4_init 0 rfl) ?_
  refine r_oinitK (pc := 1) X hk (by decide) q462 q406 q407 (Nat.le_of_ble_eq_true rfl) (Nat.le_trans (Nat.add_le_add_right (cat24 (st := []) (Nat.le_of_ble_eq_true rfl)) 12) (Nat.le_of_ble_eq_true rfl)) (dl_at t_X4_init 1 rfl) ?_
  refine g_aload_n (pc := 4) X (j := 0) (i := 0) (q := 0) (x := a0) rfl rfl (dl_at t_X4_init 2 rfl) ?_
  refine g_sipush (pc := 5) X (n := 16384) rfl (dl_at t_X4_init 3 rfl) ?_
  refine r_newa (pc := 8) X 2 1 (Nat.le_of_ble_eq_true rfl) (Nat.le_of_ble_eq_true rfl) rfl q449 (r32_c rfl) rfl (dl_at t_X4_init 4 rfl) fun a8 h8 p8 k8 l8 E8 => ?_
  have k10 := kx E8 (by decide) hk
  refine r_putrF (pc := 10) X hname fX4_0 k10 q467 rfl rfl (dl_at t_X4_init 5 rfl)  (fun h10 E10 => ?_)
  refine g_aload_n (pc := 13) X (j := 0) (i := 0) (q := 0) (x := a0) rfl rfl (dl_at t_X4_init 6 rfl) ?_
  refine g_sipush (pc := 14) X (n := 128) rfl (dl_at t_X4_init 7 rfl) ?_
  refine r_newa (pc := 17) X 1 2 (Nat.le_of_ble_eq_true rfl) (Nat.le_of_ble_eq_true rfl) rfl q492 (r32_c rfl) rfl (dl_at t_X4_init 8 rfl) fun a17 h17 p17 k17 l17 E17 => ?_
  have k19 := kx (E10.trans E17) (by decide) k10
  refine r_putrF (pc := 19) X hname fX4_4 k19 q477 rfl rfl (dl_at t_X4_init 9 rfl)  (fun h19 E19 => ?_)
  refine g_aload_n (pc := 22) X (j := 0) (i := 0) (q := 0) (x := a0) rfl rfl (dl_at t_X4_init 10 rfl) ?_
  refine g_iload_n (pc := 23) X (j := 1) (i := 1) (q := 1) (x := a1) rfl rfl (dl_at t_X4_init 11 rfl) ?_
  refine r_newa (pc := 24) X 1 3 (Nat.le_of_ble_eq_true rfl) (Nat.le_of_ble_eq_true rfl) rfl q492 r1 rfl (dl_at t_X4_init 12 rfl) fun a24 h24 p24 k24 l24 E24 => ?_
  have k26 := kx (E19.trans E24) (by decide) k19
  refine r_putrF (pc := 26) X hname fX4_2 k26 q470 rfl rfl (dl_at t_X4_init 13 rfl)  (fun h26 E26 => ?_)
  refine g_aload_n (pc := 29) X (j := 0) (i := 0) (q := 0) (x := a0) rfl rfl (dl_at t_X4_init 14 rfl) ?_
  refine g_iload_n (pc := 30) X (j := 1) (i := 1) (q := 1) (x := a1) rfl rfl (dl_at t_X4_init 15 rfl) ?_
  refine r_newa (pc := 31) X 1 4 (Nat.le_of_ble_eq_true rfl) (Nat.le_of_ble_eq_true rfl) rfl q492 r1 rfl (dl_at t_X4_init 16 rfl) fun a31 h31 p31 k31 l31 E31 => ?_
  have k33 := kx (E26.trans E31) (by decide) k26
  refine r_putrF (pc := 33) X hname fX4_5 k33 q478 rfl rfl (dl_at t_X4_init 17 rfl)  (fun h33 E33 => ?_)
  refine g_aload_n (pc := 36) X (j := 0) (i := 0) (q := 0) (x := a0) rfl rfl (dl_at t_X4_init 18 rfl) ?_
  have k37 := kx E33 (by decide) k33
  refine r_callV (pc := 37) X (fun _ hv => s_X4_clear k37 hv) cw_code q466 q358 (in_Vk X (As := []) kX4 k37 (Or.inl q463) q465 qs0 cw_code q466 ⟨by decide, by decide⟩ rfl (dl_at t_X4_init 19 rfl)) (dl_at t_X4_init 19 rfl) (cat24 (st := []) (Nat.le_of_ble_eq_true rfl)) (Nat.le_of_ble_eq_true rfl) (Nat.le_of_ble_eq_true rfl) fun h37 E37 => ?_
  exact g_vret (pc := 40) X (v := 0) rfl rfl (dl_at t_X4_init 20 rfl)
def k_X5_init : List (Nat × Instr × Nat) := [(0, .aload_n 0, 1), (1, .invokespecial 1, 3), (4, .aload_n 0, 1), (5, .iload_n 1, 1), (6, .newarray .byte, 2), (8, .putfield 7, 3), (11, .return_, 1)]
theorem t_X5_init : ∀ q ∈ k_X5_init, decode cX5_init q.1 = .ok q.2 := dl_all (by decide +kernel)
noncomputable def m_X5_init (a0 a1 : Int) (h : Hp) : Option (Hp) :=
  al h 82 a1 fun a6 h6 =>
  pt h6 a0 0 a6 fun h8 =>
  some h8
theorem s_X5_init {l : Launch} [NoTr l] {D : SD} {a0 a1 : Int} {h : Hp} (hk : h a0 (-2) = 80) (r1 : r32 a1) {r : Hp} (hm : m_X5_init a0 a1 h = some r) : Sim l D yX5_init (Cond.code yX5_init cX5_init 2 (Option.none : Option Jvm.ClassFile.FieldType)) 1 36 [rv D a0, iv a1] h 0 ((0, 0), r) := by
  refine Sim.of (fin := fun (v : Hp) => ((0, 0), v)) (lsE := [(0, rv D a0), (1, iv a1)]) hm rfl cwS_code (la_r (la_i la_n)) (ll_r (ll_i ll_n)) ?_
  intro p e s m below meth c X hcw hmm hcc hnm hname
  unfold m_X5_init
  refine g_aload_n (pc := 0) X (j := 0) (i := 0) (q := 0) (x := a0) rfl rfl (dl_at t_X5_init 0 rfl) ?_
  refine r_oinitK (pc := 1) X hk (by decide) q498 q406 q407 (Nat.le_of_ble_eq_true rfl) (Nat.le_trans (Nat.add_le_add_right (cat24 (st := []) (Nat.le_of_ble_eq_true rfl)) 12) (Nat.le_of_ble_eq_true rfl)) (dl_at t_X5_init 1 rfl) ?_
  refine g_aload_n (pc := 4) X (j := 0) (i := 0) (q := 0) (x := a0) rfl rfl (dl_at t_X5_init 2 rfl) ?_
  refine g_iload_n (pc := 5) X (j := 1) (i := 1) (q := 1) (x := a1) rfl rfl (dl_at t_X5_init 3 rfl) ?_
  refine r_newa (pc := 6) X 2 5 (Nat.le_of_ble_eq_true rfl) (Nat.le_of_ble_eq_true rfl) rfl q449 r1 rfl (dl_at t_X5_init 4 rfl) fun a6 h6 p6 k6 l6 E6 => ?_
  have k8 := kx E6 (by decide) hk
  refine r_putrF (pc := 8) X hname fX5_0 k8 q499 rfl rfl (dl_at t_X5_init 5 rfl)  (fun h8 E8 => ?_)
  exact g_vret (pc := 11) X (v := 0) rfl rfl (dl_at t_X5_init 6 rfl)
def k_X3_init : List (Nat × Instr × Nat) := [(0, .aload_n 0, 1), (1, .invokespecial 5, 3), (4, .aload_n 0, 1), (5, .new 11, 3), (8, .dup, 1), (9, .sipush 4800, 3), (12, .invokespecial 13, 3), (15, .putfield 16, 3), (18, .aload_n 0, 1), (19, .new 11, 3), (22, .dup, 1), (23, .bipush 12, 2), (25, .invokespecial 13, 3), (28, .putfield 20, 3), (31, .aload_n 0, 1), (32, .new 23, 3), (35, .dup, 1), (36, .sipush 16384, 3), (39, .invokespecial 25, 3), (42, .putfield 26, 3), (45, .aload_n 0, 1), (46, .sipush 960, 3), (49, .newarray .int, 2), (51, .putfield 30, 3), (54, .aload_n 0, 1), (55, .sipush 960, 3), (58, .newarray .int, 2), (60, .putfield 34, 3), (63, .aload_n 0, 1), (64, .sipush 961, 3), (67, .newarray .int, 2), (69, .putfield 37, 3), (72, .aload_n 0, 1), (73, .sipush 3840, 3), (76, .newarray .int, 2), (78, .putfield 40, 3), (81, .aload_n 0, 1), (82, .sipush 3840, 3), (85, .newarray .int, 2), (87, .putfield 43, 3), (90, .aload_n 0, 1), (91, .sipush 3840, 3), (94, .newarray .int, 2), (96, .putfield 46, 3), (99, .aload_n 0, 1), (100, .sipush 3840, 3), (103, .newarray .int, 2), (105, .putfield 49, 3), (108, .aload_n 0, 1), (109, .bipush 121, 2), (111, .newarray .int, 2), (113, .putfield 52, 3), (116, .aload_n 0, 1), (117, .bipush 120, 2), (119, .newarray .int, 2), (121, .putfield 55, 3), (124, .aload_n 0, 1), (125, .bipush 120, 2), (127, .newarray .int, 2), (129, .putfield 58, 3), (132, .aload_n 0, 1), (133, .sipush 600, 3), (136, .newarray .int, 2), (138, .putfield 61, 3), (141, .aload_n 0, 1), (142, .sipush 600, 3), (145, .newarray .int, 2), (147, .putfield 64, 3), (150, .aload_n 0, 1), (151, .sipush 600, 3), (154, .newarray .int, 2), (156, .putfield 67, 3), (159, .aload_n 0, 1), (160, .sipush 600, 3), (163, .newarray .boolean, 2), (165, .putfield 70, 3), (168, .aload_n 0, 1), (169, .bipush 121, 2), (171, .newarray .int, 2), (173, .putfield 74, 3), (176, .aload_n 0, 1), (177, .invokevirtual 77, 3), (180, .return_, 1)]
theorem t_X3_init : ∀ q ∈ k_X3_init, decode cX3_init q.1 = .ok q.2 := dl_all (by decide +kernel)
noncomputable def m_X3_init (a0 : Int) (h : Hp) : Option (Hp) :=
  al h 64 6 fun a5 h5 =>
  (m_X4_init a5 4800 h5).bind fun h12 =>
  pt h12 a0 0 a5 fun h15 =>
  al h15 64 6 fun a19 h19 =>
  (m_X4_init a19 12 h19).bind fun h25 =>
  pt h25 a0 1 a19 fun h28 =>
  al h28 80 2 fun a32 h32 =>
  (m_X5_init a32 16384 h32).bind fun h39 =>
  pt h39 a0 2 a32 fun h42 =>
  al h42 97 960 fun a49 h49 =>
  pt h49 a0 3 a49 fun h51 =>
  al h51 113 960 fun a58 h58 =>
  pt h58 a0 4 a58 fun h60 =>
  al h60 129 961 fun a67 h67 =>
  pt h67 a0 5 a67 fun h69 =>
  al h69 145 3840 fun a76 h76 =>
  pt h76 a0 7 a76 fun h78 =>
  al h78 161 3840 fun a85 h85 =>
  pt h85 a0 8 a85 fun h87 =>
  al h87 177 3840 fun a94 h94 =>
  pt h94 a0 9 a94 fun h96 =>
  al h96 193 3840 fun a103 h103 =>
  pt h103 a0 10 a103 fun h105 =>
  al h105 209 121 fun a111 h111 =>
  pt h111 a0 12 a111 fun h113 =>
  al h113 225 120 fun a119 h119 =>
  pt h119 a0 13 a119 fun h121 =>
  al h121 241 120 fun a127 h127 =>
  pt h127 a0 14 a127 fun h129 =>
  al h129 257 600 fun a136 h136 =>
  pt h136 a0 16 a136 fun h138 =>
  al h138 273 600 fun a145 h145 =>
  pt h145 a0 17 a145 fun h147 =>
  al h147 289 600 fun a154 h154 =>
  pt h154 a0 18 a154 fun h156 =>
  al h156 307 600 fun a163 h163 =>
  pt h163 a0 19 a163 fun h165 =>
  al h165 321 121 fun a171 h171 =>
  pt h171 a0 21 a171 fun h173 =>
  (m_X3_clear a0 h173).bind fun h177 =>
  some h177
theorem s_X3_init {l : Launch} [NoTr l] {D : SD} {a0 : Int} {h : Hp} (hk : h a0 (-2) = 48) {r : Hp} (hm : m_X3_init a0 h = some r) : Sim l D yX3_init (Cond.code yX3_init cX3_init 1 (Option.none : Option Jvm.ClassFile.FieldType)) 2 74 [rv D a0] h 0 ((0, 0), r) := by
  refine Sim.of (fin := fun (v : Hp) => ((0, 0), v)) (lsE := [(0, rv D a0)]) hm rfl cwS_code (la_r la_n) (ll_r ll_n) ?_
  intro p e s m below meth c X hcw hmm hcc hnm hname
  unfold m_X3_init
  refine g_aload_n (pc := 0) X (j := 0) (i := 0) (q := 0) (x := a0) rfl rfl (dl_at t_X3_init 0 rfl) ?_
  refine r_oinitK (pc := 1) X hk (by decide) q456 q406 q407 (Nat.le_of_ble_eq_true rfl) (Nat.le_trans (Nat.add_le_add_right (cat24 (st := []) (Nat.le_of_ble_eq_true rfl)) 12) (Nat.le_of_ble_eq_true rfl)) (dl_at t_X3_init 1 rfl) ?_
  refine g_aload_n (pc := 4) X (j := 0) (i := 0) (q := 0) (x := a0) rfl rfl (dl_at t_X3_init 2 rfl) ?_
  refine r_new (pc := 5) X kX4 q457 (dl_at t_X3_init 3 rfl) fun a5 h5 p5 k5 E5 => ?_
  refine g_dup (pc := 8) X rv_cat (dl_at t_X3_init 4 rfl) ?_
  refine g_sipush (pc := 9) X (n := 4800) rfl (dl_at t_X3_init 5 rfl) ?_
  refine r_callV (pc := 12) X (fun _ hv => s_X4_init k5 (r32_c rfl) hv) cw_code q461 q358 (in_I X (As := [iv 4800]) (Int.ne_of_gt p5) rfl (Or.inr ⟨_, nw_in q459 rfl⟩) q460 q461 ⟨by decide, by decide⟩ rfl (dl_at t_X3_init 6 rfl)) (dl_at t_X3_init 6 rfl) (cat24 (st := [rv D a5, rv D a0]) (Nat.le_of_ble_eq_true rfl)) (Nat.le_of_ble_eq_true rfl) (Nat.le_of_ble_eq_true rfl) fun h12 E12 => ?_
  have k15 := kx (E5.trans E12) (by decide) hk
  refine r_putrF (pc := 15) X hname fX3_0 k15 q522 rfl rfl (dl_at t_X3_init 7 rfl)  (fun h15 E15 => ?_)
  refine g_aload_n (pc := 18) X (j := 0) (i := 0) (q := 0) (x := a0) rfl rfl (dl_at t_X3_init 8 rfl) ?_
  refine r_new (pc := 19) X kX4 q457 (dl_at t_X3_init 9 rfl) fun a19 h19 p19 k19 E19 => ?_
  refine g_dup (pc := 22) X rv_cat (dl_at t_X3_init 10 rfl) ?_
  refine g_bipush (pc := 23) X (n := 12) rfl (dl_at t_X3_init 11 rfl) ?_
  refine r_callV (pc := 25) X (fun _ hv => s_X4_init k19 (r32_c rfl) hv) cw_code q461 q358 (in_I X (As := [iv 12]) (Int.ne_of_gt p19) rfl (Or.inr ⟨_, nw_in q459 rfl⟩) q460 q461 ⟨by decide, by decide⟩ rfl (dl_at t_X3_init 12 rfl)) (dl_at t_X3_init 12 rfl) (cat24 (st := [rv D a19, rv D a0]) (Nat.le_of_ble_eq_true rfl)) (Nat.le_of_ble_eq_true rfl) (Nat.le_of_ble_eq_true rfl) fun h25 E25 => ?_
  have k28 := kx (E15.trans (E19.trans E25)) (by decide) k15
  refine r_putrF (pc := 28) X hname fX3_1 k28 q524 rfl rfl (dl_at t_X3_init 13 rfl)  (fun h28 E28 => ?_)
  refine g_aload_n (pc := 31) X (j := 0) (i := 0) (q := 0) (x := a0) rfl rfl (dl_at t_X3_init 14 rfl) ?_
  refine r_new (pc := 32) X kX5 q493 (dl_at t_X3_init 15 rfl) fun a32 h32 p32 k32 E32 => ?_
  refine g_dup (pc := 35) X rv_cat (dl_at t_X3_init 16 rfl) ?_
  refine g_sipush (pc := 36) X (n := 16384) rfl (dl_at t_X3_init 17 rfl) ?_
  refine r_callV (pc := 39) X (fun _ hv => s_X5_init k32 (r32_c rfl) hv) cw_code q497 q359 (in_I X (As := [iv 16384]) (Int.ne_of_gt p32) rfl (Or.inr ⟨_, nw_in q495 rfl⟩) q496 q497 ⟨by decide, by decide⟩ rfl (dl_at t_X3_init 18 rfl)) (dl_at t_X3_init 18 rfl) (cat24 (st := [rv D a32, rv D a0]) (Nat.le_of_ble_eq_true rfl)) (Nat.le_of_ble_eq_true rfl) (Nat.le_of_ble_eq_true rfl) fun h39 E39 => ?_
  have k42 := kx (E28.trans (E32.trans E39)) (by decide) k28
  refine r_putrF (pc := 42) X hname fX3_2 k42 q525 rfl rfl (dl_at t_X3_init 19 rfl)  (fun h42 E42 => ?_)
  refine g_aload_n (pc := 45) X (j := 0) (i := 0) (q := 0) (x := a0) rfl rfl (dl_at t_X3_init 20 rfl) ?_
  refine g_sipush (pc := 46) X (n := 960) rfl (dl_at t_X3_init 21 rfl) ?_
  refine r_newa (pc := 49) X 1 6 (Nat.le_of_ble_eq_true rfl) (Nat.le_of_ble_eq_true rfl) rfl q492 (r32_c rfl) rfl (dl_at t_X3_init 22 rfl) fun a49 h49 p49 k49 l49 E49 => ?_
  have k51 := kx (E42.trans E49) (by decide) k42
  refine r_putrF (pc := 51) X hname fX3_3 k51 q527 rfl rfl (dl_at t_X3_init 23 rfl)  (fun h51 E51 => ?_)
  refine g_aload_n (pc := 54) X (j := 0) (i := 0) (q := 0) (x := a0) rfl rfl (dl_at t_X3_init 24 rfl) ?_
  refine g_sipush (pc := 55) X (n := 960) rfl (dl_at t_X3_init 25 rfl) ?_
  refine r_newa (pc := 58) X 1 7 (Nat.le_of_ble_eq_true rfl) (Nat.le_of_ble_eq_true rfl) rfl q492 (r32_c rfl) rfl (dl_at t_X3_init 26 rfl) fun a58 h58 p58 k58 l58 E58 => ?_
  have k60 := kx (E51.trans E58) (by decide) k51
  refine r_putrF (pc := 60) X hname fX3_4 k60 q529 rfl rfl (dl_at t_X3_init 27 rfl)  (fun h60 E60 => ?_)
  refine g_aload_n (pc := 63) X (j := 0) (i := 0) (q := 0) (x := a0) rfl rfl (dl_at t_X3_init 28 rfl) ?_
  refine g_sipush (pc := 64) X (n := 961) rfl (dl_at t_X3_init 29 rfl) ?_
  refine r_newa (pc := 67) X 1 8 (Nat.le_of_ble_eq_true rfl) (Nat.le_of_ble_eq_true rfl) rfl q492 (r32_c rfl) rfl (dl_at t_X3_init 30 rfl) fun a67 h67 p67 k67 l67 E67 => ?_
  have k69 := kx (E60.trans E67) (by decide) k60
  refine r_putrF (pc := 69) X hname fX3_5 k69 q531 rfl rfl (dl_at t_X3_init 31 rfl)  (fun h69 E69 => ?_)
  refine g_aload_n (pc := 72) X (j := 0) (i := 0) (q := 0) (x := a0) rfl rfl (dl_at t_X3_init 32 rfl) ?_
  refine g_sipush (pc := 73) X (n := 3840) rfl (dl_at t_X3_init 33 rfl) ?_
  refine r_newa (pc := 76) X 1 9 (Nat.le_of_ble_eq_true rfl) (Nat.le_of_ble_eq_true rfl) rfl q492 (r32_c rfl) rfl (dl_at t_X3_init 34 rfl) fun a76 h76 p76 k76 l76 E76 => ?_
  have k78 := kx (E69.trans E76) (by decide) k69
  refine r_putrF (pc := 78) X hname fX3_7 k78 q534 rfl rfl (dl_at t_X3_init 35 rfl)  (fun h78 E78 => ?_)
  refine g_aload_n (pc := 81) X (j := 0) (i := 0) (q := 0) (x := a0) rfl rfl (dl_at t_X3_init 36 rfl) ?_
  refine g_sipush (pc := 82) X (n := 3840) rfl (dl_at t_X3_init 37 rfl) ?_
  refine r_newa (pc := 85) X 1 10 (Nat.le_of_ble_eq_true rfl) (Nat.le_of_ble_eq_true rfl) rfl q492 (r32_c rfl) rfl (dl_at t_X3_init 38 rfl) fun a85 h85 p85 k85 l85 E85 => ?_
  have k87 := kx (E78.trans E85) (by decide) k78
  refine r_putrF (pc := 87) X hname fX3_8 k87 q536 rfl rfl (dl_at t_X3_init 39 rfl)  (fun h87 E87 => ?_)
  refine g_aload_n (pc := 90) X (j := 0) (i := 0) (q := 0) (x := a0) rfl rfl (dl_at t_X3_init 40 rfl) ?_
  refine g_sipush (pc := 91) X (n := 3840) rfl (dl_at t_X3_init 41 rfl) ?_
  refine r_newa (pc := 94) X 1 11 (Nat.le_of_ble_eq_true rfl) (Nat.le_of_ble_eq_true rfl) rfl q492 (r32_c rfl) rfl (dl_at t_X3_init 42 rfl) fun a94 h94 p94 k94 l94 E94 => ?_
  have k96 := kx (E87.trans E94) (by decide) k87
  refine r_putrF (pc := 96) X hname fX3_9 k96 q538 rfl rfl (dl_at t_X3_init 43 rfl)  (fun h96 E96 => ?_)
  refine g_aload_n (pc := 99) X (j := 0) (i := 0) (q := 0) (x := a0) rfl rfl (dl_at t_X3_init 44 rfl) ?_
  refine g_sipush (pc := 100) X (n := 3840) rfl (dl_at t_X3_init 45 rfl) ?_
  refine r_newa (pc := 103) X 1 12 (Nat.le_of_ble_eq_true rfl) (Nat.le_of_ble_eq_true rfl) rfl q492 (r32_c rfl) rfl (dl_at t_X3_init 46 rfl) fun a103 h103 p103 k103 l103 E103 => ?_
  have k105 := kx (E96.trans E103) (by decide) k96
  refine r_putrF (pc := 105) X hname fX3_10 k105 q540 rfl rfl (dl_at t_X3_init 47 rfl)  (fun h105 E105 => ?_)
  refine g_aload_n (pc := 108) X (j := 0) (i := 0) (q := 0) (x := a0) rfl rfl (dl_at t_X3_init 48 rfl) ?_
  refine g_bipush (pc := 109) X (n := 121) rfl (dl_at t_X3_init 49 rfl) ?_
  refine r_newa (pc := 111) X 1 13 (Nat.le_of_ble_eq_true rfl) (Nat.le_of_ble_eq_true rfl) rfl q492 (r32_c rfl) rfl (dl_at t_X3_init 50 rfl) fun a111 h111 p111 k111 l111 E111 => ?_
  have k113 := kx (E105.trans E111) (by decide) k105
  refine r_putrF (pc := 113) X hname fX3_12 k113 q543 rfl rfl (dl_at t_X3_init 51 rfl)  (fun h113 E113 => ?_)
  refine g_aload_n (pc := 116) X (j := 0) (i := 0) (q := 0) (x := a0) rfl rfl (dl_at t_X3_init 52 rfl) ?_
  refine g_bipush (pc := 117) X (n := 120) rfl (dl_at t_X3_init 53 rfl) ?_
  refine r_newa (pc := 119) X 1 14 (Nat.le_of_ble_eq_true rfl) (Nat.le_of_ble_eq_true rfl) rfl q492 (r32_c rfl) rfl (dl_at t_X3_init 54 rfl) fun a119 h119 p119 k119 l119 E119 => ?_
  have k121 := kx (E113.trans E119) (by decide) k113
  refine r_putrF (pc := 121) X hname fX3_13 k121 q545 rfl rfl (dl_at t_X3_init 55 rfl)  (fun h121 E121 => ?_)
  refine g_aload_n (pc := 124) X (j := 0) (i := 0) (q := 0) (x := a0) rfl rfl (dl_at t_X3_init 56 rfl) ?_
  refine g_bipush (pc := 125) X (n := 120) rfl (dl_at t_X3_init 57 rfl) ?_
  refine r_newa (pc := 127) X 1 15 (Nat.le_of_ble_eq_true rfl) (Nat.le_of_ble_eq_true rfl) rfl q492 (r32_c rfl) rfl (dl_at t_X3_init 58 rfl) fun a127 h127 p127 k127 l127 E127 => ?_
  have k129 := kx (E121.trans E127) (by decide) k121
  refine r_putrF (pc := 129) X hname fX3_14 k129 q547 rfl rfl (dl_at t_X3_init 59 rfl)  (fun h129 E129 => ?_)
  refine g_aload_n (pc := 132) X (j := 0) (i := 0) (q := 0) (x := a0) rfl rfl (dl_at t_X3_init 60 rfl) ?_
  refine g_sipush (pc := 133) X (n := 600) rfl (dl_at t_X3_init 61 rfl) ?_
  refine r_newa (pc := 136) X 1 16 (Nat.le_of_ble_eq_true rfl) (Nat.le_of_ble_eq_true rfl) rfl q492 (r32_c rfl) rfl (dl_at t_X3_init 62 rfl) fun a136 h136 p136 k136 l136 E136 => ?_
  have k138 := kx (E129.trans E136) (by decide) k129
  refine r_putrF (pc := 138) X hname fX3_16 k138 q552 rfl rfl (dl_at t_X3_init 63 rfl)  (fun h138 E138 => ?_)
  refine g_aload_n (pc := 141) X (j := 0) (i := 0) (q := 0) (x := a0) rfl rfl (dl_at t_X3_init 64 rfl) ?_
  refine g_sipush (pc := 142) X (n := 600) rfl (dl_at t_X3_init 65 rfl) ?_
  refine r_newa (pc := 145) X 1 17 (Nat.le_of_ble_eq_true rfl) (Nat.le_of_ble_eq_true rfl) rfl q492 (r32_c rfl) rfl (dl_at t_X3_init 66 rfl) fun a145 h145 p145 k145 l145 E145 => ?_
  have k147 := kx (E138.trans E145) (by decide) k138
  refine r_putrF (pc := 147) X hname fX3_17 k147 q554 rfl rfl (dl_at t_X3_init 67 rfl)  (fun h147 E147 => ?_)
  refine g_aload_n (pc := 150) X (j := 0) (i := 0) (q := 0) (x := a0) rfl rfl (dl_at t_X3_init 68 rfl) ?_
  refine g_sipush (pc := 151) X (n := 600) rfl (dl_at t_X3_init 69 rfl) ?_
  refine r_newa (pc := 154) X 1 18 (Nat.le_of_ble_eq_true rfl) (Nat.le_of_ble_eq_true rfl) rfl q492 (r32_c rfl) rfl (dl_at t_X3_init 70 rfl) fun a154 h154 p154 k154 l154 E154 => ?_
  have k156 := kx (E147.trans E154) (by decide) k147
  refine r_putrF (pc := 156) X hname fX3_18 k156 q556 rfl rfl (dl_at t_X3_init 71 rfl)  (fun h156 E156 => ?_)
  refine g_aload_n (pc := 159) X (j := 0) (i := 0) (q := 0) (x := a0) rfl rfl (dl_at t_X3_init 72 rfl) ?_
  refine g_sipush (pc := 160) X (n := 600) rfl (dl_at t_X3_init 73 rfl) ?_
  refine r_newa (pc := 163) X 3 19 (Nat.le_of_ble_eq_true rfl) (Nat.le_of_ble_eq_true rfl) rfl q635 (r32_c rfl) rfl (dl_at t_X3_init 74 rfl) fun a163 h163 p163 k163 l163 E163 => ?_
  have k165 := kx (E156.trans E163) (by decide) k156
  refine r_putrF (pc := 165) X hname fX3_19 k165 q558 rfl rfl (dl_at t_X3_init 75 rfl)  (fun h165 E165 => ?_)
  refine g_aload_n (pc := 168) X (j := 0) (i := 0) (q := 0) (x := a0) rfl rfl (dl_at t_X3_init 76 rfl) ?_
  refine g_bipush (pc := 169) X (n := 121) rfl (dl_at t_X3_init 77 rfl) ?_
  refine r_newa (pc := 171) X 1 20 (Nat.le_of_ble_eq_true rfl) (Nat.le_of_ble_eq_true rfl) rfl q492 (r32_c rfl) rfl (dl_at t_X3_init 78 rfl) fun a171 h171 p171 k171 l171 E171 => ?_
  have k173 := kx (E165.trans E171) (by decide) k165
  refine r_putrF (pc := 173) X hname fX3_21 k173 q561 rfl rfl (dl_at t_X3_init 79 rfl)  (fun h173 E173 => ?_)
  refine g_aload_n (pc := 176) X (j := 0) (i := 0) (q := 0) (x := a0) rfl rfl (dl_at t_X3_init 80 rfl) ?_
  have k177 := kx E173 (by decide) k173
  refine r_callV (pc := 177) X (fun _ hv => s_X3_clear k177 hv) cw_code q518 q357 (in_Vk X (As := []) kX3 k177 (Or.inl q515) q517 qs1 cw_code q518 ⟨by decide, by decide⟩ rfl (dl_at t_X3_init 81 rfl)) (dl_at t_X3_init 81 rfl) (cat24 (st := []) (Nat.le_of_ble_eq_true rfl)) (Nat.le_of_ble_eq_true rfl) (Nat.le_of_ble_eq_true rfl) fun h177 E177 => ?_
  exact g_vret (pc := 180) X (v := 0) rfl rfl (dl_at t_X3_init 82 rfl)
def k_X6_init : List (Nat × Instr × Nat) := [(0, .aload_n 0, 1), (1, .invokespecial 3, 3), (4, .aload_n 0, 1), (5, .sipush 16384, 3), (8, .newarray .byte, 2), (10, .putfield 9, 3), (13, .aload_n 0, 1), (14, .new 15, 3), (17, .dup, 1), (18, .sipush 3500, 3), (21, .invokespecial 17, 3), (24, .putfield 20, 3), (27, .aload_n 0, 1), (28, .sipush 500, 3), (31, .newarray .int, 2), (33, .putfield 24, 3), (36, .aload_n 0, 1), (37, .sipush 500, 3), (40, .newarray .int, 2), (42, .putfield 28, 3), (45, .aload_n 0, 1), (46, .sipush 500, 3), (49, .newarray .int, 2), (51, .putfield 31, 3), (54, .aload_n 0, 1), (55, .sipush 500, 3), (58, .newarray .int, 2), (60, .putfield 34, 3), (63, .aload_n 0, 1), (64, .sipush 500, 3), (67, .newarray .int, 2), (69, .putfield 37, 3), (72, .aload_n 0, 1), (73, .sipush 500, 3), (76, .newarray .int, 2), (78, .putfield 40, 3), (81, .aload_n 0, 1), (82, .sipush 500, 3), (85, .newarray .int, 2), (87, .putfield 43, 3), (90, .aload_n 0, 1), (91, .sipush 500, 3), (94, .newarray .int, 2), (96, .putfield 46, 3), (99, .aload_n 0, 1), (100, .sipush 500, 3), (103, .newarray .boolean, 2), (105, .putfield 49, 3), (108, .aload_n 0, 1), (109, .sipush 501, 3), (112, .newarray .int, 2), (114, .putfield 53, 3), (117, .aload_n 0, 1), (118, .sipush 3000, 3), (121, .newarray .int, 2), (123, .putfield 56, 3), (126, .aload_n 0, 1), (127, .sipush 3000, 3), (130, .newarray .int, 2), (132, .putfield 59, 3), (135, .aload_n 0, 1), (136, .sipush 3000, 3), (139, .newarray .int, 2), (141, .putfield 62, 3), (144, .aload_n 0, 1), (145, .sipush 16385, 3), (148, .newarray .int, 2), (150, .putfield 65, 3), (153, .aload_n 0, 1), (154, .sipush 16385, 3), (157, .newarray .int, 2), (159, .putfield 68, 3), (162, .aload_n 0, 1), (163, .sipush 16385, 3), (166, .newarray .int, 2), (168, .putfield 71, 3), (171, .aload_n 0, 1), (172, .new 15, 3), (175, .dup, 1), (176, .bipush 40, 2), (178, .invokespecial 17, 3), (181, .putfield 74, 3), (184, .aload_n 0, 1), (185, .bipush 40, 2), (187, .newarray .int, 2), (189, .putfield 77, 3), (192, .aload_n 0, 1), (193, .bipush 40, 2), (195, .newarray .int, 2), (197, .putfield 80, 3), (200, .aload_n 0, 1), (201, .bipush 20, 2), (203, .newarray .int, 2), (205, .putfield 83, 3), (208, .return_, 1)]
theorem t_X6_init : ∀ q ∈ k_X6_init, decode cX6_init q.1 = .ok q.2 := dl_all (by decide +kernel)
noncomputable def m_X6_init (a0 : Int) (h : Hp) : Option (Hp) :=
  al h 338 16384 fun a8 h8 =>
  pt h8 a0 0 a8 fun h10 =>
  al h10 64 6 fun a14 h14 =>
  (m_X4_init a14 3500 h14).bind fun h21 =>
  pt h21 a0 3 a14 fun h24 =>
  al h24 353 500 fun a31 h31 =>
  pt h31 a0 5 a31 fun h33 =>
  al h33 369 500 fun a40 h40 =>
  pt h40 a0 6 a40 fun h42 =>
  al h42 385 500 fun a49 h49 =>
  pt h49 a0 7 a49 fun h51 =>
  al h51 401 500 fun a58 h58 =>
  pt h58 a0 8 a58 fun h60 =>
  al h60 417 500 fun a67 h67 =>
  pt h67 a0 9 a67 fun h69 =>
  al h69 433 500 fun a76 h76 =>
  pt h76 a0 10 a76 fun h78 =>
  al h78 449 500 fun a85 h85 =>
  pt h85 a0 11 a85 fun h87 =>
  al h87 465 500 fun a94 h94 =>
  pt h94 a0 12 a94 fun h96 =>
  al h96 483 500 fun a103 h103 =>
  pt h103 a0 13 a103 fun h105 =>
  al h105 497 501 fun a112 h112 =>
  pt h112 a0 14 a112 fun h114 =>
  al h114 513 3000 fun a121 h121 =>
  pt h121 a0 15 a121 fun h123 =>
  al h123 529 3000 fun a130 h130 =>
  pt h130 a0 16 a130 fun h132 =>
  al h132 545 3000 fun a139 h139 =>
  pt h139 a0 17 a139 fun h141 =>
  al h141 561 16385 fun a148 h148 =>
  pt h148 a0 21 a148 fun h150 =>
  al h150 577 16385 fun a157 h157 =>
  pt h157 a0 22 a157 fun h159 =>
  al h159 593 16385 fun a166 h166 =>
  pt h166 a0 23 a166 fun h168 =>
  al h168 64 6 fun a172 h172 =>
  (m_X4_init a172 40 h172).bind fun h178 =>
  pt h178 a0 25 a172 fun h181 =>
  al h181 609 40 fun a187 h187 =>
  pt h187 a0 26 a187 fun h189 =>
  al h189 625 40 fun a195 h195 =>
  pt h195 a0 27 a195 fun h197 =>
  al h197 641 20 fun a203 h203 =>
  pt h203 a0 28 a203 fun h205 =>
  some h205
theorem s_X6_init {l : Launch} [NoTr l] {D : SD} {a0 : Int} {h : Hp} (hk : h a0 (-2) = 96) {r : Hp} (hm : m_X6_init a0 h = some r) : Sim l D yX6_init (Cond.code yX6_init cX6_init 1 (Option.none : Option Jvm.ClassFile.FieldType)) 2 74 [rv D a0] h 0 ((0, 0), r) := by
  refine Sim.of (fin := fun (v : Hp) => ((0, 0), v)) (lsE := [(0, rv D a0)]) hm rfl cwS_code (la_r la_n) (ll_r ll_n) ?_
  intro p e s m below meth c X hcw hmm hcc hnm hname
  unfold m_X6_init
  refine g_aload_n (pc := 0) X (j := 0) (i := 0) (q := 0) (x := a0) rfl rfl (dl_at t_X6_init 0 rfl) ?_
  refine r_oinitK (pc := 1) X hk (by decide) q642 q406 q407 (Nat.le_of_ble_eq_true rfl) (Nat.le_trans (Nat.add_le_add_right (cat24 (st := []) (Nat.le_of_ble_eq_true rfl)) 12) (Nat.le_of_ble_eq_true rfl)) (dl_at t_X6_init 1 rfl) ?_
  refine g_aload_n (pc := 4) X (j := 0) (i := 0) (q := 0) (x := a0) rfl rfl (dl_at t_X6_init 2 rfl) ?_
  refine g_sipush (pc := 5) X (n := 16384) rfl (dl_at t_X6_init 3 rfl) ?_
  refine r_newa (pc := 8) X 2 21 (Nat.le_of_ble_eq_true rfl) (Nat.le_of_ble_eq_true rfl) rfl q449 (r32_c rfl) rfl (dl_at t_X6_init 4 rfl) fun a8 h8 p8 k8 l8 E8 => ?_
  have k10 := kx E8 (by decide) hk
  refine r_putrF (pc := 10) X hname fX6_0 k10 q645 rfl rfl (dl_at t_X6_init 5 rfl)  (fun h10 E10 => ?_)
  refine g_aload_n (pc := 13) X (j := 0) (i := 0) (q := 0) (x := a0) rfl rfl (dl_at t_X6_init 6 rfl) ?_
  refine r_new (pc := 14) X kX4 q643 (dl_at t_X6_init 7 rfl) fun a14 h14 p14 k14 E14 => ?_
  refine g_dup (pc := 17) X rv_cat (dl_at t_X6_init 8 rfl) ?_
  refine g_sipush (pc := 18) X (n := 3500) rfl (dl_at t_X6_init 9 rfl) ?_
  refine r_callV (pc := 21) X (fun _ hv => s_X4_init k14 (r32_c rfl) hv) cw_code q461 q358 (in_I X (As := [iv 3500]) (Int.ne_of_gt p14) rfl (Or.inr ⟨_, nw_in q644 rfl⟩) q460 q461 ⟨by decide, by decide⟩ rfl (dl_at t_X6_init 10 rfl)) (dl_at t_X6_init 10 rfl) (cat24 (st := [rv D a14, rv D a0]) (Nat.le_of_ble_eq_true rfl)) (Nat.le_of_ble_eq_true rfl) (Nat.le_of_ble_eq_true rfl) fun h21 E21 => ?_
  have k24 := kx (E10.trans (E14.trans E21)) (by decide) k10
  refine r_putrF (pc := 24) X hname fX6_3 k24 q652 rfl rfl (dl_at t_X6_init 11 rfl)  (fun h24 E24 => ?_)
  refine g_aload_n (pc := 27) X (j := 0) (i := 0) (q := 0) (x := a0) rfl rfl (dl_at t_X6_init 12 rfl) ?_
  refine g_sipush (pc := 28) X (n := 500) rfl (dl_at t_X6_init 13 rfl) ?_
  refine r_newa (pc := 31) X 1 22 (Nat.le_of_ble_eq_true rfl) (Nat.le_of_ble_eq_true rfl) rfl q492 (r32_c rfl) rfl (dl_at t_X6_init 14 rfl) fun a31 h31 p31 k31 l31 E31 => ?_
  have k33 := kx (E24.trans E31) (by decide) k24
  refine r_putrF (pc := 33) X hname fX6_5 k33 q657 rfl rfl (dl_at t_X6_init 15 rfl)  (fun h33 E33 => ?_)
  refine g_aload_n (pc := 36) X (j := 0) (i := 0) (q := 0) (x := a0) rfl rfl (dl_at t_X6_init 16 rfl) ?_
  refine g_sipush (pc := 37) X (n := 500) rfl (dl_at t_X6_init 17 rfl) ?_
  refine r_newa (pc := 40) X 1 23 (Nat.le_of_ble_eq_true rfl) (Nat.le_of_ble_eq_true rfl) rfl q492 (r32_c rfl) rfl (dl_at t_X6_init 18 rfl) fun a40 h40 p40 k40 l40 E40 => ?_
  have k42 := kx (E33.trans E40) (by decide) k33
  refine r_putrF (pc := 42) X hname fX6_6 k42 q659 rfl rfl (dl_at t_X6_init 19 rfl)  (fun h42 E42 => ?_)
  refine g_aload_n (pc := 45) X (j := 0) (i := 0) (q := 0) (x := a0) rfl rfl (dl_at t_X6_init 20 rfl) ?_
  refine g_sipush (pc := 46) X (n := 500) rfl (dl_at t_X6_init 21 rfl) ?_
  refine r_newa (pc := 49) X 1 24 (Nat.le_of_ble_eq_true rfl) (Nat.le_of_ble_eq_true rfl) rfl q492 (r32_c rfl) rfl (dl_at t_X6_init 22 rfl) fun a49 h49 p49 k49 l49 E49 => ?_
  have k51 := kx (E42.trans E49) (by decide) k42
  refine r_putrF (pc := 51) X hname fX6_7 k51 q663 rfl rfl (dl_at t_X6_init 23 rfl)  (fun h51 E51 => ?_)
  refine g_aload_n (pc := 54) X (j := 0) (i := 0) (q := 0) (x := a0) rfl rfl (dl_at t_X6_init 24 rfl) ?_
  refine g_sipush (pc := 55) X (n := 500) rfl (dl_at t_X6_init 25 rfl) ?_
  refine r_newa (pc := 58) X 1 25 (Nat.le_of_ble_eq_true rfl) (Nat.le_of_ble_eq_true rfl) rfl q492 (r32_c rfl) rfl (dl_at t_X6_init 26 rfl) fun a58 h58 p58 k58 l58 E58 => ?_
  have k60 := kx (E51.trans E58) (by decide) k51
  refine r_putrF (pc := 60) X hname fX6_8 k60 q665 rfl rfl (dl_at t_X6_init 27 rfl)  (fun h60 E60 => ?_)
  refine g_aload_n (pc := 63) X (j := 0) (i := 0) (q := 0) (x := a0) rfl rfl (dl_at t_X6_init 28 rfl) ?_
  refine g_sipush (pc := 64) X (n := 500) rfl (dl_at t_X6_init 29 rfl) ?_
  refine r_newa (pc := 67) X 1 26 (Nat.le_of_ble_eq_true rfl) (Nat.le_of_ble_eq_true rfl) rfl q492 (r32_c rfl) rfl (dl_at t_X6_init 30 rfl) fun a67 h67 p67 k67 l67 E67 => ?_
  have k69 := kx (E60.trans E67) (by decide) k60
  refine r_putrF (pc := 69) X hname fX6_9 k69 q667 rfl rfl (dl_at t_X6_init 31 rfl)  (fun h69 E69 => ?_)
  refine g_aload_n (pc := 72) X (j := 0) (i := 0) (q := 0) (x := a0) rfl rfl (dl_at t_X6_init 32 rfl) ?_
  refine g_sipush (pc := 73) X (n := 500) rfl (dl_at t_X6_init 33 rfl) ?_
  refine r_newa (pc := 76) X 1 27 (Nat.le_of_ble_eq_true rfl) (Nat.le_of_ble_eq_true rfl) rfl q492 (r32_c rfl) rfl (dl_at t_X6_init 34 rfl) fun a76 h76 p76 k76 l76 E76 => ?_
  have k78 := kx (E69.trans E76) (by decide) k69
  refine r_putrF (pc := 78) X hname fX6_10 k78 q669 rfl rfl (dl_at t_X6_init 35 rfl)  (fun h78 E78 => ?_)
  refine g_aload_n (pc := 81) X (j := 0) (i := 0) (q := 0) (x := a0) rfl rfl (dl_at t_X6_init 36 rfl) ?_
  refine g_sipush (pc := 82) X (n := 500) rfl (dl_at t_X6_init 37 rfl) ?_
  refine r_newa (pc := 85) X 1 28 (Nat.le_of_ble_eq_true rfl) (Nat.le_of_ble_eq_true rfl) rfl q492 (r32_c rfl) rfl (dl_at t_X6_init 38 rfl) fun a85 h85 p85 k85 l85 E85 => ?_
  have k87 := kx (E78.trans E85) (by decide) k78
  refine r_putrF (pc := 87) X hname fX6_11 k87 q671 rfl rfl (dl_at t_X6_init 39 rfl)  (fun h87 E87 => ?_)
  refine g_aload_n (pc := 90) X (j := 0) (i := 0) (q := 0) (x := a0) rfl rfl (dl_at t_X6_init 40 rfl) ?_
  refine g_sipush (pc := 91) X (n := 500) rfl (dl_at t_X6_init 41 rfl) ?_
  refine r_newa (pc := 94) X 1 29 (Nat.le_of_ble_eq_true rfl) (Nat.le_of_ble_eq_true rfl) rfl q492 (r32_c rfl) rfl (dl_at t_X6_init 42 rfl) fun a94 h94 p94 k94 l94 E94 => ?_
  have k96 := kx (E87.trans E94) (by decide) k87
  refine r_putrF (pc := 96) X hname fX6_12 k96 q673 rfl rfl (dl_at t_X6_init 43 rfl)  (fun h96 E96 => ?_)
  refine g_aload_n (pc := 99) X (j := 0) (i := 0) (q := 0) (x := a0) rfl rfl (dl_at t_X6_init 44 rfl) ?_
  refine g_sipush (pc := 100) X (n := 500) rfl (dl_at t_X6_init 45 rfl) ?_
  refine r_newa (pc := 103) X 3 30 (Nat.le_of_ble_eq_true rfl) (Nat.le_of_ble_eq_true rfl) rfl q635 (r32_c rfl) rfl (dl_at t_X6_init 46 rfl) fun a103 h103 p103 k103 l103 E103 => ?_
  have k105 := kx (E96.trans E103) (by decide) k96
  refine r_putrF (pc := 105) X hname fX6_13 k105 q674 rfl rfl (dl_at t_X6_init 47 rfl)  (fun h105 E105 => ?_)
  refine g_aload_n (pc := 108) X (j := 0) (i := 0) (q := 0) (x := a0) rfl rfl (dl_at t_X6_init 48 rfl) ?_
  refine g_sipush (pc := 109) X (n := 501) rfl (dl_at t_X6_init 49 rfl) ?_
  refine r_newa (pc := 112) X 1 31 (Nat.le_of_ble_eq_true rfl) (Nat.le_of_ble_eq_true rfl) rfl q492 (r32_c rfl) rfl (dl_at t_X6_init 50 rfl) fun a112 h112 p112 k112 l112 E112 => ?_
  have k114 := kx (E105.trans E112) (by decide) k105
  refine r_putrF (pc := 114) X hname fX6_14 k114 q676 rfl rfl (dl_at t_X6_init 51 rfl)  (fun h114 E114 => ?_)
  refine g_aload_n (pc := 117) X (j := 0) (i := 0) (q := 0) (x := a0) rfl rfl (dl_at t_X6_init 52 rfl) ?_
  refine g_sipush (pc := 118) X (n := 3000) rfl (dl_at t_X6_init 53 rfl) ?_
  refine r_newa (pc := 121) X 1 32 (Nat.le_of_ble_eq_true rfl) (Nat.le_of_ble_eq_true rfl) rfl q492 (r32_c rfl) rfl (dl_at t_X6_init 54 rfl) fun a121 h121 p121 k121 l121 E121 => ?_
  have k123 := kx (E114.trans E121) (by decide) k114
  refine r_putrF (pc := 123) X hname fX6_15 k123 q678 rfl rfl (dl_at t_X6_init 55 rfl)  (fun h123 E123 => ?_)
  refine g_aload_n (pc := 126) X (j := 0) (i := 0) (q := 0) (x := a0) rfl rfl (dl_at t_X6_init 56 rfl) ?_
  refine g_sipush (pc := 127) X (n := 3000) rfl (dl_at t_X6_init 57 rfl) ?_
  refine r_newa (pc := 130) X 1 33 (Nat.le_of_ble_eq_true rfl) (Nat.le_of_ble_eq_true rfl) rfl q492 (r32_c rfl) rfl (dl_at t_X6_init 58 rfl) fun a130 h130 p130 k130 l130 E130 => ?_
  have k132 := kx (E123.trans E130) (by decide) k123
  refine r_putrF (pc := 132) X hname fX6_16 k132 q679 rfl rfl (dl_at t_X6_init 59 rfl)  (fun h132 E132 => ?_)
  refine g_aload_n (pc := 135) X (j := 0) (i := 0) (q := 0) (x := a0) rfl rfl (dl_at t_X6_init 60 rfl) ?_
  refine g_sipush (pc := 136) X (n := 3000) rfl (dl_at t_X6_init 61 rfl) ?_
  refine r_newa (pc := 139) X 1 34 (Nat.le_of_ble_eq_true rfl) (Nat.le_of_ble_eq_true rfl) rfl q492 (r32_c rfl) rfl (dl_at t_X6_init 62 rfl) fun a139 h139 p139 k139 l139 E139 => ?_
  have k141 := kx (E132.trans E139) (by decide) k132
  refine r_putrF (pc := 141) X hname fX6_17 k141 q682 rfl rfl (dl_at t_X6_init 63 rfl)  (fun h141 E141 => ?_)
  refine g_aload_n (pc := 144) X (j := 0) (i := 0) (q := 0) (x := a0) rfl rfl (dl_at t_X6_init 64 rfl) ?_
  refine g_sipush (pc := 145) X (n := 16385) rfl (dl_at t_X6_init 65 rfl) ?_
  refine r_newa (pc := 148) X 1 35 (Nat.le_of_ble_eq_true rfl) (Nat.le_of_ble_eq_true rfl) rfl q492 (r32_c rfl) rfl (dl_at t_X6_init 66 rfl) fun a148 h148 p148 k148 l148 E148 => ?_
  have k150 := kx (E141.trans E148) (by decide) k141
  refine r_putrF (pc := 150) X hname fX6_21 k150 q690 rfl rfl (dl_at t_X6_init 67 rfl)  (fun h150 E150 => ?_)
  refine g_aload_n (pc := 153) X (j := 0) (i := 0) (q := 0) (x := a0) rfl rfl (dl_at t_X6_init 68 rfl) ?_
  refine g_sipush (pc := 154) X (n := 16385) rfl (dl_at t_X6_init 69 rfl) ?_
  refine r_newa (pc := 157) X 1 36 (Nat.le_of_ble_eq_true rfl) (Nat.le_of_ble_eq_true rfl) rfl q492 (r32_c rfl) rfl (dl_at t_X6_init 70 rfl) fun a157 h157 p157 k157 l157 E157 => ?_
  have k159 := kx (E150.trans E157) (by decide) k150
  refine r_putrF (pc := 159) X hname fX6_22 k159 q693 rfl rfl (dl_at t_X6_init 71 rfl)  (fun h159 E159 => ?_)
  refine g_aload_n (pc := 162) X (j := 0) (i := 0) (q := 0) (x := a0) rfl rfl (dl_at t_X6_init 72 rfl) ?_
  refine g_sipush (pc := 163) X (n := 16385) rfl (dl_at t_X6_init 73 rfl) ?_
  refine r_newa (pc := 166) X 1 37 (Nat.le_of_ble_eq_true rfl) (Nat.le_of_ble_eq_true rfl) rfl q492 (r32_c rfl) rfl (dl_at t_X6_init 74 rfl) fun a166 h166 p166 k166 l166 E166 => ?_
  have k168 := kx (E159.trans E166) (by decide) k159
  refine r_putrF (pc := 168) X hname fX6_23 k168 q696 rfl rfl (dl_at t_X6_init 75 rfl)  (fun h168 E168 => ?_)
  refine g_aload_n (pc := 171) X (j := 0) (i := 0) (q := 0) (x := a0) rfl rfl (dl_at t_X6_init 76 rfl) ?_
  refine r_new (pc := 172) X kX4 q643 (dl_at t_X6_init 77 rfl) fun a172 h172 p172 k172 E172 => ?_
  refine g_dup (pc := 175) X rv_cat (dl_at t_X6_init 78 rfl) ?_
  refine g_bipush (pc := 176) X (n := 40) rfl (dl_at t_X6_init 79 rfl) ?_
  refine r_callV (pc := 178) X (fun _ hv => s_X4_init k172 (r32_c rfl) hv) cw_code q461 q358 (in_I X (As := [iv 40]) (Int.ne_of_gt p172) rfl (Or.inr ⟨_, nw_in q644 rfl⟩) q460 q461 ⟨by decide, by decide⟩ rfl (dl_at t_X6_init 80 rfl)) (dl_at t_X6_init 80 rfl) (cat24 (st := [rv D a172, rv D a0]) (Nat.le_of_ble_eq_true rfl)) (Nat.le_of_ble_eq_true rfl) (Nat.le_of_ble_eq_true rfl) fun h178 E178 => ?_
  have k181 := kx (E168.trans (E172.trans E178)) (by decide) k168
  refine r_putrF (pc := 181) X hname fX6_25 k181 q702 rfl rfl (dl_at t_X6_init 81 rfl)  (fun h181 E181 => ?_)
  refine g_aload_n (pc := 184) X (j := 0) (i := 0) (q := 0) (x := a0) rfl rfl (dl_at t_X6_init 82 rfl) ?_
  refine g_bipush (pc := 185) X (n := 40) rfl (dl_at t_X6_init 83 rfl) ?_
  refine r_newa (pc := 187) X 1 38 (Nat.le_of_ble_eq_true rfl) (Nat.le_of_ble_eq_true rfl) rfl q492 (r32_c rfl) rfl (dl_at t_X6_init 84 rfl) fun a187 h187 p187 k187 l187 E187 => ?_
  have k189 := kx (E181.trans E187) (by decide) k181
  refine r_putrF (pc := 189) X hname fX6_26 k189 q704 rfl rfl (dl_at t_X6_init 85 rfl)  (fun h189 E189 => ?_)
  refine g_aload_n (pc := 192) X (j := 0) (i := 0) (q := 0) (x := a0) rfl rfl (dl_at t_X6_init 86 rfl) ?_
  refine g_bipush (pc := 193) X (n := 40) rfl (dl_at t_X6_init 87 rfl) ?_
  refine r_newa (pc := 195) X 1 39 (Nat.le_of_ble_eq_true rfl) (Nat.le_of_ble_eq_true rfl) rfl q492 (r32_c rfl) rfl (dl_at t_X6_init 88 rfl) fun a195 h195 p195 k195 l195 E195 => ?_
  have k197 := kx (E189.trans E195) (by decide) k189
  refine r_putrF (pc := 197) X hname fX6_27 k197 q705 rfl rfl (dl_at t_X6_init 89 rfl)  (fun h197 E197 => ?_)
  refine g_aload_n (pc := 200) X (j := 0) (i := 0) (q := 0) (x := a0) rfl rfl (dl_at t_X6_init 90 rfl) ?_
  refine g_bipush (pc := 201) X (n := 20) rfl (dl_at t_X6_init 91 rfl) ?_
  refine r_newa (pc := 203) X 1 40 (Nat.le_of_ble_eq_true rfl) (Nat.le_of_ble_eq_true rfl) rfl q492 (r32_c rfl) rfl (dl_at t_X6_init 92 rfl) fun a203 h203 p203 k203 l203 E203 => ?_
  have k205 := kx (E197.trans E203) (by decide) k197
  refine r_putrF (pc := 205) X hname fX6_28 k205 q706 rfl rfl (dl_at t_X6_init 93 rfl)  (fun h205 E205 => ?_)
  exact g_vret (pc := 208) X (v := 0) rfl rfl (dl_at t_X6_init 94 rfl)
def k_X7_init : List (Nat × Instr × Nat) := [(0, .aload_n 0, 1), (1, .invokespecial 3, 3), (4, .aload_n 0, 1), (5, .sipush 4800, 3), (8, .newarray .int, 2), (10, .putfield 11, 3), (13, .aload_n 0, 1), (14, .sipush 11000, 3), (17, .newarray .int, 2), (19, .putfield 17, 3), (22, .aload_n 0, 1), (23, .sipush 500, 3), (26, .newarray .int, 2), (28, .putfield 20, 3), (31, .aload_n 0, 1), (32, .sipush 500, 3), (35, .newarray .boolean, 2), (37, .putfield 23, 3), (40, .aload_n 0, 1), (41, .sipush 500, 3), (44, .newarray .boolean, 2), (46, .putfield 27, 3), (49, .aload_n 0, 1), (50, .sipush 500, 3), (53, .newarray .int, 2), (55, .putfield 30, 3), (58, .aload_n 0, 1), (59, .sipush 500, 3), (62, .newarray .int, 2), (64, .putfield 33, 3), (67, .aload_n 0, 1), (68, .sipush 500, 3), (71, .newarray .int, 2), (73, .putfield 36, 3), (76, .aload_n 0, 1), (77, .sipush 4000, 3), (80, .newarray .int, 2), (82, .putfield 39, 3), (85, .aload_n 0, 1), (86, .bipush 22, 2), (88, .newarray .int, 2), (90, .putfield 42, 3), (93, .aload_n 0, 1), (94, .bipush 22, 2), (96, .newarray .int, 2), (98, .putfield 45, 3), (101, .aload_n 0, 1), (102, .bipush 13, 2), (104, .newarray .int, 2), (106, .putfield 48, 3), (109, .aload_n 0, 1), (110, .sipush 500, 3), (113, .newarray .int, 2), (115, .putfield 51, 3), (118, .aload_n 0, 1), (119, .sipush 16385, 3), (122, .newarray .int, 2), (124, .putfield 54, 3), (127, .aload_n 0, 1), (128, .new 57, 3), (131, .dup, 1), (132, .bipush 32, 2), (134, .invokespecial 59, 3), (137, .putfield 62, 3), (140, .return_, 1)]
theorem t_X7_init : ∀ q ∈ k_X7_init, decode cX7_init q.1 = .ok q.2 := dl_all (by decide +kernel)
noncomputable def m_X7_init (a0 : Int) (h : Hp) : Option (Hp) :=
  al h 657 4800 fun a8 h8 =>
  pt h8 a0 3 a8 fun h10 =>
  al h10 673 11000 fun a17 h17 =>
  pt h17 a0 4 a17 fun h19 =>
  al h19 689 500 fun a26 h26 =>
  pt h26 a0 5 a26 fun h28 =>
  al h28 707 500 fun a35 h35 =>
  pt h35 a0 6 a35 fun h37 =>
  al h37 723 500 fun a44 h44 =>
  pt h44 a0 7 a44 fun h46 =>
  al h46 737 500 fun a53 h53 =>
  pt h53 a0 8 a53 fun h55 =>
  al h55 753 500 fun a62 h62 =>
  pt h62 a0 9 a62 fun h64 =>
  al h64 769 500 fun a71 h71 =>
  pt h71 a0 10 a71 fun h73 =>
  al h73 785 4000 fun a80 h80 =>
  pt h80 a0 11 a80 fun h82 =>
  al h82 801 22 fun a88 h88 =>
  pt h88 a0 13 a88 fun h90 =>
  al h90 817 22 fun a96 h96 =>
  pt h96 a0 14 a96 fun h98 =>
  al h98 833 13 fun a104 h104 =>
  pt h104 a0 15 a104 fun h106 =>
  al h106 849 500 fun a113 h113 =>
  pt h113 a0 16 a113 fun h115 =>
  al h115 865 16385 fun a122 h122 =>
  pt h122 a0 17 a122 fun h124 =>
  al h124 80 2 fun a128 h128 =>
  (m_X5_init a128 32 h128).bind fun h134 =>
  pt h134 a0 18 a128 fun h137 =>
  some h137
theorem s_X7_init {l : Launch} [NoTr l] {D : SD} {a0 : Int} {h : Hp} (hk : h a0 (-2) = 112) {r : Hp} (hm : m_X7_init a0 h = some r) : Sim l D yX7_init (Cond.code yX7_init cX7_init 1 (Option.none : Option Jvm.ClassFile.FieldType)) 2 73 [rv D a0] h 0 ((0, 0), r) := by
  refine Sim.of (fin := fun (v : Hp) => ((0, 0), v)) (lsE := [(0, rv D a0)]) hm rfl cwS_code (la_r la_n) (ll_r ll_n) ?_
  intro p e s m below meth c X hcw hmm hcc hnm hname
  unfold m_X7_init
  refine g_aload_n (pc := 0) X (j := 0) (i := 0) (q := 0) (x := a0) rfl rfl (dl_at t_X7_init 0 rfl) ?_
  refine r_oinitK (pc := 1) X hk (by decide) q775 q406 q407 (Nat.le_of_ble_eq_true rfl) (Nat.le_trans (Nat.add_le_add_right (cat24 (st := []) (Nat.le_of_ble_eq_true rfl)) 12) (Nat.le_of_ble_eq_true rfl)) (dl_at t_X7_init 1 rfl) ?_
  refine g_aload_n (pc := 4) X (j := 0) (i := 0) (q := 0) (x := a0) rfl rfl (dl_at t_X7_init 2 rfl) ?_
  refine g_sipush (pc := 5) X (n := 4800) rfl (dl_at t_X7_init 3 rfl) ?_
  refine r_newa (pc := 8) X 1 41 (Nat.le_of_ble_eq_true rfl) (Nat.le_of_ble_eq_true rfl) rfl q492 (r32_c rfl) rfl (dl_at t_X7_init 4 rfl) fun a8 h8 p8 k8 l8 E8 => ?_
  have k10 := kx E8 (by decide) hk
  refine r_putrF (pc := 10) X hname fX7_3 k10 q786 rfl rfl (dl_at t_X7_init 5 rfl)  (fun h10 E10 => ?_)
  refine g_aload_n (pc := 13) X (j := 0) (i := 0) (q := 0) (x := a0) rfl rfl (dl_at t_X7_init 6 rfl) ?_
  refine g_sipush (pc := 14) X (n := 11000) rfl (dl_at t_X7_init 7 rfl) ?_
  refine r_newa (pc := 17) X 1 42 (Nat.le_of_ble_eq_true rfl) (Nat.le_of_ble_eq_true rfl) rfl q492 (r32_c rfl) rfl (dl_at t_X7_init 8 rfl) fun a17 h17 p17 k17 l17 E17 => ?_
  have k19 := kx (E10.trans E17) (by decide) k10
  refine r_putrF (pc := 19) X hname fX7_4 k19 q787 rfl rfl (dl_at t_X7_init 9 rfl)  (fun h19 E19 => ?_)
  refine g_aload_n (pc := 22) X (j := 0) (i := 0) (q := 0) (x := a0) rfl rfl (dl_at t_X7_init 10 rfl) ?_
  refine g_sipush (pc := 23) X (n := 500) rfl (dl_at t_X7_init 11 rfl) ?_
  refine r_newa (pc := 26) X 1 43 (Nat.le_of_ble_eq_true rfl) (Nat.le_of_ble_eq_true rfl) rfl q492 (r32_c rfl) rfl (dl_at t_X7_init 12 rfl) fun a26 h26 p26 k26 l26 E26 => ?_
  have k28 := kx (E19.trans E26) (by decide) k19
  refine r_putrF (pc := 28) X hname fX7_5 k28 q788 rfl rfl (dl_at t_X7_init 13 rfl)  (fun h28 E28 => ?_)
  refine g_aload_n (pc := 31) X (j := 0) (i := 0) (q := 0) (x := a0) rfl rfl (dl_at t_X7_init 14 rfl) ?_
  refine g_sipush (pc := 32) X (n := 500) rfl (dl_at t_X7_init 15 rfl) ?_
  refine r_newa (pc := 35) X 3 44 (Nat.le_of_ble_eq_true rfl) (Nat.le_of_ble_eq_true rfl) rfl q635 (r32_c rfl) rfl (dl_at t_X7_init 16 rfl) fun a35 h35 p35 k35 l35 E35 => ?_
  have k37 := kx (E28.trans E35) (by decide) k28
  refine r_putrF (pc := 37) X hname fX7_6 k37 q789 rfl rfl (dl_at t_X7_init 17 rfl)  (fun h37 E37 => ?_)
  refine g_aload_n (pc := 40) X (j := 0) (i := 0) (q := 0) (x := a0) rfl rfl (dl_at t_X7_init 18 rfl) ?_
  refine g_sipush (pc := 41) X (n := 500) rfl (dl_at t_X7_init 19 rfl) ?_
  refine r_newa (pc := 44) X 3 45 (Nat.le_of_ble_eq_true rfl) (Nat.le_of_ble_eq_true rfl) rfl q635 (r32_c rfl) rfl (dl_at t_X7_init 20 rfl) fun a44 h44 p44 k44 l44 E44 => ?_
  have k46 := kx (E37.trans E44) (by decide) k37
  refine r_putrF (pc := 46) X hname fX7_7 k46 q792 rfl rfl (dl_at t_X7_init 21 rfl)  (fun h46 E46 => ?_)
  refine g_aload_n (pc := 49) X (j := 0) (i := 0) (q := 0) (x := a0) rfl rfl (dl_at t_X7_init 22 rfl) ?_
  refine g_sipush (pc := 50) X (n := 500) rfl (dl_at t_X7_init 23 rfl) ?_
  refine r_newa (pc := 53) X 1 46 (Nat.le_of_ble_eq_true rfl) (Nat.le_of_ble_eq_true rfl) rfl q492 (r32_c rfl) rfl (dl_at t_X7_init 24 rfl) fun a53 h53 p53 k53 l53 E53 => ?_
  have k55 := kx (E46.trans E53) (by decide) k46
  refine r_putrF (pc := 55) X hname fX7_8 k55 q796 rfl rfl (dl_at t_X7_init 25 rfl)  (fun h55 E55 => ?_)
  refine g_aload_n (pc := 58) X (j := 0) (i := 0) (q := 0) (x := a0) rfl rfl (dl_at t_X7_init 26 rfl) ?_
  refine g_sipush (pc := 59) X (n := 500) rfl (dl_at t_X7_init 27 rfl) ?_
  refine r_newa (pc := 62) X 1 47 (Nat.le_of_ble_eq_true rfl) (Nat.le_of_ble_eq_true rfl) rfl q492 (r32_c rfl) rfl (dl_at t_X7_init 28 rfl) fun a62 h62 p62 k62 l62 E62 => ?_
  have k64 := kx (E55.trans E62) (by decide) k55
  refine r_putrF (pc := 64) X hname fX7_9 k64 q799 rfl rfl (dl_at t_X7_init 29 rfl)  (fun h64 E64 => ?_)
  refine g_aload_n (pc := 67) X (j := 0) (i := 0) (q := 0) (x := a0) rfl rfl (dl_at t_X7_init 30 rfl) ?_
  refine g_sipush (pc := 68) X (n := 500) rfl (dl_at t_X7_init 31 rfl) ?_
  refine r_newa (pc := 71) X 1 48 (Nat.le_of_ble_eq_true rfl) (Nat.le_of_ble_eq_true rfl) rfl q492 (r32_c rfl) rfl (dl_at t_X7_init 32 rfl) fun a71 h71 p71 k71 l71 E71 => ?_
  have k73 := kx (E64.trans E71) (by decide) k64
  refine r_putrF (pc := 73) X hname fX7_10 k73 q801 rfl rfl (dl_at t_X7_init 33 rfl)  (fun h73 E73 => ?_)
  refine g_aload_n (pc := 76) X (j := 0) (i := 0) (q := 0) (x := a0) rfl rfl (dl_at t_X7_init 34 rfl) ?_
  refine g_sipush (pc := 77) X (n := 4000) rfl (dl_at t_X7_init 35 rfl) ?_
  refine r_newa (pc := 80) X 1 49 (Nat.le_of_ble_eq_true rfl) (Nat.le_of_ble_eq_true rfl) rfl q492 (r32_c rfl) rfl (dl_at t_X7_init 36 rfl) fun a80 h80 p80 k80 l80 E80 => ?_
  have k82 := kx (E73.trans E80) (by decide) k73
  refine r_putrF (pc := 82) X hname fX7_11 k82 q802 rfl rfl (dl_at t_X7_init 37 rfl)  (fun h82 E82 => ?_)
  refine g_aload_n (pc := 85) X (j := 0) (i := 0) (q := 0) (x := a0) rfl rfl (dl_at t_X7_init 38 rfl) ?_
  refine g_bipush (pc := 86) X (n := 22) rfl (dl_at t_X7_init 39 rfl) ?_
  refine r_newa (pc := 88) X 1 50 (Nat.le_of_ble_eq_true rfl) (Nat.le_of_ble_eq_true rfl) rfl q492 (r32_c rfl) rfl (dl_at t_X7_init 40 rfl) fun a88 h88 p88 k88 l88 E88 => ?_
  have k90 := kx (E82.trans E88) (by decide) k82
  refine r_putrF (pc := 90) X hname fX7_13 k90 q804 rfl rfl (dl_at t_X7_init 41 rfl)  (fun h90 E90 => ?_)
  refine g_aload_n (pc := 93) X (j := 0) (i := 0) (q := 0) (x := a0) rfl rfl (dl_at t_X7_init 42 rfl) ?_
  refine g_bipush (pc := 94) X (n := 22) rfl (dl_at t_X7_init 43 rfl) ?_
  refine r_newa (pc := 96) X 1 51 (Nat.le_of_ble_eq_true rfl) (Nat.le_of_ble_eq_true rfl) rfl q492 (r32_c rfl) rfl (dl_at t_X7_init 44 rfl) fun a96 h96 p96 k96 l96 E96 => ?_
  have k98 := kx (E90.trans E96) (by decide) k90
  refine r_putrF (pc := 98) X hname fX7_14 k98 q805 rfl rfl (dl_at t_X7_init 45 rfl)  (fun h98 E98 => ?_)
  refine g_aload_n (pc := 101) X (j := 0) (i := 0) (q := 0) (x := a0) rfl rfl (dl_at t_X7_init 46 rfl) ?_
  refine g_bipush (pc := 102) X (n := 13) rfl (dl_at t_X7_init 47 rfl) ?_
  refine r_newa (pc := 104) X 1 52 (Nat.le_of_ble_eq_true rfl) (Nat.le_of_ble_eq_true rfl) rfl q492 (r32_c rfl) rfl (dl_at t_X7_init 48 rfl) fun a104 h104 p104 k104 l104 E104 => ?_
  have k106 := kx (E98.trans E104) (by decide) k98
  refine r_putrF (pc := 106) X hname fX7_15 k106 q806 rfl rfl (dl_at t_X7_init 49 rfl)  (fun h106 E106 => ?_)
  refine g_aload_n (pc := 109) X (j := 0) (i := 0) (q := 0) (x := a0) rfl rfl (dl_at t_X7_init 50 rfl) ?_
  refine g_sipush (pc := 110) X (n := 500) rfl (dl_at t_X7_init 51 rfl) ?_
  refine r_newa (pc := 113) X 1 53 (Nat.le_of_ble_eq_true rfl) (Nat.le_of_ble_eq_true rfl) rfl q492 (r32_c rfl) rfl (dl_at t_X7_init 52 rfl) fun a113 h113 p113 k113 l113 E113 => ?_
  have k115 := kx (E106.trans E113) (by decide) k106
  refine r_putrF (pc := 115) X hname fX7_16 k115 q807 rfl rfl (dl_at t_X7_init 53 rfl)  (fun h115 E115 => ?_)
  refine g_aload_n (pc := 118) X (j := 0) (i := 0) (q := 0) (x := a0) rfl rfl (dl_at t_X7_init 54 rfl) ?_
  refine g_sipush (pc := 119) X (n := 16385) rfl (dl_at t_X7_init 55 rfl) ?_
  refine r_newa (pc := 122) X 1 54 (Nat.le_of_ble_eq_true rfl) (Nat.le_of_ble_eq_true rfl) rfl q492 (r32_c rfl) rfl (dl_at t_X7_init 56 rfl) fun a122 h122 p122 k122 l122 E122 => ?_
  have k124 := kx (E115.trans E122) (by decide) k115
  refine r_putrF (pc := 124) X hname fX7_17 k124 q808 rfl rfl (dl_at t_X7_init 57 rfl)  (fun h124 E124 => ?_)
  refine g_aload_n (pc := 127) X (j := 0) (i := 0) (q := 0) (x := a0) rfl rfl (dl_at t_X7_init 58 rfl) ?_
  refine r_new (pc := 128) X kX5 q776 (dl_at t_X7_init 59 rfl) fun a128 h128 p128 k128 E128 => ?_
  refine g_dup (pc := 131) X rv_cat (dl_at t_X7_init 60 rfl) ?_
  refine g_bipush (pc := 132) X (n := 32) rfl (dl_at t_X7_init 61 rfl) ?_
  refine r_callV (pc := 134) X (fun _ hv => s_X5_init k128 (r32_c rfl) hv) cw_code q497 q359 (in_I X (As := [iv 32]) (Int.ne_of_gt p128) rfl (Or.inr ⟨_, nw_in q777 rfl⟩) q496 q497 ⟨by decide, by decide⟩ rfl (dl_at t_X7_init 62 rfl)) (dl_at t_X7_init 62 rfl) (cat24 (st := [rv D a128, rv D a0]) (Nat.le_of_ble_eq_true rfl)) (Nat.le_of_ble_eq_true rfl) (Nat.le_of_ble_eq_true rfl) fun h134 E134 => ?_
  have k137 := kx (E124.trans (E128.trans E134)) (by decide) k124
  refine r_putrF (pc := 137) X hname fX7_18 k137 q809 rfl rfl (dl_at t_X7_init 63 rfl)  (fun h137 E137 => ?_)
  exact g_vret (pc := 140) X (v := 0) rfl rfl (dl_at t_X7_init 64 rfl)
def k_X8_init : List (Nat × Instr × Nat) := [(0, .aload_n 0, 1), (1, .invokespecial 3, 3), (4, .aload_n 0, 1), (5, .sipush 128, 3), (8, .newarray .int, 2), (10, .putfield 9, 3), (13, .aload_n 0, 1), (14, .sipush 128, 3), (17, .newarray .boolean, 2), (19, .putfield 15, 3), (22, .aload_n 0, 1), (23, .sipush 16384, 3), (26, .newarray .int, 2), (28, .putfield 19, 3), (31, .aload_n 0, 1), (32, .sipush 16384, 3), (35, .newarray .int, 2), (37, .putfield 22, 3), (40, .aload_n 0, 1), (41, .invokevirtual 25, 3), (44, .return_, 1)]
theorem t_X8_init : ∀ q ∈ k_X8_init, decode cX8_init q.1 = .ok q.2 := dl_all (by decide +kernel)
noncomputable def m_X8_init (a0 : Int) (h : Hp) : Option (Hp) :=
  al h 881 128 fun a8 h8 =>
  pt h8 a0 0 a8 fun h10 =>
  al h10 899 128 fun a17 h17 =>
  pt h17 a0 1 a17 fun h19 =>
  al h19 913 16384 fun a26 h26 =>
  pt h26 a0 2 a26 fun h28 =>
  al h28 929 16384 fun a35 h35 =>
  pt h35 a0 3 a35 fun h37 =>
  (m_X8_clear a0 h37).bind fun h41 =>
  some h41
theorem s_X8_init {l : Launch} [NoTr l] {D : SD} {a0 : Int} {h : Hp} (hk : h a0 (-2) = 128) {r : Hp} (hm : m_X8_init a0 h = some r) : Sim l D yX8_init (Cond.code yX8_init cX8_init 1 (Option.none : Option Jvm.ClassFile.FieldType)) 1 37 [rv D a0] h 0 ((0, 0), r) := by
  refine Sim.of (fin := fun (v : Hp) => ((0, 0), v)) (lsE := [(0, rv D a0)]) hm rfl cwS_code (la_r la_n) (ll_r ll_n) ?_
  intro p e s m below meth c X hcw hmm hcc hnm hname
  unfold m_X8_init
  refine g_aload_n (pc := 0) X (j := 0) (i := 0) (q := 0) (x := a0) rfl rfl (dl_at t_X8_init 0 rfl) ?_
  refine r_oinitK (pc := 1) X hk (by decide) q861 q406 q407 (Nat.le_of_ble_eq_true rfl) (Nat.le_trans (Nat.add_le_add_right (cat24 (st := []) (Nat.le_of_ble_eq_true rfl)) 12) (Nat.le_of_ble_eq_true rfl)) (dl_at t_X8_init 1 rfl) ?_
  refine g_aload_n (pc := 4) X (j := 0) (i := 0) (q := 0) (x := a0) rfl rfl (dl_at t_X8_init 2 rfl) ?_
  refine g_sipush (pc := 5) X (n := 128) rfl (dl_at t_X8_init 3 rfl) ?_
  refine r_newa (pc := 8) X 1 55 (Nat.le_of_ble_eq_true rfl) (Nat.le_of_ble_eq_true rfl) rfl q492 (r32_c rfl) rfl (dl_at t_X8_init 4 rfl) fun a8 h8 p8 k8 l8 E8 => ?_
  have k10 := kx E8 (by decide) hk
  refine r_putrF (pc := 10) X hname fX8_0 k10 q866 rfl rfl (dl_at t_X8_init 5 rfl)  (fun h10 E10 => ?_)
  refine g_aload_n (pc := 13) X (j := 0) (i := 0) (q := 0) (x := a0) rfl rfl (dl_at t_X8_init 6 rfl) ?_
  refine g_sipush (pc := 14) X (n := 128) rfl (dl_at t_X8_init 7 rfl) ?_
  refine r_newa (pc := 17) X 3 56 (Nat.le_of_ble_eq_true rfl) (Nat.le_of_ble_eq_true rfl) rfl q635 (r32_c rfl) rfl (dl_at t_X8_init 8 rfl) fun a17 h17 p17 k17 l17 E17 => ?_
  have k19 := kx (E10.trans E17) (by decide) k10
  refine r_putrF (pc := 19) X hname fX8_1 k19 q867 rfl rfl (dl_at t_X8_init 9 rfl)  (fun h19 E19 => ?_)
  refine g_aload_n (pc := 22) X (j := 0) (i := 0) (q := 0) (x := a0) rfl rfl (dl_at t_X8_init 10 rfl) ?_
  refine g_sipush (pc := 23) X (n := 16384) rfl (dl_at t_X8_init 11 rfl) ?_
  refine r_newa (pc := 26) X 1 57 (Nat.le_of_ble_eq_true rfl) (Nat.le_of_ble_eq_true rfl) rfl q492 (r32_c rfl) rfl (dl_at t_X8_init 12 rfl) fun a26 h26 p26 k26 l26 E26 => ?_
  have k28 := kx (E19.trans E26) (by decide) k19
  refine r_putrF (pc := 28) X hname fX8_2 k28 q868 rfl rfl (dl_at t_X8_init 13 rfl)  (fun h28 E28 => ?_)
  refine g_aload_n (pc := 31) X (j := 0) (i := 0) (q := 0) (x := a0) rfl rfl (dl_at t_X8_init 14 rfl) ?_
  refine g_sipush (pc := 32) X (n := 16384) rfl (dl_at t_X8_init 15 rfl) ?_
  refine r_newa (pc := 35) X 1 58 (Nat.le_of_ble_eq_true rfl) (Nat.le_of_ble_eq_true rfl) rfl q492 (r32_c rfl) rfl (dl_at t_X8_init 16 rfl) fun a35 h35 p35 k35 l35 E35 => ?_
  have k37 := kx (E28.trans E35) (by decide) k28
  refine r_putrF (pc := 37) X hname fX8_3 k37 q869 rfl rfl (dl_at t_X8_init 17 rfl)  (fun h37 E37 => ?_)
  refine g_aload_n (pc := 40) X (j := 0) (i := 0) (q := 0) (x := a0) rfl rfl (dl_at t_X8_init 18 rfl) ?_
  have k41 := kx E37 (by decide) k37
  refine r_callV (pc := 41) X (fun _ hv => s_X8_clear k41 hv) cw_code q865 q362 (in_Vk X (As := []) kX8 k41 (Or.inl q862) q864 qs2 cw_code q865 ⟨by decide, by decide⟩ rfl (dl_at t_X8_init 19 rfl)) (dl_at t_X8_init 19 rfl) (cat24 (st := []) (Nat.le_of_ble_eq_true rfl)) (Nat.le_of_ble_eq_true rfl) (Nat.le_of_ble_eq_true rfl) fun h41 E41 => ?_
  exact g_vret (pc := 44) X (v := 0) rfl rfl (dl_at t_X8_init 20 rfl)
def k_X9_init : List (Nat × Instr × Nat) := [(0, .aload_n 0, 1), (1, .invokespecial 5, 3), (4, .aload_n 0, 1), (5, .iconst 2, 1), (6, .putfield 11, 3), (9, .aload_n 0, 1), (10, .iconst 3, 1), (11, .putfield 15, 3), (14, .aload_n 0, 1), (15, .sipush 4216, 3), (18, .newarray .int, 2), (20, .putfield 18, 3), (23, .aload_n 0, 1), (24, .sipush 4216, 3), (27, .newarray .int, 2), (29, .putfield 22, 3), (32, .aload_n 0, 1), (33, .sipush 4216, 3), (36, .newarray .int, 2), (38, .putfield 25, 3), (41, .aload_n 0, 1), (42, .sipush 4216, 3), (45, .newarray .int, 2), (47, .putfield 28, 3), (50, .aload_n 0, 1), (51, .sipush 300, 3), (54, .newarray .int, 2), (56, .putfield 31, 3), (59, .aload_n 0, 1), (60, .sipush 3900, 3), (63, .newarray .byte, 2), (65, .putfield 34, 3), (68, .aload_n 0, 1), (69, .sipush 1800, 3), (72, .newarray .byte, 2), (74, .putfield 38, 3), (77, .aload_n 0, 1), (78, .sipush 1860, 3), (81, .newarray .boolean, 2), (83, .putfield 41, 3), (86, .aload_n 0, 1), (87, .bipush 60, 2), (89, .newarray .int, 2), (91, .putfield 45, 3), (94, .aload_n 0, 1), (95, .bipush 30, 2), (97, .newarray .byte, 2), (99, .putfield 48, 3), (102, .aload_n 0, 1), (103, .bipush 31, 2), (105, .newarray .boolean, 2), (107, .putfield 51, 3), (110, .aload_n 0, 1), (111, .bipush 13, 2), (113, .newarray .byte, 2), (115, .putfield 54, 3), (118, .aload_n 0, 1), (119, .sipush 24001, 3), (122, .newarray .int, 2), (124, .putfield 57, 3), (127, .aload_n 0, 1), (128, .invokevirtual 60, 3), (131, .return_, 1)]
theorem t_X9_init : ∀ q ∈ k_X9_init, decode cX9_init q.1 = .ok q.2 := dl_all (by decide +kernel)
noncomputable def m_X9_init (a0 : Int) (h : Hp) : Option (Hp) :=
  pt h a0 0 2 fun h6 =>
  pt h6 a0 1 3 fun h11 =>
  al h11 945 4216 fun a18 h18 =>
  pt h18 a0 2 a18 fun h20 =>
  al h20 961 4216 fun a27 h27 =>
  pt h27 a0 3 a27 fun h29 =>
  al h29 977 4216 fun a36 h36 =>
  pt h36 a0 4 a36 fun h38 =>
  al h38 993 4216 fun a45 h45 =>
  pt h45 a0 5 a45 fun h47 =>
  al h47 1009 300 fun a54 h54 =>
  pt h54 a0 7 a54 fun h56 =>
  al h56 1026 3900 fun a63 h63 =>
  pt h63 a0 8 a63 fun h65 =>
  al h65 1042 1800 fun a72 h72 =>
  pt h72 a0 11 a72 fun h74 =>
  al h74 1059 1860 fun a81 h81 =>
  pt h81 a0 12 a81 fun h83 =>
  al h83 1073 60 fun a89 h89 =>
  pt h89 a0 13 a89 fun h91 =>
  al h91 1090 30 fun a97 h97 =>
  pt h97 a0 15 a97 fun h99 =>
  al h99 1107 31 fun a105 h105 =>
  pt h105 a0 16 a105 fun h107 =>
  al h107 1122 13 fun a113 h113 =>
  pt h113 a0 17 a113 fun h115 =>
  al h115 1137 24001 fun a122 h122 =>
  pt h122 a0 18 a122 fun h124 =>
  (m_X9_clear a0 h124).bind fun h128 =>
  some h128
theorem s_X9_init {l : Launch} [NoTr l] {D : SD} {a0 : Int} {h : Hp} (hk : h a0 (-2) = 144) {r : Hp} (hm : m_X9_init a0 h = some r) : Sim l D yX9_init (Cond.code yX9_init cX9_init 1 (Option.none : Option Jvm.ClassFile.FieldType)) 1 36 [rv D a0] h 0 ((0, 0), r) := by
  refine Sim.of (fin := fun (v : Hp) => ((0, 0), v)) (lsE := [(0, rv D a0)]) hm rfl cwS_code (la_r la_n) (ll_r ll_n) ?_
  intro p e s m below meth c X hcw hmm hcc hnm hname
  unfold m_X9_init
  refine g_aload_n (pc := 0) X (j := 0) (i := 0) (q := 0) (x := a0) rfl rfl (dl_at t_X9_init 0 rfl) ?_
  refine r_oinitK (pc := 1) X hk (by decide) q888 q406 q407 (Nat.le_of_ble_eq_true rfl) (Nat.le_trans (Nat.add_le_add_right (cat24 (st := []) (Nat.le_of_ble_eq_true rfl)) 12) (Nat.le_of_ble_eq_true rfl)) (dl_at t_X9_init 1 rfl) ?_
  refine g_aload_n (pc := 4) X (j := 0) (i := 0) (q := 0) (x := a0) rfl rfl (dl_at t_X9_init 2 rfl) ?_
  refine g_iconst (pc := 5) X (n := 2) (dl_at t_X9_init 3 rfl) ?_
  refine r_puti (pc := 6) X fX9_0 hk q893 rfl (dl_at t_X9_init 4 rfl) (r32_c rfl) (fun h6 E6 => ?_)
  refine g_aload_n (pc := 9) X (j := 0) (i := 0) (q := 0) (x := a0) rfl rfl (dl_at t_X9_init 5 rfl) ?_
  refine g_iconst (pc := 10) X (n := 3) (dl_at t_X9_init 6 rfl) ?_
  have k11 := kx E6 (by decide) hk
  refine r_puti (pc := 11) X fX9_1 k11 q894 rfl (dl_at t_X9_init 7 rfl) (r32_c rfl) (fun h11 E11 => ?_)
  refine g_aload_n (pc := 14) X (j := 0) (i := 0) (q := 0) (x := a0) rfl rfl (dl_at t_X9_init 8 rfl) ?_
  refine g_sipush (pc := 15) X (n := 4216) rfl (dl_at t_X9_init 9 rfl) ?_
  refine r_newa (pc := 18) X 1 59 (Nat.le_of_ble_eq_true rfl) (Nat.le_of_ble_eq_true rfl) rfl q492 (r32_c rfl) rfl (dl_at t_X9_init 10 rfl) fun a18 h18 p18 k18 l18 E18 => ?_
  have k20 := kx (E11.trans E18) (by decide) k11
  refine r_putrF (pc := 20) X hname fX9_2 k20 q895 rfl rfl (dl_at t_X9_init 11 rfl)  (fun h20 E20 => ?_)
  refine g_aload_n (pc := 23) X (j := 0) (i := 0) (q := 0) (x := a0) rfl rfl (dl_at t_X9_init 12 rfl) ?_
  refine g_sipush (pc := 24) X (n := 4216) rfl (dl_at t_X9_init 13 rfl) ?_
  refine r_newa (pc := 27) X 1 60 (Nat.le_of_ble_eq_true rfl) (Nat.le_of_ble_eq_true rfl) rfl q492 (r32_c rfl) rfl (dl_at t_X9_init 14 rfl) fun a27 h27 p27 k27 l27 E27 => ?_
  have k29 := kx (E20.trans E27) (by decide) k20
  refine r_putrF (pc := 29) X hname fX9_3 k29 q896 rfl rfl (dl_at t_X9_init 15 rfl)  (fun h29 E29 => ?_)
  refine g_aload_n (pc := 32) X (j := 0) (i := 0) (q := 0) (x := a0) rfl rfl (dl_at t_X9_init 16 rfl) ?_
  refine g_sipush (pc := 33) X (n := 4216) rfl (dl_at t_X9_init 17 rfl) ?_
  refine r_newa (pc := 36) X 1 61 (Nat.le_of_ble_eq_true rfl) (Nat.le_of_ble_eq_true rfl) rfl q492 (r32_c rfl) rfl (dl_at t_X9_init 18 rfl) fun a36 h36 p36 k36 l36 E36 => ?_
  have k38 := kx (E29.trans E36) (by decide) k29
  refine r_putrF (pc := 38) X hname fX9_4 k38 q897 rfl rfl (dl_at t_X9_init 19 rfl)  (fun h38 E38 => ?_)
  refine g_aload_n (pc := 41) X (j := 0) (i := 0) (q := 0) (x := a0) rfl rfl (dl_at t_X9_init 20 rfl) ?_
  refine g_sipush (pc := 42) X (n := 4216) rfl (dl_at t_X9_init 21 rfl) ?_
  refine r_newa (pc := 45) X 1 62 (Nat.le_of_ble_eq_true rfl) (Nat.le_of_ble_eq_true rfl) rfl q492 (r32_c rfl) rfl (dl_at t_X9_init 22 rfl) fun a45 h45 p45 k45 l45 E45 => ?_
  have k47 := kx (E38.trans E45) (by decide) k38
  refine r_putrF (pc := 47) X hname fX9_5 k47 q898 rfl rfl (dl_at t_X9_init 23 rfl)  (fun h47 E47 => ?_)
  refine g_aload_n (pc := 50) X (j := 0) (i := 0) (q := 0) (x := a0) rfl rfl (dl_at t_X9_init 24 rfl) ?_
  refine g_sipush (pc := 51) X (n := 300) rfl (dl_at t_X9_init 25 rfl) ?_
  refine r_newa (pc := 54) X 1 63 (Nat.le_of_ble_eq_true rfl) (Nat.le_of_ble_eq_true rfl) rfl q492 (r32_c rfl) rfl (dl_at t_X9_init 26 rfl) fun a54 h54 p54 k54 l54 E54 => ?_
  have k56 := kx (E47.trans E54) (by decide) k47
  refine r_putrF (pc := 56) X hname fX9_7 k56 q900 rfl rfl (dl_at t_X9_init 27 rfl)  (fun h56 E56 => ?_)
  refine g_aload_n (pc := 59) X (j := 0) (i := 0) (q := 0) (x := a0) rfl rfl (dl_at t_X9_init 28 rfl) ?_
  refine g_sipush (pc := 60) X (n := 3900) rfl (dl_at t_X9_init 29 rfl) ?_
  refine r_newa (pc := 63) X 2 64 (Nat.le_of_ble_eq_true rfl) (Nat.le_of_ble_eq_true rfl) rfl q449 (r32_c rfl) rfl (dl_at t_X9_init 30 rfl) fun a63 h63 p63 k63 l63 E63 => ?_
  have k65 := kx (E56.trans E63) (by decide) k56
  refine r_putrF (pc := 65) X hname fX9_8 k65 q901 rfl rfl (dl_at t_X9_init 31 rfl)  (fun h65 E65 => ?_)
  refine g_aload_n (pc := 68) X (j := 0) (i := 0) (q := 0) (x := a0) rfl rfl (dl_at t_X9_init 32 rfl) ?_
  refine g_sipush (pc := 69) X (n := 1800) rfl (dl_at t_X9_init 33 rfl) ?_
  refine r_newa (pc := 72) X 2 65 (Nat.le_of_ble_eq_true rfl) (Nat.le_of_ble_eq_true rfl) rfl q449 (r32_c rfl) rfl (dl_at t_X9_init 34 rfl) fun a72 h72 p72 k72 l72 E72 => ?_
  have k74 := kx (E65.trans E72) (by decide) k65
  refine r_putrF (pc := 74) X hname fX9_11 k74 q905 rfl rfl (dl_at t_X9_init 35 rfl)  (fun h74 E74 => ?_)
  refine g_aload_n (pc := 77) X (j := 0) (i := 0) (q := 0) (x := a0) rfl rfl (dl_at t_X9_init 36 rfl) ?_
  refine g_sipush (pc := 78) X (n := 1860) rfl (dl_at t_X9_init 37 rfl) ?_
  refine r_newa (pc := 81) X 3 66 (Nat.le_of_ble_eq_true rfl) (Nat.le_of_ble_eq_true rfl) rfl q635 (r32_c rfl) rfl (dl_at t_X9_init 38 rfl) fun a81 h81 p81 k81 l81 E81 => ?_
  have k83 := kx (E74.trans E81) (by decide) k74
  refine r_putrF (pc := 83) X hname fX9_12 k83 q906 rfl rfl (dl_at t_X9_init 39 rfl)  (fun h83 E83 => ?_)
  refine g_aload_n (pc := 86) X (j := 0) (i := 0) (q := 0) (x := a0) rfl rfl (dl_at t_X9_init 40 rfl) ?_
  refine g_bipush (pc := 87) X (n := 60) rfl (dl_at t_X9_init 41 rfl) ?_
  refine r_newa (pc := 89) X 1 67 (Nat.le_of_ble_eq_true rfl) (Nat.le_of_ble_eq_true rfl) rfl q492 (r32_c rfl) rfl (dl_at t_X9_init 42 rfl) fun a89 h89 p89 k89 l89 E89 => ?_
  have k91 := kx (E83.trans E89) (by decide) k83
  refine r_putrF (pc := 91) X hname fX9_13 k91 q907 rfl rfl (dl_at t_X9_init 43 rfl)  (fun h91 E91 => ?_)
  refine g_aload_n (pc := 94) X (j := 0) (i := 0) (q := 0) (x := a0) rfl rfl (dl_at t_X9_init 44 rfl) ?_
  refine g_bipush (pc := 95) X (n := 30) rfl (dl_at t_X9_init 45 rfl) ?_
  refine r_newa (pc := 97) X 2 68 (Nat.le_of_ble_eq_true rfl) (Nat.le_of_ble_eq_true rfl) rfl q449 (r32_c rfl) rfl (dl_at t_X9_init 46 rfl) fun a97 h97 p97 k97 l97 E97 => ?_
  have k99 := kx (E91.trans E97) (by decide) k91
  refine r_putrF (pc := 99) X hname fX9_15 k99 q910 rfl rfl (dl_at t_X9_init 47 rfl)  (fun h99 E99 => ?_)
  refine g_aload_n (pc := 102) X (j := 0) (i := 0) (q := 0) (x := a0) rfl rfl (dl_at t_X9_init 48 rfl) ?_
  refine g_bipush (pc := 103) X (n := 31) rfl (dl_at t_X9_init 49 rfl) ?_
  refine r_newa (pc := 105) X 3 69 (Nat.le_of_ble_eq_true rfl) (Nat.le_of_ble_eq_true rfl) rfl q635 (r32_c rfl) rfl (dl_at t_X9_init 50 rfl) fun a105 h105 p105 k105 l105 E105 => ?_
  have k107 := kx (E99.trans E105) (by decide) k99
  refine r_putrF (pc := 107) X hname fX9_16 k107 q911 rfl rfl (dl_at t_X9_init 51 rfl)  (fun h107 E107 => ?_)
  refine g_aload_n (pc := 110) X (j := 0) (i := 0) (q := 0) (x := a0) rfl rfl (dl_at t_X9_init 52 rfl) ?_
  refine g_bipush (pc := 111) X (n := 13) rfl (dl_at t_X9_init 53 rfl) ?_
  refine r_newa (pc := 113) X 2 70 (Nat.le_of_ble_eq_true rfl) (Nat.le_of_ble_eq_true rfl) rfl q449 (r32_c rfl) rfl (dl_at t_X9_init 54 rfl) fun a113 h113 p113 k113 l113 E113 => ?_
  have k115 := kx (E107.trans E113) (by decide) k107
  refine r_putrF (pc := 115) X hname fX9_17 k115 q912 rfl rfl (dl_at t_X9_init 55 rfl)  (fun h115 E115 => ?_)
  refine g_aload_n (pc := 118) X (j := 0) (i := 0) (q := 0) (x := a0) rfl rfl (dl_at t_X9_init 56 rfl) ?_
  refine g_sipush (pc := 119) X (n := 24001) rfl (dl_at t_X9_init 57 rfl) ?_
  refine r_newa (pc := 122) X 1 71 (Nat.le_of_ble_eq_true rfl) (Nat.le_of_ble_eq_true rfl) rfl q492 (r32_c rfl) rfl (dl_at t_X9_init 58 rfl) fun a122 h122 p122 k122 l122 E122 => ?_
  have k124 := kx (E115.trans E122) (by decide) k115
  refine r_putrF (pc := 124) X hname fX9_18 k124 q913 rfl rfl (dl_at t_X9_init 59 rfl)  (fun h124 E124 => ?_)
  refine g_aload_n (pc := 127) X (j := 0) (i := 0) (q := 0) (x := a0) rfl rfl (dl_at t_X9_init 60 rfl) ?_
  have k128 := kx E124 (by decide) k124
  refine r_callV (pc := 128) X (fun _ hv => s_X9_clear k128 hv) cw_code q892 q363 (in_Vk X (As := []) kX9 k128 (Or.inl q889) q891 qs3 cw_code q892 ⟨by decide, by decide⟩ rfl (dl_at t_X9_init 61 rfl)) (dl_at t_X9_init 61 rfl) (cat24 (st := []) (Nat.le_of_ble_eq_true rfl)) (Nat.le_of_ble_eq_true rfl) (Nat.le_of_ble_eq_true rfl) fun h128 E128 => ?_
  exact g_vret (pc := 131) X (v := 0) rfl rfl (dl_at t_X9_init 62 rfl)
def k_X11_init : List (Nat × Instr × Nat) := [(0, .aload_n 0, 1), (1, .invokespecial 3, 3), (4, .aload_n 0, 1), (5, .sipush 24001, 3), (8, .newarray .boolean, 2), (10, .putfield 9, 3), (13, .aload_n 0, 1), (14, .sipush 2404, 3), (17, .newarray .long, 2), (19, .putfield 15, 3), (22, .aload_n 0, 1), (23, .sipush 2404, 3), (26, .newarray .int, 2), (28, .putfield 19, 3), (31, .return_, 1)]
theorem t_X11_init : ∀ q ∈ k_X11_init, decode cX11_init q.1 = .ok q.2 := dl_all (by decide +kernel)
noncomputable def m_X11_init (a0 : Int) (h : Hp) : Option (Hp) :=
  al h 1155 24001 fun a8 h8 =>
  pt h8 a0 0 a8 fun h10 =>
  al h10 1172 2404 fun a17 h17 =>
  pt h17 a0 1 a17 fun h19 =>
  al h19 1185 2404 fun a26 h26 =>
  pt h26 a0 2 a26 fun h28 =>
  some h28
theorem s_X11_init {l : Launch} [NoTr l] {D : SD} {a0 : Int} {h : Hp} (hk : h a0 (-2) = 176) {r : Hp} (hm : m_X11_init a0 h = some r) : Sim l D yX11_init (Cond.code yX11_init cX11_init 1 (Option.none : Option Jvm.ClassFile.FieldType)) 1 36 [rv D a0] h 0 ((0, 0), r) := by
  refine Sim.of (fin := fun (v : Hp) => ((0, 0), v)) (lsE := [(0, rv D a0)]) hm rfl cwS_code (la_r la_n) (ll_r ll_n) ?_
  intro p e s m below meth c X hcw hmm hcc hnm hname
  unfold m_X11_init
  refine g_aload_n (pc := 0) X (j := 0) (i := 0) (q := 0) (x := a0) rfl rfl (dl_at t_X11_init 0 rfl) ?_
  refine r_oinitK (pc := 1) X hk (by decide) q964 q406 q407 (Nat.le_of_ble_eq_true rfl) (Nat.le_trans (Nat.add_le_add_right (cat24 (st := []) (Nat.le_of_ble_eq_true rfl)) 12) (Nat.le_of_ble_eq_true rfl)) (dl_at t_X11_init 1 rfl) ?_
  refine g_aload_n (pc := 4) X (j := 0) (i := 0) (q := 0) (x := a0) rfl rfl (dl_at t_X11_init 2 rfl) ?_
  refine g_sipush (pc := 5) X (n := 24001) rfl (dl_at t_X11_init 3 rfl) ?_
  refine r_newa (pc := 8) X 3 72 (Nat.le_of_ble_eq_true rfl) (Nat.le_of_ble_eq_true rfl) rfl q635 (r32_c rfl) rfl (dl_at t_X11_init 4 rfl) fun a8 h8 p8 k8 l8 E8 => ?_
  have k10 := kx E8 (by decide) hk
  refine r_putrF (pc := 10) X hname fX11_0 k10 q965 rfl rfl (dl_at t_X11_init 5 rfl)  (fun h10 E10 => ?_)
  refine g_aload_n (pc := 13) X (j := 0) (i := 0) (q := 0) (x := a0) rfl rfl (dl_at t_X11_init 6 rfl) ?_
  refine g_sipush (pc := 14) X (n := 2404) rfl (dl_at t_X11_init 7 rfl) ?_
  refine r_newa (pc := 17) X 4 73 (Nat.le_of_ble_eq_true rfl) (Nat.le_of_ble_eq_true rfl) rfl q978 (r32_c rfl) rfl (dl_at t_X11_init 8 rfl) fun a17 h17 p17 k17 l17 E17 => ?_
  have k19 := kx (E10.trans E17) (by decide) k10
  refine r_putrF (pc := 19) X hname fX11_1 k19 q967 rfl rfl (dl_at t_X11_init 9 rfl)  (fun h19 E19 => ?_)
  refine g_aload_n (pc := 22) X (j := 0) (i := 0) (q := 0) (x := a0) rfl rfl (dl_at t_X11_init 10 rfl) ?_
  refine g_sipush (pc := 23) X (n := 2404) rfl (dl_at t_X11_init 11 rfl) ?_
  refine r_newa (pc := 26) X 1 74 (Nat.le_of_ble_eq_true rfl) (Nat.le_of_ble_eq_true rfl) rfl q492 (r32_c rfl) rfl (dl_at t_X11_init 12 rfl) fun a26 h26 p26 k26 l26 E26 => ?_
  have k28 := kx (E19.trans E26) (by decide) k19
  refine r_putrF (pc := 28) X hname fX11_2 k28 q969 rfl rfl (dl_at t_X11_init 13 rfl)  (fun h28 E28 => ?_)
  exact g_vret (pc := 31) X (v := 0) rfl rfl (dl_at t_X11_init 14 rfl)
def k_X12_init : List (Nat × Instr × Nat) := [(0, .aload_n 0, 1), (1, .invokespecial 3, 3), (4, .aload_n 0, 1), (5, .sipush 24001, 3), (8, .newarray .byte, 2), (10, .putfield 9, 3), (13, .aload_n 0, 1), (14, .sipush 24001, 3), (17, .newarray .int, 2), (19, .putfield 15, 3), (22, .aload_n 0, 1), (23, .sipush 24001, 3), (26, .newarray .int, 2), (28, .putfield 19, 3), (31, .return_, 1)]
theorem t_X12_init : ∀ q ∈ k_X12_init, decode cX12_init q.1 = .ok q.2 := dl_all (by decide +kernel)
noncomputable def m_X12_init (a0 : Int) (h : Hp) : Option (Hp) :=
  al h 1202 24001 fun a8 h8 =>
  pt h8 a0 0 a8 fun h10 =>
  al h10 1217 24001 fun a17 h17 =>
  pt h17 a0 1 a17 fun h19 =>
  al h19 1233 24001 fun a26 h26 =>
  pt h26 a0 2 a26 fun h28 =>
  some h28
theorem s_X12_init {l : Launch} [NoTr l] {D : SD} {a0 : Int} {h : Hp} (hk : h a0 (-2) = 192) {r : Hp} (hm : m_X12_init a0 h = some r) : Sim l D yX12_init (Cond.code yX12_init cX12_init 1 (Option.none : Option Jvm.ClassFile.FieldType)) 1 36 [rv D a0] h 0 ((0, 0), r) := by
  refine Sim.of (fin := fun (v : Hp) => ((0, 0), v)) (lsE := [(0, rv D a0)]) hm rfl cwS_code (la_r la_n) (ll_r ll_n) ?_
  intro p e s m below meth c X hcw hmm hcc hnm hname
  unfold m_X12_init
  refine g_aload_n (pc := 0) X (j := 0) (i := 0) (q := 0) (x := a0) rfl rfl (dl_at t_X12_init 0 rfl) ?_
  refine r_oinitK (pc := 1) X hk (by decide) q984 q406 q407 (Nat.le_of_ble_eq_true rfl) (Nat.le_trans (Nat.add_le_add_right (cat24 (st := []) (Nat.le_of_ble_eq_true rfl)) 12) (Nat.le_of_ble_eq_true rfl)) (dl_at t_X12_init 1 rfl) ?_
  refine g_aload_n (pc := 4) X (j := 0) (i := 0) (q := 0) (x := a0) rfl rfl (dl_at t_X12_init 2 rfl) ?_
  refine g_sipush (pc := 5) X (n := 24001) rfl (dl_at t_X12_init 3 rfl) ?_
  refine r_newa (pc := 8) X 2 75 (Nat.le_of_ble_eq_true rfl) (Nat.le_of_ble_eq_true rfl) rfl q449 (r32_c rfl) rfl (dl_at t_X12_init 4 rfl) fun a8 h8 p8 k8 l8 E8 => ?_
  have k10 := kx E8 (by decide) hk
  refine r_putrF (pc := 10) X hname fX12_0 k10 q985 rfl rfl (dl_at t_X12_init 5 rfl)  (fun h10 E10 => ?_)
  refine g_aload_n (pc := 13) X (j := 0) (i := 0) (q := 0) (x := a0) rfl rfl (dl_at t_X12_init 6 rfl) ?_
  refine g_sipush (pc := 14) X (n := 24001) rfl (dl_at t_X12_init 7 rfl) ?_
  refine r_newa (pc := 17) X 1 76 (Nat.le_of_ble_eq_true rfl) (Nat.le_of_ble_eq_true rfl) rfl q492 (r32_c rfl) rfl (dl_at t_X12_init 8 rfl) fun a17 h17 p17 k17 l17 E17 => ?_
  have k19 := kx (E10.trans E17) (by decide) k10
  refine r_putrF (pc := 19) X hname fX12_1 k19 q987 rfl rfl (dl_at t_X12_init 9 rfl)  (fun h19 E19 => ?_)
  refine g_aload_n (pc := 22) X (j := 0) (i := 0) (q := 0) (x := a0) rfl rfl (dl_at t_X12_init 10 rfl) ?_
  refine g_sipush (pc := 23) X (n := 24001) rfl (dl_at t_X12_init 11 rfl) ?_
  refine r_newa (pc := 26) X 1 77 (Nat.le_of_ble_eq_true rfl) (Nat.le_of_ble_eq_true rfl) rfl q492 (r32_c rfl) rfl (dl_at t_X12_init 12 rfl) fun a26 h26 p26 k26 l26 E26 => ?_
  have k28 := kx (E19.trans E26) (by decide) k19
  refine r_putrF (pc := 28) X hname fX12_2 k28 q989 rfl rfl (dl_at t_X12_init 13 rfl)  (fun h28 E28 => ?_)
  exact g_vret (pc := 31) X (v := 0) rfl rfl (dl_at t_X12_init 14 rfl)
def k_X13_init : List (Nat × Instr × Nat) := [(0, .aload_n 0, 1), (1, .invokespecial 3, 3), (4, .aload_n 0, 1), (5, .bipush 8, 2), (7, .newarray .long, 2), (9, .putfield 9, 3), (12, .aload_n 0, 1), (13, .bipush 8, 2), (15, .newarray .long, 2), (17, .putfield 15, 3), (20, .aload_n 0, 1), (21, .bipush 8, 2), (23, .newarray .int, 2), (25, .putfield 18, 3), (28, .return_, 1)]
theorem t_X13_init : ∀ q ∈ k_X13_init, decode cX13_init q.1 = .ok q.2 := dl_all (by decide +kernel)
noncomputable def m_X13_init (a0 : Int) (h : Hp) : Option (Hp) :=
  al h 1252 8 fun a7 h7 =>
  pt h7 a0 0 a7 fun h9 =>
  al h9 1268 8 fun a15 h15 =>
  pt h15 a0 1 a15 fun h17 =>
  al h17 1281 8 fun a23 h23 =>
  pt h23 a0 2 a23 fun h25 =>
  some h25
theorem s_X13_init {l : Launch} [NoTr l] {D : SD} {a0 : Int} {h : Hp} (hk : h a0 (-2) = 208) {r : Hp} (hm : m_X13_init a0 h = some r) : Sim l D yX13_init (Cond.code yX13_init cX13_init 1 (Option.none : Option Jvm.ClassFile.FieldType)) 1 36 [rv D a0] h 0 ((0, 0), r) := by
  refine Sim.of (fin := fun (v : Hp) => ((0, 0), v)) (lsE := [(0, rv D a0)]) hm rfl cwS_code (la_r la_n) (ll_r ll_n) ?_
  intro p e s m below meth c X hcw hmm hcc hnm hname
  unfold m_X13_init
  refine g_aload_n (pc := 0) X (j := 0) (i := 0) (q := 0) (x := a0) rfl rfl (dl_at t_X13_init 0 rfl) ?_
  refine r_oinitK (pc := 1) X hk (by decide) q1020 q406 q407 (Nat.le_of_ble_eq_true rfl) (Nat.le_trans (Nat.add_le_add_right (cat24 (st := []) (Nat.le_of_ble_eq_true rfl)) 12) (Nat.le_of_ble_eq_true rfl)) (dl_at t_X13_init 1 rfl) ?_
  refine g_aload_n (pc := 4) X (j := 0) (i := 0) (q := 0) (x := a0) rfl rfl (dl_at t_X13_init 2 rfl) ?_
  refine g_bipush (pc := 5) X (n := 8) rfl (dl_at t_X13_init 3 rfl) ?_
  refine r_newa (pc := 7) X 4 78 (Nat.le_of_ble_eq_true rfl) (Nat.le_of_ble_eq_true rfl) rfl q978 (r32_c rfl) rfl (dl_at t_X13_init 4 rfl) fun a7 h7 p7 k7 l7 E7 => ?_
  have k9 := kx E7 (by decide) hk
  refine r_putrF (pc := 9) X hname fX13_0 k9 q1021 rfl rfl (dl_at t_X13_init 5 rfl)  (fun h9 E9 => ?_)
  refine g_aload_n (pc := 12) X (j := 0) (i := 0) (q := 0) (x := a0) rfl rfl (dl_at t_X13_init 6 rfl) ?_
  refine g_bipush (pc := 13) X (n := 8) rfl (dl_at t_X13_init 7 rfl) ?_
  refine r_newa (pc := 15) X 4 79 (Nat.le_of_ble_eq_true rfl) (Nat.le_of_ble_eq_true rfl) rfl q978 (r32_c rfl) rfl (dl_at t_X13_init 8 rfl) fun a15 h15 p15 k15 l15 E15 => ?_
  have k17 := kx (E9.trans E15) (by decide) k9
  refine r_putrF (pc := 17) X hname fX13_1 k17 q1022 rfl rfl (dl_at t_X13_init 9 rfl)  (fun h17 E17 => ?_)
  refine g_aload_n (pc := 20) X (j := 0) (i := 0) (q := 0) (x := a0) rfl rfl (dl_at t_X13_init 10 rfl) ?_
  refine g_bipush (pc := 21) X (n := 8) rfl (dl_at t_X13_init 11 rfl) ?_
  refine r_newa (pc := 23) X 1 80 (Nat.le_of_ble_eq_true rfl) (Nat.le_of_ble_eq_true rfl) rfl q492 (r32_c rfl) rfl (dl_at t_X13_init 12 rfl) fun a23 h23 p23 k23 l23 E23 => ?_
  have k25 := kx (E17.trans E23) (by decide) k17
  refine r_putrF (pc := 25) X hname fX13_2 k25 q1023 rfl rfl (dl_at t_X13_init 13 rfl)  (fun h25 E25 => ?_)
  exact g_vret (pc := 28) X (v := 0) rfl rfl (dl_at t_X13_init 14 rfl)
def k_X10_init : List (Nat × Instr × Nat) := [(0, .aload_n 0, 1), (1, .invokespecial 3, 3), (4, .aload_n 0, 1), (5, .new 9, 3), (8, .dup, 1), (9, .invokespecial 11, 3), (12, .putfield 12, 3), (15, .aload_n 0, 1), (16, .new 18, 3), (19, .dup, 1), (20, .invokespecial 20, 3), (23, .putfield 21, 3), (26, .aload_n 0, 1), (27, .new 18, 3), (30, .dup, 1), (31, .invokespecial 20, 3), (34, .putfield 25, 3), (37, .aload_n 0, 1), (38, .new 18, 3), (41, .dup, 1), (42, .invokespecial 20, 3), (45, .putfield 28, 3), (48, .aload_n 0, 1), (49, .new 31, 3), (52, .dup, 1), (53, .sipush 24064, 3), (56, .invokespecial 33, 3), (59, .putfield 36, 3), (62, .aload_n 0, 1), (63, .new 40, 3), (66, .dup, 1), (67, .invokespecial 42, 3), (70, .putfield 43, 3), (73, .aload_n 0, 1), (74, .bipush 21, 2), (76, .newarray .int, 2), (78, .putfield 47, 3), (81, .aload_n 0, 1), (82, .sipush 500, 3), (85, .newarray .int, 2), (87, .putfield 51, 3), (90, .aload_n 0, 1), (91, .sipush 500, 3), (94, .newarray .int, 2), (96, .putfield 54, 3), (99, .aload_n 0, 1), (100, .bipush 9, 2), (102, .newarray .int, 2), (104, .putfield 57, 3), (107, .aload_n 0, 1), (108, .sipush 20000, 3), (111, .newarray .int, 2), (113, .putfield 60, 3), (116, .aload_n 0, 1), (117, .sipush 20000, 3), (120, .newarray .int, 2), (122, .putfield 63, 3), (125, .aload_n 0, 1), (126, .sipush 20000, 3), (129, .newarray .int, 2), (131, .putfield 66, 3), (134, .aload_n 0, 1), (135, .sipush 20000, 3), (138, .newarray .long, 2), (140, .putfield 69, 3), (143, .aload_n 0, 1), (144, .sipush 20000, 3), (147, .newarray .int, 2), (149, .putfield 73, 3), (152, .aload_n 0, 1), (153, .sipush 20000, 3), (156, .newarray .int, 2), (158, .putfield 76, 3), (161, .aload_n 0, 1), (162, .sipush 1501, 3), (165, .newarray .int, 2), (167, .putfield 79, 3), (170, .aload_n 0, 1), (171, .sipush 1501, 3), (174, .newarray .int, 2), (176, .putfield 82, 3), (179, .return_, 1)]
theorem t_X10_init : ∀ q ∈ k_X10_init, decode cX10_init q.1 = .ok q.2 := dl_all (by decide +kernel)
noncomputable def m_X10_init (a0 : Int) (h : Hp) : Option (Hp) :=
  al h 176 3 fun a5 h5 =>
  (m_X11_init a5 h5).bind fun h9 =>
  pt h9 a0 0 a5 fun h12 =>
  al h12 192 7 fun a16 h16 =>
  (m_X12_init a16 h16).bind fun h20 =>
  pt h20 a0 1 a16 fun h23 =>
  al h23 192 7 fun a27 h27 =>
  (m_X12_init a27 h27).bind fun h31 =>
  pt h31 a0 2 a27 fun h34 =>
  al h34 192 7 fun a38 h38 =>
  (m_X12_init a38 h38).bind fun h42 =>
  pt h42 a0 3 a38 fun h45 =>
  al h45 80 2 fun a49 h49 =>
  (m_X5_init a49 24064 h49).bind fun h56 =>
  pt h56 a0 4 a49 fun h59 =>
  al h59 208 4 fun a63 h63 =>
  (m_X13_init a63 h63).bind fun h67 =>
  pt h67 a0 5 a63 fun h70 =>
  al h70 1297 21 fun a76 h76 =>
  pt h76 a0 6 a76 fun h78 =>
  al h78 1313 500 fun a85 h85 =>
  pt h85 a0 7 a85 fun h87 =>
  al h87 1329 500 fun a94 h94 =>
  pt h94 a0 8 a94 fun h96 =>
  al h96 1345 9 fun a102 h102 =>
  pt h102 a0 9 a102 fun h104 =>
  al h104 1361 20000 fun a111 h111 =>
  pt h111 a0 10 a111 fun h113 =>
  al h113 1377 20000 fun a120 h120 =>
  pt h120 a0 11 a120 fun h122 =>
  al h122 1393 20000 fun a129 h129 =>
  pt h129 a0 12 a129 fun h131 =>
  al h131 1412 20000 fun a138 h138 =>
  pt h138 a0 13 a138 fun h140 =>
  al h140 1425 20000 fun a147 h147 =>
  pt h147 a0 14 a147 fun h149 =>
  al h149 1441 20000 fun a156 h156 =>
  pt h156 a0 15 a156 fun h158 =>
  al h158 1457 1501 fun a165 h165 =>
  pt h165 a0 16 a165 fun h167 =>
  al h167 1473 1501 fun a174 h174 =>
  pt h174 a0 17 a174 fun h176 =>
  some h176
theorem s_X10_init {l : Launch} [NoTr l] {D : SD} {a0 : Int} {h : Hp} (hk : h a0 (-2) = 160) {r : Hp} (hm : m_X10_init a0 h = some r) : Sim l D yX10_init (Cond.code yX10_init cX10_init 1 (Option.none : Option Jvm.ClassFile.FieldType)) 2 73 [rv D a0] h 0 ((0, 0), r) := by
  refine Sim.of (fin := fun (v : Hp) => ((0, 0), v)) (lsE := [(0, rv D a0)]) hm rfl cwS_code (la_r la_n) (ll_r ll_n) ?_
  intro p e s m below meth c X hcw hmm hcc hnm hname
  unfold m_X10_init
  refine g_aload_n (pc := 0) X (j := 0) (i := 0) (q := 0) (x := a0) rfl rfl (dl_at t_X10_init 0 rfl) ?_
  refine r_oinitK (pc := 1) X hk (by decide) q958 q406 q407 (Nat.le_of_ble_eq_true rfl) (Nat.le_trans (Nat.add_le_add_right (cat24 (st := []) (Nat.le_of_ble_eq_true rfl)) 12) (Nat.le_of_ble_eq_true rfl)) (dl_at t_X10_init 1 rfl) ?_
  refine g_aload_n (pc := 4) X (j := 0) (i := 0) (q := 0) (x := a0) rfl rfl (dl_at t_X10_init 2 rfl) ?_
  refine r_new (pc := 5) X kX11 q959 (dl_at t_X10_init 3 rfl) fun a5 h5 p5 k5 E5 => ?_
  refine g_dup (pc := 8) X rv_cat (dl_at t_X10_init 4 rfl) ?_
  refine r_callV (pc := 9) X (fun _ hv => s_X11_init k5 hv) cw_code q963 q365 (in_I X (As := []) (Int.ne_of_gt p5) rfl (Or.inr ⟨_, nw_in q961 rfl⟩) q962 q963 ⟨by decide, by decide⟩ rfl (dl_at t_X10_init 5 rfl)) (dl_at t_X10_init 5 rfl) (cat24 (st := [rv D a5, rv D a0]) (Nat.le_of_ble_eq_true rfl)) (Nat.le_of_ble_eq_true rfl) (Nat.le_of_ble_eq_true rfl) fun h9 E9 => ?_
  have k12 := kx (E5.trans E9) (by decide) hk
  refine r_putrF (pc := 12) X hname fX10_0 k12 q1036 rfl rfl (dl_at t_X10_init 6 rfl)  (fun h12 E12 => ?_)
  refine g_aload_n (pc := 15) X (j := 0) (i := 0) (q := 0) (x := a0) rfl rfl (dl_at t_X10_init 7 rfl) ?_
  refine r_new (pc := 16) X kX12 q979 (dl_at t_X10_init 8 rfl) fun a16 h16 p16 k16 E16 => ?_
  refine g_dup (pc := 19) X rv_cat (dl_at t_X10_init 9 rfl) ?_
  refine r_callV (pc := 20) X (fun _ hv => s_X12_init k16 hv) cw_code q983 q366 (in_I X (As := []) (Int.ne_of_gt p16) rfl (Or.inr ⟨_, nw_in q981 rfl⟩) q982 q983 ⟨by decide, by decide⟩ rfl (dl_at t_X10_init 10 rfl)) (dl_at t_X10_init 10 rfl) (cat24 (st := [rv D a16, rv D a0]) (Nat.le_of_ble_eq_true rfl)) (Nat.le_of_ble_eq_true rfl) (Nat.le_of_ble_eq_true rfl) fun h20 E20 => ?_
  have k23 := kx (E12.trans (E16.trans E20)) (by decide) k12
  refine r_putrF (pc := 23) X hname fX10_1 k23 q1038 rfl rfl (dl_at t_X10_init 11 rfl)  (fun h23 E23 => ?_)
  refine g_aload_n (pc := 26) X (j := 0) (i := 0) (q := 0) (x := a0) rfl rfl (dl_at t_X10_init 12 rfl) ?_
  refine r_new (pc := 27) X kX12 q979 (dl_at t_X10_init 13 rfl) fun a27 h27 p27 k27 E27 => ?_
  refine g_dup (pc := 30) X rv_cat (dl_at t_X10_init 14 rfl) ?_
  refine r_callV (pc := 31) X (fun _ hv => s_X12_init k27 hv) cw_code q983 q366 (in_I X (As := []) (Int.ne_of_gt p27) rfl (Or.inr ⟨_, nw_in q981 rfl⟩) q982 q983 ⟨by decide, by decide⟩ rfl (dl_at t_X10_init 15 rfl)) (dl_at t_X10_init 15 rfl) (cat24 (st := [rv D a27, rv D a0]) (Nat.le_of_ble_eq_true rfl)) (Nat.le_of_ble_eq_true rfl) (Nat.le_of_ble_eq_true rfl) fun h31 E31 => ?_
  have k34 := kx (E23.trans (E27.trans E31)) (by decide) k23
  refine r_putrF (pc := 34) X hname fX10_2 k34 q1040 rfl rfl (dl_at t_X10_init 16 rfl)  (fun h34 E34 => ?_)
  refine g_aload_n (pc := 37) X (j := 0) (i := 0) (q := 0) (x := a0) rfl rfl (dl_at t_X10_init 17 rfl) ?_
  refine r_new (pc := 38) X kX12 q979 (dl_at t_X10_init 18 rfl) fun a38 h38 p38 k38 E38 => ?_
  refine g_dup (pc := 41) X rv_cat (dl_at t_X10_init 19 rfl) ?_
  refine r_callV (pc := 42) X (fun _ hv => s_X12_init k38 hv) cw_code q983 q366 (in_I X (As := []) (Int.ne_of_gt p38) rfl (Or.inr ⟨_, nw_in q981 rfl⟩) q982 q983 ⟨by decide, by decide⟩ rfl (dl_at t_X10_init 20 rfl)) (dl_at t_X10_init 20 rfl) (cat24 (st := [rv D a38, rv D a0]) (Nat.le_of_ble_eq_true rfl)) (Nat.le_of_ble_eq_true rfl) (Nat.le_of_ble_eq_true rfl) fun h42 E42 => ?_
  have k45 := kx (E34.trans (E38.trans E42)) (by decide) k34
  refine r_putrF (pc := 45) X hname fX10_3 k45 q1042 rfl rfl (dl_at t_X10_init 21 rfl)  (fun h45 E45 => ?_)
  refine g_aload_n (pc := 48) X (j := 0) (i := 0) (q := 0) (x := a0) rfl rfl (dl_at t_X10_init 22 rfl) ?_
  refine r_new (pc := 49) X kX5 q1013 (dl_at t_X10_init 23 rfl) fun a49 h49 p49 k49 E49 => ?_
  refine g_dup (pc := 52) X rv_cat (dl_at t_X10_init 24 rfl) ?_
  refine g_sipush (pc := 53) X (n := 24064) rfl (dl_at t_X10_init 25 rfl) ?_
  refine r_callV (pc := 56) X (fun _ hv => s_X5_init k49 (r32_c rfl) hv) cw_code q497 q359 (in_I X (As := [iv 24064]) (Int.ne_of_gt p49) rfl (Or.inr ⟨_, nw_in q1014 rfl⟩) q496 q497 ⟨by decide, by decide⟩ rfl (dl_at t_X10_init 26 rfl)) (dl_at t_X10_init 26 rfl) (cat24 (st := [rv D a49, rv D a0]) (Nat.le_of_ble_eq_true rfl)) (Nat.le_of_ble_eq_true rfl) (Nat.le_of_ble_eq_true rfl) fun h56 E56 => ?_
  have k59 := kx (E45.trans (E49.trans E56)) (by decide) k45
  refine r_putrF (pc := 59) X hname fX10_4 k59 q1044 rfl rfl (dl_at t_X10_init 27 rfl)  (fun h59 E59 => ?_)
  refine g_aload_n (pc := 62) X (j := 0) (i := 0) (q := 0) (x := a0) rfl rfl (dl_at t_X10_init 28 rfl) ?_
  refine r_new (pc := 63) X kX13 q1015 (dl_at t_X10_init 29 rfl) fun a63 h63 p63 k63 E63 => ?_
  refine g_dup (pc := 66) X rv_cat (dl_at t_X10_init 30 rfl) ?_
  refine r_callV (pc := 67) X (fun _ hv => s_X13_init k63 hv) cw_code q1019 q367 (in_I X (As := []) (Int.ne_of_gt p63) rfl (Or.inr ⟨_, nw_in q1017 rfl⟩) q1018 q1019 ⟨by decide, by decide⟩ rfl (dl_at t_X10_init 31 rfl)) (dl_at t_X10_init 31 rfl) (cat24 (st := [rv D a63, rv D a0]) (Nat.le_of_ble_eq_true rfl)) (Nat.le_of_ble_eq_true rfl) (Nat.le_of_ble_eq_true rfl) fun h67 E67 => ?_
  have k70 := kx (E59.trans (E63.trans E67)) (by decide) k59
  refine r_putrF (pc := 70) X hname fX10_5 k70 q1047 rfl rfl (dl_at t_X10_init 32 rfl)  (fun h70 E70 => ?_)
  refine g_aload_n (pc := 73) X (j := 0) (i := 0) (q := 0) (x := a0) rfl rfl (dl_at t_X10_init 33 rfl) ?_
  refine g_bipush (pc := 74) X (n := 21) rfl (dl_at t_X10_init 34 rfl) ?_
  refine r_newa (pc := 76) X 1 81 (Nat.le_of_ble_eq_true rfl) (Nat.le_of_ble_eq_true rfl) rfl q492 (r32_c rfl) rfl (dl_at t_X10_init 35 rfl) fun a76 h76 p76 k76 l76 E76 => ?_
  have k78 := kx (E70.trans E76) (by decide) k70
  refine r_putrF (pc := 78) X hname fX10_6 k78 q1049 rfl rfl (dl_at t_X10_init 36 rfl)  (fun h78 E78 => ?_)
  refine g_aload_n (pc := 81) X (j := 0) (i := 0) (q := 0) (x := a0) rfl rfl (dl_at t_X10_init 37 rfl) ?_
  refine g_sipush (pc := 82) X (n := 500) rfl (dl_at t_X10_init 38 rfl) ?_
  refine r_newa (pc := 85) X 1 82 (Nat.le_of_ble_eq_true rfl) (Nat.le_of_ble_eq_true rfl) rfl q492 (r32_c rfl) rfl (dl_at t_X10_init 39 rfl) fun a85 h85 p85 k85 l85 E85 => ?_
  have k87 := kx (E78.trans E85) (by decide) k78
  refine r_putrF (pc := 87) X hname fX10_7 k87 q1051 rfl rfl (dl_at t_X10_init 40 rfl)  (fun h87 E87 => ?_)
  refine g_aload_n (pc := 90) X (j := 0) (i := 0) (q := 0) (x := a0) rfl rfl (dl_at t_X10_init 41 rfl) ?_
  refine g_sipush (pc := 91) X (n := 500) rfl (dl_at t_X10_init 42 rfl) ?_
  refine r_newa (pc := 94) X 1 83 (Nat.le_of_ble_eq_true rfl) (Nat.le_of_ble_eq_true rfl) rfl q492 (r32_c rfl) rfl (dl_at t_X10_init 43 rfl) fun a94 h94 p94 k94 l94 E94 => ?_
  have k96 := kx (E87.trans E94) (by decide) k87
  refine r_putrF (pc := 96) X hname fX10_8 k96 q1053 rfl rfl (dl_at t_X10_init 44 rfl)  (fun h96 E96 => ?_)
  refine g_aload_n (pc := 99) X (j := 0) (i := 0) (q := 0) (x := a0) rfl rfl (dl_at t_X10_init 45 rfl) ?_
  refine g_bipush (pc := 100) X (n := 9) rfl (dl_at t_X10_init 46 rfl) ?_
  refine r_newa (pc := 102) X 1 84 (Nat.le_of_ble_eq_true rfl) (Nat.le_of_ble_eq_true rfl) rfl q492 (r32_c rfl) rfl (dl_at t_X10_init 47 rfl) fun a102 h102 p102 k102 l102 E102 => ?_
  have k104 := kx (E96.trans E102) (by decide) k96
  refine r_putrF (pc := 104) X hname fX10_9 k104 q1055 rfl rfl (dl_at t_X10_init 48 rfl)  (fun h104 E104 => ?_)
  refine g_aload_n (pc := 107) X (j := 0) (i := 0) (q := 0) (x := a0) rfl rfl (dl_at t_X10_init 49 rfl) ?_
  refine g_sipush (pc := 108) X (n := 20000) rfl (dl_at t_X10_init 50 rfl) ?_
  refine r_newa (pc := 111) X 1 85 (Nat.le_of_ble_eq_true rfl) (Nat.le_of_ble_eq_true rfl) rfl q492 (r32_c rfl) rfl (dl_at t_X10_init 51 rfl) fun a111 h111 p111 k111 l111 E111 => ?_
  have k113 := kx (E104.trans E111) (by decide) k104
  refine r_putrF (pc := 113) X hname fX10_10 k113 q1057 rfl rfl (dl_at t_X10_init 52 rfl)  (fun h113 E113 => ?_)
  refine g_aload_n (pc := 116) X (j := 0) (i := 0) (q := 0) (x := a0) rfl rfl (dl_at t_X10_init 53 rfl) ?_
  refine g_sipush (pc := 117) X (n := 20000) rfl (dl_at t_X10_init 54 rfl) ?_
  refine r_newa (pc := 120) X 1 86 (Nat.le_of_ble_eq_true rfl) (Nat.le_of_ble_eq_true rfl) rfl q492 (r32_c rfl) rfl (dl_at t_X10_init 55 rfl) fun a120 h120 p120 k120 l120 E120 => ?_
  have k122 := kx (E113.trans E120) (by decide) k113
  refine r_putrF (pc := 122) X hname fX10_11 k122 q1059 rfl rfl (dl_at t_X10_init 56 rfl)  (fun h122 E122 => ?_)
  refine g_aload_n (pc := 125) X (j := 0) (i := 0) (q := 0) (x := a0) rfl rfl (dl_at t_X10_init 57 rfl) ?_
  refine g_sipush (pc := 126) X (n := 20000) rfl (dl_at t_X10_init 58 rfl) ?_
  refine r_newa (pc := 129) X 1 87 (Nat.le_of_ble_eq_true rfl) (Nat.le_of_ble_eq_true rfl) rfl q492 (r32_c rfl) rfl (dl_at t_X10_init 59 rfl) fun a129 h129 p129 k129 l129 E129 => ?_
  have k131 := kx (E122.trans E129) (by decide) k122
  refine r_putrF (pc := 131) X hname fX10_12 k131 q1061 rfl rfl (dl_at t_X10_init 60 rfl)  (fun h131 E131 => ?_)
  refine g_aload_n (pc := 134) X (j := 0) (i := 0) (q := 0) (x := a0) rfl rfl (dl_at t_X10_init 61 rfl) ?_
  refine g_sipush (pc := 135) X (n := 20000) rfl (dl_at t_X10_init 62 rfl) ?_
  refine r_newa (pc := 138) X 4 88 (Nat.le_of_ble_eq_true rfl) (Nat.le_of_ble_eq_true rfl) rfl q978 (r32_c rfl) rfl (dl_at t_X10_init 63 rfl) fun a138 h138 p138 k138 l138 E138 => ?_
  have k140 := kx (E131.trans E138) (by decide) k131
  refine r_putrF (pc := 140) X hname fX10_13 k140 q1063 rfl rfl (dl_at t_X10_init 64 rfl)  (fun h140 E140 => ?_)
  refine g_aload_n (pc := 143) X (j := 0) (i := 0) (q := 0) (x := a0) rfl rfl (dl_at t_X10_init 65 rfl) ?_
  refine g_sipush (pc := 144) X (n := 20000) rfl (dl_at t_X10_init 66 rfl) ?_
  refine r_newa (pc := 147) X 1 89 (Nat.le_of_ble_eq_true rfl) (Nat.le_of_ble_eq_true rfl) rfl q492 (r32_c rfl) rfl (dl_at t_X10_init 67 rfl) fun a147 h147 p147 k147 l147 E147 => ?_
  have k149 := kx (E140.trans E147) (by decide) k140
  refine r_putrF (pc := 149) X hname fX10_14 k149 q1065 rfl rfl (dl_at t_X10_init 68 rfl)  (fun h149 E149 => ?_)
  refine g_aload_n (pc := 152) X (j := 0) (i := 0) (q := 0) (x := a0) rfl rfl (dl_at t_X10_init 69 rfl) ?_
  refine g_sipush (pc := 153) X (n := 20000) rfl (dl_at t_X10_init 70 rfl) ?_
  refine r_newa (pc := 156) X 1 90 (Nat.le_of_ble_eq_true rfl) (Nat.le_of_ble_eq_true rfl) rfl q492 (r32_c rfl) rfl (dl_at t_X10_init 71 rfl) fun a156 h156 p156 k156 l156 E156 => ?_
  have k158 := kx (E149.trans E156) (by decide) k149
  refine r_putrF (pc := 158) X hname fX10_15 k158 q1067 rfl rfl (dl_at t_X10_init 72 rfl)  (fun h158 E158 => ?_)
  refine g_aload_n (pc := 161) X (j := 0) (i := 0) (q := 0) (x := a0) rfl rfl (dl_at t_X10_init 73 rfl) ?_
  refine g_sipush (pc := 162) X (n := 1501) rfl (dl_at t_X10_init 74 rfl) ?_
  refine r_newa (pc := 165) X 1 91 (Nat.le_of_ble_eq_true rfl) (Nat.le_of_ble_eq_true rfl) rfl q492 (r32_c rfl) rfl (dl_at t_X10_init 75 rfl) fun a165 h165 p165 k165 l165 E165 => ?_
  have k167 := kx (E158.trans E165) (by decide) k158
  refine r_putrF (pc := 167) X hname fX10_16 k167 q1069 rfl rfl (dl_at t_X10_init 76 rfl)  (fun h167 E167 => ?_)
  refine g_aload_n (pc := 170) X (j := 0) (i := 0) (q := 0) (x := a0) rfl rfl (dl_at t_X10_init 77 rfl) ?_
  refine g_sipush (pc := 171) X (n := 1501) rfl (dl_at t_X10_init 78 rfl) ?_
  refine r_newa (pc := 174) X 1 92 (Nat.le_of_ble_eq_true rfl) (Nat.le_of_ble_eq_true rfl) rfl q492 (r32_c rfl) rfl (dl_at t_X10_init 79 rfl) fun a174 h174 p174 k174 l174 E174 => ?_
  have k176 := kx (E167.trans E174) (by decide) k167
  refine r_putrF (pc := 176) X hname fX10_17 k176 q1071 rfl rfl (dl_at t_X10_init 80 rfl)  (fun h176 E176 => ?_)
  exact g_vret (pc := 179) X (v := 0) rfl rfl (dl_at t_X10_init 81 rfl)
def k_X15_init : List (Nat × Instr × Nat) := [(0, .aload_n 0, 1), (1, .invokespecial 3, 3), (4, .aload_n 0, 1), (5, .sipush 24000, 3), (8, .newarray .byte, 2), (10, .putfield 9, 3), (13, .aload_n 0, 1), (14, .sipush 24000, 3), (17, .newarray .int, 2), (19, .putfield 15, 3), (22, .aload_n 0, 1), (23, .sipush 24000, 3), (26, .newarray .int, 2), (28, .putfield 19, 3), (31, .aload_n 0, 1), (32, .sipush 26400, 3), (35, .newarray .int, 2), (37, .putfield 22, 3), (40, .aload_n 0, 1), (41, .sipush 26400, 3), (44, .newarray .int, 2), (46, .putfield 25, 3), (49, .aload_n 0, 1), (50, .sipush 26400, 3), (53, .newarray .int, 2), (55, .putfield 28, 3), (58, .aload_n 0, 1), (59, .sipush 26400, 3), (62, .newarray .int, 2), (64, .putfield 31, 3), (67, .aload_n 0, 1), (68, .sipush 26400, 3), (71, .newarray .long, 2), (73, .putfield 34, 3), (76, .aload_n 0, 1), (77, .sipush 26400, 3), (80, .newarray .long, 2), (82, .putfield 38, 3), (85, .aload_n 0, 1), (86, .sipush 26400, 3), (89, .newarray .long, 2), (91, .putfield 41, 3), (94, .aload_n 0, 1), (95, .sipush 26400, 3), (98, .newarray .long, 2), (100, .putfield 44, 3), (103, .aload_n 0, 1), (104, .sipush 26400, 3), (107, .newarray .int, 2), (109, .putfield 47, 3), (112, .aload_n 0, 1), (113, .sipush 26400, 3), (116, .newarray .int, 2), (118, .putfield 50, 3), (121, .return_, 1)]
theorem t_X15_init : ∀ q ∈ k_X15_init, decode cX15_init q.1 = .ok q.2 := dl_all (by decide +kernel)
noncomputable def m_X15_init (a0 : Int) (h : Hp) : Option (Hp) :=
  al h 1490 24000 fun a8 h8 =>
  pt h8 a0 0 a8 fun h10 =>
  al h10 1505 24000 fun a17 h17 =>
  pt h17 a0 1 a17 fun h19 =>
  al h19 1521 24000 fun a26 h26 =>
  pt h26 a0 2 a26 fun h28 =>
  al h28 1537 26400 fun a35 h35 =>
  pt h35 a0 4 a35 fun h37 =>
  al h37 1553 26400 fun a44 h44 =>
  pt h44 a0 5 a44 fun h46 =>
  al h46 1569 26400 fun a53 h53 =>
  pt h53 a0 6 a53 fun h55 =>
  al h55 1585 26400 fun a62 h62 =>
  pt h62 a0 7 a62 fun h64 =>
  al h64 1604 26400 fun a71 h71 =>
  pt h71 a0 8 a71 fun h73 =>
  al h73 1620 26400 fun a80 h80 =>
  pt h80 a0 9 a80 fun h82 =>
  al h82 1636 26400 fun a89 h89 =>
  pt h89 a0 10 a89 fun h91 =>
  al h91 1652 26400 fun a98 h98 =>
  pt h98 a0 11 a98 fun h100 =>
  al h100 1665 26400 fun a107 h107 =>
  pt h107 a0 13 a107 fun h109 =>
  al h109 1681 26400 fun a116 h116 =>
  pt h116 a0 14 a116 fun h118 =>
  some h118
theorem s_X15_init {l : Launch} [NoTr l] {D : SD} {a0 : Int} {h : Hp} (hk : h a0 (-2) = 240) {r : Hp} (hm : m_X15_init a0 h = some r) : Sim l D yX15_init (Cond.code yX15_init cX15_init 1 (Option.none : Option Jvm.ClassFile.FieldType)) 1 36 [rv D a0] h 0 ((0, 0), r) := by
  refine Sim.of (fin := fun (v : Hp) => ((0, 0), v)) (lsE := [(0, rv D a0)]) hm rfl cwS_code (la_r la_n) (ll_r ll_n) ?_
  intro p e s m below meth c X hcw hmm hcc hnm hname
  unfold m_X15_init
  refine g_aload_n (pc := 0) X (j := 0) (i := 0) (q := 0) (x := a0) rfl rfl (dl_at t_X15_init 0 rfl) ?_
  refine r_oinitK (pc := 1) X hk (by decide) q1126 q406 q407 (Nat.le_of_ble_eq_true rfl) (Nat.le_trans (Nat.add_le_add_right (cat24 (st := []) (Nat.le_of_ble_eq_true rfl)) 12) (Nat.le_of_ble_eq_true rfl)) (dl_at t_X15_init 1 rfl) ?_
  refine g_aload_n (pc := 4) X (j := 0) (i := 0) (q := 0) (x := a0) rfl rfl (dl_at t_X15_init 2 rfl) ?_
  refine g_sipush (pc := 5) X (n := 24000) rfl (dl_at t_X15_init 3 rfl) ?_
  refine r_newa (pc := 8) X 2 93 (Nat.le_of_ble_eq_true rfl) (Nat.le_of_ble_eq_true rfl) rfl q449 (r32_c rfl) rfl (dl_at t_X15_init 4 rfl) fun a8 h8 p8 k8 l8 E8 => ?_
  have k10 := kx E8 (by decide) hk
  refine r_putrF (pc := 10) X hname fX15_0 k10 q1127 rfl rfl (dl_at t_X15_init 5 rfl)  (fun h10 E10 => ?_)
  refine g_aload_n (pc := 13) X (j := 0) (i := 0) (q := 0) (x := a0) rfl rfl (dl_at t_X15_init 6 rfl) ?_
  refine g_sipush (pc := 14) X (n := 24000) rfl (dl_at t_X15_init 7 rfl) ?_
  refine r_newa (pc := 17) X 1 94 (Nat.le_of_ble_eq_true rfl) (Nat.le_of_ble_eq_true rfl) rfl q492 (r32_c rfl) rfl (dl_at t_X15_init 8 rfl) fun a17 h17 p17 k17 l17 E17 => ?_
  have k19 := kx (E10.trans E17) (by decide) k10
  refine r_putrF (pc := 19) X hname fX15_1 k19 q1130 rfl rfl (dl_at t_X15_init 9 rfl)  (fun h19 E19 => ?_)
  refine g_aload_n (pc := 22) X (j := 0) (i := 0) (q := 0) (x := a0) rfl rfl (dl_at t_X15_init 10 rfl) ?_
  refine g_sipush (pc := 23) X (n := 24000) rfl (dl_at t_X15_init 11 rfl) ?_
  refine r_newa (pc := 26) X 1 95 (Nat.le_of_ble_eq_true rfl) (Nat.le_of_ble_eq_true rfl) rfl q492 (r32_c rfl) rfl (dl_at t_X15_init 12 rfl) fun a26 h26 p26 k26 l26 E26 => ?_
  have k28 := kx (E19.trans E26) (by decide) k19
  refine r_putrF (pc := 28) X hname fX15_2 k28 q1133 rfl rfl (dl_at t_X15_init 13 rfl)  (fun h28 E28 => ?_)
  refine g_aload_n (pc := 31) X (j := 0) (i := 0) (q := 0) (x := a0) rfl rfl (dl_at t_X15_init 14 rfl) ?_
  refine g_sipush (pc := 32) X (n := 26400) rfl (dl_at t_X15_init 15 rfl) ?_
  refine r_newa (pc := 35) X 1 96 (Nat.le_of_ble_eq_true rfl) (Nat.le_of_ble_eq_true rfl) rfl q492 (r32_c rfl) rfl (dl_at t_X15_init 16 rfl) fun a35 h35 p35 k35 l35 E35 => ?_
  have k37 := kx (E28.trans E35) (by decide) k28
  refine r_putrF (pc := 37) X hname fX15_4 k37 q1138 rfl rfl (dl_at t_X15_init 17 rfl)  (fun h37 E37 => ?_)
  refine g_aload_n (pc := 40) X (j := 0) (i := 0) (q := 0) (x := a0) rfl rfl (dl_at t_X15_init 18 rfl) ?_
  refine g_sipush (pc := 41) X (n := 26400) rfl (dl_at t_X15_init 19 rfl) ?_
  refine r_newa (pc := 44) X 1 97 (Nat.le_of_ble_eq_true rfl) (Nat.le_of_ble_eq_true rfl) rfl q492 (r32_c rfl) rfl (dl_at t_X15_init 20 rfl) fun a44 h44 p44 k44 l44 E44 => ?_
  have k46 := kx (E37.trans E44) (by decide) k37
  refine r_putrF (pc := 46) X hname fX15_5 k46 q1140 rfl rfl (dl_at t_X15_init 21 rfl)  (fun h46 E46 => ?_)
  refine g_aload_n (pc := 49) X (j := 0) (i := 0) (q := 0) (x := a0) rfl rfl (dl_at t_X15_init 22 rfl) ?_
  refine g_sipush (pc := 50) X (n := 26400) rfl (dl_at t_X15_init 23 rfl) ?_
  refine r_newa (pc := 53) X 1 98 (Nat.le_of_ble_eq_true rfl) (Nat.le_of_ble_eq_true rfl) rfl q492 (r32_c rfl) rfl (dl_at t_X15_init 24 rfl) fun a53 h53 p53 k53 l53 E53 => ?_
  have k55 := kx (E46.trans E53) (by decide) k46
  refine r_putrF (pc := 55) X hname fX15_6 k55 q1142 rfl rfl (dl_at t_X15_init 25 rfl)  (fun h55 E55 => ?_)
  refine g_aload_n (pc := 58) X (j := 0) (i := 0) (q := 0) (x := a0) rfl rfl (dl_at t_X15_init 26 rfl) ?_
  refine g_sipush (pc := 59) X (n := 26400) rfl (dl_at t_X15_init 27 rfl) ?_
  refine r_newa (pc := 62) X 1 99 (Nat.le_of_ble_eq_true rfl) (Nat.le_of_ble_eq_true rfl) rfl q492 (r32_c rfl) rfl (dl_at t_X15_init 28 rfl) fun a62 h62 p62 k62 l62 E62 => ?_
  have k64 := kx (E55.trans E62) (by decide) k55
  refine r_putrF (pc := 64) X hname fX15_7 k64 q1144 rfl rfl (dl_at t_X15_init 29 rfl)  (fun h64 E64 => ?_)
  refine g_aload_n (pc := 67) X (j := 0) (i := 0) (q := 0) (x := a0) rfl rfl (dl_at t_X15_init 30 rfl) ?_
  refine g_sipush (pc := 68) X (n := 26400) rfl (dl_at t_X15_init 31 rfl) ?_
  refine r_newa (pc := 71) X 4 100 (Nat.le_of_ble_eq_true rfl) (Nat.le_of_ble_eq_true rfl) rfl q978 (r32_c rfl) rfl (dl_at t_X15_init 32 rfl) fun a71 h71 p71 k71 l71 E71 => ?_
  have k73 := kx (E64.trans E71) (by decide) k64
  refine r_putrF (pc := 73) X hname fX15_8 k73 q1146 rfl rfl (dl_at t_X15_init 33 rfl)  (fun h73 E73 => ?_)
  refine g_aload_n (pc := 76) X (j := 0) (i := 0) (q := 0) (x := a0) rfl rfl (dl_at t_X15_init 34 rfl) ?_
  refine g_sipush (pc := 77) X (n := 26400) rfl (dl_at t_X15_init 35 rfl) ?_
  refine r_newa (pc := 80) X 4 101 (Nat.le_of_ble_eq_true rfl) (Nat.le_of_ble_eq_true rfl) rfl q978 (r32_c rfl) rfl (dl_at t_X15_init 36 rfl) fun a80 h80 p80 k80 l80 E80 => ?_
  have k82 := kx (E73.trans E80) (by decide) k73
  refine r_putrF (pc := 82) X hname fX15_9 k82 q1148 rfl rfl (dl_at t_X15_init 37 rfl)  (fun h82 E82 => ?_)
  refine g_aload_n (pc := 85) X (j := 0) (i := 0) (q := 0) (x := a0) rfl rfl (dl_at t_X15_init 38 rfl) ?_
  refine g_sipush (pc := 86) X (n := 26400) rfl (dl_at t_X15_init 39 rfl) ?_
  refine r_newa (pc := 89) X 4 102 (Nat.le_of_ble_eq_true rfl) (Nat.le_of_ble_eq_true rfl) rfl q978 (r32_c rfl) rfl (dl_at t_X15_init 40 rfl) fun a89 h89 p89 k89 l89 E89 => ?_
  have k91 := kx (E82.trans E89) (by decide) k82
  refine r_putrF (pc := 91) X hname fX15_10 k91 q1150 rfl rfl (dl_at t_X15_init 41 rfl)  (fun h91 E91 => ?_)
  refine g_aload_n (pc := 94) X (j := 0) (i := 0) (q := 0) (x := a0) rfl rfl (dl_at t_X15_init 42 rfl) ?_
  refine g_sipush (pc := 95) X (n := 26400) rfl (dl_at t_X15_init 43 rfl) ?_
  refine r_newa (pc := 98) X 4 103 (Nat.le_of_ble_eq_true rfl) (Nat.le_of_ble_eq_true rfl) rfl q978 (r32_c rfl) rfl (dl_at t_X15_init 44 rfl) fun a98 h98 p98 k98 l98 E98 => ?_
  have k100 := kx (E91.trans E98) (by decide) k91
  refine r_putrF (pc := 100) X hname fX15_11 k100 q1152 rfl rfl (dl_at t_X15_init 45 rfl)  (fun h100 E100 => ?_)
  refine g_aload_n (pc := 103) X (j := 0) (i := 0) (q := 0) (x := a0) rfl rfl (dl_at t_X15_init 46 rfl) ?_
  refine g_sipush (pc := 104) X (n := 26400) rfl (dl_at t_X15_init 47 rfl) ?_
  refine r_newa (pc := 107) X 1 104 (Nat.le_of_ble_eq_true rfl) (Nat.le_of_ble_eq_true rfl) rfl q492 (r32_c rfl) rfl (dl_at t_X15_init 48 rfl) fun a107 h107 p107 k107 l107 E107 => ?_
  have k109 := kx (E100.trans E107) (by decide) k100
  refine r_putrF (pc := 109) X hname fX15_13 k109 q1156 rfl rfl (dl_at t_X15_init 49 rfl)  (fun h109 E109 => ?_)
  refine g_aload_n (pc := 112) X (j := 0) (i := 0) (q := 0) (x := a0) rfl rfl (dl_at t_X15_init 50 rfl) ?_
  refine g_sipush (pc := 113) X (n := 26400) rfl (dl_at t_X15_init 51 rfl) ?_
  refine r_newa (pc := 116) X 1 105 (Nat.le_of_ble_eq_true rfl) (Nat.le_of_ble_eq_true rfl) rfl q492 (r32_c rfl) rfl (dl_at t_X15_init 52 rfl) fun a116 h116 p116 k116 l116 E116 => ?_
  have k118 := kx (E109.trans E116) (by decide) k109
  refine r_putrF (pc := 118) X hname fX15_14 k118 q1158 rfl rfl (dl_at t_X15_init 53 rfl)  (fun h118 E118 => ?_)
  exact g_vret (pc := 121) X (v := 0) rfl rfl (dl_at t_X15_init 54 rfl)
def k_X16_init : List (Nat × Instr × Nat) := [(0, .aload_n 0, 1), (1, .invokespecial 3, 3), (4, .aload_n 0, 1), (5, .sipush 500, 3), (8, .newarray .int, 2), (10, .putfield 9, 3), (13, .aload_n 0, 1), (14, .sipush 500, 3), (17, .newarray .int, 2), (19, .putfield 15, 3), (22, .aload_n 0, 1), (23, .new 18, 3), (26, .dup, 1), (27, .ldc 20, 2), (29, .invokespecial 21, 3), (32, .putfield 24, 3), (35, .aload_n 0, 1), (36, .sipush 301, 3), (39, .newarray .int, 2), (41, .putfield 28, 3), (44, .aload_n 0, 1), (45, .sipush 301, 3), (48, .newarray .int, 2), (50, .putfield 31, 3), (53, .aload_n 0, 1), (54, .sipush 300, 3), (57, .newarray .int, 2), (59, .putfield 34, 3), (62, .aload_n 0, 1), (63, .sipush 500, 3), (66, .newarray .int, 2), (68, .putfield 37, 3), (71, .return_, 1)]
theorem t_X16_init : ∀ q ∈ k_X16_init, decode cX16_init q.1 = .ok q.2 := dl_all (by decide +kernel)
noncomputable def m_X16_init (a0 : Int) (h : Hp) : Option (Hp) :=
  al h 1697 500 fun a8 h8 =>
  pt h8 a0 1 a8 fun h10 =>
  al h10 1713 500 fun a17 h17 =>
  pt h17 a0 2 a17 fun h19 =>
  al h19 80 2 fun a23 h23 =>
  (m_X5_init a23 36384 h23).bind fun h29 =>
  pt h29 a0 4 a23 fun h32 =>
  al h32 1729 301 fun a39 h39 =>
  pt h39 a0 5 a39 fun h41 =>
  al h41 1745 301 fun a48 h48 =>
  pt h48 a0 6 a48 fun h50 =>
  al h50 1761 300 fun a57 h57 =>
  pt h57 a0 7 a57 fun h59 =>
  al h59 1777 500 fun a66 h66 =>
  pt h66 a0 8 a66 fun h68 =>
  some h68
theorem s_X16_init {l : Launch} [NoTr l] {D : SD} {a0 : Int} {h : Hp} (hk : h a0 (-2) = 256) {r : Hp} (hm : m_X16_init a0 h = some r) : Sim l D yX16_init (Cond.code yX16_init cX16_init 1 (Option.none : Option Jvm.ClassFile.FieldType)) 2 73 [rv D a0] h 0 ((0, 0), r) := by
  refine Sim.of (fin := fun (v : Hp) => ((0, 0), v)) (lsE := [(0, rv D a0)]) hm rfl cwS_code (la_r la_n) (ll_r ll_n) ?_
  intro p e s m below meth c X hcw hmm hcc hnm hname
  unfold m_X16_init
  refine g_aload_n (pc := 0) X (j := 0) (i := 0) (q := 0) (x := a0) rfl rfl (dl_at t_X16_init 0 rfl) ?_
  refine r_oinitK (pc := 1) X hk (by decide) q1202 q406 q407 (Nat.le_of_ble_eq_true rfl) (Nat.le_trans (Nat.add_le_add_right (cat24 (st := []) (Nat.le_of_ble_eq_true rfl)) 12) (Nat.le_of_ble_eq_true rfl)) (dl_at t_X16_init 1 rfl) ?_
  refine g_aload_n (pc := 4) X (j := 0) (i := 0) (q := 0) (x := a0) rfl rfl (dl_at t_X16_init 2 rfl) ?_
  refine g_sipush (pc := 5) X (n := 500) rfl (dl_at t_X16_init 3 rfl) ?_
  refine r_newa (pc := 8) X 1 106 (Nat.le_of_ble_eq_true rfl) (Nat.le_of_ble_eq_true rfl) rfl q492 (r32_c rfl) rfl (dl_at t_X16_init 4 rfl) fun a8 h8 p8 k8 l8 E8 => ?_
  have k10 := kx E8 (by decide) hk
  refine r_putrF (pc := 10) X hname fX16_1 k10 q1207 rfl rfl (dl_at t_X16_init 5 rfl)  (fun h10 E10 => ?_)
  refine g_aload_n (pc := 13) X (j := 0) (i := 0) (q := 0) (x := a0) rfl rfl (dl_at t_X16_init 6 rfl) ?_
  refine g_sipush (pc := 14) X (n := 500) rfl (dl_at t_X16_init 7 rfl) ?_
  refine r_newa (pc := 17) X 1 107 (Nat.le_of_ble_eq_true rfl) (Nat.le_of_ble_eq_true rfl) rfl q492 (r32_c rfl) rfl (dl_at t_X16_init 8 rfl) fun a17 h17 p17 k17 l17 E17 => ?_
  have k19 := kx (E10.trans E17) (by decide) k10
  refine r_putrF (pc := 19) X hname fX16_2 k19 q1209 rfl rfl (dl_at t_X16_init 9 rfl)  (fun h19 E19 => ?_)
  refine g_aload_n (pc := 22) X (j := 0) (i := 0) (q := 0) (x := a0) rfl rfl (dl_at t_X16_init 10 rfl) ?_
  refine r_new (pc := 23) X kX5 q1203 (dl_at t_X16_init 11 rfl) fun a23 h23 p23 k23 E23 => ?_
  refine g_dup (pc := 26) X rv_cat (dl_at t_X16_init 12 rfl) ?_
  refine g_ldc (pc := 27) X (index := 20) (n := 36384) q1204 (dl_at t_X16_init 13 rfl) ?_
  refine r_callV (pc := 29) X (fun _ hv => s_X5_init k23 (r32_c rfl) hv) cw_code q497 q359 (in_I X (As := [iv 36384]) (Int.ne_of_gt p23) rfl (Or.inr ⟨_, nw_in q1205 rfl⟩) q496 q497 ⟨by decide, by decide⟩ rfl (dl_at t_X16_init 14 rfl)) (dl_at t_X16_init 14 rfl) (cat24 (st := [rv D a23, rv D a0]) (Nat.le_of_ble_eq_true rfl)) (Nat.le_of_ble_eq_true rfl) (Nat.le_of_ble_eq_true rfl) fun h29 E29 => ?_
  have k32 := kx (E19.trans (E23.trans E29)) (by decide) k19
  refine r_putrF (pc := 32) X hname fX16_4 k32 q1212 rfl rfl (dl_at t_X16_init 15 rfl)  (fun h32 E32 => ?_)
  refine g_aload_n (pc := 35) X (j := 0) (i := 0) (q := 0) (x := a0) rfl rfl (dl_at t_X16_init 16 rfl) ?_
  refine g_sipush (pc := 36) X (n := 301) rfl (dl_at t_X16_init 17 rfl) ?_
  refine r_newa (pc := 39) X 1 108 (Nat.le_of_ble_eq_true rfl) (Nat.le_of_ble_eq_true rfl) rfl q492 (r32_c rfl) rfl (dl_at t_X16_init 18 rfl) fun a39 h39 p39 k39 l39 E39 => ?_
  have k41 := kx (E32.trans E39) (by decide) k32
  refine r_putrF (pc := 41) X hname fX16_5 k41 q1213 rfl rfl (dl_at t_X16_init 19 rfl)  (fun h41 E41 => ?_)
  refine g_aload_n (pc := 44) X (j := 0) (i := 0) (q := 0) (x := a0) rfl rfl (dl_at t_X16_init 20 rfl) ?_
  refine g_sipush (pc := 45) X (n := 301) rfl (dl_at t_X16_init 21 rfl) ?_
  refine r_newa (pc := 48) X 1 109 (Nat.le_of_ble_eq_true rfl) (Nat.le_of_ble_eq_true rfl) rfl q492 (r32_c rfl) rfl (dl_at t_X16_init 22 rfl) fun a48 h48 p48 k48 l48 E48 => ?_
  have k50 := kx (E41.trans E48) (by decide) k41
  refine r_putrF (pc := 50) X hname fX16_6 k50 q1214 rfl rfl (dl_at t_X16_init 23 rfl)  (fun h50 E50 => ?_)
  refine g_aload_n (pc := 53) X (j := 0) (i := 0) (q := 0) (x := a0) rfl rfl (dl_at t_X16_init 24 rfl) ?_
  refine g_sipush (pc := 54) X (n := 300) rfl (dl_at t_X16_init 25 rfl) ?_
  refine r_newa (pc := 57) X 1 110 (Nat.le_of_ble_eq_true rfl) (Nat.le_of_ble_eq_true rfl) rfl q492 (r32_c rfl) rfl (dl_at t_X16_init 26 rfl) fun a57 h57 p57 k57 l57 E57 => ?_
  have k59 := kx (E50.trans E57) (by decide) k50
  refine r_putrF (pc := 59) X hname fX16_7 k59 q1215 rfl rfl (dl_at t_X16_init 27 rfl)  (fun h59 E59 => ?_)
  refine g_aload_n (pc := 62) X (j := 0) (i := 0) (q := 0) (x := a0) rfl rfl (dl_at t_X16_init 28 rfl) ?_
  refine g_sipush (pc := 63) X (n := 500) rfl (dl_at t_X16_init 29 rfl) ?_
  refine r_newa (pc := 66) X 1 111 (Nat.le_of_ble_eq_true rfl) (Nat.le_of_ble_eq_true rfl) rfl q492 (r32_c rfl) rfl (dl_at t_X16_init 30 rfl) fun a66 h66 p66 k66 l66 E66 => ?_
  have k68 := kx (E59.trans E66) (by decide) k59
  refine r_putrF (pc := 68) X hname fX16_8 k68 q1216 rfl rfl (dl_at t_X16_init 31 rfl)  (fun h68 E68 => ?_)
  exact g_vret (pc := 71) X (v := 0) rfl rfl (dl_at t_X16_init 32 rfl)
def k_X14_init : List (Nat × Instr × Nat) := [(0, .aload_n 0, 1), (1, .invokespecial 3, 3), (4, .aload_n 0, 1), (5, .new 9, 3), (8, .dup, 1), (9, .invokespecial 11, 3), (12, .putfield 12, 3), (15, .aload_n 0, 1), (16, .sipush 1200, 3), (19, .anewarray 18, 3), (22, .putfield 20, 3), (25, .aload_n 0, 1), (26, .sipush 1200, 3), (29, .anewarray 18, 3), (32, .putfield 24, 3), (35, .aload_n 0, 1), (36, .sipush 1500, 3), (39, .newarray .int, 2), (41, .putfield 27, 3), (44, .aload_n 0, 1), (45, .sipush 1500, 3), (48, .newarray .int, 2), (50, .putfield 31, 3), (53, .aload_n 0, 1), (54, .sipush 1500, 3), (57, .newarray .int, 2), (59, .putfield 34, 3), (62, .aload_n 0, 1), (63, .sipush 1500, 3), (66, .newarray .int, 2), (68, .putfield 37, 3), (71, .aload_n 0, 1), (72, .sipush 1500, 3), (75, .newarray .boolean, 2), (77, .putfield 40, 3), (80, .aload_n 0, 1), (81, .sipush 1500, 3), (84, .newarray .int, 2), (86, .putfield 44, 3), (89, .aload_n 0, 1), (90, .sipush 500, 3), (93, .newarray .int, 2), (95, .putfield 47, 3), (98, .aload_n 0, 1), (99, .sipush 4000, 3), (102, .newarray .int, 2), (104, .putfield 50, 3), (107, .aload_n 0, 1), (108, .sipush 500, 3), (111, .newarray .int, 2), (113, .putfield 53, 3), (116, .aload_n 0, 1), (117, .sipush 500, 3), (120, .newarray .int, 2), (122, .putfield 56, 3), (125, .aload_n 0, 1), (126, .sipush 1700, 3), (129, .newarray .int, 2), (131, .putfield 59, 3), (134, .aload_n 0, 1), (135, .sipush 1700, 3), (138, .newarray .int, 2), (140, .putfield 62, 3), (143, .aload_n 0, 1), (144, .sipush 24000, 3), (147, .newarray .int, 2), (149, .putfield 65, 3), (152, .aload_n 0, 1), (153, .sipush 500, 3), (156, .newarray .int, 2), (158, .putfield 68, 3), (161, .aload_n 0, 1), (162, .sipush 500, 3), (165, .newarray .int, 2), (167, .putfield 71, 3), (170, .aload_n 0, 1), (171, .sipush 500, 3), (174, .newarray .int, 2), (176, .putfield 74, 3), (179, .aload_n 0, 1), (180, .sipush 500, 3), (183, .newarray .int, 2), (185, .putfield 77, 3), (188, .aload_n 0, 1), (189, .bipush 120, 2), (191, .newarray .int, 2), (193, .putfield 80, 3), (196, .aload_n 0, 1), (197, .bipush 120, 2), (199, .anewarray 18, 3), (202, .putfield 83, 3), (205, .aload_n 0, 1), (206, .bipush 120, 2), (208, .newarray .int, 2), (210, .putfield 86, 3), (213, .aload_n 0, 1), (214, .bipush 40, 2), (216, .newarray .int, 2), (218, .putfield 89, 3), (221, .aload_n 0, 1), (222, .bipush 40, 2), (224, .newarray .int, 2), (226, .putfield 92, 3), (229, .aload_n 0, 1), (230, .sipush 500, 3), (233, .newarray .int, 2), (235, .putfield 95, 3), (238, .aload_n 0, 1), (239, .sipush 500, 3), (242, .newarray .int, 2), (244, .putfield 98, 3), (247, .aload_n 0, 1), (248, .sipush 500, 3), (251, .newarray .int, 2), (253, .putfield 101, 3), (256, .aload_n 0, 1), (257, .new 104, 3), (260, .dup, 1), (261, .invokespecial 106, 3), (264, .putfield 107, 3), (267, .aload_n 0, 1), (268, .sipush 2320, 3), (271, .newarray .int, 2), (273, .putfield 111, 3), (276, .aload_n 0, 1), (277, .sipush 2320, 3), (280, .newarray .int, 2), (282, .putfield 114, 3), (285, .aload_n 0, 1), (286, .sipush 2320, 3), (289, .newarray .int, 2), (291, .putfield 117, 3), (294, .aload_n 0, 1), (295, .bipush 121, 2), (297, .newarray .int, 2), (299, .putfield 120, 3), (302, .aload_n 0, 1), (303, .sipush 26401, 3), (306, .newarray .long, 2), (308, .putfield 123, 3), (311, .aload_n 0, 1), (312, .sipush 26400, 3), (315, .newarray .int, 2), (317, .putfield 127, 3), (320, .aload_n 0, 1), (321, .sipush 1500, 3), (324, .newarray .int, 2), (326, .putfield 130, 3), (329, .aload_n 0, 1), (330, .sipush 1500, 3), (333, .newarray .int, 2), (335, .putfield 133, 3), (338, .aload_n 0, 1), (339, .sipush 1500, 3), (342, .newarray .int, 2), (344, .putfield 136, 3), (347, .aload_n 0, 1), (348, .sipush 1500, 3), (351, .newarray .int, 2), (353, .putfield 139, 3), (356, .aload_n 0, 1), (357, .sipush 1500, 3), (360, .newarray .int, 2), (362, .putfield 142, 3), (365, .aload_n 0, 1), (366, .sipush 1500, 3), (369, .newarray .int, 2), (371, .putfield 145, 3), (374, .aload_n 0, 1), (375, .sipush 1500, 3), (378, .newarray .int, 2), (380, .putfield 148, 3), (383, .aload_n 0, 1), (384, .sipush 1500, 3), (387, .newarray .int, 2), (389, .putfield 151, 3), (392, .aload_n 0, 1), (393, .aload_n 1, 1), (394, .putfield 154, 3), (397, .return_, 1)]
theorem t_X14_init : ∀ q ∈ k_X14_init, decode cX14_init q.1 = .ok q.2 := dl_all (by decide +kernel)
noncomputable def m_X14_init (a0 a1 : Int) (h : Hp) : Option (Hp) :=
  al h 240 16 fun a5 h5 =>
  (m_X15_init a5 h5).bind fun h9 =>
  pt h9 a0 1 a5 fun h12 =>
  al h12 1801 1200 fun a19 h19 =>
  pt h19 a0 8 a19 fun h22 =>
  al h22 1817 1200 fun a29 h29 =>
  pt h29 a0 10 a29 fun h32 =>
  al h32 1825 1500 fun a39 h39 =>
  pt h39 a0 12 a39 fun h41 =>
  al h41 1841 1500 fun a48 h48 =>
  pt h48 a0 13 a48 fun h50 =>
  al h50 1857 1500 fun a57 h57 =>
  pt h57 a0 14 a57 fun h59 =>
  al h59 1873 1500 fun a66 h66 =>
  pt h66 a0 15 a66 fun h68 =>
  al h68 1891 1500 fun a75 h75 =>
  pt h75 a0 16 a75 fun h77 =>
  al h77 1905 1500 fun a84 h84 =>
  pt h84 a0 17 a84 fun h86 =>
  al h86 1921 500 fun a93 h93 =>
  pt h93 a0 19 a93 fun h95 =>
  al h95 1937 4000 fun a102 h102 =>
  pt h102 a0 20 a102 fun h104 =>
  al h104 1953 500 fun a111 h111 =>
  pt h111 a0 21 a111 fun h113 =>
  al h113 1969 500 fun a120 h120 =>
  pt h120 a0 22 a120 fun h122 =>
  al h122 1985 1700 fun a129 h129 =>
  pt h129 a0 24 a129 fun h131 =>
  al h131 2001 1700 fun a138 h138 =>
  pt h138 a0 25 a138 fun h140 =>
  al h140 2017 24000 fun a147 h147 =>
  pt h147 a0 28 a147 fun h149 =>
  al h149 2033 500 fun a156 h156 =>
  pt h156 a0 29 a156 fun h158 =>
  al h158 2049 500 fun a165 h165 =>
  pt h165 a0 30 a165 fun h167 =>
  al h167 2065 500 fun a174 h174 =>
  pt h174 a0 31 a174 fun h176 =>
  al h176 2081 500 fun a183 h183 =>
  pt h183 a0 32 a183 fun h185 =>
  al h185 2097 120 fun a191 h191 =>
  pt h191 a0 33 a191 fun h193 =>
  al h193 2121 120 fun a199 h199 =>
  pt h199 a0 34 a199 fun h202 =>
  al h202 2129 120 fun a208 h208 =>
  pt h208 a0 35 a208 fun h210 =>
  al h210 2145 40 fun a216 h216 =>
  pt h216 a0 37 a216 fun h218 =>
  al h218 2161 40 fun a224 h224 =>
  pt h224 a0 38 a224 fun h226 =>
  al h226 2177 500 fun a233 h233 =>
  pt h233 a0 40 a233 fun h235 =>
  al h235 2193 500 fun a242 h242 =>
  pt h242 a0 41 a242 fun h244 =>
  al h244 2209 500 fun a251 h251 =>
  pt h251 a0 42 a251 fun h253 =>
  al h253 256 10 fun a257 h257 =>
  (m_X16_init a257 h257).bind fun h261 =>
  pt h261 a0 43 a257 fun h264 =>
  al h264 2225 2320 fun a271 h271 =>
  pt h271 a0 50 a271 fun h273 =>
  al h273 2241 2320 fun a280 h280 =>
  pt h280 a0 51 a280 fun h282 =>
  al h282 2257 2320 fun a289 h289 =>
  pt h289 a0 52 a289 fun h291 =>
  al h291 2273 121 fun a297 h297 =>
  pt h297 a0 54 a297 fun h299 =>
  al h299 2292 26401 fun a306 h306 =>
  pt h306 a0 55 a306 fun h308 =>
  al h308 2305 26400 fun a315 h315 =>
  pt h315 a0 56 a315 fun h317 =>
  al h317 2321 1500 fun a324 h324 =>
  pt h324 a0 59 a324 fun h326 =>
  al h326 2337 1500 fun a333 h333 =>
  pt h333 a0 60 a333 fun h335 =>
  al h335 2353 1500 fun a342 h342 =>
  pt h342 a0 61 a342 fun h344 =>
  al h344 2369 1500 fun a351 h351 =>
  pt h351 a0 62 a351 fun h353 =>
  al h353 2385 1500 fun a360 h360 =>
  pt h360 a0 63 a360 fun h362 =>
  al h362 2401 1500 fun a369 h369 =>
  pt h369 a0 64 a369 fun h371 =>
  al h371 2417 1500 fun a378 h378 =>
  pt h378 a0 65 a378 fun h380 =>
  al h380 2433 1500 fun a387 h387 =>
  pt h387 a0 66 a387 fun h389 =>
  pt h389 a0 0 a1 fun h394 =>
  some h394
theorem s_X14_init {l : Launch} [NoTr l] {D : SD} {a0 a1 : Int} {h : Hp} (hk : h a0 (-2) = 224) {r : Hp} (hm : m_X14_init a0 a1 h = some r) : Sim l D yX14_init (Cond.code yX14_init cX14_init 2 (Option.none : Option Jvm.ClassFile.FieldType)) 3 109 [rv D a0, rv D a1] h 0 ((0, 0), r) := by
  refine Sim.of (fin := fun (v : Hp) => ((0, 0), v)) (lsE := [(0, rv D a0), (1, rv D a1)]) hm rfl cwS_code (la_r (la_r la_n)) (ll_r (ll_r ll_n)) ?_
  intro p e s m below meth c X hcw hmm hcc hnm hname
  unfold m_X14_init
  refine g_aload_n (pc := 0) X (j := 0) (i := 0) (q := 0) (x := a0) rfl rfl (dl_at t_X14_init 0 rfl) ?_
  refine r_oinitK (pc := 1) X hk (by decide) q1120 q406 q407 (Nat.le_of_ble_eq_true rfl) (Nat.le_trans (Nat.add_le_add_right (cat24 (st := []) (Nat.le_of_ble_eq_true rfl)) 12) (Nat.le_of_ble_eq_true rfl)) (dl_at t_X14_init 1 rfl) ?_
  refine g_aload_n (pc := 4) X (j := 0) (i := 0) (q := 0) (x := a0) rfl rfl (dl_at t_X14_init 2 rfl) ?_
  refine r_new (pc := 5) X kX15 q1121 (dl_at t_X14_init 3 rfl) fun a5 h5 p5 k5 E5 => ?_
  refine g_dup (pc := 8) X rv_cat (dl_at t_X14_init 4 rfl) ?_
  refine r_callV (pc := 9) X (fun _ hv => s_X15_init k5 hv) cw_code q1125 q369 (in_I X (As := []) (Int.ne_of_gt p5) rfl (Or.inr ⟨_, nw_in q1123 rfl⟩) q1124 q1125 ⟨by decide, by decide⟩ rfl (dl_at t_X14_init 5 rfl)) (dl_at t_X14_init 5 rfl) (cat24 (st := [rv D a5, rv D a0]) (Nat.le_of_ble_eq_true rfl)) (Nat.le_of_ble_eq_true rfl) (Nat.le_of_ble_eq_true rfl) fun h9 E9 => ?_
  have k12 := kx (E5.trans E9) (by decide) hk
  refine r_putrF (pc := 12) X hname fX14_1 k12 q1242 rfl rfl (dl_at t_X14_init 6 rfl)  (fun h12 E12 => ?_)
  refine g_aload_n (pc := 15) X (j := 0) (i := 0) (q := 0) (x := a0) rfl rfl (dl_at t_X14_init 7 rfl) ?_
  refine g_sipush (pc := 16) X (n := 1200) rfl (dl_at t_X14_init 8 rfl) ?_
  refine r_anew (pc := 19) X 9 112 (Nat.le_of_ble_eq_true rfl) (Nat.le_of_ble_eq_true rfl) rfl q1195 (r32_c rfl) rfl (dl_at t_X14_init 9 rfl) fun a19 h19 p19 k19 l19 E19 => ?_
  have k22 := kx (E12.trans E19) (by decide) k12
  refine r_putrF (pc := 22) X hname fX14_8 k22 q1252 rfl rfl (dl_at t_X14_init 10 rfl)  (fun h22 E22 => ?_)
  refine g_aload_n (pc := 25) X (j := 0) (i := 0) (q := 0) (x := a0) rfl rfl (dl_at t_X14_init 11 rfl) ?_
  refine g_sipush (pc := 26) X (n := 1200) rfl (dl_at t_X14_init 12 rfl) ?_
  refine r_anew (pc := 29) X 9 113 (Nat.le_of_ble_eq_true rfl) (Nat.le_of_ble_eq_true rfl) rfl q1195 (r32_c rfl) rfl (dl_at t_X14_init 13 rfl) fun a29 h29 p29 k29 l29 E29 => ?_
  have k32 := kx (E22.trans E29) (by decide) k22
  refine r_putrF (pc := 32) X hname fX14_10 k32 q1256 rfl rfl (dl_at t_X14_init 14 rfl)  (fun h32 E32 => ?_)
  refine g_aload_n (pc := 35) X (j := 0) (i := 0) (q := 0) (x := a0) rfl rfl (dl_at t_X14_init 15 rfl) ?_
  refine g_sipush (pc := 36) X (n := 1500) rfl (dl_at t_X14_init 16 rfl) ?_
  refine r_newa (pc := 39) X 1 114 (Nat.le_of_ble_eq_true rfl) (Nat.le_of_ble_eq_true rfl) rfl q492 (r32_c rfl) rfl (dl_at t_X14_init 17 rfl) fun a39 h39 p39 k39 l39 E39 => ?_
  have k41 := kx (E32.trans E39) (by decide) k32
  refine r_putrF (pc := 41) X hname fX14_12 k41 q1260 rfl rfl (dl_at t_X14_init 18 rfl)  (fun h41 E41 => ?_)
  refine g_aload_n (pc := 44) X (j := 0) (i := 0) (q := 0) (x := a0) rfl rfl (dl_at t_X14_init 19 rfl) ?_
  refine g_sipush (pc := 45) X (n := 1500) rfl (dl_at t_X14_init 20 rfl) ?_
  refine r_newa (pc := 48) X 1 115 (Nat.le_of_ble_eq_true rfl) (Nat.le_of_ble_eq_true rfl) rfl q492 (r32_c rfl) rfl (dl_at t_X14_init 21 rfl) fun a48 h48 p48 k48 l48 E48 => ?_
  have k50 := kx (E41.trans E48) (by decide) k41
  refine r_putrF (pc := 50) X hname fX14_13 k50 q1262 rfl rfl (dl_at t_X14_init 22 rfl)  (fun h50 E50 => ?_)
  refine g_aload_n (pc := 53) X (j := 0) (i := 0) (q := 0) (x := a0) rfl rfl (dl_at t_X14_init 23 rfl) ?_
  refine g_sipush (pc := 54) X (n := 1500) rfl (dl_at t_X14_init 24 rfl) ?_
  refine r_newa (pc := 57) X 1 116 (Nat.le_of_ble_eq_true rfl) (Nat.le_of_ble_eq_true rfl) rfl q492 (r32_c rfl) rfl (dl_at t_X14_init 25 rfl) fun a57 h57 p57 k57 l57 E57 => ?_
  have k59 := kx (E50.trans E57) (by decide) k50
  refine r_putrF (pc := 59) X hname fX14_14 k59 q1264 rfl rfl (dl_at t_X14_init 26 rfl)  (fun h59 E59 => ?_)
  refine g_aload_n (pc := 62) X (j := 0) (i := 0) (q := 0) (x := a0) rfl rfl (dl_at t_X14_init 27 rfl) ?_
  refine g_sipush (pc := 63) X (n := 1500) rfl (dl_at t_X14_init 28 rfl) ?_
  refine r_newa (pc := 66) X 1 117 (Nat.le_of_ble_eq_true rfl) (Nat.le_of_ble_eq_true rfl) rfl q492 (r32_c rfl) rfl (dl_at t_X14_init 29 rfl) fun a66 h66 p66 k66 l66 E66 => ?_
  have k68 := kx (E59.trans E66) (by decide) k59
  refine r_putrF (pc := 68) X hname fX14_15 k68 q1265 rfl rfl (dl_at t_X14_init 30 rfl)  (fun h68 E68 => ?_)
  refine g_aload_n (pc := 71) X (j := 0) (i := 0) (q := 0) (x := a0) rfl rfl (dl_at t_X14_init 31 rfl) ?_
  refine g_sipush (pc := 72) X (n := 1500) rfl (dl_at t_X14_init 32 rfl) ?_
  refine r_newa (pc := 75) X 3 118 (Nat.le_of_ble_eq_true rfl) (Nat.le_of_ble_eq_true rfl) rfl q635 (r32_c rfl) rfl (dl_at t_X14_init 33 rfl) fun a75 h75 p75 k75 l75 E75 => ?_
  have k77 := kx (E68.trans E75) (by decide) k68
  refine r_putrF (pc := 77) X hname fX14_16 k77 q1266 rfl rfl (dl_at t_X14_init 34 rfl)  (fun h77 E77 => ?_)
  refine g_aload_n (pc := 80) X (j := 0) (i := 0) (q := 0) (x := a0) rfl rfl (dl_at t_X14_init 35 rfl) ?_
  refine g_sipush (pc := 81) X (n := 1500) rfl (dl_at t_X14_init 36 rfl) ?_
  refine r_newa (pc := 84) X 1 119 (Nat.le_of_ble_eq_true rfl) (Nat.le_of_ble_eq_true rfl) rfl q492 (r32_c rfl) rfl (dl_at t_X14_init 37 rfl) fun a84 h84 p84 k84 l84 E84 => ?_
  have k86 := kx (E77.trans E84) (by decide) k77
  refine r_putrF (pc := 86) X hname fX14_17 k86 q1267 rfl rfl (dl_at t_X14_init 38 rfl)  (fun h86 E86 => ?_)
  refine g_aload_n (pc := 89) X (j := 0) (i := 0) (q := 0) (x := a0) rfl rfl (dl_at t_X14_init 39 rfl) ?_
  refine g_sipush (pc := 90) X (n := 500) rfl (dl_at t_X14_init 40 rfl) ?_
  refine r_newa (pc := 93) X 1 120 (Nat.le_of_ble_eq_true rfl) (Nat.le_of_ble_eq_true rfl) rfl q492 (r32_c rfl) rfl (dl_at t_X14_init 41 rfl) fun a93 h93 p93 k93 l93 E93 => ?_
  have k95 := kx (E86.trans E93) (by decide) k86
  refine r_putrF (pc := 95) X hname fX14_19 k95 q1271 rfl rfl (dl_at t_X14_init 42 rfl)  (fun h95 E95 => ?_)
  refine g_aload_n (pc := 98) X (j := 0) (i := 0) (q := 0) (x := a0) rfl rfl (dl_at t_X14_init 43 rfl) ?_
  refine g_sipush (pc := 99) X (n := 4000) rfl (dl_at t_X14_init 44 rfl) ?_
  refine r_newa (pc := 102) X 1 121 (Nat.le_of_ble_eq_true rfl) (Nat.le_of_ble_eq_true rfl) rfl q492 (r32_c rfl) rfl (dl_at t_X14_init 45 rfl) fun a102 h102 p102 k102 l102 E102 => ?_
  have k104 := kx (E95.trans E102) (by decide) k95
  refine r_putrF (pc := 104) X hname fX14_20 k104 q1272 rfl rfl (dl_at t_X14_init 46 rfl)  (fun h104 E104 => ?_)
  refine g_aload_n (pc := 107) X (j := 0) (i := 0) (q := 0) (x := a0) rfl rfl (dl_at t_X14_init 47 rfl) ?_
  refine g_sipush (pc := 108) X (n := 500) rfl (dl_at t_X14_init 48 rfl) ?_
  refine r_newa (pc := 111) X 1 122 (Nat.le_of_ble_eq_true rfl) (Nat.le_of_ble_eq_true rfl) rfl q492 (r32_c rfl) rfl (dl_at t_X14_init 49 rfl) fun a111 h111 p111 k111 l111 E111 => ?_
  have k113 := kx (E104.trans E111) (by decide) k104
  refine r_putrF (pc := 113) X hname fX14_21 k113 q1273 rfl rfl (dl_at t_X14_init 50 rfl)  (fun h113 E113 => ?_)
  refine g_aload_n (pc := 116) X (j := 0) (i := 0) (q := 0) (x := a0) rfl rfl (dl_at t_X14_init 51 rfl) ?_
  refine g_sipush (pc := 117) X (n := 500) rfl (dl_at t_X14_init 52 rfl) ?_
  refine r_newa (pc := 120) X 1 123 (Nat.le_of_ble_eq_true rfl) (Nat.le_of_ble_eq_true rfl) rfl q492 (r32_c rfl) rfl (dl_at t_X14_init 53 rfl) fun a120 h120 p120 k120 l120 E120 => ?_
  have k122 := kx (E113.trans E120) (by decide) k113
  refine r_putrF (pc := 122) X hname fX14_22 k122 q1275 rfl rfl (dl_at t_X14_init 54 rfl)  (fun h122 E122 => ?_)
  refine g_aload_n (pc := 125) X (j := 0) (i := 0) (q := 0) (x := a0) rfl rfl (dl_at t_X14_init 55 rfl) ?_
  refine g_sipush (pc := 126) X (n := 1700) rfl (dl_at t_X14_init 56 rfl) ?_
  refine r_newa (pc := 129) X 1 124 (Nat.le_of_ble_eq_true rfl) (Nat.le_of_ble_eq_true rfl) rfl q492 (r32_c rfl) rfl (dl_at t_X14_init 57 rfl) fun a129 h129 p129 k129 l129 E129 => ?_
  have k131 := kx (E122.trans E129) (by decide) k122
  refine r_putrF (pc := 131) X hname fX14_24 k131 q1277 rfl rfl (dl_at t_X14_init 58 rfl)  (fun h131 E131 => ?_)
  refine g_aload_n (pc := 134) X (j := 0) (i := 0) (q := 0) (x := a0) rfl rfl (dl_at t_X14_init 59 rfl) ?_
  refine g_sipush (pc := 135) X (n := 1700) rfl (dl_at t_X14_init 60 rfl) ?_
  refine r_newa (pc := 138) X 1 125 (Nat.le_of_ble_eq_true rfl) (Nat.le_of_ble_eq_true rfl) rfl q492 (r32_c rfl) rfl (dl_at t_X14_init 61 rfl) fun a138 h138 p138 k138 l138 E138 => ?_
  have k140 := kx (E131.trans E138) (by decide) k131
  refine r_putrF (pc := 140) X hname fX14_25 k140 q1278 rfl rfl (dl_at t_X14_init 62 rfl)  (fun h140 E140 => ?_)
  refine g_aload_n (pc := 143) X (j := 0) (i := 0) (q := 0) (x := a0) rfl rfl (dl_at t_X14_init 63 rfl) ?_
  refine g_sipush (pc := 144) X (n := 24000) rfl (dl_at t_X14_init 64 rfl) ?_
  refine r_newa (pc := 147) X 1 126 (Nat.le_of_ble_eq_true rfl) (Nat.le_of_ble_eq_true rfl) rfl q492 (r32_c rfl) rfl (dl_at t_X14_init 65 rfl) fun a147 h147 p147 k147 l147 E147 => ?_
  have k149 := kx (E140.trans E147) (by decide) k140
  refine r_putrF (pc := 149) X hname fX14_28 k149 q1281 rfl rfl (dl_at t_X14_init 66 rfl)  (fun h149 E149 => ?_)
  refine g_aload_n (pc := 152) X (j := 0) (i := 0) (q := 0) (x := a0) rfl rfl (dl_at t_X14_init 67 rfl) ?_
  refine g_sipush (pc := 153) X (n := 500) rfl (dl_at t_X14_init 68 rfl) ?_
  refine r_newa (pc := 156) X 1 127 (Nat.le_of_ble_eq_true rfl) (Nat.le_of_ble_eq_true rfl) rfl q492 (r32_c rfl) rfl (dl_at t_X14_init 69 rfl) fun a156 h156 p156 k156 l156 E156 => ?_
  have k158 := kx (E149.trans E156) (by decide) k149
  refine r_putrF (pc := 158) X hname fX14_29 k158 q1282 rfl rfl (dl_at t_X14_init 70 rfl)  (fun h158 E158 => ?_)
  refine g_aload_n (pc := 161) X (j := 0) (i := 0) (q := 0) (x := a0) rfl rfl (dl_at t_X14_init 71 rfl) ?_
  refine g_sipush (pc := 162) X (n := 500) rfl (dl_at t_X14_init 72 rfl) ?_
  refine r_newa (pc := 165) X 1 128 (Nat.le_of_ble_eq_true rfl) (Nat.le_of_ble_eq_true rfl) rfl q492 (r32_c rfl) rfl (dl_at t_X14_init 73 rfl) fun a165 h165 p165 k165 l165 E165 => ?_
  have k167 := kx (E158.trans E165) (by decide) k158
  refine r_putrF (pc := 167) X hname fX14_30 k167 q1283 rfl rfl (dl_at t_X14_init 74 rfl)  (fun h167 E167 => ?_)
  refine g_aload_n (pc := 170) X (j := 0) (i := 0) (q := 0) (x := a0) rfl rfl (dl_at t_X14_init 75 rfl) ?_
  refine g_sipush (pc := 171) X (n := 500) rfl (dl_at t_X14_init 76 rfl) ?_
  refine r_newa (pc := 174) X 1 129 (Nat.le_of_ble_eq_true rfl) (Nat.le_of_ble_eq_true rfl) rfl q492 (r32_c rfl) rfl (dl_at t_X14_init 77 rfl) fun a174 h174 p174 k174 l174 E174 => ?_
  have k176 := kx (E167.trans E174) (by decide) k167
  refine r_putrF (pc := 176) X hname fX14_31 k176 q1284 rfl rfl (dl_at t_X14_init 78 rfl)  (fun h176 E176 => ?_)
  refine g_aload_n (pc := 179) X (j := 0) (i := 0) (q := 0) (x := a0) rfl rfl (dl_at t_X14_init 79 rfl) ?_
  refine g_sipush (pc := 180) X (n := 500) rfl (dl_at t_X14_init 80 rfl) ?_
  refine r_newa (pc := 183) X 1 130 (Nat.le_of_ble_eq_true rfl) (Nat.le_of_ble_eq_true rfl) rfl q492 (r32_c rfl) rfl (dl_at t_X14_init 81 rfl) fun a183 h183 p183 k183 l183 E183 => ?_
  have k185 := kx (E176.trans E183) (by decide) k176
  refine r_putrF (pc := 185) X hname fX14_32 k185 q1286 rfl rfl (dl_at t_X14_init 82 rfl)  (fun h185 E185 => ?_)
  refine g_aload_n (pc := 188) X (j := 0) (i := 0) (q := 0) (x := a0) rfl rfl (dl_at t_X14_init 83 rfl) ?_
  refine g_bipush (pc := 189) X (n := 120) rfl (dl_at t_X14_init 84 rfl) ?_
  refine r_newa (pc := 191) X 1 131 (Nat.le_of_ble_eq_true rfl) (Nat.le_of_ble_eq_true rfl) rfl q492 (r32_c rfl) rfl (dl_at t_X14_init 85 rfl) fun a191 h191 p191 k191 l191 E191 => ?_
  have k193 := kx (E185.trans E191) (by decide) k185
  refine r_putrF (pc := 193) X hname fX14_33 k193 q1288 rfl rfl (dl_at t_X14_init 86 rfl)  (fun h193 E193 => ?_)
  refine g_aload_n (pc := 196) X (j := 0) (i := 0) (q := 0) (x := a0) rfl rfl (dl_at t_X14_init 87 rfl) ?_
  refine g_bipush (pc := 197) X (n := 120) rfl (dl_at t_X14_init 88 rfl) ?_
  refine r_anew (pc := 199) X 9 132 (Nat.le_of_ble_eq_true rfl) (Nat.le_of_ble_eq_true rfl) rfl q1195 (r32_c rfl) rfl (dl_at t_X14_init 89 rfl) fun a199 h199 p199 k199 l199 E199 => ?_
  have k202 := kx (E193.trans E199) (by decide) k193
  refine r_putrF (pc := 202) X hname fX14_34 k202 q1290 rfl rfl (dl_at t_X14_init 90 rfl)  (fun h202 E202 => ?_)
  refine g_aload_n (pc := 205) X (j := 0) (i := 0) (q := 0) (x := a0) rfl rfl (dl_at t_X14_init 91 rfl) ?_
  refine g_bipush (pc := 206) X (n := 120) rfl (dl_at t_X14_init 92 rfl) ?_
  refine r_newa (pc := 208) X 1 133 (Nat.le_of_ble_eq_true rfl) (Nat.le_of_ble_eq_true rfl) rfl q492 (r32_c rfl) rfl (dl_at t_X14_init 93 rfl) fun a208 h208 p208 k208 l208 E208 => ?_
  have k210 := kx (E202.trans E208) (by decide) k202
  refine r_putrF (pc := 210) X hname fX14_35 k210 q1291 rfl rfl (dl_at t_X14_init 94 rfl)  (fun h210 E210 => ?_)
  refine g_aload_n (pc := 213) X (j := 0) (i := 0) (q := 0) (x := a0) rfl rfl (dl_at t_X14_init 95 rfl) ?_
  refine g_bipush (pc := 214) X (n := 40) rfl (dl_at t_X14_init 96 rfl) ?_
  refine r_newa (pc := 216) X 1 134 (Nat.le_of_ble_eq_true rfl) (Nat.le_of_ble_eq_true rfl) rfl q492 (r32_c rfl) rfl (dl_at t_X14_init 97 rfl) fun a216 h216 p216 k216 l216 E216 => ?_
  have k218 := kx (E210.trans E216) (by decide) k210
  refine r_putrF (pc := 218) X hname fX14_37 k218 q1295 rfl rfl (dl_at t_X14_init 98 rfl)  (fun h218 E218 => ?_)
  refine g_aload_n (pc := 221) X (j := 0) (i := 0) (q := 0) (x := a0) rfl rfl (dl_at t_X14_init 99 rfl) ?_
  refine g_bipush (pc := 222) X (n := 40) rfl (dl_at t_X14_init 100 rfl) ?_
  refine r_newa (pc := 224) X 1 135 (Nat.le_of_ble_eq_true rfl) (Nat.le_of_ble_eq_true rfl) rfl q492 (r32_c rfl) rfl (dl_at t_X14_init 101 rfl) fun a224 h224 p224 k224 l224 E224 => ?_
  have k226 := kx (E218.trans E224) (by decide) k218
  refine r_putrF (pc := 226) X hname fX14_38 k226 q1297 rfl rfl (dl_at t_X14_init 102 rfl)  (fun h226 E226 => ?_)
  refine g_aload_n (pc := 229) X (j := 0) (i := 0) (q := 0) (x := a0) rfl rfl (dl_at t_X14_init 103 rfl) ?_
  refine g_sipush (pc := 230) X (n := 500) rfl (dl_at t_X14_init 104 rfl) ?_
  refine r_newa (pc := 233) X 1 136 (Nat.le_of_ble_eq_true rfl) (Nat.le_of_ble_eq_true rfl) rfl q492 (r32_c rfl) rfl (dl_at t_X14_init 105 rfl) fun a233 h233 p233 k233 l233 E233 => ?_
  have k235 := kx (E226.trans E233) (by decide) k226
  refine r_putrF (pc := 235) X hname fX14_40 k235 q1301 rfl rfl (dl_at t_X14_init 106 rfl)  (fun h235 E235 => ?_)
  refine g_aload_n (pc := 238) X (j := 0) (i := 0) (q := 0) (x := a0) rfl rfl (dl_at t_X14_init 107 rfl) ?_
  refine g_sipush (pc := 239) X (n := 500) rfl (dl_at t_X14_init 108 rfl) ?_
  refine r_newa (pc := 242) X 1 137 (Nat.le_of_ble_eq_true rfl) (Nat.le_of_ble_eq_true rfl) rfl q492 (r32_c rfl) rfl (dl_at t_X14_init 109 rfl) fun a242 h242 p242 k242 l242 E242 => ?_
  have k244 := kx (E235.trans E242) (by decide) k235
  refine r_putrF (pc := 244) X hname fX14_41 k244 q1302 rfl rfl (dl_at t_X14_init 110 rfl)  (fun h244 E244 => ?_)
  refine g_aload_n (pc := 247) X (j := 0) (i := 0) (q := 0) (x := a0) rfl rfl (dl_at t_X14_init 111 rfl) ?_
  refine g_sipush (pc := 248) X (n := 500) rfl (dl_at t_X14_init 112 rfl) ?_
  refine r_newa (pc := 251) X 1 138 (Nat.le_of_ble_eq_true rfl) (Nat.le_of_ble_eq_true rfl) rfl q492 (r32_c rfl) rfl (dl_at t_X14_init 113 rfl) fun a251 h251 p251 k251 l251 E251 => ?_
  have k253 := kx (E244.trans E251) (by decide) k244
  refine r_putrF (pc := 253) X hname fX14_42 k253 q1303 rfl rfl (dl_at t_X14_init 114 rfl)  (fun h253 E253 => ?_)
  refine g_aload_n (pc := 256) X (j := 0) (i := 0) (q := 0) (x := a0) rfl rfl (dl_at t_X14_init 115 rfl) ?_
  refine r_new (pc := 257) X kX16 q1197 (dl_at t_X14_init 116 rfl) fun a257 h257 p257 k257 E257 => ?_
  refine g_dup (pc := 260) X rv_cat (dl_at t_X14_init 117 rfl) ?_
  refine r_callV (pc := 261) X (fun _ hv => s_X16_init k257 hv) cw_code q1201 q370 (in_I X (As := []) (Int.ne_of_gt p257) rfl (Or.inr ⟨_, nw_in q1199 rfl⟩) q1200 q1201 ⟨by decide, by decide⟩ rfl (dl_at t_X14_init 118 rfl)) (dl_at t_X14_init 118 rfl) (cat24 (st := [rv D a257, rv D a0]) (Nat.le_of_ble_eq_true rfl)) (Nat.le_of_ble_eq_true rfl) (Nat.le_of_ble_eq_true rfl) fun h261 E261 => ?_
  have k264 := kx (E253.trans (E257.trans E261)) (by decide) k253
  refine r_putrF (pc := 264) X hname fX14_43 k264 q1304 rfl rfl (dl_at t_X14_init 119 rfl)  (fun h264 E264 => ?_)
  refine g_aload_n (pc := 267) X (j := 0) (i := 0) (q := 0) (x := a0) rfl rfl (dl_at t_X14_init 120 rfl) ?_
  refine g_sipush (pc := 268) X (n := 2320) rfl (dl_at t_X14_init 121 rfl) ?_
  refine r_newa (pc := 271) X 1 139 (Nat.le_of_ble_eq_true rfl) (Nat.le_of_ble_eq_true rfl) rfl q492 (r32_c rfl) rfl (dl_at t_X14_init 122 rfl) fun a271 h271 p271 k271 l271 E271 => ?_
  have k273 := kx (E264.trans E271) (by decide) k264
  refine r_putrF (pc := 273) X hname fX14_50 k273 q1312 rfl rfl (dl_at t_X14_init 123 rfl)  (fun h273 E273 => ?_)
  refine g_aload_n (pc := 276) X (j := 0) (i := 0) (q := 0) (x := a0) rfl rfl (dl_at t_X14_init 124 rfl) ?_
  refine g_sipush (pc := 277) X (n := 2320) rfl (dl_at t_X14_init 125 rfl) ?_
  refine r_newa (pc := 280) X 1 140 (Nat.le_of_ble_eq_true rfl) (Nat.le_of_ble_eq_true rfl) rfl q492 (r32_c rfl) rfl (dl_at t_X14_init 126 rfl) fun a280 h280 p280 k280 l280 E280 => ?_
  have k282 := kx (E273.trans E280) (by decide) k273
  refine r_putrF (pc := 282) X hname fX14_51 k282 q1313 rfl rfl (dl_at t_X14_init 127 rfl)  (fun h282 E282 => ?_)
  refine g_aload_n (pc := 285) X (j := 0) (i := 0) (q := 0) (x := a0) rfl rfl (dl_at t_X14_init 128 rfl) ?_
  refine g_sipush (pc := 286) X (n := 2320) rfl (dl_at t_X14_init 129 rfl) ?_
  refine r_newa (pc := 289) X 1 141 (Nat.le_of_ble_eq_true rfl) (Nat.le_of_ble_eq_true rfl) rfl q492 (r32_c rfl) rfl (dl_at t_X14_init 130 rfl) fun a289 h289 p289 k289 l289 E289 => ?_
  have k291 := kx (E282.trans E289) (by decide) k282
  refine r_putrF (pc := 291) X hname fX14_52 k291 q1314 rfl rfl (dl_at t_X14_init 131 rfl)  (fun h291 E291 => ?_)
  refine g_aload_n (pc := 294) X (j := 0) (i := 0) (q := 0) (x := a0) rfl rfl (dl_at t_X14_init 132 rfl) ?_
  refine g_bipush (pc := 295) X (n := 121) rfl (dl_at t_X14_init 133 rfl) ?_
  refine r_newa (pc := 297) X 1 142 (Nat.le_of_ble_eq_true rfl) (Nat.le_of_ble_eq_true rfl) rfl q492 (r32_c rfl) rfl (dl_at t_X14_init 134 rfl) fun a297 h297 p297 k297 l297 E297 => ?_
  have k299 := kx (E291.trans E297) (by decide) k291
  refine r_putrF (pc := 299) X hname fX14_54 k299 q1316 rfl rfl (dl_at t_X14_init 135 rfl)  (fun h299 E299 => ?_)
  refine g_aload_n (pc := 302) X (j := 0) (i := 0) (q := 0) (x := a0) rfl rfl (dl_at t_X14_init 136 rfl) ?_
  refine g_sipush (pc := 303) X (n := 26401) rfl (dl_at t_X14_init 137 rfl) ?_
  refine r_newa (pc := 306) X 4 143 (Nat.le_of_ble_eq_true rfl) (Nat.le_of_ble_eq_true rfl) rfl q978 (r32_c rfl) rfl (dl_at t_X14_init 138 rfl) fun a306 h306 p306 k306 l306 E306 => ?_
  have k308 := kx (E299.trans E306) (by decide) k299
  refine r_putrF (pc := 308) X hname fX14_55 k308 q1318 rfl rfl (dl_at t_X14_init 139 rfl)  (fun h308 E308 => ?_)
  refine g_aload_n (pc := 311) X (j := 0) (i := 0) (q := 0) (x := a0) rfl rfl (dl_at t_X14_init 140 rfl) ?_
  refine g_sipush (pc := 312) X (n := 26400) rfl (dl_at t_X14_init 141 rfl) ?_
  refine r_newa (pc := 315) X 1 144 (Nat.le_of_ble_eq_true rfl) (Nat.le_of_ble_eq_true rfl) rfl q492 (r32_c rfl) rfl (dl_at t_X14_init 142 rfl) fun a315 h315 p315 k315 l315 E315 => ?_
  have k317 := kx (E308.trans E315) (by decide) k308
  refine r_putrF (pc := 317) X hname fX14_56 k317 q1319 rfl rfl (dl_at t_X14_init 143 rfl)  (fun h317 E317 => ?_)
  refine g_aload_n (pc := 320) X (j := 0) (i := 0) (q := 0) (x := a0) rfl rfl (dl_at t_X14_init 144 rfl) ?_
  refine g_sipush (pc := 321) X (n := 1500) rfl (dl_at t_X14_init 145 rfl) ?_
  refine r_newa (pc := 324) X 1 145 (Nat.le_of_ble_eq_true rfl) (Nat.le_of_ble_eq_true rfl) rfl q492 (r32_c rfl) rfl (dl_at t_X14_init 146 rfl) fun a324 h324 p324 k324 l324 E324 => ?_
  have k326 := kx (E317.trans E324) (by decide) k317
  refine r_putrF (pc := 326) X hname fX14_59 k326 q1323 rfl rfl (dl_at t_X14_init 147 rfl)  (fun h326 E326 => ?_)
  refine g_aload_n (pc := 329) X (j := 0) (i := 0) (q := 0) (x := a0) rfl rfl (dl_at t_X14_init 148 rfl) ?_
  refine g_sipush (pc := 330) X (n := 1500) rfl (dl_at t_X14_init 149 rfl) ?_
  refine r_newa (pc := 333) X 1 146 (Nat.le_of_ble_eq_true rfl) (Nat.le_of_ble_eq_true rfl) rfl q492 (r32_c rfl) rfl (dl_at t_X14_init 150 rfl) fun a333 h333 p333 k333 l333 E333 => ?_
  have k335 := kx (E326.trans E333) (by decide) k326
  refine r_putrF (pc := 335) X hname fX14_60 k335 q1324 rfl rfl (dl_at t_X14_init 151 rfl)  (fun h335 E335 => ?_)
  refine g_aload_n (pc := 338) X (j := 0) (i := 0) (q := 0) (x := a0) rfl rfl (dl_at t_X14_init 152 rfl) ?_
  refine g_sipush (pc := 339) X (n := 1500) rfl (dl_at t_X14_init 153 rfl) ?_
  refine r_newa (pc := 342) X 1 147 (Nat.le_of_ble_eq_true rfl) (Nat.le_of_ble_eq_true rfl) rfl q492 (r32_c rfl) rfl (dl_at t_X14_init 154 rfl) fun a342 h342 p342 k342 l342 E342 => ?_
  have k344 := kx (E335.trans E342) (by decide) k335
  refine r_putrF (pc := 344) X hname fX14_61 k344 q1325 rfl rfl (dl_at t_X14_init 155 rfl)  (fun h344 E344 => ?_)
  refine g_aload_n (pc := 347) X (j := 0) (i := 0) (q := 0) (x := a0) rfl rfl (dl_at t_X14_init 156 rfl) ?_
  refine g_sipush (pc := 348) X (n := 1500) rfl (dl_at t_X14_init 157 rfl) ?_
  refine r_newa (pc := 351) X 1 148 (Nat.le_of_ble_eq_true rfl) (Nat.le_of_ble_eq_true rfl) rfl q492 (r32_c rfl) rfl (dl_at t_X14_init 158 rfl) fun a351 h351 p351 k351 l351 E351 => ?_
  have k353 := kx (E344.trans E351) (by decide) k344
  refine r_putrF (pc := 353) X hname fX14_62 k353 q1326 rfl rfl (dl_at t_X14_init 159 rfl)  (fun h353 E353 => ?_)
  refine g_aload_n (pc := 356) X (j := 0) (i := 0) (q := 0) (x := a0) rfl rfl (dl_at t_X14_init 160 rfl) ?_
  refine g_sipush (pc := 357) X (n := 1500) rfl (dl_at t_X14_init 161 rfl) ?_
  refine r_newa (pc := 360) X 1 149 (Nat.le_of_ble_eq_true rfl) (Nat.le_of_ble_eq_true rfl) rfl q492 (r32_c rfl) rfl (dl_at t_X14_init 162 rfl) fun a360 h360 p360 k360 l360 E360 => ?_
  have k362 := kx (E353.trans E360) (by decide) k353
  refine r_putrF (pc := 362) X hname fX14_63 k362 q1328 rfl rfl (dl_at t_X14_init 163 rfl)  (fun h362 E362 => ?_)
  refine g_aload_n (pc := 365) X (j := 0) (i := 0) (q := 0) (x := a0) rfl rfl (dl_at t_X14_init 164 rfl) ?_
  refine g_sipush (pc := 366) X (n := 1500) rfl (dl_at t_X14_init 165 rfl) ?_
  refine r_newa (pc := 369) X 1 150 (Nat.le_of_ble_eq_true rfl) (Nat.le_of_ble_eq_true rfl) rfl q492 (r32_c rfl) rfl (dl_at t_X14_init 166 rfl) fun a369 h369 p369 k369 l369 E369 => ?_
  have k371 := kx (E362.trans E369) (by decide) k362
  refine r_putrF (pc := 371) X hname fX14_64 k371 q1329 rfl rfl (dl_at t_X14_init 167 rfl)  (fun h371 E371 => ?_)
  refine g_aload_n (pc := 374) X (j := 0) (i := 0) (q := 0) (x := a0) rfl rfl (dl_at t_X14_init 168 rfl) ?_
  refine g_sipush (pc := 375) X (n := 1500) rfl (dl_at t_X14_init 169 rfl) ?_
  refine r_newa (pc := 378) X 1 151 (Nat.le_of_ble_eq_true rfl) (Nat.le_of_ble_eq_true rfl) rfl q492 (r32_c rfl) rfl (dl_at t_X14_init 170 rfl) fun a378 h378 p378 k378 l378 E378 => ?_
  have k380 := kx (E371.trans E378) (by decide) k371
  refine r_putrF (pc := 380) X hname fX14_65 k380 q1330 rfl rfl (dl_at t_X14_init 171 rfl)  (fun h380 E380 => ?_)
  refine g_aload_n (pc := 383) X (j := 0) (i := 0) (q := 0) (x := a0) rfl rfl (dl_at t_X14_init 172 rfl) ?_
  refine g_sipush (pc := 384) X (n := 1500) rfl (dl_at t_X14_init 173 rfl) ?_
  refine r_newa (pc := 387) X 1 152 (Nat.le_of_ble_eq_true rfl) (Nat.le_of_ble_eq_true rfl) rfl q492 (r32_c rfl) rfl (dl_at t_X14_init 174 rfl) fun a387 h387 p387 k387 l387 E387 => ?_
  have k389 := kx (E380.trans E387) (by decide) k380
  refine r_putrF (pc := 389) X hname fX14_66 k389 q1332 rfl rfl (dl_at t_X14_init 175 rfl)  (fun h389 E389 => ?_)
  refine g_aload_n (pc := 392) X (j := 0) (i := 0) (q := 0) (x := a0) rfl rfl (dl_at t_X14_init 176 rfl) ?_
  refine g_aload_n (pc := 393) X (j := 1) (i := 1) (q := 1) (x := a1) rfl rfl (dl_at t_X14_init 177 rfl) ?_
  have k394 := kx E389 (by decide) k389
  refine r_putrF (pc := 394) X hname fX14_0 k394 q1241 rfl rfl (dl_at t_X14_init 178 rfl)  (fun h394 E394 => ?_)
  exact g_vret (pc := 397) X (v := 0) rfl rfl (dl_at t_X14_init 179 rfl)
def k_X17_init : List (Nat × Instr × Nat) := [(0, .aload_n 0, 1), (1, .invokespecial 3, 3), (4, .aload_n 0, 1), (5, .sipush 1200, 3), (8, .newarray .int, 2), (10, .putfield 9, 3), (13, .aload_n 0, 1), (14, .sipush 256, 3), (17, .newarray .int, 2), (19, .putfield 15, 3), (22, .return_, 1)]
theorem t_X17_init : ∀ q ∈ k_X17_init, decode cX17_init q.1 = .ok q.2 := dl_all (by decide +kernel)
noncomputable def m_X17_init (a0 : Int) (h : Hp) : Option (Hp) :=
  al h 2449 1200 fun a8 h8 =>
  pt h8 a0 1 a8 fun h10 =>
  al h10 2465 256 fun a17 h17 =>
  pt h17 a0 2 a17 fun h19 =>
  some h19
theorem s_X17_init {l : Launch} [NoTr l] {D : SD} {a0 : Int} {h : Hp} (hk : h a0 (-2) = 272) {r : Hp} (hm : m_X17_init a0 h = some r) : Sim l D yX17_init (Cond.code yX17_init cX17_init 1 (Option.none : Option Jvm.ClassFile.FieldType)) 1 36 [rv D a0] h 0 ((0, 0), r) := by
  refine Sim.of (fin := fun (v : Hp) => ((0, 0), v)) (lsE := [(0, rv D a0)]) hm rfl cwS_code (la_r la_n) (ll_r ll_n) ?_
  intro p e s m below meth c X hcw hmm hcc hnm hname
  unfold m_X17_init
  refine g_aload_n (pc := 0) X (j := 0) (i := 0) (q := 0) (x := a0) rfl rfl (dl_at t_X17_init 0 rfl) ?_
  refine r_oinitK (pc := 1) X hk (by decide) q1474 q406 q407 (Nat.le_of_ble_eq_true rfl) (Nat.le_trans (Nat.add_le_add_right (cat24 (st := []) (Nat.le_of_ble_eq_true rfl)) 12) (Nat.le_of_ble_eq_true rfl)) (dl_at t_X17_init 1 rfl) ?_
  refine g_aload_n (pc := 4) X (j := 0) (i := 0) (q := 0) (x := a0) rfl rfl (dl_at t_X17_init 2 rfl) ?_
  refine g_sipush (pc := 5) X (n := 1200) rfl (dl_at t_X17_init 3 rfl) ?_
  refine r_newa (pc := 8) X 1 153 (Nat.le_of_ble_eq_true rfl) (Nat.le_of_ble_eq_true rfl) rfl q492 (r32_c rfl) rfl (dl_at t_X17_init 4 rfl) fun a8 h8 p8 k8 l8 E8 => ?_
  have k10 := kx E8 (by decide) hk
  refine r_putrF (pc := 10) X hname fX17_1 k10 q1476 rfl rfl (dl_at t_X17_init 5 rfl)  (fun h10 E10 => ?_)
  refine g_aload_n (pc := 13) X (j := 0) (i := 0) (q := 0) (x := a0) rfl rfl (dl_at t_X17_init 6 rfl) ?_
  refine g_sipush (pc := 14) X (n := 256) rfl (dl_at t_X17_init 7 rfl) ?_
  refine r_newa (pc := 17) X 1 154 (Nat.le_of_ble_eq_true rfl) (Nat.le_of_ble_eq_true rfl) rfl q492 (r32_c rfl) rfl (dl_at t_X17_init 8 rfl) fun a17 h17 p17 k17 l17 E17 => ?_
  have k19 := kx (E10.trans E17) (by decide) k10
  refine r_putrF (pc := 19) X hname fX17_2 k19 q1477 rfl rfl (dl_at t_X17_init 9 rfl)  (fun h19 E19 => ?_)
  exact g_vret (pc := 22) X (v := 0) rfl rfl (dl_at t_X17_init 10 rfl)
def k_X1_init : List (Nat × Instr × Nat) := [(0, .aload_n 0, 1), (1, .invokespecial 19, 3), (4, .aload_n 0, 1), (5, .sipush 16384, 3), (8, .newarray .byte, 2), (10, .putfield 22, 3), (13, .aload_n 0, 1), (14, .new 26, 3), (17, .dup, 1), (18, .aload_n 0, 1), (19, .getfield 22, 3), (22, .invokespecial 28, 3), (25, .putfield 31, 3), (28, .aload_n 0, 1), (29, .iconst 3, 1), (30, .anewarray 35, 3), (33, .dup, 1), (34, .iconst 0, 1), (35, .new 35, 3), (38, .dup, 1), (39, .invokespecial 37, 3), (42, .aastore, 1), (43, .dup, 1), (44, .iconst 1, 1), (45, .new 35, 3), (48, .dup, 1), (49, .invokespecial 37, 3), (52, .aastore, 1), (53, .dup, 1), (54, .iconst 2, 1), (55, .new 35, 3), (58, .dup, 1), (59, .invokespecial 37, 3), (62, .aastore, 1), (63, .putfield 38, 3), (66, .aload_n 0, 1), (67, .iconst 3, 1), (68, .anewarray 42, 3), (71, .dup, 1), (72, .iconst 0, 1), (73, .new 42, 3), (76, .dup, 1), (77, .invokespecial 44, 3), (80, .aastore, 1), (81, .dup, 1), (82, .iconst 1, 1), (83, .new 42, 3), (86, .dup, 1), (87, .invokespecial 44, 3), (90, .aastore, 1), (91, .dup, 1), (92, .iconst 2, 1), (93, .new 42, 3), (96, .dup, 1), (97, .invokespecial 44, 3), (100, .aastore, 1), (101, .putfield 45, 3), (104, .aload_n 0, 1), (105, .iconst 2, 1), (106, .anewarray 49, 3), (109, .dup, 1), (110, .iconst 0, 1), (111, .new 49, 3), (114, .dup, 1), (115, .invokespecial 51, 3), (118, .aastore, 1), (119, .dup, 1), (120, .iconst 1, 1), (121, .new 49, 3), (124, .dup, 1), (125, .invokespecial 51, 3), (128, .aastore, 1), (129, .putfield 52, 3), (132, .aload_n 0, 1), (133, .aload_n 0, 1), (134, .getfield 38, 3), (137, .iconst 0, 1), (138, .aaload, 1), (139, .putfield 56, 3), (142, .aload_n 0, 1), (143, .new 60, 3), (146, .dup, 1), (147, .invokespecial 62, 3), (150, .putfield 63, 3), (153, .aload_n 0, 1), (154, .new 60, 3), (157, .dup, 1), (158, .invokespecial 62, 3), (161, .putfield 67, 3), (164, .aload_n 0, 1), (165, .new 70, 3), (168, .dup, 1), (169, .invokespecial 72, 3), (172, .putfield 73, 3), (175, .aload_n 0, 1), (176, .new 70, 3), (179, .dup, 1), (180, .invokespecial 72, 3), (183, .putfield 77, 3), (186, .aload_n 0, 1), (187, .iconst (-1), 1), (188, .putfield 80, 3), (191, .aload_n 0, 1), (192, .new 84, 3), (195, .dup, 1), (196, .invokespecial 86, 3), (199, .putfield 87, 3), (202, .aload_n 0, 1), (203, .iconst 3, 1), (204, .anewarray 91, 3), (207, .dup, 1), (208, .iconst 0, 1), (209, .new 91, 3), (212, .dup, 1), (213, .aload_n 0, 1), (214, .getfield 87, 3), (217, .invokespecial 93, 3), (220, .aastore, 1), (221, .dup, 1), (222, .iconst 1, 1), (223, .new 91, 3), (226, .dup, 1), (227, .aload_n 0, 1), (228, .getfield 87, 3), (231, .invokespecial 93, 3), (234, .aastore, 1), (235, .dup, 1), (236, .iconst 2, 1), (237, .new 91, 3), (240, .dup, 1), (241, .aload_n 0, 1), (242, .getfield 87, 3), (245, .invokespecial 93, 3), (248, .aastore, 1), (249, .putfield 96, 3), (252, .aload_n 0, 1), (253, .new 100, 3), (256, .dup, 1), (257, .invokespecial 102, 3), (260, .putfield 103, 3), (263, .aload_n 0, 1), (264, .new 107, 3), (267, .dup, 1), (268, .ldc 109, 2), (270, .invokespecial 110, 3), (273, .putfield 113, 3), (276, .aload_n 0, 1), (277, .new 107, 3), (280, .dup, 1), (281, .ldc 109, 2), (283, .invokespecial 110, 3), (286, .putfield 117, 3), (289, .aload_n 0, 1), (290, .sipush 600, 3), (293, .newarray .int, 2), (295, .putfield 120, 3), (298, .return_, 1)]
theorem t_X1_init : ∀ q ∈ k_X1_init, decode cX1_init q.1 = .ok q.2 := dl_all (by decide +kernel)
noncomputable def m_X1_init (a0 : Int) (h : Hp) : Option (Hp) :=
  al h 2482 16384 fun a8 h8 =>
  pt h8 a0 0 a8 fun h10 =>
  al h10 32 8 fun a14 h14 =>
  (m_X2_init a14 (h14 a0 0) h14).bind fun h22 =>
  pt h22 a0 2 a14 fun h25 =>
  al h25 2501 3 fun a30 h30 =>
  al h30 48 29 fun a35 h35 =>
  (m_X3_init a35 h35).bind fun h39 =>
  gd (h39 a30 (-2) % 16 = 5 ∧ (0 : Int) ≤ 0 ∧ 0 < h39 a30 (-1)) (pt h39 a30 0 a35 fun h42 =>
  al h42 48 29 fun a45 h45 =>
  (m_X3_init a45 h45).bind fun h49 =>
  gd (h49 a30 (-2) % 16 = 5 ∧ (0 : Int) ≤ 1 ∧ 1 < h49 a30 (-1)) (pt h49 a30 1 a45 fun h52 =>
  al h52 48 29 fun a55 h55 =>
  (m_X3_init a55 h55).bind fun h59 =>
  gd (h59 a30 (-2) % 16 = 5 ∧ (0 : Int) ≤ 2 ∧ 2 < h59 a30 (-1)) (pt h59 a30 2 a55 fun h62 =>
  pt h62 a0 3 a30 fun h63 =>
  al h63 2518 3 fun a68 h68 =>
  al h68 96 30 fun a73 h73 =>
  (m_X6_init a73 h73).bind fun h77 =>
  gd (h77 a68 (-2) % 16 = 6 ∧ (0 : Int) ≤ 0 ∧ 0 < h77 a68 (-1)) (pt h77 a68 0 a73 fun h80 =>
  al h80 96 30 fun a83 h83 =>
  (m_X6_init a83 h83).bind fun h87 =>
  gd (h87 a68 (-2) % 16 = 6 ∧ (0 : Int) ≤ 1 ∧ 1 < h87 a68 (-1)) (pt h87 a68 1 a83 fun h90 =>
  al h90 96 30 fun a93 h93 =>
  (m_X6_init a93 h93).bind fun h97 =>
  gd (h97 a68 (-2) % 16 = 6 ∧ (0 : Int) ≤ 2 ∧ 2 < h97 a68 (-1)) (pt h97 a68 2 a93 fun h100 =>
  pt h100 a0 4 a68 fun h101 =>
  al h101 2535 2 fun a106 h106 =>
  al h106 112 21 fun a111 h111 =>
  (m_X7_init a111 h111).bind fun h115 =>
  gd (h115 a106 (-2) % 16 = 7 ∧ (0 : Int) ≤ 0 ∧ 0 < h115 a106 (-1)) (pt h115 a106 0 a111 fun h118 =>
  al h118 112 21 fun a121 h121 =>
  (m_X7_init a121 h121).bind fun h125 =>
  gd (h125 a106 (-2) % 16 = 7 ∧ (0 : Int) ≤ 1 ∧ 1 < h125 a106 (-1)) (pt h125 a106 1 a121 fun h128 =>
  pt h128 a0 5 a106 fun h129 =>
  gd (h129 (h129 a0 3) (-2) % 16 = 5 ∧ (0 : Int) ≤ 0 ∧ 0 < h129 (h129 a0 3) (-1)) (pt h129 a0 6 (h129 (h129 a0 3) 0) fun h139 =>
  al h139 128 5 fun a143 h143 =>
  (m_X8_init a143 h143).bind fun h147 =>
  pt h147 a0 7 a143 fun h150 =>
  al h150 128 5 fun a154 h154 =>
  (m_X8_init a154 h154).bind fun h158 =>
  pt h158 a0 8 a154 fun h161 =>
  al h161 144 19 fun a165 h165 =>
  (m_X9_init a165 h165).bind fun h169 =>
  pt h169 a0 9 a165 fun h172 =>
  al h172 144 19 fun a176 h176 =>
  (m_X9_init a176 h176).bind fun h180 =>
  pt h180 a0 10 a176 fun h183 =>
  pt h183 a0 14 (-1) fun h188 =>
  al h188 160 19 fun a192 h192 =>
  (m_X10_init a192 h192).bind fun h196 =>
  pt h196 a0 15 a192 fun h199 =>
  al h199 2552 3 fun a204 h204 =>
  al h204 224 67 fun a209 h209 =>
  (m_X14_init a209 (h209 a0 15) h209).bind fun h217 =>
  gd (h217 a204 (-2) % 16 = 8 ∧ (0 : Int) ≤ 0 ∧ 0 < h217 a204 (-1)) (pt h217 a204 0 a209 fun h220 =>
  al h220 224 67 fun a223 h223 =>
  (m_X14_init a223 (h223 a0 15) h223).bind fun h231 =>
  gd (h231 a204 (-2) % 16 = 8 ∧ (0 : Int) ≤ 1 ∧ 1 < h231 a204 (-1)) (pt h231 a204 1 a223 fun h234 =>
  al h234 224 67 fun a237 h237 =>
  (m_X14_init a237 (h237 a0 15) h237).bind fun h245 =>
  gd (h245 a204 (-2) % 16 = 8 ∧ (0 : Int) ≤ 2 ∧ 2 < h245 a204 (-1)) (pt h245 a204 2 a237 fun h248 =>
  pt h248 a0 16 a204 fun h249 =>
  al h249 272 3 fun a253 h253 =>
  (m_X17_init a253 h253).bind fun h257 =>
  pt h257 a0 17 a253 fun h260 =>
  al h260 80 2 fun a264 h264 =>
  (m_X5_init a264 65536 h264).bind fun h270 =>
  pt h270 a0 20 a264 fun h273 =>
  al h273 80 2 fun a277 h277 =>
  (m_X5_init a277 65536 h277).bind fun h283 =>
  pt h283 a0 21 a277 fun h286 =>
  al h286 2561 600 fun a293 h293 =>
  pt h293 a0 22 a293 fun h295 =>
  some h295))))))))))))
theorem s_X1_init {l : Launch} [NoTr l] {D : SD} {a0 : Int} {h : Hp} (hk : h a0 (-2) = 16) {r : Hp} (hm : m_X1_init a0 h = some r) : Sim l D yX1_init (Cond.code yX1_init cX1_init 1 (Option.none : Option Jvm.ClassFile.FieldType)) 4 146 [rv D a0] h 0 ((0, 0), r) := by
  refine Sim.of (fin := fun (v : Hp) => ((0, 0), v)) (lsE := [(0, rv D a0)]) hm rfl cwS_code (la_r la_n) (ll_r ll_n) ?_
  intro p e s m below meth c X hcw hmm hcc hnm hname
  unfold m_X1_init
  refine g_aload_n (pc := 0) X (j := 0) (i := 0) (q := 0) (x := a0) rfl rfl (dl_at t_X1_init 0 rfl) ?_
  refine r_oinitK (pc := 1) X hk (by decide) q405 q406 q407 (Nat.le_of_ble_eq_true rfl) (Nat.le_trans (Nat.add_le_add_right (cat24 (st := []) (Nat.le_of_ble_eq_true rfl)) 12) (Nat.le_of_ble_eq_true rfl)) (dl_at t_X1_init 1 rfl) ?_
  refine g_aload_n (pc := 4) X (j := 0) (i := 0) (q := 0) (x := a0) rfl rfl (dl_at t_X1_init 2 rfl) ?_
  refine g_sipush (pc := 5) X (n := 16384) rfl (dl_at t_X1_init 3 rfl) ?_
  refine r_newa (pc := 8) X 2 155 (Nat.le_of_ble_eq_true rfl) (Nat.le_of_ble_eq_true rfl) rfl q449 (r32_c rfl) rfl (dl_at t_X1_init 4 rfl) fun a8 h8 p8 k8 l8 E8 => ?_
  have k10 := kx E8 (by decide) hk
  refine r_putrF (pc := 10) X hname fX1_0 k10 q1488 rfl rfl (dl_at t_X1_init 5 rfl)  (fun h10 E10 => ?_)
  refine g_aload_n (pc := 13) X (j := 0) (i := 0) (q := 0) (x := a0) rfl rfl (dl_at t_X1_init 6 rfl) ?_
  refine r_new (pc := 14) X kX2 q408 (dl_at t_X1_init 7 rfl) fun a14 h14 p14 k14 E14 => ?_
  refine g_dup (pc := 17) X rv_cat (dl_at t_X1_init 8 rfl) ?_
  refine g_aload_n (pc := 18) X (j := 0) (i := 0) (q := 0) (x := a0) rfl rfl (dl_at t_X1_init 9 rfl) ?_
  have k19 := kx (E10.trans E14) (by decide) k10
  refine r_getr (pc := 19) X fX1_0 k19 q1488 (dl_at t_X1_init 10 rfl) ?_
  refine r_callV (pc := 22) X (fun _ hv => s_X2_init k14 hv) cw_code q412 q356 (in_I X (As := [rv D (h14 a0 0)]) (Int.ne_of_gt p14) rfl (Or.inr ⟨_, nw_in q410 rfl⟩) q411 q412 ⟨by decide, by decide⟩ rfl (dl_at t_X1_init 11 rfl)) (dl_at t_X1_init 11 rfl) (cat24 (st := [rv D a14, rv D a0]) (Nat.le_of_ble_eq_true rfl)) (Nat.le_of_ble_eq_true rfl) (Nat.le_of_ble_eq_true rfl) fun h22 E22 => ?_
  have k25 := kx E22 (by decide) k19
  refine r_putrF (pc := 25) X hname fX1_2 k25 q1490 rfl rfl (dl_at t_X1_init 12 rfl)  (fun h25 E25 => ?_)
  refine g_aload_n (pc := 28) X (j := 0) (i := 0) (q := 0) (x := a0) rfl rfl (dl_at t_X1_init 13 rfl) ?_
  refine g_iconst (pc := 29) X (n := 3) (dl_at t_X1_init 14 rfl) ?_
  refine r_anew (pc := 30) X 5 156 (Nat.le_of_ble_eq_true rfl) (Nat.le_of_ble_eq_true rfl) rfl q450 (r32_c rfl) rfl (dl_at t_X1_init 15 rfl) fun a30 h30 p30 k30 l30 E30 => ?_
  refine g_dup (pc := 33) X rv_cat (dl_at t_X1_init 16 rfl) ?_
  refine g_iconst (pc := 34) X (n := 0) (dl_at t_X1_init 17 rfl) ?_
  refine r_new (pc := 35) X kX3 q450 (dl_at t_X1_init 18 rfl) fun a35 h35 p35 k35 E35 => ?_
  refine g_dup (pc := 38) X rv_cat (dl_at t_X1_init 19 rfl) ?_
  refine r_callV (pc := 39) X (fun _ hv => s_X3_init k35 hv) cw_code q455 q357 (in_I X (As := []) (Int.ne_of_gt p35) rfl (Or.inr ⟨_, nw_in q453 rfl⟩) q454 q455 ⟨by decide, by decide⟩ rfl (dl_at t_X1_init 20 rfl)) (dl_at t_X1_init 20 rfl) (cat24 (st := [rv D a35, iv 0, rv D a30, rv D a30, rv D a0]) (Nat.le_of_ble_eq_true rfl)) (Nat.le_of_ble_eq_true rfl) (Nat.le_of_ble_eq_true rfl) fun h39 E39 => ?_
  have k42 := kx E39 (by decide) k35
  refine g_gd fun k42_1 => ?_
  refine r_aast (pc := 42) X 5 (Nat.le_of_ble_eq_true rfl) (Nat.le_of_ble_eq_true rfl) (r32_c rfl) rfl rfl k42 k42_1 (dl_at t_X1_init 21 rfl) (fun h42 E42 => ?_)
  refine g_dup (pc := 43) X rv_cat (dl_at t_X1_init 22 rfl) ?_
  refine g_iconst (pc := 44) X (n := 1) (dl_at t_X1_init 23 rfl) ?_
  refine r_new (pc := 45) X kX3 q450 (dl_at t_X1_init 24 rfl) fun a45 h45 p45 k45 E45 => ?_
  refine g_dup (pc := 48) X rv_cat (dl_at t_X1_init 25 rfl) ?_
  refine r_callV (pc := 49) X (fun _ hv => s_X3_init k45 hv) cw_code q455 q357 (in_I X (As := []) (Int.ne_of_gt p45) rfl (Or.inr ⟨_, nw_in q453 rfl⟩) q454 q455 ⟨by decide, by decide⟩ rfl (dl_at t_X1_init 26 rfl)) (dl_at t_X1_init 26 rfl) (cat24 (st := [rv D a45, iv 1, rv D a30, rv D a30, rv D a0]) (Nat.le_of_ble_eq_true rfl)) (Nat.le_of_ble_eq_true rfl) (Nat.le_of_ble_eq_true rfl) fun h49 E49 => ?_
  have k52 := kx E49 (by decide) k45
  refine g_gd fun k52_1 => ?_
  refine r_aast (pc := 52) X 5 (Nat.le_of_ble_eq_true rfl) (Nat.le_of_ble_eq_true rfl) (r32_c rfl) rfl rfl k52 k52_1 (dl_at t_X1_init 27 rfl) (fun h52 E52 => ?_)
  refine g_dup (pc := 53) X rv_cat (dl_at t_X1_init 28 rfl) ?_
  refine g_iconst (pc := 54) X (n := 2) (dl_at t_X1_init 29 rfl) ?_
  refine r_new (pc := 55) X kX3 q450 (dl_at t_X1_init 30 rfl) fun a55 h55 p55 k55 E55 => ?_
  refine g_dup (pc := 58) X rv_cat (dl_at t_X1_init 31 rfl) ?_
  refine r_callV (pc := 59) X (fun _ hv => s_X3_init k55 hv) cw_code q455 q357 (in_I X (As := []) (Int.ne_of_gt p55) rfl (Or.inr ⟨_, nw_in q453 rfl⟩) q454 q455 ⟨by decide, by decide⟩ rfl (dl_at t_X1_init 32 rfl)) (dl_at t_X1_init 32 rfl) (cat24 (st := [rv D a55, iv 2, rv D a30, rv D a30, rv D a0]) (Nat.le_of_ble_eq_true rfl)) (Nat.le_of_ble_eq_true rfl) (Nat.le_of_ble_eq_true rfl) fun h59 E59 => ?_
  have k62 := kx E59 (by decide) k55
  refine g_gd fun k62_1 => ?_
  refine r_aast (pc := 62) X 5 (Nat.le_of_ble_eq_true rfl) (Nat.le_of_ble_eq_true rfl) (r32_c rfl) rfl rfl k62 k62_1 (dl_at t_X1_init 33 rfl) (fun h62 E62 => ?_)
  have k63 := kx (E25.trans (E30.trans (E35.trans (E39.trans (E42.trans (E45.trans (E49.trans (E52.trans (E55.trans (E59.trans E62)))))))))) (by decide) k25
  refine r_putrF (pc := 63) X hname fX1_3 k63 q1491 rfl rfl (dl_at t_X1_init 34 rfl)  (fun h63 E63 => ?_)
  refine g_aload_n (pc := 66) X (j := 0) (i := 0) (q := 0) (x := a0) rfl rfl (dl_at t_X1_init 35 rfl) ?_
  refine g_iconst (pc := 67) X (n := 3) (dl_at t_X1_init 36 rfl) ?_
  refine r_anew (pc := 68) X 6 157 (Nat.le_of_ble_eq_true rfl) (Nat.le_of_ble_eq_true rfl) rfl q636 (r32_c rfl) rfl (dl_at t_X1_init 37 rfl) fun a68 h68 p68 k68 l68 E68 => ?_
  refine g_dup (pc := 71) X rv_cat (dl_at t_X1_init 38 rfl) ?_
  refine g_iconst (pc := 72) X (n := 0) (dl_at t_X1_init 39 rfl) ?_
  refine r_new (pc := 73) X kX6 q636 (dl_at t_X1_init 40 rfl) fun a73 h73 p73 k73 E73 => ?_
  refine g_dup (pc := 76) X rv_cat (dl_at t_X1_init 41 rfl) ?_
  refine r_callV (pc := 77) X (fun _ hv => s_X6_init k73 hv) cw_code q641 q360 (in_I X (As := []) (Int.ne_of_gt p73) rfl (Or.inr ⟨_, nw_in q639 rfl⟩) q640 q641 ⟨by decide, by decide⟩ rfl (dl_at t_X1_init 42 rfl)) (dl_at t_X1_init 42 rfl) (cat24 (st := [rv D a73, iv 0, rv D a68, rv D a68, rv D a0]) (Nat.le_of_ble_eq_true rfl)) (Nat.le_of_ble_eq_true rfl) (Nat.le_of_ble_eq_true rfl) fun h77 E77 => ?_
  have k80 := kx E77 (by decide) k73
  refine g_gd fun k80_1 => ?_
  refine r_aast (pc := 80) X 6 (Nat.le_of_ble_eq_true rfl) (Nat.le_of_ble_eq_true rfl) (r32_c rfl) rfl rfl k80 k80_1 (dl_at t_X1_init 43 rfl) (fun h80 E80 => ?_)
  refine g_dup (pc := 81) X rv_cat (dl_at t_X1_init 44 rfl) ?_
  refine g_iconst (pc := 82) X (n := 1) (dl_at t_X1_init 45 rfl) ?_
  refine r_new (pc := 83) X kX6 q636 (dl_at t_X1_init 46 rfl) fun a83 h83 p83 k83 E83 => ?_
  refine g_dup (pc := 86) X rv_cat (dl_at t_X1_init 47 rfl) ?_
  refine r_callV (pc := 87) X (fun _ hv => s_X6_init k83 hv) cw_code q641 q360 (in_I X (As := []) (Int.ne_of_gt p83) rfl (Or.inr ⟨_, nw_in q639 rfl⟩) q640 q641 ⟨by decide, by decide⟩ rfl (dl_at t_X1_init 48 rfl)) (dl_at t_X1_init 48 rfl) (cat24 (st := [rv D a83, iv 1, rv D a68, rv D a68, rv D a0]) (Nat.le_of_ble_eq_true rfl)) (Nat.le_of_ble_eq_true rfl) (Nat.le_of_ble_eq_true rfl) fun h87 E87 => ?_
  have k90 := kx E87 (by decide) k83
  refine g_gd fun k90_1 => ?_
  refine r_aast (pc := 90) X 6 (Nat.le_of_ble_eq_true rfl) (Nat.le_of_ble_eq_true rfl) (r32_c rfl) rfl rfl k90 k90_1 (dl_at t_X1_init 49 rfl) (fun h90 E90 => ?_)
  refine g_dup (pc := 91) X rv_cat (dl_at t_X1_init 50 rfl) ?_
  refine g_iconst (pc := 92) X (n := 2) (dl_at t_X1_init 51 rfl) ?_
  refine r_new (pc := 93) X kX6 q636 (dl_at t_X1_init 52 rfl) fun a93 h93 p93 k93 E93 => ?_
  refine g_dup (pc := 96) X rv_cat (dl_at t_X1_init 53 rfl) ?_
  refine r_callV (pc := 97) X (fun _ hv => s_X6_init k93 hv) cw_code q641 q360 (in_I X (As := []) (Int.ne_of_gt p93) rfl (Or.inr ⟨_, nw_in q639 rfl⟩) q640 q641 ⟨by decide, by decide⟩ rfl (dl_at t_X1_init 54 rfl)) (dl_at t_X1_init 54 rfl) (cat24 (st := [rv D a93, iv 2, rv D a68, rv D a68, rv D a0]) (Nat.le_of_ble_eq_true rfl)) (Nat.le_of_ble_eq_true rfl) (Nat.le_of_ble_eq_true rfl) fun h97 E97 => ?_
  have k100 := kx E97 (by decide) k93
  refine g_gd fun k100_1 => ?_
  refine r_aast (pc := 100) X 6 (Nat.le_of_ble_eq_true rfl) (Nat.le_of_ble_eq_true rfl) (r32_c rfl) rfl rfl k100 k100_1 (dl_at t_X1_init 55 rfl) (fun h100 E100 => ?_)
  have k101 := kx (E63.trans (E68.trans (E73.trans (E77.trans (E80.trans (E83.trans (E87.trans (E90.trans (E93.trans (E97.trans E100)))))))))) (by decide) k63
  refine r_putrF (pc := 101) X hname fX1_4 k101 q1492 rfl rfl (dl_at t_X1_init 56 rfl)  (fun h101 E101 => ?_)
  refine g_aload_n (pc := 104) X (j := 0) (i := 0) (q := 0) (x := a0) rfl rfl (dl_at t_X1_init 57 rfl) ?_
  refine g_iconst (pc := 105) X (n := 2) (dl_at t_X1_init 58 rfl) ?_
  refine r_anew (pc := 106) X 7 158 (Nat.le_of_ble_eq_true rfl) (Nat.le_of_ble_eq_true rfl) rfl q769 (r32_c rfl) rfl (dl_at t_X1_init 59 rfl) fun a106 h106 p106 k106 l106 E106 => ?_
  refine g_dup (pc := 109) X rv_cat (dl_at t_X1_init 60 rfl) ?_
  refine g_iconst (pc := 110) X (n := 0) (dl_at t_X1_init 61 rfl) ?_
  refine r_new (pc := 111) X kX7 q769 (dl_at t_X1_init 62 rfl) fun a111 h111 p111 k111 E111 => ?_
  refine g_dup (pc := 114) X rv_cat (dl_at t_X1_init 63 rfl) ?_
  refine r_callV (pc := 115) X (fun _ hv => s_X7_init k111 hv) cw_code q774 q361 (in_I X (As := []) (Int.ne_of_gt p111) rfl (Or.inr ⟨_, nw_in q772 rfl⟩) q773 q774 ⟨by decide, by decide⟩ rfl (dl_at t_X1_init 64 rfl)) (dl_at t_X1_init 64 rfl) (cat24 (st := [rv D a111, iv 0, rv D a106, rv D a106, rv D a0]) (Nat.le_of_ble_eq_true rfl)) (Nat.le_of_ble_eq_true rfl) (Nat.le_of_ble_eq_true rfl) fun h115 E115 => ?_
  have k118 := kx E115 (by decide) k111
  refine g_gd fun k118_1 => ?_
  refine r_aast (pc := 118) X 7 (Nat.le_of_ble_eq_true rfl) (Nat.le_of_ble_eq_true rfl) (r32_c rfl) rfl rfl k118 k118_1 (dl_at t_X1_init 65 rfl) (fun h118 E118 => ?_)
  refine g_dup (pc := 119) X rv_cat (dl_at t_X1_init 66 rfl) ?_
  refine g_iconst (pc := 120) X (n := 1) (dl_at t_X1_init 67 rfl) ?_
  refine r_new (pc := 121) X kX7 q769 (dl_at t_X1_init 68 rfl) fun a121 h121 p121 k121 E121 => ?_
  refine g_dup (pc := 124) X rv_cat (dl_at t_X1_init 69 rfl) ?_
  refine r_callV (pc := 125) X (fun _ hv => s_X7_init k121 hv) cw_code q774 q361 (in_I X (As := []) (Int.ne_of_gt p121) rfl (Or.inr ⟨_, nw_in q772 rfl⟩) q773 q774 ⟨by decide, by decide⟩ rfl (dl_at t_X1_init 70 rfl)) (dl_at t_X1_init 70 rfl) (cat24 (st := [rv D a121, iv 1, rv D a106, rv D a106, rv D a0]) (Nat.le_of_ble_eq_true rfl)) (Nat.le_of_ble_eq_true rfl) (Nat.le_of_ble_eq_true rfl) fun h125 E125 => ?_
  have k128 := kx E125 (by decide) k121
  refine g_gd fun k128_1 => ?_
  refine r_aast (pc := 128) X 7 (Nat.le_of_ble_eq_true rfl) (Nat.le_of_ble_eq_true rfl) (r32_c rfl) rfl rfl k128 k128_1 (dl_at t_X1_init 71 rfl) (fun h128 E128 => ?_)
  have k129 := kx (E101.trans (E106.trans (E111.trans (E115.trans (E118.trans (E121.trans (E125.trans E128))))))) (by decide) k101
  refine r_putrF (pc := 129) X hname fX1_5 k129 q1493 rfl rfl (dl_at t_X1_init 72 rfl)  (fun h129 E129 => ?_)
  refine g_aload_n (pc := 132) X (j := 0) (i := 0) (q := 0) (x := a0) rfl rfl (dl_at t_X1_init 73 rfl) ?_
  refine g_aload_n (pc := 133) X (j := 0) (i := 0) (q := 0) (x := a0) rfl rfl (dl_at t_X1_init 74 rfl) ?_
  have k134 := kx E129 (by decide) k129
  refine r_getr (pc := 134) X fX1_3 k134 q1491 (dl_at t_X1_init 75 rfl) ?_
  refine g_iconst (pc := 137) X (n := 0) (dl_at t_X1_init 76 rfl) ?_
  refine g_gd fun k138 => ?_
  refine g_aald (pc := 138) X 5 (Nat.le_of_ble_eq_true rfl) (Nat.le_of_ble_eq_true rfl) (r32_c rfl) rfl k138 (dl_at t_X1_init 77 rfl) ?_
  refine r_putr (pc := 139) X fX1_6 k134 q1494 rfl (dl_at t_X1_init 78 rfl)  (fun h139 E139 => ?_)
  refine g_aload_n (pc := 142) X (j := 0) (i := 0) (q := 0) (x := a0) rfl rfl (dl_at t_X1_init 79 rfl) ?_
  refine r_new (pc := 143) X kX8 q856 (dl_at t_X1_init 80 rfl) fun a143 h143 p143 k143 E143 => ?_
  refine g_dup (pc := 146) X rv_cat (dl_at t_X1_init 81 rfl) ?_
  refine r_callV (pc := 147) X (fun _ hv => s_X8_init k143 hv) cw_code q860 q362 (in_I X (As := []) (Int.ne_of_gt p143) rfl (Or.inr ⟨_, nw_in q858 rfl⟩) q859 q860 ⟨by decide, by decide⟩ rfl (dl_at t_X1_init 82 rfl)) (dl_at t_X1_init 82 rfl) (cat24 (st := [rv D a143, rv D a0]) (Nat.le_of_ble_eq_true rfl)) (Nat.le_of_ble_eq_true rfl) (Nat.le_of_ble_eq_true rfl) fun h147 E147 => ?_
  have k150 := kx (E139.trans (E143.trans E147)) (by decide) k134
  refine r_putr (pc := 150) X fX1_7 k150 q1495 rfl (dl_at t_X1_init 83 rfl)  (fun h150 E150 => ?_)
  refine g_aload_n (pc := 153) X (j := 0) (i := 0) (q := 0) (x := a0) rfl rfl (dl_at t_X1_init 84 rfl) ?_
  refine r_new (pc := 154) X kX8 q856 (dl_at t_X1_init 85 rfl) fun a154 h154 p154 k154 E154 => ?_
  refine g_dup (pc := 157) X rv_cat (dl_at t_X1_init 86 rfl) ?_
  refine r_callV (pc := 158) X (fun _ hv => s_X8_init k154 hv) cw_code q860 q362 (in_I X (As := []) (Int.ne_of_gt p154) rfl (Or.inr ⟨_, nw_in q858 rfl⟩) q859 q860 ⟨by decide, by decide⟩ rfl (dl_at t_X1_init 87 rfl)) (dl_at t_X1_init 87 rfl) (cat24 (st := [rv D a154, rv D a0]) (Nat.le_of_ble_eq_true rfl)) (Nat.le_of_ble_eq_true rfl) (Nat.le_of_ble_eq_true rfl) fun h158 E158 => ?_
  have k161 := kx (E150.trans (E154.trans E158)) (by decide) k150
  refine r_putr (pc := 161) X fX1_8 k161 q1496 rfl (dl_at t_X1_init 88 rfl)  (fun h161 E161 => ?_)
  refine g_aload_n (pc := 164) X (j := 0) (i := 0) (q := 0) (x := a0) rfl rfl (dl_at t_X1_init 89 rfl) ?_
  refine r_new (pc := 165) X kX9 q883 (dl_at t_X1_init 90 rfl) fun a165 h165 p165 k165 E165 => ?_
  refine g_dup (pc := 168) X rv_cat (dl_at t_X1_init 91 rfl) ?_
  refine r_callV (pc := 169) X (fun _ hv => s_X9_init k165 hv) cw_code q887 q363 (in_I X (As := []) (Int.ne_of_gt p165) rfl (Or.inr ⟨_, nw_in q885 rfl⟩) q886 q887 ⟨by decide, by decide⟩ rfl (dl_at t_X1_init 92 rfl)) (dl_at t_X1_init 92 rfl) (cat24 (st := [rv D a165, rv D a0]) (Nat.le_of_ble_eq_true rfl)) (Nat.le_of_ble_eq_true rfl) (Nat.le_of_ble_eq_true rfl) fun h169 E169 => ?_
  have k172 := kx (E161.trans (E165.trans E169)) (by decide) k161
  refine r_putr (pc := 172) X fX1_9 k172 q1497 rfl (dl_at t_X1_init 93 rfl)  (fun h172 E172 => ?_)
  refine g_aload_n (pc := 175) X (j := 0) (i := 0) (q := 0) (x := a0) rfl rfl (dl_at t_X1_init 94 rfl) ?_
  refine r_new (pc := 176) X kX9 q883 (dl_at t_X1_init 95 rfl) fun a176 h176 p176 k176 E176 => ?_
  refine g_dup (pc := 179) X rv_cat (dl_at t_X1_init 96 rfl) ?_
  refine r_callV (pc := 180) X (fun _ hv => s_X9_init k176 hv) cw_code q887 q363 (in_I X (As := []) (Int.ne_of_gt p176) rfl (Or.inr ⟨_, nw_in q885 rfl⟩) q886 q887 ⟨by decide, by decide⟩ rfl (dl_at t_X1_init 97 rfl)) (dl_at t_X1_init 97 rfl) (cat24 (st := [rv D a176, rv D a0]) (Nat.le_of_ble_eq_true rfl)) (Nat.le_of_ble_eq_true rfl) (Nat.le_of_ble_eq_true rfl) fun h180 E180 => ?_
  have k183 := kx (E172.trans (E176.trans E180)) (by decide) k172
  refine r_putr (pc := 183) X fX1_10 k183 q1498 rfl (dl_at t_X1_init 98 rfl)  (fun h183 E183 => ?_)
  refine g_aload_n (pc := 186) X (j := 0) (i := 0) (q := 0) (x := a0) rfl rfl (dl_at t_X1_init 99 rfl) ?_
  refine g_iconst (pc := 187) X (n := (-1)) (dl_at t_X1_init 100 rfl) ?_
  have k188 := kx E183 (by decide) k183
  refine r_puti (pc := 188) X fX1_14 k188 q1502 rfl (dl_at t_X1_init 101 rfl) (r32_c rfl) (fun h188 E188 => ?_)
  refine g_aload_n (pc := 191) X (j := 0) (i := 0) (q := 0) (x := a0) rfl rfl (dl_at t_X1_init 102 rfl) ?_
  refine r_new (pc := 192) X kX10 q953 (dl_at t_X1_init 103 rfl) fun a192 h192 p192 k192 E192 => ?_
  refine g_dup (pc := 195) X rv_cat (dl_at t_X1_init 104 rfl) ?_
  refine r_callV (pc := 196) X (fun _ hv => s_X10_init k192 hv) cw_code q957 q364 (in_I X (As := []) (Int.ne_of_gt p192) rfl (Or.inr ⟨_, nw_in q955 rfl⟩) q956 q957 ⟨by decide, by decide⟩ rfl (dl_at t_X1_init 105 rfl)) (dl_at t_X1_init 105 rfl) (cat24 (st := [rv D a192, rv D a0]) (Nat.le_of_ble_eq_true rfl)) (Nat.le_of_ble_eq_true rfl) (Nat.le_of_ble_eq_true rfl) fun h196 E196 => ?_
  have k199 := kx (E188.trans (E192.trans E196)) (by decide) k188
  refine r_putrF (pc := 199) X hname fX1_15 k199 q1503 rfl rfl (dl_at t_X1_init 106 rfl)  (fun h199 E199 => ?_)
  refine g_aload_n (pc := 202) X (j := 0) (i := 0) (q := 0) (x := a0) rfl rfl (dl_at t_X1_init 107 rfl) ?_
  refine g_iconst (pc := 203) X (n := 3) (dl_at t_X1_init 108 rfl) ?_
  refine r_anew (pc := 204) X 8 159 (Nat.le_of_ble_eq_true rfl) (Nat.le_of_ble_eq_true rfl) rfl q1114 (r32_c rfl) rfl (dl_at t_X1_init 109 rfl) fun a204 h204 p204 k204 l204 E204 => ?_
  refine g_dup (pc := 207) X rv_cat (dl_at t_X1_init 110 rfl) ?_
  refine g_iconst (pc := 208) X (n := 0) (dl_at t_X1_init 111 rfl) ?_
  refine r_new (pc := 209) X kX14 q1114 (dl_at t_X1_init 112 rfl) fun a209 h209 p209 k209 E209 => ?_
  refine g_dup (pc := 212) X rv_cat (dl_at t_X1_init 113 rfl) ?_
  refine g_aload_n (pc := 213) X (j := 0) (i := 0) (q := 0) (x := a0) rfl rfl (dl_at t_X1_init 114 rfl) ?_
  have k214 := kx (E199.trans (E204.trans E209)) (by decide) k199
  refine r_getr (pc := 214) X fX1_15 k214 q1503 (dl_at t_X1_init 115 rfl) ?_
  refine r_callV (pc := 217) X (fun _ hv => s_X14_init k209 hv) cw_code q1119 q368 (in_I X (As := [rv D (h209 a0 15)]) (Int.ne_of_gt p209) rfl (Or.inr ⟨_, nw_in q1117 rfl⟩) q1118 q1119 ⟨by decide, by decide⟩ rfl (dl_at t_X1_init 116 rfl)) (dl_at t_X1_init 116 rfl) (cat24 (st := [rv D a209, iv 0, rv D a204, rv D a204, rv D a0]) (Nat.le_of_ble_eq_true rfl)) (Nat.le_of_ble_eq_true rfl) (Nat.le_of_ble_eq_true rfl) fun h217 E217 => ?_
  have k220 := kx E217 (by decide) k209
  refine g_gd fun k220_1 => ?_
  refine r_aast (pc := 220) X 8 (Nat.le_of_ble_eq_true rfl) (Nat.le_of_ble_eq_true rfl) (r32_c rfl) rfl rfl k220 k220_1 (dl_at t_X1_init 117 rfl) (fun h220 E220 => ?_)
  refine g_dup (pc := 221) X rv_cat (dl_at t_X1_init 118 rfl) ?_
  refine g_iconst (pc := 222) X (n := 1) (dl_at t_X1_init 119 rfl) ?_
  refine r_new (pc := 223) X kX14 q1114 (dl_at t_X1_init 120 rfl) fun a223 h223 p223 k223 E223 => ?_
  refine g_dup (pc := 226) X rv_cat (dl_at t_X1_init 121 rfl) ?_
  refine g_aload_n (pc := 227) X (j := 0) (i := 0) (q := 0) (x := a0) rfl rfl (dl_at t_X1_init 122 rfl) ?_
  have k228 := kx (E217.trans (E220.trans E223)) (by decide) k214
  refine r_getr (pc := 228) X fX1_15 k228 q1503 (dl_at t_X1_init 123 rfl) ?_
  refine r_callV (pc := 231) X (fun _ hv => s_X14_init k223 hv) cw_code q1119 q368 (in_I X (As := [rv D (h223 a0 15)]) (Int.ne_of_gt p223) rfl (Or.inr ⟨_, nw_in q1117 rfl⟩) q1118 q1119 ⟨by decide, by decide⟩ rfl (dl_at t_X1_init 124 rfl)) (dl_at t_X1_init 124 rfl) (cat24 (st := [rv D a223, iv 1, rv D a204, rv D a204, rv D a0]) (Nat.le_of_ble_eq_true rfl)) (Nat.le_of_ble_eq_true rfl) (Nat.le_of_ble_eq_true rfl) fun h231 E231 => ?_
  have k234 := kx E231 (by decide) k223
  refine g_gd fun k234_1 => ?_
  refine r_aast (pc := 234) X 8 (Nat.le_of_ble_eq_true rfl) (Nat.le_of_ble_eq_true rfl) (r32_c rfl) rfl rfl k234 k234_1 (dl_at t_X1_init 125 rfl) (fun h234 E234 => ?_)
  refine g_dup (pc := 235) X rv_cat (dl_at t_X1_init 126 rfl) ?_
  refine g_iconst (pc := 236) X (n := 2) (dl_at t_X1_init 127 rfl) ?_
  refine r_new (pc := 237) X kX14 q1114 (dl_at t_X1_init 128 rfl) fun a237 h237 p237 k237 E237 => ?_
  refine g_dup (pc := 240) X rv_cat (dl_at t_X1_init 129 rfl) ?_
  refine g_aload_n (pc := 241) X (j := 0) (i := 0) (q := 0) (x := a0) rfl rfl (dl_at t_X1_init 130 rfl) ?_
  have k242 := kx (E231.trans (E234.trans E237)) (by decide) k228
  refine r_getr (pc := 242) X fX1_15 k242 q1503 (dl_at t_X1_init 131 rfl) ?_
  refine r_callV (pc := 245) X (fun _ hv => s_X14_init k237 hv) cw_code q1119 q368 (in_I X (As := [rv D (h237 a0 15)]) (Int.ne_of_gt p237) rfl (Or.inr ⟨_, nw_in q1117 rfl⟩) q1118 q1119 ⟨by decide, by decide⟩ rfl (dl_at t_X1_init 132 rfl)) (dl_at t_X1_init 132 rfl) (cat24 (st := [rv D a237, iv 2, rv D a204, rv D a204, rv D a0]) (Nat.le_of_ble_eq_true rfl)) (Nat.le_of_ble_eq_true rfl) (Nat.le_of_ble_eq_true rfl) fun h245 E245 => ?_
  have k248 := kx E245 (by decide) k237
  refine g_gd fun k248_1 => ?_
  refine r_aast (pc := 248) X 8 (Nat.le_of_ble_eq_true rfl) (Nat.le_of_ble_eq_true rfl) (r32_c rfl) rfl rfl k248 k248_1 (dl_at t_X1_init 133 rfl) (fun h248 E248 => ?_)
  have k249 := kx (E245.trans E248) (by decide) k242
  refine r_putrF (pc := 249) X hname fX1_16 k249 q1504 rfl rfl (dl_at t_X1_init 134 rfl)  (fun h249 E249 => ?_)
  refine g_aload_n (pc := 252) X (j := 0) (i := 0) (q := 0) (x := a0) rfl rfl (dl_at t_X1_init 135 rfl) ?_
  refine r_new (pc := 253) X kX17 q1469 (dl_at t_X1_init 136 rfl) fun a253 h253 p253 k253 E253 => ?_
  refine g_dup (pc := 256) X rv_cat (dl_at t_X1_init 137 rfl) ?_
  refine r_callV (pc := 257) X (fun _ hv => s_X17_init k253 hv) cw_code q1473 q371 (in_I X (As := []) (Int.ne_of_gt p253) rfl (Or.inr ⟨_, nw_in q1471 rfl⟩) q1472 q1473 ⟨by decide, by decide⟩ rfl (dl_at t_X1_init 138 rfl)) (dl_at t_X1_init 138 rfl) (cat24 (st := [rv D a253, rv D a0]) (Nat.le_of_ble_eq_true rfl)) (Nat.le_of_ble_eq_true rfl) (Nat.le_of_ble_eq_true rfl) fun h257 E257 => ?_
  have k260 := kx (E249.trans (E253.trans E257)) (by decide) k249
  refine r_putrF (pc := 260) X hname fX1_17 k260 q1505 rfl rfl (dl_at t_X1_init 139 rfl)  (fun h260 E260 => ?_)
  refine g_aload_n (pc := 263) X (j := 0) (i := 0) (q := 0) (x := a0) rfl rfl (dl_at t_X1_init 140 rfl) ?_
  refine r_new (pc := 264) X kX5 q1485 (dl_at t_X1_init 141 rfl) fun a264 h264 p264 k264 E264 => ?_
  refine g_dup (pc := 267) X rv_cat (dl_at t_X1_init 142 rfl) ?_
  refine g_ldc (pc := 268) X (index := 109) (n := 65536) q1486 (dl_at t_X1_init 143 rfl) ?_
  refine r_callV (pc := 270) X (fun _ hv => s_X5_init k264 (r32_c rfl) hv) cw_code q497 q359 (in_I X (As := [iv 65536]) (Int.ne_of_gt p264) rfl (Or.inr ⟨_, nw_in q1487 rfl⟩) q496 q497 ⟨by decide, by decide⟩ rfl (dl_at t_X1_init 144 rfl)) (dl_at t_X1_init 144 rfl) (cat24 (st := [rv D a264, rv D a0]) (Nat.le_of_ble_eq_true rfl)) (Nat.le_of_ble_eq_true rfl) (Nat.le_of_ble_eq_true rfl) fun h270 E270 => ?_
  have k273 := kx (E260.trans (E264.trans E270)) (by decide) k260
  refine r_putr (pc := 273) X fX1_20 k273 q1508 rfl (dl_at t_X1_init 145 rfl)  (fun h273 E273 => ?_)
  refine g_aload_n (pc := 276) X (j := 0) (i := 0) (q := 0) (x := a0) rfl rfl (dl_at t_X1_init 146 rfl) ?_
  refine r_new (pc := 277) X kX5 q1485 (dl_at t_X1_init 147 rfl) fun a277 h277 p277 k277 E277 => ?_
  refine g_dup (pc := 280) X rv_cat (dl_at t_X1_init 148 rfl) ?_
  refine g_ldc (pc := 281) X (index := 109) (n := 65536) q1486 (dl_at t_X1_init 149 rfl) ?_
  refine r_callV (pc := 283) X (fun _ hv => s_X5_init k277 (r32_c rfl) hv) cw_code q497 q359 (in_I X (As := [iv 65536]) (Int.ne_of_gt p277) rfl (Or.inr ⟨_, nw_in q1487 rfl⟩) q496 q497 ⟨by decide, by decide⟩ rfl (dl_at t_X1_init 150 rfl)) (dl_at t_X1_init 150 rfl) (cat24 (st := [rv D a277, rv D a0]) (Nat.le_of_ble_eq_true rfl)) (Nat.le_of_ble_eq_true rfl) (Nat.le_of_ble_eq_true rfl) fun h283 E283 => ?_
  have k286 := kx (E273.trans (E277.trans E283)) (by decide) k273
  refine r_putr (pc := 286) X fX1_21 k286 q1509 rfl (dl_at t_X1_init 151 rfl)  (fun h286 E286 => ?_)
  refine g_aload_n (pc := 289) X (j := 0) (i := 0) (q := 0) (x := a0) rfl rfl (dl_at t_X1_init 152 rfl) ?_
  refine g_sipush (pc := 290) X (n := 600) rfl (dl_at t_X1_init 153 rfl) ?_
  refine r_newa (pc := 293) X 1 160 (Nat.le_of_ble_eq_true rfl) (Nat.le_of_ble_eq_true rfl) rfl q492 (r32_c rfl) rfl (dl_at t_X1_init 154 rfl) fun a293 h293 p293 k293 l293 E293 => ?_
  have k295 := kx (E286.trans E293) (by decide) k286
  refine r_putrF (pc := 295) X hname fX1_22 k295 q1510 rfl rfl (dl_at t_X1_init 155 rfl)  (fun h295 E295 => ?_)
  exact g_vret (pc := 298) X (v := 0) rfl rfl (dl_at t_X1_init 156 rfl)
def k_X1_place : List (Nat × Instr × Nat) := [(0, .aload_n 0, 1), (1, .getfield 80, 3), (4, .ireturn, 1)]
theorem t_X1_place : ∀ q ∈ k_X1_place, decode cX1_place q.1 = .ok q.2 := dl_all (by decide +kernel)
noncomputable def m_X1_place (a0 : Int) (h : Hp) : Option (Int) :=
  some (h a0 14)
theorem s_X1_place {l : Launch} [NoTr l] {D : SD} {a0 : Int} {h : Hp} (hk : h a0 (-2) = 16) {r : Int} (hm : m_X1_place a0 h = some r) : Sim l D yX1_place (Cond.code yX1_place cX1_place 1 (Option.some Jvm.ClassFile.FieldType.int)) 0 0 [rv D a0] h 1 ((0, r), h) := by
  refine Sim.of (fin := fun (v : Int) => ((0, v), h)) (lsE := [(0, rv D a0)]) hm rfl cwS_code (la_r la_n) (ll_r ll_n) ?_
  intro p e s m below meth c X hcw hmm hcc hnm hname
  unfold m_X1_place
  refine g_aload_n (pc := 0) X (j := 0) (i := 0) (q := 0) (x := a0) rfl rfl (dl_at t_X1_place 0 rfl) ?_
  refine r_geti (pc := 1) X fX1_14 hk q1502 (dl_at t_X1_place 1 rfl) fun g1 => ?_
  exact g_iret (pc := 4) X g1 rfl rfl (dl_at t_X1_place 2 rfl)
def k_X20_init : List (Nat × Instr × Nat) := [(0, .aload_n 0, 1), (1, .invokespecial 1, 3), (4, .return_, 1)]
theorem t_X20_init : ∀ q ∈ k_X20_init, decode cX20_init q.1 = .ok q.2 := dl_all (by decide +kernel)
noncomputable def m_X20_init (a0 : Int) (h : Hp) : Option (Hp) :=
  some h
theorem s_X20_init {l : Launch} [NoTr l] {D : SD} {a0 : Int} {h : Hp} (hk : h a0 (-2) = 336) {r : Hp} (hm : m_X20_init a0 h = some r) : Sim l D yX20_init (Cond.code yX20_init cX20_init 1 (Option.none : Option Jvm.ClassFile.FieldType)) 1 36 [rv D a0] h 0 ((0, 0), r) := by
  refine Sim.of (fin := fun (v : Hp) => ((0, 0), v)) (lsE := [(0, rv D a0)]) hm rfl cwS_code (la_r la_n) (ll_r ll_n) ?_
  intro p e s m below meth c X hcw hmm hcc hnm hname
  unfold m_X20_init
  refine g_aload_n (pc := 0) X (j := 0) (i := 0) (q := 0) (x := a0) rfl rfl (dl_at t_X20_init 0 rfl) ?_
  refine r_oinitK (pc := 1) X hk (by decide) q3272 q406 q407 (Nat.le_of_ble_eq_true rfl) (Nat.le_trans (Nat.add_le_add_right (cat24 (st := []) (Nat.le_of_ble_eq_true rfl)) 12) (Nat.le_of_ble_eq_true rfl)) (dl_at t_X20_init 1 rfl) ?_
  exact g_vret (pc := 4) X (v := 0) rfl rfl (dl_at t_X20_init 2 rfl)
def k_X19_clear : List (Nat × Instr × Nat) := [(0, .iconst 0, 1), (1, .istore_n 1, 1), (2, .iload_n 1, 1), (3, .sipush 256, 3), (6, .if_icmp .ge 25, 3), (9, .aload_n 0, 1), (10, .getfield 7, 3), (13, .iload_n 1, 1), (14, .sipush 500, 3), (17, .iastore, 1), (18, .aload_n 0, 1), (19, .getfield 13, 3), (22, .iload_n 1, 1), (23, .iconst 0, 1), (24, .bastore, 1), (25, .iinc 1 1, 3), (28, .goto (-26), 3), (31, .aload_n 0, 1), (32, .iconst 0, 1), (33, .putfield 39, 3), (36, .aload_n 0, 1), (37, .iconst 0, 1), (38, .putfield 43, 3), (41, .return_, 1)]
theorem t_X19_clear : ∀ q ∈ k_X19_clear, decode cX19_clear q.1 = .ok q.2 := dl_all (by decide +kernel)
noncomputable def m_X19_clear_l2 (a0 x1_2 : Int) (h_2 : Hp) : Option ((Int × Hp) ⊕ ((Hp))) :=
  if 256 ≤ x1_2 then (pt h_2 a0 2 0 fun h33 =>
  pt h33 a0 3 0 fun h38 =>
  some (.inr h38))
  else (gd (h_2 (h_2 a0 0) (-2) % 16 = 1 ∧ (0 : Int) ≤ x1_2 ∧ x1_2 < h_2 (h_2 a0 0) (-1)) (pt h_2 (h_2 a0 0) x1_2 500 fun h17 =>
  gd (h17 (h17 a0 1) (-2) % 16 = 3 ∧ (0 : Int) ≤ x1_2 ∧ x1_2 < h17 (h17 a0 1) (-1)) (pt h17 (h17 a0 1) x1_2 0 fun h24 =>
  lt_ (w32 (x1_2 + 1)) fun x1_25 =>
  some (.inl (x1_25, h24)))))
noncomputable def m_X19_clear (a0 : Int) (h : Hp) : Option (Hp) :=
  lt_ 0 fun x1_1 =>
  (lp (fun (q : Int × Hp) => m_X19_clear_l2 a0 q.1 q.2) (x1_1, h)).bind (fun (x : Hp) => some x)
theorem s_X19_clear {l : Launch} [NoTr l] {D : SD} {a0 : Int} {h : Hp} (hk : h a0 (-2) = 320) {r : Hp} (hm : m_X19_clear a0 h = some r) : Sim l D yX19_clear (Cond.code yX19_clear cX19_clear 2 (Option.none : Option Jvm.ClassFile.FieldType)) 0 0 [rv D a0] h 0 ((0, 0), r) := by
  refine Sim.of (fin := fun (v : Hp) => ((0, 0), v)) (lsE := [(0, rv D a0)]) hm rfl cwS_code (la_r la_n) (ll_r ll_n) ?_
  intro p e s m below meth c X hcw hmm hcc hnm hname
  unfold m_X19_clear
  refine g_iconst (pc := 0) X (n := 0) (dl_at t_X19_clear 0 rfl) ?_
  refine g_ltz (Or.inl rfl) fun x1_1 r1_1 => ?_
  refine g_istore_nN (pc := 1) X (j := 1) (i := 1) (x := x1_1) (b := 0) (w := rv D a0) (rest := []) rfl (Nat.le_of_ble_eq_true rfl) [0] rfl (by decide) rv_cat rfl (dl_at t_X19_clear 1 rfl) ?_
  refine g_ls (ls2 := [(0, rv D a0), (1, iv x1_1)]) [1, 0] rfl ?_
  refine g_loop0F (fun (q : Int × Hp) => [(0, rv D a0), (1, iv q.1)]) (fun (q : Int × Hp) => q.2) (fun (q : Int × Hp) => r32 q.1 ∧ Ext h q.2) (x1_1, h) ⟨(r32_z r1_1), (Ext.refl _)⟩ ?_ (fun _ => rfl)
  · rintro ⟨x1_2, h_2⟩ ⟨r1_2, E_2⟩
    try dsimp only
    unfold m_X19_clear_l2
    refine g_iload_n (pc := 2) X (j := 1) (i := 1) (q := 1) (x := x1_2) rfl rfl (dl_at t_X19_clear 2 rfl) ?_
    refine g_sipush (pc := 3) X (n := 256) rfl (dl_at t_X19_clear 3 rfl) ?_
    refine g_icmpge (pc := 6) X r1_2 (r32_c rfl) (off := 25) (tgt := 31) rfl (dl_at t_X19_clear 4 rfl) (fun _ => ?_) (fun _ => ?_)
    · refine g_aload_n (pc := 31) X (j := 0) (i := 0) (q := 0) (x := a0) rfl rfl (dl_at t_X19_clear 17 rfl) ?_
      refine g_iconst (pc := 32) X (n := 0) (dl_at t_X19_clear 18 rfl) ?_
      have k33 := kx E_2 (by decide) hk
      refine r_puti (pc := 33) X fX19_2 k33 q3313 rfl (dl_at t_X19_clear 19 rfl) (r32_c rfl) (fun h33 E33 => ?_)
      refine g_aload_n (pc := 36) X (j := 0) (i := 0) (q := 0) (x := a0) rfl rfl (dl_at t_X19_clear 20 rfl) ?_
      refine g_iconst (pc := 37) X (n := 0) (dl_at t_X19_clear 21 rfl) ?_
      have k38 := kx E33 (by decide) k33
      refine r_puti (pc := 38) X fX19_3 k38 q3314 rfl (dl_at t_X19_clear 22 rfl) (r32_c rfl) (fun h38 E38 => ?_)
      exact g_at fun Q hQ => (g_vret (pc := 41) X (v := 0) rfl rfl (dl_at t_X19_clear 23 rfl)) _ Q rfl hQ
    refine g_aload_n (pc := 9) X (j := 0) (i := 0) (q := 0) (x := a0) rfl rfl (dl_at t_X19_clear 5 rfl) ?_
    have k10 := kx E_2 (by decide) hk
    refine r_getr (pc := 10) X fX19_0 k10 q3310 (dl_at t_X19_clear 6 rfl) ?_
    refine g_iload_n (pc := 13) X (j := 1) (i := 1) (q := 1) (x := x1_2) rfl rfl (dl_at t_X19_clear 7 rfl) ?_
    refine g_sipush (pc := 14) X (n := 500) rfl (dl_at t_X19_clear 8 rfl) ?_
    refine g_gd fun k17 => ?_
    refine r_iast (pc := 17) X r1_2 (r32_c rfl) k17 (dl_at t_X19_clear 9 rfl) (fun h17 E17 => ?_)
    refine g_aload_n (pc := 18) X (j := 0) (i := 0) (q := 0) (x := a0) rfl rfl (dl_at t_X19_clear 10 rfl) ?_
    have k19 := kx E17 (by decide) k10
    refine r_getr (pc := 19) X fX19_1 k19 q3312 (dl_at t_X19_clear 11 rfl) ?_
    refine g_iload_n (pc := 22) X (j := 1) (i := 1) (q := 1) (x := x1_2) rfl rfl (dl_at t_X19_clear 12 rfl) ?_
    refine g_iconst (pc := 23) X (n := 0) (dl_at t_X19_clear 13 rfl) ?_
    refine g_gd fun k24 => ?_
    refine r_zast (pc := 24) X r1_2 (Or.inl rfl) k24 (dl_at t_X19_clear 14 rfl) (fun h24 E24 => ?_)
    refine r_iincN (pc := 25) X (i := 1) (q := 1) (n := 1) (x := x1_2) (b := 0) (w := rv D a0) (rest := []) rfl r1_2 (r32_c rfl) (Nat.le_of_ble_eq_true rfl) [0] rfl (by decide) rv_cat rfl (dl_at t_X19_clear 15 rfl) fun x1_25 r1_25 => ?_
    refine g_goto (pc := 28) X (off := (-26)) (tgt := 2) rfl (dl_at t_X19_clear 16 rfl) ?_
    refine g_ls (ls2 := [(0, rv D a0), (1, iv x1_25)]) [1, 0] rfl ?_
    exact g_at fun Q hQ => hQ ⟨r1_25, (E_2.trans (E17.trans E24))⟩
def k_X19_init : List (Nat × Instr × Nat) := [(0, .aload_n 0, 1), (1, .invokespecial 1, 3), (4, .aload_n 0, 1), (5, .sipush 256, 3), (8, .newarray .int, 2), (10, .putfield 7, 3), (13, .aload_n 0, 1), (14, .sipush 256, 3), (17, .newarray .boolean, 2), (19, .putfield 13, 3), (22, .aload_n 0, 1), (23, .sipush 200, 3), (26, .newarray .int, 2), (28, .putfield 17, 3), (31, .aload_n 0, 1), (32, .sipush 200, 3), (35, .newarray .int, 2), (37, .putfield 20, 3), (40, .aload_n 0, 1), (41, .bipush 60, 2), (43, .newarray .int, 2), (45, .putfield 23, 3), (48, .aload_n 0, 1), (49, .bipush 60, 2), (51, .newarray .int, 2), (53, .putfield 26, 3), (56, .aload_n 0, 1), (57, .new 29, 3), (60, .dup, 1), (61, .invokespecial 31, 3), (64, .putfield 32, 3), (67, .aload_n 0, 1), (68, .invokevirtual 36, 3), (71, .return_, 1)]
theorem t_X19_init : ∀ q ∈ k_X19_init, decode cX19_init q.1 = .ok q.2 := dl_all (by decide +kernel)
noncomputable def m_X19_init (a0 : Int) (h : Hp) : Option (Hp) :=
  al h 2577 256 fun a8 h8 =>
  pt h8 a0 0 a8 fun h10 =>
  al h10 2595 256 fun a17 h17 =>
  pt h17 a0 1 a17 fun h19 =>
  al h19 2609 200 fun a26 h26 =>
  pt h26 a0 4 a26 fun h28 =>
  al h28 2625 200 fun a35 h35 =>
  pt h35 a0 5 a35 fun h37 =>
  al h37 2641 60 fun a43 h43 =>
  pt h43 a0 6 a43 fun h45 =>
  al h45 2657 60 fun a51 h51 =>
  pt h51 a0 7 a51 fun h53 =>
  al h53 336 8 fun a57 h57 =>
  (m_X20_init a57 h57).bind fun h61 =>
  pt h61 a0 8 a57 fun h64 =>
  (m_X19_clear a0 h64).bind fun h68 =>
  some h68
theorem s_X19_init {l : Launch} [NoTr l] {D : SD} {a0 : Int} {h : Hp} (hk : h a0 (-2) = 320) {r : Hp} (hm : m_X19_init a0 h = some r) : Sim l D yX19_init (Cond.code yX19_init cX19_init 1 (Option.none : Option Jvm.ClassFile.FieldType)) 2 72 [rv D a0] h 0 ((0, 0), r) := by
  refine Sim.of (fin := fun (v : Hp) => ((0, 0), v)) (lsE := [(0, rv D a0)]) hm rfl cwS_code (la_r la_n) (ll_r ll_n) ?_
  intro p e s m below meth c X hcw hmm hcc hnm hname
  unfold m_X19_init
  refine g_aload_n (pc := 0) X (j := 0) (i := 0) (q := 0) (x := a0) rfl rfl (dl_at t_X19_init 0 rfl) ?_
  refine r_oinitK (pc := 1) X hk (by decide) q3266 q406 q407 (Nat.le_of_ble_eq_true rfl) (Nat.le_trans (Nat.add_le_add_right (cat24 (st := []) (Nat.le_of_ble_eq_true rfl)) 12) (Nat.le_of_ble_eq_true rfl)) (dl_at t_X19_init 1 rfl) ?_
  refine g_aload_n (pc := 4) X (j := 0) (i := 0) (q := 0) (x := a0) rfl rfl (dl_at t_X19_init 2 rfl) ?_
  refine g_sipush (pc := 5) X (n := 256) rfl (dl_at t_X19_init 3 rfl) ?_
  refine r_newa (pc := 8) X 1 161 (Nat.le_of_ble_eq_true rfl) (Nat.le_of_ble_eq_true rfl) rfl q492 (r32_c rfl) rfl (dl_at t_X19_init 4 rfl) fun a8 h8 p8 k8 l8 E8 => ?_
  have k10 := kx E8 (by decide) hk
  refine r_putrF (pc := 10) X hname fX19_0 k10 q3310 rfl rfl (dl_at t_X19_init 5 rfl)  (fun h10 E10 => ?_)
  refine g_aload_n (pc := 13) X (j := 0) (i := 0) (q := 0) (x := a0) rfl rfl (dl_at t_X19_init 6 rfl) ?_
  refine g_sipush (pc := 14) X (n := 256) rfl (dl_at t_X19_init 7 rfl) ?_
  refine r_newa (pc := 17) X 3 162 (Nat.le_of_ble_eq_true rfl) (Nat.le_of_ble_eq_true rfl) rfl q635 (r32_c rfl) rfl (dl_at t_X19_init 8 rfl) fun a17 h17 p17 k17 l17 E17 => ?_
  have k19 := kx (E10.trans E17) (by decide) k10
  refine r_putrF (pc := 19) X hname fX19_1 k19 q3312 rfl rfl (dl_at t_X19_init 9 rfl)  (fun h19 E19 => ?_)
  refine g_aload_n (pc := 22) X (j := 0) (i := 0) (q := 0) (x := a0) rfl rfl (dl_at t_X19_init 10 rfl) ?_
  refine g_sipush (pc := 23) X (n := 200) rfl (dl_at t_X19_init 11 rfl) ?_
  refine r_newa (pc := 26) X 1 163 (Nat.le_of_ble_eq_true rfl) (Nat.le_of_ble_eq_true rfl) rfl q492 (r32_c rfl) rfl (dl_at t_X19_init 12 rfl) fun a26 h26 p26 k26 l26 E26 => ?_
  have k28 := kx (E19.trans E26) (by decide) k19
  refine r_putrF (pc := 28) X hname fX19_4 k28 q3315 rfl rfl (dl_at t_X19_init 13 rfl)  (fun h28 E28 => ?_)
  refine g_aload_n (pc := 31) X (j := 0) (i := 0) (q := 0) (x := a0) rfl rfl (dl_at t_X19_init 14 rfl) ?_
  refine g_sipush (pc := 32) X (n := 200) rfl (dl_at t_X19_init 15 rfl) ?_
  refine r_newa (pc := 35) X 1 164 (Nat.le_of_ble_eq_true rfl) (Nat.le_of_ble_eq_true rfl) rfl q492 (r32_c rfl) rfl (dl_at t_X19_init 16 rfl) fun a35 h35 p35 k35 l35 E35 => ?_
  have k37 := kx (E28.trans E35) (by decide) k28
  refine r_putrF (pc := 37) X hname fX19_5 k37 q3316 rfl rfl (dl_at t_X19_init 17 rfl)  (fun h37 E37 => ?_)
  refine g_aload_n (pc := 40) X (j := 0) (i := 0) (q := 0) (x := a0) rfl rfl (dl_at t_X19_init 18 rfl) ?_
  refine g_bipush (pc := 41) X (n := 60) rfl (dl_at t_X19_init 19 rfl) ?_
  refine r_newa (pc := 43) X 1 165 (Nat.le_of_ble_eq_true rfl) (Nat.le_of_ble_eq_true rfl) rfl q492 (r32_c rfl) rfl (dl_at t_X19_init 20 rfl) fun a43 h43 p43 k43 l43 E43 => ?_
  have k45 := kx (E37.trans E43) (by decide) k37
  refine r_putrF (pc := 45) X hname fX19_6 k45 q3317 rfl rfl (dl_at t_X19_init 21 rfl)  (fun h45 E45 => ?_)
  refine g_aload_n (pc := 48) X (j := 0) (i := 0) (q := 0) (x := a0) rfl rfl (dl_at t_X19_init 22 rfl) ?_
  refine g_bipush (pc := 49) X (n := 60) rfl (dl_at t_X19_init 23 rfl) ?_
  refine r_newa (pc := 51) X 1 166 (Nat.le_of_ble_eq_true rfl) (Nat.le_of_ble_eq_true rfl) rfl q492 (r32_c rfl) rfl (dl_at t_X19_init 24 rfl) fun a51 h51 p51 k51 l51 E51 => ?_
  have k53 := kx (E45.trans E51) (by decide) k45
  refine r_putrF (pc := 53) X hname fX19_7 k53 q3318 rfl rfl (dl_at t_X19_init 25 rfl)  (fun h53 E53 => ?_)
  refine g_aload_n (pc := 56) X (j := 0) (i := 0) (q := 0) (x := a0) rfl rfl (dl_at t_X19_init 26 rfl) ?_
  refine r_new (pc := 57) X kX20 q3267 (dl_at t_X19_init 27 rfl) fun a57 h57 p57 k57 E57 => ?_
  refine g_dup (pc := 60) X rv_cat (dl_at t_X19_init 28 rfl) ?_
  refine r_callV (pc := 61) X (fun _ hv => s_X20_init k57 hv) cw_code q3271 q374 (in_I X (As := []) (Int.ne_of_gt p57) rfl (Or.inr ⟨_, nw_in q3269 rfl⟩) q3270 q3271 ⟨by decide, by decide⟩ rfl (dl_at t_X19_init 29 rfl)) (dl_at t_X19_init 29 rfl) (cat24 (st := [rv D a57, rv D a0]) (Nat.le_of_ble_eq_true rfl)) (Nat.le_of_ble_eq_true rfl) (Nat.le_of_ble_eq_true rfl) fun h61 E61 => ?_
  have k64 := kx (E53.trans (E57.trans E61)) (by decide) k53
  refine r_putrF (pc := 64) X hname fX19_8 k64 q3319 rfl rfl (dl_at t_X19_init 30 rfl)  (fun h64 E64 => ?_)
  refine g_aload_n (pc := 67) X (j := 0) (i := 0) (q := 0) (x := a0) rfl rfl (dl_at t_X19_init 31 rfl) ?_
  have k68 := kx E64 (by decide) k64
  refine r_callV (pc := 68) X (fun _ hv => s_X19_clear k68 hv) cw_code q3309 q373 (in_Vk X (As := []) kX19 k68 (Or.inl q3306) q3307 q3308 cw_code q3309 ⟨by decide, by decide⟩ rfl (dl_at t_X19_init 32 rfl)) (dl_at t_X19_init 32 rfl) (cat24 (st := []) (Nat.le_of_ble_eq_true rfl)) (Nat.le_of_ble_eq_true rfl) (Nat.le_of_ble_eq_true rfl) fun h68 E68 => ?_
  exact g_vret (pc := 71) X (v := 0) rfl rfl (dl_at t_X19_init 33 rfl)
def k_X21_init : List (Nat × Instr × Nat) := [(0, .aload_n 0, 1), (1, .invokespecial 1, 3), (4, .aload_n 0, 1), (5, .iconst 2, 1), (6, .putfield 7, 3), (9, .aload_n 0, 1), (10, .iconst 3, 1), (11, .putfield 13, 3), (14, .aload_n 0, 1), (15, .sipush 4200, 3), (18, .newarray .byte, 2), (20, .putfield 16, 3), (23, .aload_n 0, 1), (24, .sipush 300, 3), (27, .newarray .int, 2), (29, .putfield 20, 3), (32, .aload_n 0, 1), (33, .sipush 4800, 3), (36, .newarray .byte, 2), (38, .putfield 24, 3), (41, .aload_n 0, 1), (42, .sipush 1800, 3), (45, .newarray .byte, 2), (47, .putfield 27, 3), (50, .aload_n 0, 1), (51, .bipush 60, 2), (53, .newarray .int, 2), (55, .putfield 30, 3), (58, .aload_n 0, 1), (59, .sipush 1860, 3), (62, .newarray .boolean, 2), (64, .putfield 33, 3), (67, .aload_n 0, 1), (68, .bipush 64, 2), (70, .newarray .byte, 2), (72, .putfield 37, 3), (75, .aload_n 0, 1), (76, .bipush 64, 2), (78, .newarray .byte, 2), (80, .putfield 40, 3), (83, .aload_n 0, 1), (84, .bipush 64, 2), (86, .newarray .boolean, 2), (88, .putfield 43, 3), (91, .return_, 1)]
theorem t_X21_init : ∀ q ∈ k_X21_init, decode cX21_init q.1 = .ok q.2 := dl_all (by decide +kernel)
noncomputable def m_X21_init (a0 : Int) (h : Hp) : Option (Hp) :=
  pt h a0 0 2 fun h6 =>
  pt h6 a0 1 3 fun h11 =>
  al h11 2674 4200 fun a18 h18 =>
  pt h18 a0 4 a18 fun h20 =>
  al h20 2689 300 fun a27 h27 =>
  pt h27 a0 5 a27 fun h29 =>
  al h29 2706 4800 fun a36 h36 =>
  pt h36 a0 6 a36 fun h38 =>
  al h38 2722 1800 fun a45 h45 =>
  pt h45 a0 7 a45 fun h47 =>
  al h47 2737 60 fun a53 h53 =>
  pt h53 a0 8 a53 fun h55 =>
  al h55 2755 1860 fun a62 h62 =>
  pt h62 a0 9 a62 fun h64 =>
  al h64 2770 64 fun a70 h70 =>
  pt h70 a0 10 a70 fun h72 =>
  al h72 2786 64 fun a78 h78 =>
  pt h78 a0 11 a78 fun h80 =>
  al h80 2803 64 fun a86 h86 =>
  pt h86 a0 13 a86 fun h88 =>
  some h88
theorem s_X21_init {l : Launch} [NoTr l] {D : SD} {a0 : Int} {h : Hp} (hk : h a0 (-2) = 352) {r : Hp} (hm : m_X21_init a0 h = some r) : Sim l D yX21_init (Cond.code yX21_init cX21_init 1 (Option.none : Option Jvm.ClassFile.FieldType)) 1 36 [rv D a0] h 0 ((0, 0), r) := by
  refine Sim.of (fin := fun (v : Hp) => ((0, 0), v)) (lsE := [(0, rv D a0)]) hm rfl cwS_code (la_r la_n) (ll_r ll_n) ?_
  intro p e s m below meth c X hcw hmm hcc hnm hname
  unfold m_X21_init
  refine g_aload_n (pc := 0) X (j := 0) (i := 0) (q := 0) (x := a0) rfl rfl (dl_at t_X21_init 0 rfl) ?_
  refine r_oinitK (pc := 1) X hk (by decide) q3344 q406 q407 (Nat.le_of_ble_eq_true rfl) (Nat.le_trans (Nat.add_le_add_right (cat24 (st := []) (Nat.le_of_ble_eq_true rfl)) 12) (Nat.le_of_ble_eq_true rfl)) (dl_at t_X21_init 1 rfl) ?_
  refine g_aload_n (pc := 4) X (j := 0) (i := 0) (q := 0) (x := a0) rfl rfl (dl_at t_X21_init 2 rfl) ?_
  refine g_iconst (pc := 5) X (n := 2) (dl_at t_X21_init 3 rfl) ?_
  refine r_puti (pc := 6) X fX21_0 hk q3345 rfl (dl_at t_X21_init 4 rfl) (r32_c rfl) (fun h6 E6 => ?_)
  refine g_aload_n (pc := 9) X (j := 0) (i := 0) (q := 0) (x := a0) rfl rfl (dl_at t_X21_init 5 rfl) ?_
  refine g_iconst (pc := 10) X (n := 3) (dl_at t_X21_init 6 rfl) ?_
  have k11 := kx E6 (by decide) hk
  refine r_puti (pc := 11) X fX21_1 k11 q3346 rfl (dl_at t_X21_init 7 rfl) (r32_c rfl) (fun h11 E11 => ?_)
  refine g_aload_n (pc := 14) X (j := 0) (i := 0) (q := 0) (x := a0) rfl rfl (dl_at t_X21_init 8 rfl) ?_
  refine g_sipush (pc := 15) X (n := 4200) rfl (dl_at t_X21_init 9 rfl) ?_
  refine r_newa (pc := 18) X 2 167 (Nat.le_of_ble_eq_true rfl) (Nat.le_of_ble_eq_true rfl) rfl q449 (r32_c rfl) rfl (dl_at t_X21_init 10 rfl) fun a18 h18 p18 k18 l18 E18 => ?_
  have k20 := kx (E11.trans E18) (by decide) k11
  refine r_putrF (pc := 20) X hname fX21_4 k20 q3351 rfl rfl (dl_at t_X21_init 11 rfl)  (fun h20 E20 => ?_)
  refine g_aload_n (pc := 23) X (j := 0) (i := 0) (q := 0) (x := a0) rfl rfl (dl_at t_X21_init 12 rfl) ?_
  refine g_sipush (pc := 24) X (n := 300) rfl (dl_at t_X21_init 13 rfl) ?_
  refine r_newa (pc := 27) X 1 168 (Nat.le_of_ble_eq_true rfl) (Nat.le_of_ble_eq_true rfl) rfl q492 (r32_c rfl) rfl (dl_at t_X21_init 14 rfl) fun a27 h27 p27 k27 l27 E27 => ?_
  have k29 := kx (E20.trans E27) (by decide) k20
  refine r_putrF (pc := 29) X hname fX21_5 k29 q3352 rfl rfl (dl_at t_X21_init 15 rfl)  (fun h29 E29 => ?_)
  refine g_aload_n (pc := 32) X (j := 0) (i := 0) (q := 0) (x := a0) rfl rfl (dl_at t_X21_init 16 rfl) ?_
  refine g_sipush (pc := 33) X (n := 4800) rfl (dl_at t_X21_init 17 rfl) ?_
  refine r_newa (pc := 36) X 2 169 (Nat.le_of_ble_eq_true rfl) (Nat.le_of_ble_eq_true rfl) rfl q449 (r32_c rfl) rfl (dl_at t_X21_init 18 rfl) fun a36 h36 p36 k36 l36 E36 => ?_
  have k38 := kx (E29.trans E36) (by decide) k29
  refine r_putrF (pc := 38) X hname fX21_6 k38 q3353 rfl rfl (dl_at t_X21_init 19 rfl)  (fun h38 E38 => ?_)
  refine g_aload_n (pc := 41) X (j := 0) (i := 0) (q := 0) (x := a0) rfl rfl (dl_at t_X21_init 20 rfl) ?_
  refine g_sipush (pc := 42) X (n := 1800) rfl (dl_at t_X21_init 21 rfl) ?_
  refine r_newa (pc := 45) X 2 170 (Nat.le_of_ble_eq_true rfl) (Nat.le_of_ble_eq_true rfl) rfl q449 (r32_c rfl) rfl (dl_at t_X21_init 22 rfl) fun a45 h45 p45 k45 l45 E45 => ?_
  have k47 := kx (E38.trans E45) (by decide) k38
  refine r_putrF (pc := 47) X hname fX21_7 k47 q3354 rfl rfl (dl_at t_X21_init 23 rfl)  (fun h47 E47 => ?_)
  refine g_aload_n (pc := 50) X (j := 0) (i := 0) (q := 0) (x := a0) rfl rfl (dl_at t_X21_init 24 rfl) ?_
  refine g_bipush (pc := 51) X (n := 60) rfl (dl_at t_X21_init 25 rfl) ?_
  refine r_newa (pc := 53) X 1 171 (Nat.le_of_ble_eq_true rfl) (Nat.le_of_ble_eq_true rfl) rfl q492 (r32_c rfl) rfl (dl_at t_X21_init 26 rfl) fun a53 h53 p53 k53 l53 E53 => ?_
  have k55 := kx (E47.trans E53) (by decide) k47
  refine r_putrF (pc := 55) X hname fX21_8 k55 q3355 rfl rfl (dl_at t_X21_init 27 rfl)  (fun h55 E55 => ?_)
  refine g_aload_n (pc := 58) X (j := 0) (i := 0) (q := 0) (x := a0) rfl rfl (dl_at t_X21_init 28 rfl) ?_
  refine g_sipush (pc := 59) X (n := 1860) rfl (dl_at t_X21_init 29 rfl) ?_
  refine r_newa (pc := 62) X 3 172 (Nat.le_of_ble_eq_true rfl) (Nat.le_of_ble_eq_true rfl) rfl q635 (r32_c rfl) rfl (dl_at t_X21_init 30 rfl) fun a62 h62 p62 k62 l62 E62 => ?_
  have k64 := kx (E55.trans E62) (by decide) k55
  refine r_putrF (pc := 64) X hname fX21_9 k64 q3356 rfl rfl (dl_at t_X21_init 31 rfl)  (fun h64 E64 => ?_)
  refine g_aload_n (pc := 67) X (j := 0) (i := 0) (q := 0) (x := a0) rfl rfl (dl_at t_X21_init 32 rfl) ?_
  refine g_bipush (pc := 68) X (n := 64) rfl (dl_at t_X21_init 33 rfl) ?_
  refine r_newa (pc := 70) X 2 173 (Nat.le_of_ble_eq_true rfl) (Nat.le_of_ble_eq_true rfl) rfl q449 (r32_c rfl) rfl (dl_at t_X21_init 34 rfl) fun a70 h70 p70 k70 l70 E70 => ?_
  have k72 := kx (E64.trans E70) (by decide) k64
  refine r_putrF (pc := 72) X hname fX21_10 k72 q3357 rfl rfl (dl_at t_X21_init 35 rfl)  (fun h72 E72 => ?_)
  refine g_aload_n (pc := 75) X (j := 0) (i := 0) (q := 0) (x := a0) rfl rfl (dl_at t_X21_init 36 rfl) ?_
  refine g_bipush (pc := 76) X (n := 64) rfl (dl_at t_X21_init 37 rfl) ?_
  refine r_newa (pc := 78) X 2 174 (Nat.le_of_ble_eq_true rfl) (Nat.le_of_ble_eq_true rfl) rfl q449 (r32_c rfl) rfl (dl_at t_X21_init 38 rfl) fun a78 h78 p78 k78 l78 E78 => ?_
  have k80 := kx (E72.trans E78) (by decide) k72
  refine r_putrF (pc := 80) X hname fX21_11 k80 q3358 rfl rfl (dl_at t_X21_init 39 rfl)  (fun h80 E80 => ?_)
  refine g_aload_n (pc := 83) X (j := 0) (i := 0) (q := 0) (x := a0) rfl rfl (dl_at t_X21_init 40 rfl) ?_
  refine g_bipush (pc := 84) X (n := 64) rfl (dl_at t_X21_init 41 rfl) ?_
  refine r_newa (pc := 86) X 3 175 (Nat.le_of_ble_eq_true rfl) (Nat.le_of_ble_eq_true rfl) rfl q635 (r32_c rfl) rfl (dl_at t_X21_init 42 rfl) fun a86 h86 p86 k86 l86 E86 => ?_
  have k88 := kx (E80.trans E86) (by decide) k80
  refine r_putrF (pc := 88) X hname fX21_13 k88 q3360 rfl rfl (dl_at t_X21_init 43 rfl)  (fun h88 E88 => ?_)
  exact g_vret (pc := 91) X (v := 0) rfl rfl (dl_at t_X21_init 44 rfl)
def k_X22_clear : List (Nat × Instr × Nat) := [(0, .aload_n 0, 1), (1, .getfield 22, 3), (4, .iconst 0, 1), (5, .ldc 86, 2), (7, .iastore, 1), (8, .aload_n 0, 1), (9, .getfield 22, 3), (12, .iconst 1, 1), (13, .ldc 87, 2), (15, .iastore, 1), (16, .aload_n 0, 1), (17, .getfield 22, 3), (20, .iconst 2, 1), (21, .iconst 1, 1), (22, .iastore, 1), (23, .aload_n 0, 1), (24, .getfield 22, 3), (27, .iconst 3, 1), (28, .sipush 10000, 3), (31, .iastore, 1), (32, .aload_n 0, 1), (33, .getfield 22, 3), (36, .iconst 4, 1), (37, .sipush 6000, 3), (40, .iastore, 1), (41, .aload_n 0, 1), (42, .getfield 22, 3), (45, .iconst 5, 1), (46, .iconst 0, 1), (47, .iastore, 1), (48, .aload_n 0, 1), (49, .iconst 0, 1), (50, .putfield 88, 3), (53, .aload_n 0, 1), (54, .iconst 0, 1), (55, .putfield 92, 3), (58, .aload_n 0, 1), (59, .iconst 0, 1), (60, .putfield 95, 3), (63, .aload_n 0, 1), (64, .iconst 0, 1), (65, .putfield 98, 3), (68, .aload_n 0, 1), (69, .iconst 0, 1), (70, .putfield 101, 3), (73, .aload_n 0, 1), (74, .iconst 0, 1), (75, .putfield 104, 3), (78, .aload_n 0, 1), (79, .getfield 62, 3), (82, .iconst 0, 1), (83, .iconst 0, 1), (84, .iastore, 1), (85, .aload_n 0, 1), (86, .getfield 41, 3), (89, .iconst 0, 1), (90, .iconst 0, 1), (91, .iastore, 1), (92, .aload_n 0, 1), (93, .getfield 26, 3), (96, .iconst 0, 1), (97, .iconst 0, 1), (98, .iastore, 1), (99, .return_, 1)]
theorem t_X22_clear : ∀ q ∈ k_X22_clear, decode cX22_clear q.1 = .ok q.2 := dl_all (by decide +kernel)
noncomputable def m_X22_clear (a0 : Int) (h : Hp) : Option (Hp) :=
  gd (h (h a0 2) (-2) % 16 = 1 ∧ (0 : Int) ≤ 0 ∧ 0 < h (h a0 2) (-1)) (pt h (h a0 2) 0 300000 fun h7 =>
  gd (h7 (h7 a0 2) (-2) % 16 = 1 ∧ (0 : Int) ≤ 1 ∧ 1 < h7 (h7 a0 2) (-1)) (pt h7 (h7 a0 2) 1 400000 fun h15 =>
  gd (h15 (h15 a0 2) (-2) % 16 = 1 ∧ (0 : Int) ≤ 2 ∧ 2 < h15 (h15 a0 2) (-1)) (pt h15 (h15 a0 2) 2 1 fun h22 =>
  gd (h22 (h22 a0 2) (-2) % 16 = 1 ∧ (0 : Int) ≤ 3 ∧ 3 < h22 (h22 a0 2) (-1)) (pt h22 (h22 a0 2) 3 10000 fun h31 =>
  gd (h31 (h31 a0 2) (-2) % 16 = 1 ∧ (0 : Int) ≤ 4 ∧ 4 < h31 (h31 a0 2) (-1)) (pt h31 (h31 a0 2) 4 6000 fun h40 =>
  gd (h40 (h40 a0 2) (-2) % 16 = 1 ∧ (0 : Int) ≤ 5 ∧ 5 < h40 (h40 a0 2) (-1)) (pt h40 (h40 a0 2) 5 0 fun h47 =>
  pt h47 a0 3 0 fun h50 =>
  pt h50 a0 4 0 fun h55 =>
  pt h55 a0 5 0 fun h60 =>
  pt h60 a0 6 0 fun h65 =>
  pt h65 a0 7 0 fun h70 =>
  pt h70 a0 8 0 fun h75 =>
  gd (h75 (h75 a0 21) (-2) % 16 = 1 ∧ (0 : Int) ≤ 0 ∧ 0 < h75 (h75 a0 21) (-1)) (pt h75 (h75 a0 21) 0 0 fun h84 =>
  gd (h84 (h84 a0 14) (-2) % 16 = 1 ∧ (0 : Int) ≤ 0 ∧ 0 < h84 (h84 a0 14) (-1)) (pt h84 (h84 a0 14) 0 0 fun h91 =>
  gd (h91 (h91 a0 9) (-2) % 16 = 1 ∧ (0 : Int) ≤ 0 ∧ 0 < h91 (h91 a0 9) (-1)) (pt h91 (h91 a0 9) 0 0 fun h98 =>
  some h98)))))))))
theorem s_X22_clear {l : Launch} [NoTr l] {D : SD} {a0 : Int} {h : Hp} (hk : h a0 (-2) = 368) {r : Hp} (hm : m_X22_clear a0 h = some r) : Sim l D yX22_clear (Cond.code yX22_clear cX22_clear 1 (Option.none : Option Jvm.ClassFile.FieldType)) 0 0 [rv D a0] h 0 ((0, 0), r) := by
  refine Sim.of (fin := fun (v : Hp) => ((0, 0), v)) (lsE := [(0, rv D a0)]) hm rfl cwS_code (la_r la_n) (ll_r ll_n) ?_
  intro p e s m below meth c X hcw hmm hcc hnm hname
  unfold m_X22_clear
  refine g_aload_n (pc := 0) X (j := 0) (i := 0) (q := 0) (x := a0) rfl rfl (dl_at t_X22_clear 0 rfl) ?_
  refine r_getr (pc := 1) X fX22_2 hk q3407 (dl_at t_X22_clear 1 rfl) ?_
  refine g_iconst (pc := 4) X (n := 0) (dl_at t_X22_clear 2 rfl) ?_
  refine g_ldc (pc := 5) X (index := 86) (n := 300000) q3402 (dl_at t_X22_clear 3 rfl) ?_
  refine g_gd fun k7 => ?_
  refine r_iast (pc := 7) X (r32_c rfl) (r32_c rfl) k7 (dl_at t_X22_clear 4 rfl) (fun h7 E7 => ?_)
  refine g_aload_n (pc := 8) X (j := 0) (i := 0) (q := 0) (x := a0) rfl rfl (dl_at t_X22_clear 5 rfl) ?_
  have k9 := kx E7 (by decide) hk
  refine r_getr (pc := 9) X fX22_2 k9 q3407 (dl_at t_X22_clear 6 rfl) ?_
  refine g_iconst (pc := 12) X (n := 1) (dl_at t_X22_clear 7 rfl) ?_
  refine g_ldc (pc := 13) X (index := 87) (n := 400000) q3403 (dl_at t_X22_clear 8 rfl) ?_
  refine g_gd fun k15 => ?_
  refine r_iast (pc := 15) X (r32_c rfl) (r32_c rfl) k15 (dl_at t_X22_clear 9 rfl) (fun h15 E15 => ?_)
  refine g_aload_n (pc := 16) X (j := 0) (i := 0) (q := 0) (x := a0) rfl rfl (dl_at t_X22_clear 10 rfl) ?_
  have k17 := kx E15 (by decide) k9
  refine r_getr (pc := 17) X fX22_2 k17 q3407 (dl_at t_X22_clear 11 rfl) ?_
  refine g_iconst (pc := 20) X (n := 2) (dl_at t_X22_clear 12 rfl) ?_
  refine g_iconst (pc := 21) X (n := 1) (dl_at t_X22_clear 13 rfl) ?_
  refine g_gd fun k22 => ?_
  refine r_iast (pc := 22) X (r32_c rfl) (r32_c rfl) k22 (dl_at t_X22_clear 14 rfl) (fun h22 E22 => ?_)
  refine g_aload_n (pc := 23) X (j := 0) (i := 0) (q := 0) (x := a0) rfl rfl (dl_at t_X22_clear 15 rfl) ?_
  have k24 := kx E22 (by decide) k17
  refine r_getr (pc := 24) X fX22_2 k24 q3407 (dl_at t_X22_clear 16 rfl) ?_
  refine g_iconst (pc := 27) X (n := 3) (dl_at t_X22_clear 17 rfl) ?_
  refine g_sipush (pc := 28) X (n := 10000) rfl (dl_at t_X22_clear 18 rfl) ?_
  refine g_gd fun k31 => ?_
  refine r_iast (pc := 31) X (r32_c rfl) (r32_c rfl) k31 (dl_at t_X22_clear 19 rfl) (fun h31 E31 => ?_)
  refine g_aload_n (pc := 32) X (j := 0) (i := 0) (q := 0) (x := a0) rfl rfl (dl_at t_X22_clear 20 rfl) ?_
  have k33 := kx E31 (by decide) k24
  refine r_getr (pc := 33) X fX22_2 k33 q3407 (dl_at t_X22_clear 21 rfl) ?_
  refine g_iconst (pc := 36) X (n := 4) (dl_at t_X22_clear 22 rfl) ?_
  refine g_sipush (pc := 37) X (n := 6000) rfl (dl_at t_X22_clear 23 rfl) ?_
  refine g_gd fun k40 => ?_
  refine r_iast (pc := 40) X (r32_c rfl) (r32_c rfl) k40 (dl_at t_X22_clear 24 rfl) (fun h40 E40 => ?_)
  refine g_aload_n (pc := 41) X (j := 0) (i := 0) (q := 0) (x := a0) rfl rfl (dl_at t_X22_clear 25 rfl) ?_
  have k42 := kx E40 (by decide) k33
  refine r_getr (pc := 42) X fX22_2 k42 q3407 (dl_at t_X22_clear 26 rfl) ?_
  refine g_iconst (pc := 45) X (n := 5) (dl_at t_X22_clear 27 rfl) ?_
  refine g_iconst (pc := 46) X (n := 0) (dl_at t_X22_clear 28 rfl) ?_
  refine g_gd fun k47 => ?_
  refine r_iast (pc := 47) X (r32_c rfl) (r32_c rfl) k47 (dl_at t_X22_clear 29 rfl) (fun h47 E47 => ?_)
  refine g_aload_n (pc := 48) X (j := 0) (i := 0) (q := 0) (x := a0) rfl rfl (dl_at t_X22_clear 30 rfl) ?_
  refine g_iconst (pc := 49) X (n := 0) (dl_at t_X22_clear 31 rfl) ?_
  have k50 := kx E47 (by decide) k42
  refine r_puti (pc := 50) X fX22_3 k50 q3409 rfl (dl_at t_X22_clear 32 rfl) (r32_c rfl) (fun h50 E50 => ?_)
  refine g_aload_n (pc := 53) X (j := 0) (i := 0) (q := 0) (x := a0) rfl rfl (dl_at t_X22_clear 33 rfl) ?_
  refine g_iconst (pc := 54) X (n := 0) (dl_at t_X22_clear 34 rfl) ?_
  have k55 := kx E50 (by decide) k50
  refine r_puti (pc := 55) X fX22_4 k55 q3412 rfl (dl_at t_X22_clear 35 rfl) (r32_c rfl) (fun h55 E55 => ?_)
  refine g_aload_n (pc := 58) X (j := 0) (i := 0) (q := 0) (x := a0) rfl rfl (dl_at t_X22_clear 36 rfl) ?_
  refine g_iconst (pc := 59) X (n := 0) (dl_at t_X22_clear 37 rfl) ?_
  have k60 := kx E55 (by decide) k55
  refine r_puti (pc := 60) X fX22_5 k60 q3413 rfl (dl_at t_X22_clear 38 rfl) (r32_c rfl) (fun h60 E60 => ?_)
  refine g_aload_n (pc := 63) X (j := 0) (i := 0) (q := 0) (x := a0) rfl rfl (dl_at t_X22_clear 39 rfl) ?_
  refine g_iconst (pc := 64) X (n := 0) (dl_at t_X22_clear 40 rfl) ?_
  have k65 := kx E60 (by decide) k60
  refine r_puti (pc := 65) X fX22_6 k65 q3414 rfl (dl_at t_X22_clear 41 rfl) (r32_c rfl) (fun h65 E65 => ?_)
  refine g_aload_n (pc := 68) X (j := 0) (i := 0) (q := 0) (x := a0) rfl rfl (dl_at t_X22_clear 42 rfl) ?_
  refine g_iconst (pc := 69) X (n := 0) (dl_at t_X22_clear 43 rfl) ?_
  have k70 := kx E65 (by decide) k65
  refine r_puti (pc := 70) X fX22_7 k70 q3415 rfl (dl_at t_X22_clear 44 rfl) (r32_c rfl) (fun h70 E70 => ?_)
  refine g_aload_n (pc := 73) X (j := 0) (i := 0) (q := 0) (x := a0) rfl rfl (dl_at t_X22_clear 45 rfl) ?_
  refine g_iconst (pc := 74) X (n := 0) (dl_at t_X22_clear 46 rfl) ?_
  have k75 := kx E70 (by decide) k70
  refine r_puti (pc := 75) X fX22_8 k75 q3416 rfl (dl_at t_X22_clear 47 rfl) (r32_c rfl) (fun h75 E75 => ?_)
  refine g_aload_n (pc := 78) X (j := 0) (i := 0) (q := 0) (x := a0) rfl rfl (dl_at t_X22_clear 48 rfl) ?_
  have k79 := kx E75 (by decide) k75
  refine r_getr (pc := 79) X fX22_21 k79 q3441 (dl_at t_X22_clear 49 rfl) ?_
  refine g_iconst (pc := 82) X (n := 0) (dl_at t_X22_clear 50 rfl) ?_
  refine g_iconst (pc := 83) X (n := 0) (dl_at t_X22_clear 51 rfl) ?_
  refine g_gd fun k84 => ?_
  refine r_iast (pc := 84) X (r32_c rfl) (r32_c rfl) k84 (dl_at t_X22_clear 52 rfl) (fun h84 E84 => ?_)
  refine g_aload_n (pc := 85) X (j := 0) (i := 0) (q := 0) (x := a0) rfl rfl (dl_at t_X22_clear 53 rfl) ?_
  have k86 := kx E84 (by decide) k79
  refine r_getr (pc := 86) X fX22_14 k86 q3427 (dl_at t_X22_clear 54 rfl) ?_
  refine g_iconst (pc := 89) X (n := 0) (dl_at t_X22_clear 55 rfl) ?_
  refine g_iconst (pc := 90) X (n := 0) (dl_at t_X22_clear 56 rfl) ?_
  refine g_gd fun k91 => ?_
  refine r_iast (pc := 91) X (r32_c rfl) (r32_c rfl) k91 (dl_at t_X22_clear 57 rfl) (fun h91 E91 => ?_)
  refine g_aload_n (pc := 92) X (j := 0) (i := 0) (q := 0) (x := a0) rfl rfl (dl_at t_X22_clear 58 rfl) ?_
  have k93 := kx E91 (by decide) k86
  refine r_getr (pc := 93) X fX22_9 k93 q3417 (dl_at t_X22_clear 59 rfl) ?_
  refine g_iconst (pc := 96) X (n := 0) (dl_at t_X22_clear 60 rfl) ?_
  refine g_iconst (pc := 97) X (n := 0) (dl_at t_X22_clear 61 rfl) ?_
  refine g_gd fun k98 => ?_
  refine r_iast (pc := 98) X (r32_c rfl) (r32_c rfl) k98 (dl_at t_X22_clear 62 rfl) (fun h98 E98 => ?_)
  exact g_vret (pc := 99) X (v := 0) rfl rfl (dl_at t_X22_clear 63 rfl)
def k_X22_init : List (Nat × Instr × Nat) := [(0, .aload_n 0, 1), (1, .invokespecial 3, 3), (4, .aload_n 0, 1), (5, .sipush 16384, 3), (8, .newarray .byte, 2), (10, .putfield 9, 3), (13, .aload_n 0, 1), (14, .new 15, 3), (17, .dup, 1), (18, .invokespecial 17, 3), (21, .putfield 18, 3), (24, .aload_n 0, 1), (25, .bipush 6, 2), (27, .newarray .int, 2), (29, .putfield 22, 3), (32, .aload_n 0, 1), (33, .bipush 121, 2), (35, .newarray .int, 2), (37, .putfield 26, 3), (40, .aload_n 0, 1), (41, .bipush 121, 2), (43, .newarray .int, 2), (45, .putfield 29, 3), (48, .aload_n 0, 1), (49, .sipush 970, 3), (52, .newarray .int, 2), (54, .putfield 32, 3), (57, .aload_n 0, 1), (58, .sipush 970, 3), (61, .newarray .int, 2), (63, .putfield 35, 3), (66, .aload_n 0, 1), (67, .sipush 970, 3), (70, .newarray .int, 2), (72, .putfield 38, 3), (75, .aload_n 0, 1), (76, .sipush 971, 3), (79, .newarray .int, 2), (81, .putfield 41, 3), (84, .aload_n 0, 1), (85, .sipush 3850, 3), (88, .newarray .int, 2), (90, .putfield 44, 3), (93, .aload_n 0, 1), (94, .sipush 3850, 3), (97, .newarray .int, 2), (99, .putfield 47, 3), (102, .aload_n 0, 1), (103, .sipush 3850, 3), (106, .newarray .int, 2), (108, .putfield 50, 3), (111, .aload_n 0, 1), (112, .sipush 3850, 3), (115, .newarray .int, 2), (117, .putfield 53, 3), (120, .aload_n 0, 1), (121, .sipush 3850, 3), (124, .newarray .int, 2), (126, .putfield 56, 3), (129, .aload_n 0, 1), (130, .sipush 3850, 3), (133, .newarray .int, 2), (135, .putfield 59, 3), (138, .aload_n 0, 1), (139, .sipush 130, 3), (142, .newarray .int, 2), (144, .putfield 62, 3), (147, .aload_n 0, 1), (148, .sipush 600, 3), (151, .newarray .int, 2), (153, .putfield 65, 3), (156, .aload_n 0, 1), (157, .sipush 600, 3), (160, .newarray .int, 2), (162, .putfield 68, 3), (165, .aload_n 0, 1), (166, .sipush 600, 3), (169, .newarray .int, 2), (171, .putfield 71, 3), (174, .aload_n 0, 1), (175, .sipush 600, 3), (178, .newarray .int, 2), (180, .putfield 74, 3), (183, .aload_n 0, 1), (184, .bipush 12, 2), (186, .newarray .int, 2), (188, .putfield 77, 3), (191, .aload_n 0, 1), (192, .bipush 12, 2), (194, .newarray .int, 2), (196, .putfield 80, 3), (199, .aload_n 0, 1), (200, .invokevirtual 83, 3), (203, .return_, 1)]
theorem t_X22_init : ∀ q ∈ k_X22_init, decode cX22_init q.1 = .ok q.2 := dl_all (by decide +kernel)
noncomputable def m_X22_init (a0 : Int) (h : Hp) : Option (Hp) :=
  al h 2818 16384 fun a8 h8 =>
  pt h8 a0 0 a8 fun h10 =>
  al h10 336 8 fun a14 h14 =>
  (m_X20_init a14 h14).bind fun h18 =>
  pt h18 a0 1 a14 fun h21 =>
  al h21 2833 6 fun a27 h27 =>
  pt h27 a0 2 a27 fun h29 =>
  al h29 2849 121 fun a35 h35 =>
  pt h35 a0 9 a35 fun h37 =>
  al h37 2865 121 fun a43 h43 =>
  pt h43 a0 10 a43 fun h45 =>
  al h45 2881 970 fun a52 h52 =>
  pt h52 a0 11 a52 fun h54 =>
  al h54 2897 970 fun a61 h61 =>
  pt h61 a0 12 a61 fun h63 =>
  al h63 2913 970 fun a70 h70 =>
  pt h70 a0 13 a70 fun h72 =>
  al h72 2929 971 fun a79 h79 =>
  pt h79 a0 14 a79 fun h81 =>
  al h81 2945 3850 fun a88 h88 =>
  pt h88 a0 15 a88 fun h90 =>
  al h90 2961 3850 fun a97 h97 =>
  pt h97 a0 16 a97 fun h99 =>
  al h99 2977 3850 fun a106 h106 =>
  pt h106 a0 17 a106 fun h108 =>
  al h108 2993 3850 fun a115 h115 =>
  pt h115 a0 18 a115 fun h117 =>
  al h117 3009 3850 fun a124 h124 =>
  pt h124 a0 19 a124 fun h126 =>
  al h126 3025 3850 fun a133 h133 =>
  pt h133 a0 20 a133 fun h135 =>
  al h135 3041 130 fun a142 h142 =>
  pt h142 a0 21 a142 fun h144 =>
  al h144 3057 600 fun a151 h151 =>
  pt h151 a0 22 a151 fun h153 =>
  al h153 3073 600 fun a160 h160 =>
  pt h160 a0 23 a160 fun h162 =>
  al h162 3089 600 fun a169 h169 =>
  pt h169 a0 24 a169 fun h171 =>
  al h171 3105 600 fun a178 h178 =>
  pt h178 a0 25 a178 fun h180 =>
  al h180 3121 12 fun a186 h186 =>
  pt h186 a0 26 a186 fun h188 =>
  al h188 3137 12 fun a194 h194 =>
  pt h194 a0 27 a194 fun h196 =>
  (m_X22_clear a0 h196).bind fun h200 =>
  some h200
theorem s_X22_init {l : Launch} [NoTr l] {D : SD} {a0 : Int} {h : Hp} (hk : h a0 (-2) = 368) {r : Hp} (hm : m_X22_init a0 h = some r) : Sim l D yX22_init (Cond.code yX22_init cX22_init 1 (Option.none : Option Jvm.ClassFile.FieldType)) 2 72 [rv D a0] h 0 ((0, 0), r) := by
  refine Sim.of (fin := fun (v : Hp) => ((0, 0), v)) (lsE := [(0, rv D a0)]) hm rfl cwS_code (la_r la_n) (ll_r ll_n) ?_
  intro p e s m below meth c X hcw hmm hcc hnm hname
  unfold m_X22_init
  refine g_aload_n (pc := 0) X (j := 0) (i := 0) (q := 0) (x := a0) rfl rfl (dl_at t_X22_init 0 rfl) ?_
  refine r_oinitK (pc := 1) X hk (by decide) q3395 q406 q407 (Nat.le_of_ble_eq_true rfl) (Nat.le_trans (Nat.add_le_add_right (cat24 (st := []) (Nat.le_of_ble_eq_true rfl)) 12) (Nat.le_of_ble_eq_true rfl)) (dl_at t_X22_init 1 rfl) ?_
  refine g_aload_n (pc := 4) X (j := 0) (i := 0) (q := 0) (x := a0) rfl rfl (dl_at t_X22_init 2 rfl) ?_
  refine g_sipush (pc := 5) X (n := 16384) rfl (dl_at t_X22_init 3 rfl) ?_
  refine r_newa (pc := 8) X 2 176 (Nat.le_of_ble_eq_true rfl) (Nat.le_of_ble_eq_true rfl) rfl q449 (r32_c rfl) rfl (dl_at t_X22_init 4 rfl) fun a8 h8 p8 k8 l8 E8 => ?_
  have k10 := kx E8 (by decide) hk
  refine r_putrF (pc := 10) X hname fX22_0 k10 q3404 rfl rfl (dl_at t_X22_init 5 rfl)  (fun h10 E10 => ?_)
  refine g_aload_n (pc := 13) X (j := 0) (i := 0) (q := 0) (x := a0) rfl rfl (dl_at t_X22_init 6 rfl) ?_
  refine r_new (pc := 14) X kX20 q3396 (dl_at t_X22_init 7 rfl) fun a14 h14 p14 k14 E14 => ?_
  refine g_dup (pc := 17) X rv_cat (dl_at t_X22_init 8 rfl) ?_
  refine r_callV (pc := 18) X (fun _ hv => s_X20_init k14 hv) cw_code q3271 q374 (in_I X (As := []) (Int.ne_of_gt p14) rfl (Or.inr ⟨_, nw_in q3397 rfl⟩) q3270 q3271 ⟨by decide, by decide⟩ rfl (dl_at t_X22_init 9 rfl)) (dl_at t_X22_init 9 rfl) (cat24 (st := [rv D a14, rv D a0]) (Nat.le_of_ble_eq_true rfl)) (Nat.le_of_ble_eq_true rfl) (Nat.le_of_ble_eq_true rfl) fun h18 E18 => ?_
  have k21 := kx (E10.trans (E14.trans E18)) (by decide) k10
  refine r_putrF (pc := 21) X hname fX22_1 k21 q3406 rfl rfl (dl_at t_X22_init 10 rfl)  (fun h21 E21 => ?_)
  refine g_aload_n (pc := 24) X (j := 0) (i := 0) (q := 0) (x := a0) rfl rfl (dl_at t_X22_init 11 rfl) ?_
  refine g_bipush (pc := 25) X (n := 6) rfl (dl_at t_X22_init 12 rfl) ?_
  refine r_newa (pc := 27) X 1 177 (Nat.le_of_ble_eq_true rfl) (Nat.le_of_ble_eq_true rfl) rfl q492 (r32_c rfl) rfl (dl_at t_X22_init 13 rfl) fun a27 h27 p27 k27 l27 E27 => ?_
  have k29 := kx (E21.trans E27) (by decide) k21
  refine r_putrF (pc := 29) X hname fX22_2 k29 q3407 rfl rfl (dl_at t_X22_init 14 rfl)  (fun h29 E29 => ?_)
  refine g_aload_n (pc := 32) X (j := 0) (i := 0) (q := 0) (x := a0) rfl rfl (dl_at t_X22_init 15 rfl) ?_
  refine g_bipush (pc := 33) X (n := 121) rfl (dl_at t_X22_init 16 rfl) ?_
  refine r_newa (pc := 35) X 1 178 (Nat.le_of_ble_eq_true rfl) (Nat.le_of_ble_eq_true rfl) rfl q492 (r32_c rfl) rfl (dl_at t_X22_init 17 rfl) fun a35 h35 p35 k35 l35 E35 => ?_
  have k37 := kx (E29.trans E35) (by decide) k29
  refine r_putrF (pc := 37) X hname fX22_9 k37 q3417 rfl rfl (dl_at t_X22_init 18 rfl)  (fun h37 E37 => ?_)
  refine g_aload_n (pc := 40) X (j := 0) (i := 0) (q := 0) (x := a0) rfl rfl (dl_at t_X22_init 19 rfl) ?_
  refine g_bipush (pc := 41) X (n := 121) rfl (dl_at t_X22_init 20 rfl) ?_
  refine r_newa (pc := 43) X 1 179 (Nat.le_of_ble_eq_true rfl) (Nat.le_of_ble_eq_true rfl) rfl q492 (r32_c rfl) rfl (dl_at t_X22_init 21 rfl) fun a43 h43 p43 k43 l43 E43 => ?_
  have k45 := kx (E37.trans E43) (by decide) k37
  refine r_putrF (pc := 45) X hname fX22_10 k45 q3419 rfl rfl (dl_at t_X22_init 22 rfl)  (fun h45 E45 => ?_)
  refine g_aload_n (pc := 48) X (j := 0) (i := 0) (q := 0) (x := a0) rfl rfl (dl_at t_X22_init 23 rfl) ?_
  refine g_sipush (pc := 49) X (n := 970) rfl (dl_at t_X22_init 24 rfl) ?_
  refine r_newa (pc := 52) X 1 180 (Nat.le_of_ble_eq_true rfl) (Nat.le_of_ble_eq_true rfl) rfl q492 (r32_c rfl) rfl (dl_at t_X22_init 25 rfl) fun a52 h52 p52 k52 l52 E52 => ?_
  have k54 := kx (E45.trans E52) (by decide) k45
  refine r_putrF (pc := 54) X hname fX22_11 k54 q3421 rfl rfl (dl_at t_X22_init 26 rfl)  (fun h54 E54 => ?_)
  refine g_aload_n (pc := 57) X (j := 0) (i := 0) (q := 0) (x := a0) rfl rfl (dl_at t_X22_init 27 rfl) ?_
  refine g_sipush (pc := 58) X (n := 970) rfl (dl_at t_X22_init 28 rfl) ?_
  refine r_newa (pc := 61) X 1 181 (Nat.le_of_ble_eq_true rfl) (Nat.le_of_ble_eq_true rfl) rfl q492 (r32_c rfl) rfl (dl_at t_X22_init 29 rfl) fun a61 h61 p61 k61 l61 E61 => ?_
  have k63 := kx (E54.trans E61) (by decide) k54
  refine r_putrF (pc := 63) X hname fX22_12 k63 q3423 rfl rfl (dl_at t_X22_init 30 rfl)  (fun h63 E63 => ?_)
  refine g_aload_n (pc := 66) X (j := 0) (i := 0) (q := 0) (x := a0) rfl rfl (dl_at t_X22_init 31 rfl) ?_
  refine g_sipush (pc := 67) X (n := 970) rfl (dl_at t_X22_init 32 rfl) ?_
  refine r_newa (pc := 70) X 1 182 (Nat.le_of_ble_eq_true rfl) (Nat.le_of_ble_eq_true rfl) rfl q492 (r32_c rfl) rfl (dl_at t_X22_init 33 rfl) fun a70 h70 p70 k70 l70 E70 => ?_
  have k72 := kx (E63.trans E70) (by decide) k63
  refine r_putrF (pc := 72) X hname fX22_13 k72 q3425 rfl rfl (dl_at t_X22_init 34 rfl)  (fun h72 E72 => ?_)
  refine g_aload_n (pc := 75) X (j := 0) (i := 0) (q := 0) (x := a0) rfl rfl (dl_at t_X22_init 35 rfl) ?_
  refine g_sipush (pc := 76) X (n := 971) rfl (dl_at t_X22_init 36 rfl) ?_
  refine r_newa (pc := 79) X 1 183 (Nat.le_of_ble_eq_true rfl) (Nat.le_of_ble_eq_true rfl) rfl q492 (r32_c rfl) rfl (dl_at t_X22_init 37 rfl) fun a79 h79 p79 k79 l79 E79 => ?_
  have k81 := kx (E72.trans E79) (by decide) k72
  refine r_putrF (pc := 81) X hname fX22_14 k81 q3427 rfl rfl (dl_at t_X22_init 38 rfl)  (fun h81 E81 => ?_)
  refine g_aload_n (pc := 84) X (j := 0) (i := 0) (q := 0) (x := a0) rfl rfl (dl_at t_X22_init 39 rfl) ?_
  refine g_sipush (pc := 85) X (n := 3850) rfl (dl_at t_X22_init 40 rfl) ?_
  refine r_newa (pc := 88) X 1 184 (Nat.le_of_ble_eq_true rfl) (Nat.le_of_ble_eq_true rfl) rfl q492 (r32_c rfl) rfl (dl_at t_X22_init 41 rfl) fun a88 h88 p88 k88 l88 E88 => ?_
  have k90 := kx (E81.trans E88) (by decide) k81
  refine r_putrF (pc := 90) X hname fX22_15 k90 q3429 rfl rfl (dl_at t_X22_init 42 rfl)  (fun h90 E90 => ?_)
  refine g_aload_n (pc := 93) X (j := 0) (i := 0) (q := 0) (x := a0) rfl rfl (dl_at t_X22_init 43 rfl) ?_
  refine g_sipush (pc := 94) X (n := 3850) rfl (dl_at t_X22_init 44 rfl) ?_
  refine r_newa (pc := 97) X 1 185 (Nat.le_of_ble_eq_true rfl) (Nat.le_of_ble_eq_true rfl) rfl q492 (r32_c rfl) rfl (dl_at t_X22_init 45 rfl) fun a97 h97 p97 k97 l97 E97 => ?_
  have k99 := kx (E90.trans E97) (by decide) k90
  refine r_putrF (pc := 99) X hname fX22_16 k99 q3431 rfl rfl (dl_at t_X22_init 46 rfl)  (fun h99 E99 => ?_)
  refine g_aload_n (pc := 102) X (j := 0) (i := 0) (q := 0) (x := a0) rfl rfl (dl_at t_X22_init 47 rfl) ?_
  refine g_sipush (pc := 103) X (n := 3850) rfl (dl_at t_X22_init 48 rfl) ?_
  refine r_newa (pc := 106) X 1 186 (Nat.le_of_ble_eq_true rfl) (Nat.le_of_ble_eq_true rfl) rfl q492 (r32_c rfl) rfl (dl_at t_X22_init 49 rfl) fun a106 h106 p106 k106 l106 E106 => ?_
  have k108 := kx (E99.trans E106) (by decide) k99
  refine r_putrF (pc := 108) X hname fX22_17 k108 q3433 rfl rfl (dl_at t_X22_init 50 rfl)  (fun h108 E108 => ?_)
  refine g_aload_n (pc := 111) X (j := 0) (i := 0) (q := 0) (x := a0) rfl rfl (dl_at t_X22_init 51 rfl) ?_
  refine g_sipush (pc := 112) X (n := 3850) rfl (dl_at t_X22_init 52 rfl) ?_
  refine r_newa (pc := 115) X 1 187 (Nat.le_of_ble_eq_true rfl) (Nat.le_of_ble_eq_true rfl) rfl q492 (r32_c rfl) rfl (dl_at t_X22_init 53 rfl) fun a115 h115 p115 k115 l115 E115 => ?_
  have k117 := kx (E108.trans E115) (by decide) k108
  refine r_putrF (pc := 117) X hname fX22_18 k117 q3435 rfl rfl (dl_at t_X22_init 54 rfl)  (fun h117 E117 => ?_)
  refine g_aload_n (pc := 120) X (j := 0) (i := 0) (q := 0) (x := a0) rfl rfl (dl_at t_X22_init 55 rfl) ?_
  refine g_sipush (pc := 121) X (n := 3850) rfl (dl_at t_X22_init 56 rfl) ?_
  refine r_newa (pc := 124) X 1 188 (Nat.le_of_ble_eq_true rfl) (Nat.le_of_ble_eq_true rfl) rfl q492 (r32_c rfl) rfl (dl_at t_X22_init 57 rfl) fun a124 h124 p124 k124 l124 E124 => ?_
  have k126 := kx (E117.trans E124) (by decide) k117
  refine r_putrF (pc := 126) X hname fX22_19 k126 q3437 rfl rfl (dl_at t_X22_init 58 rfl)  (fun h126 E126 => ?_)
  refine g_aload_n (pc := 129) X (j := 0) (i := 0) (q := 0) (x := a0) rfl rfl (dl_at t_X22_init 59 rfl) ?_
  refine g_sipush (pc := 130) X (n := 3850) rfl (dl_at t_X22_init 60 rfl) ?_
  refine r_newa (pc := 133) X 1 189 (Nat.le_of_ble_eq_true rfl) (Nat.le_of_ble_eq_true rfl) rfl q492 (r32_c rfl) rfl (dl_at t_X22_init 61 rfl) fun a133 h133 p133 k133 l133 E133 => ?_
  have k135 := kx (E126.trans E133) (by decide) k126
  refine r_putrF (pc := 135) X hname fX22_20 k135 q3439 rfl rfl (dl_at t_X22_init 62 rfl)  (fun h135 E135 => ?_)
  refine g_aload_n (pc := 138) X (j := 0) (i := 0) (q := 0) (x := a0) rfl rfl (dl_at t_X22_init 63 rfl) ?_
  refine g_sipush (pc := 139) X (n := 130) rfl (dl_at t_X22_init 64 rfl) ?_
  refine r_newa (pc := 142) X 1 190 (Nat.le_of_ble_eq_true rfl) (Nat.le_of_ble_eq_true rfl) rfl q492 (r32_c rfl) rfl (dl_at t_X22_init 65 rfl) fun a142 h142 p142 k142 l142 E142 => ?_
  have k144 := kx (E135.trans E142) (by decide) k135
  refine r_putrF (pc := 144) X hname fX22_21 k144 q3441 rfl rfl (dl_at t_X22_init 66 rfl)  (fun h144 E144 => ?_)
  refine g_aload_n (pc := 147) X (j := 0) (i := 0) (q := 0) (x := a0) rfl rfl (dl_at t_X22_init 67 rfl) ?_
  refine g_sipush (pc := 148) X (n := 600) rfl (dl_at t_X22_init 68 rfl) ?_
  refine r_newa (pc := 151) X 1 191 (Nat.le_of_ble_eq_true rfl) (Nat.le_of_ble_eq_true rfl) rfl q492 (r32_c rfl) rfl (dl_at t_X22_init 69 rfl) fun a151 h151 p151 k151 l151 E151 => ?_
  have k153 := kx (E144.trans E151) (by decide) k144
  refine r_putrF (pc := 153) X hname fX22_22 k153 q3443 rfl rfl (dl_at t_X22_init 70 rfl)  (fun h153 E153 => ?_)
  refine g_aload_n (pc := 156) X (j := 0) (i := 0) (q := 0) (x := a0) rfl rfl (dl_at t_X22_init 71 rfl) ?_
  refine g_sipush (pc := 157) X (n := 600) rfl (dl_at t_X22_init 72 rfl) ?_
  refine r_newa (pc := 160) X 1 192 (Nat.le_of_ble_eq_true rfl) (Nat.le_of_ble_eq_true rfl) rfl q492 (r32_c rfl) rfl (dl_at t_X22_init 73 rfl) fun a160 h160 p160 k160 l160 E160 => ?_
  have k162 := kx (E153.trans E160) (by decide) k153
  refine r_putrF (pc := 162) X hname fX22_23 k162 q3445 rfl rfl (dl_at t_X22_init 74 rfl)  (fun h162 E162 => ?_)
  refine g_aload_n (pc := 165) X (j := 0) (i := 0) (q := 0) (x := a0) rfl rfl (dl_at t_X22_init 75 rfl) ?_
  refine g_sipush (pc := 166) X (n := 600) rfl (dl_at t_X22_init 76 rfl) ?_
  refine r_newa (pc := 169) X 1 193 (Nat.le_of_ble_eq_true rfl) (Nat.le_of_ble_eq_true rfl) rfl q492 (r32_c rfl) rfl (dl_at t_X22_init 77 rfl) fun a169 h169 p169 k169 l169 E169 => ?_
  have k171 := kx (E162.trans E169) (by decide) k162
  refine r_putrF (pc := 171) X hname fX22_24 k171 q3447 rfl rfl (dl_at t_X22_init 78 rfl)  (fun h171 E171 => ?_)
  refine g_aload_n (pc := 174) X (j := 0) (i := 0) (q := 0) (x := a0) rfl rfl (dl_at t_X22_init 79 rfl) ?_
  refine g_sipush (pc := 175) X (n := 600) rfl (dl_at t_X22_init 80 rfl) ?_
  refine r_newa (pc := 178) X 1 194 (Nat.le_of_ble_eq_true rfl) (Nat.le_of_ble_eq_true rfl) rfl q492 (r32_c rfl) rfl (dl_at t_X22_init 81 rfl) fun a178 h178 p178 k178 l178 E178 => ?_
  have k180 := kx (E171.trans E178) (by decide) k171
  refine r_putrF (pc := 180) X hname fX22_25 k180 q3449 rfl rfl (dl_at t_X22_init 82 rfl)  (fun h180 E180 => ?_)
  refine g_aload_n (pc := 183) X (j := 0) (i := 0) (q := 0) (x := a0) rfl rfl (dl_at t_X22_init 83 rfl) ?_
  refine g_bipush (pc := 184) X (n := 12) rfl (dl_at t_X22_init 84 rfl) ?_
  refine r_newa (pc := 186) X 1 195 (Nat.le_of_ble_eq_true rfl) (Nat.le_of_ble_eq_true rfl) rfl q492 (r32_c rfl) rfl (dl_at t_X22_init 85 rfl) fun a186 h186 p186 k186 l186 E186 => ?_
  have k188 := kx (E180.trans E186) (by decide) k180
  refine r_putrF (pc := 188) X hname fX22_26 k188 q3451 rfl rfl (dl_at t_X22_init 86 rfl)  (fun h188 E188 => ?_)
  refine g_aload_n (pc := 191) X (j := 0) (i := 0) (q := 0) (x := a0) rfl rfl (dl_at t_X22_init 87 rfl) ?_
  refine g_bipush (pc := 192) X (n := 12) rfl (dl_at t_X22_init 88 rfl) ?_
  refine r_newa (pc := 194) X 1 196 (Nat.le_of_ble_eq_true rfl) (Nat.le_of_ble_eq_true rfl) rfl q492 (r32_c rfl) rfl (dl_at t_X22_init 89 rfl) fun a194 h194 p194 k194 l194 E194 => ?_
  have k196 := kx (E188.trans E194) (by decide) k188
  refine r_putrF (pc := 196) X hname fX22_27 k196 q3452 rfl rfl (dl_at t_X22_init 90 rfl)  (fun h196 E196 => ?_)
  refine g_aload_n (pc := 199) X (j := 0) (i := 0) (q := 0) (x := a0) rfl rfl (dl_at t_X22_init 91 rfl) ?_
  have k200 := kx E196 (by decide) k196
  refine r_callV (pc := 200) X (fun _ hv => s_X22_clear k200 hv) cw_code q3401 q376 (in_Vk X (As := []) kX22 k200 (Or.inl q3398) q3399 q3400 cw_code q3401 ⟨by decide, by decide⟩ rfl (dl_at t_X22_init 92 rfl)) (dl_at t_X22_init 92 rfl) (cat24 (st := []) (Nat.le_of_ble_eq_true rfl)) (Nat.le_of_ble_eq_true rfl) (Nat.le_of_ble_eq_true rfl) fun h200 E200 => ?_
  exact g_vret (pc := 203) X (v := 0) rfl rfl (dl_at t_X22_init 93 rfl)
def k_X23_init : List (Nat × Instr × Nat) := [(0, .aload_n 0, 1), (1, .invokespecial 3, 3), (4, .aload_n 0, 1), (5, .sipush 16384, 3), (8, .newarray .byte, 2), (10, .putfield 9, 3), (13, .aload_n 0, 1), (14, .sipush 16392, 3), (17, .newarray .int, 2), (19, .putfield 15, 3), (22, .aload_n 0, 1), (23, .sipush 16392, 3), (26, .newarray .int, 2), (28, .putfield 19, 3), (31, .aload_n 0, 1), (32, .sipush 16392, 3), (35, .newarray .int, 2), (37, .putfield 22, 3), (40, .aload_n 0, 1), (41, .sipush 500, 3), (44, .newarray .int, 2), (46, .putfield 25, 3), (49, .aload_n 0, 1), (50, .sipush 500, 3), (53, .newarray .int, 2), (55, .putfield 28, 3), (58, .aload_n 0, 1), (59, .sipush 500, 3), (62, .newarray .int, 2), (64, .putfield 31, 3), (67, .aload_n 0, 1), (68, .sipush 500, 3), (71, .newarray .int, 2), (73, .putfield 34, 3), (76, .aload_n 0, 1), (77, .sipush 500, 3), (80, .newarray .int, 2), (82, .putfield 37, 3), (85, .aload_n 0, 1), (86, .sipush 500, 3), (89, .newarray .int, 2), (91, .putfield 40, 3), (94, .aload_n 0, 1), (95, .sipush 500, 3), (98, .newarray .int, 2), (100, .putfield 43, 3), (103, .aload_n 0, 1), (104, .sipush 500, 3), (107, .newarray .int, 2), (109, .putfield 46, 3), (112, .aload_n 0, 1), (113, .sipush 3000, 3), (116, .newarray .int, 2), (118, .putfield 49, 3), (121, .aload_n 0, 1), (122, .sipush 3000, 3), (125, .newarray .int, 2), (127, .putfield 52, 3), (130, .aload_n 0, 1), (131, .sipush 3000, 3), (134, .newarray .int, 2), (136, .putfield 55, 3), (139, .aload_n 0, 1), (140, .sipush 3000, 3), (143, .newarray .int, 2), (145, .putfield 58, 3), (148, .aload_n 0, 1), (149, .bipush 40, 2), (151, .newarray .int, 2), (153, .putfield 61, 3), (156, .aload_n 0, 1), (157, .bipush 40, 2), (159, .newarray .int, 2), (161, .putfield 64, 3), (164, .aload_n 0, 1), (165, .bipush 40, 2), (167, .newarray .int, 2), (169, .putfield 67, 3), (172, .aload_n 0, 1), (173, .bipush 40, 2), (175, .newarray .int, 2), (177, .putfield 70, 3), (180, .return_, 1)]
theorem t_X23_init : ∀ q ∈ k_X23_init, decode cX23_init q.1 = .ok q.2 := dl_all (by decide +kernel)
noncomputable def m_X23_init (a0 : Int) (h : Hp) : Option (Hp) :=
  al h 3154 16384 fun a8 h8 =>
  pt h8 a0 0 a8 fun h10 =>
  al h10 3169 16392 fun a17 h17 =>
  pt h17 a0 6 a17 fun h19 =>
  al h19 3185 16392 fun a26 h26 =>
  pt h26 a0 7 a26 fun h28 =>
  al h28 3201 16392 fun a35 h35 =>
  pt h35 a0 8 a35 fun h37 =>
  al h37 3217 500 fun a44 h44 =>
  pt h44 a0 9 a44 fun h46 =>
  al h46 3233 500 fun a53 h53 =>
  pt h53 a0 10 a53 fun h55 =>
  al h55 3249 500 fun a62 h62 =>
  pt h62 a0 11 a62 fun h64 =>
  al h64 3265 500 fun a71 h71 =>
  pt h71 a0 12 a71 fun h73 =>
  al h73 3281 500 fun a80 h80 =>
  pt h80 a0 13 a80 fun h82 =>
  al h82 3297 500 fun a89 h89 =>
  pt h89 a0 14 a89 fun h91 =>
  al h91 3313 500 fun a98 h98 =>
  pt h98 a0 15 a98 fun h100 =>
  al h100 3329 500 fun a107 h107 =>
  pt h107 a0 16 a107 fun h109 =>
  al h109 3345 3000 fun a116 h116 =>
  pt h116 a0 17 a116 fun h118 =>
  al h118 3361 3000 fun a125 h125 =>
  pt h125 a0 18 a125 fun h127 =>
  al h127 3377 3000 fun a134 h134 =>
  pt h134 a0 19 a134 fun h136 =>
  al h136 3393 3000 fun a143 h143 =>
  pt h143 a0 20 a143 fun h145 =>
  al h145 3409 40 fun a151 h151 =>
  pt h151 a0 21 a151 fun h153 =>
  al h153 3425 40 fun a159 h159 =>
  pt h159 a0 22 a159 fun h161 =>
  al h161 3441 40 fun a167 h167 =>
  pt h167 a0 23 a167 fun h169 =>
  al h169 3457 40 fun a175 h175 =>
  pt h175 a0 24 a175 fun h177 =>
  some h177
theorem s_X23_init {l : Launch} [NoTr l] {D : SD} {a0 : Int} {h : Hp} (hk : h a0 (-2) = 384) {r : Hp} (hm : m_X23_init a0 h = some r) : Sim l D yX23_init (Cond.code yX23_init cX23_init 1 (Option.none : Option Jvm.ClassFile.FieldType)) 1 36 [rv D a0] h 0 ((0, 0), r) := by
  refine Sim.of (fin := fun (v : Hp) => ((0, 0), v)) (lsE := [(0, rv D a0)]) hm rfl cwS_code (la_r la_n) (ll_r ll_n) ?_
  intro p e s m below meth c X hcw hmm hcc hnm hname
  unfold m_X23_init
  refine g_aload_n (pc := 0) X (j := 0) (i := 0) (q := 0) (x := a0) rfl rfl (dl_at t_X23_init 0 rfl) ?_
  refine r_oinitK (pc := 1) X hk (by decide) q3515 q406 q407 (Nat.le_of_ble_eq_true rfl) (Nat.le_trans (Nat.add_le_add_right (cat24 (st := []) (Nat.le_of_ble_eq_true rfl)) 12) (Nat.le_of_ble_eq_true rfl)) (dl_at t_X23_init 1 rfl) ?_
  refine g_aload_n (pc := 4) X (j := 0) (i := 0) (q := 0) (x := a0) rfl rfl (dl_at t_X23_init 2 rfl) ?_
  refine g_sipush (pc := 5) X (n := 16384) rfl (dl_at t_X23_init 3 rfl) ?_
  refine r_newa (pc := 8) X 2 197 (Nat.le_of_ble_eq_true rfl) (Nat.le_of_ble_eq_true rfl) rfl q449 (r32_c rfl) rfl (dl_at t_X23_init 4 rfl) fun a8 h8 p8 k8 l8 E8 => ?_
  have k10 := kx E8 (by decide) hk
  refine r_putrF (pc := 10) X hname fX23_0 k10 q3516 rfl rfl (dl_at t_X23_init 5 rfl)  (fun h10 E10 => ?_)
  refine g_aload_n (pc := 13) X (j := 0) (i := 0) (q := 0) (x := a0) rfl rfl (dl_at t_X23_init 6 rfl) ?_
  refine g_sipush (pc := 14) X (n := 16392) rfl (dl_at t_X23_init 7 rfl) ?_
  refine r_newa (pc := 17) X 1 198 (Nat.le_of_ble_eq_true rfl) (Nat.le_of_ble_eq_true rfl) rfl q492 (r32_c rfl) rfl (dl_at t_X23_init 8 rfl) fun a17 h17 p17 k17 l17 E17 => ?_
  have k19 := kx (E10.trans E17) (by decide) k10
  refine r_putrF (pc := 19) X hname fX23_6 k19 q3533 rfl rfl (dl_at t_X23_init 9 rfl)  (fun h19 E19 => ?_)
  refine g_aload_n (pc := 22) X (j := 0) (i := 0) (q := 0) (x := a0) rfl rfl (dl_at t_X23_init 10 rfl) ?_
  refine g_sipush (pc := 23) X (n := 16392) rfl (dl_at t_X23_init 11 rfl) ?_
  refine r_newa (pc := 26) X 1 199 (Nat.le_of_ble_eq_true rfl) (Nat.le_of_ble_eq_true rfl) rfl q492 (r32_c rfl) rfl (dl_at t_X23_init 12 rfl) fun a26 h26 p26 k26 l26 E26 => ?_
  have k28 := kx (E19.trans E26) (by decide) k19
  refine r_putrF (pc := 28) X hname fX23_7 k28 q3536 rfl rfl (dl_at t_X23_init 13 rfl)  (fun h28 E28 => ?_)
  refine g_aload_n (pc := 31) X (j := 0) (i := 0) (q := 0) (x := a0) rfl rfl (dl_at t_X23_init 14 rfl) ?_
  refine g_sipush (pc := 32) X (n := 16392) rfl (dl_at t_X23_init 15 rfl) ?_
  refine r_newa (pc := 35) X 1 200 (Nat.le_of_ble_eq_true rfl) (Nat.le_of_ble_eq_true rfl) rfl q492 (r32_c rfl) rfl (dl_at t_X23_init 16 rfl) fun a35 h35 p35 k35 l35 E35 => ?_
  have k37 := kx (E28.trans E35) (by decide) k28
  refine r_putrF (pc := 37) X hname fX23_8 k37 q3539 rfl rfl (dl_at t_X23_init 17 rfl)  (fun h37 E37 => ?_)
  refine g_aload_n (pc := 40) X (j := 0) (i := 0) (q := 0) (x := a0) rfl rfl (dl_at t_X23_init 18 rfl) ?_
  refine g_sipush (pc := 41) X (n := 500) rfl (dl_at t_X23_init 19 rfl) ?_
  refine r_newa (pc := 44) X 1 201 (Nat.le_of_ble_eq_true rfl) (Nat.le_of_ble_eq_true rfl) rfl q492 (r32_c rfl) rfl (dl_at t_X23_init 20 rfl) fun a44 h44 p44 k44 l44 E44 => ?_
  have k46 := kx (E37.trans E44) (by decide) k37
  refine r_putrF (pc := 46) X hname fX23_9 k46 q3542 rfl rfl (dl_at t_X23_init 21 rfl)  (fun h46 E46 => ?_)
  refine g_aload_n (pc := 49) X (j := 0) (i := 0) (q := 0) (x := a0) rfl rfl (dl_at t_X23_init 22 rfl) ?_
  refine g_sipush (pc := 50) X (n := 500) rfl (dl_at t_X23_init 23 rfl) ?_
  refine r_newa (pc := 53) X 1 202 (Nat.le_of_ble_eq_true rfl) (Nat.le_of_ble_eq_true rfl) rfl q492 (r32_c rfl) rfl (dl_at t_X23_init 24 rfl) fun a53 h53 p53 k53 l53 E53 => ?_
  have k55 := kx (E46.trans E53) (by decide) k46
  refine r_putrF (pc := 55) X hname fX23_10 k55 q3544 rfl rfl (dl_at t_X23_init 25 rfl)  (fun h55 E55 => ?_)
  refine g_aload_n (pc := 58) X (j := 0) (i := 0) (q := 0) (x := a0) rfl rfl (dl_at t_X23_init 26 rfl) ?_
  refine g_sipush (pc := 59) X (n := 500) rfl (dl_at t_X23_init 27 rfl) ?_
  refine r_newa (pc := 62) X 1 203 (Nat.le_of_ble_eq_true rfl) (Nat.le_of_ble_eq_true rfl) rfl q492 (r32_c rfl) rfl (dl_at t_X23_init 28 rfl) fun a62 h62 p62 k62 l62 E62 => ?_
  have k64 := kx (E55.trans E62) (by decide) k55
  refine r_putrF (pc := 64) X hname fX23_11 k64 q3546 rfl rfl (dl_at t_X23_init 29 rfl)  (fun h64 E64 => ?_)
  refine g_aload_n (pc := 67) X (j := 0) (i := 0) (q := 0) (x := a0) rfl rfl (dl_at t_X23_init 30 rfl) ?_
  refine g_sipush (pc := 68) X (n := 500) rfl (dl_at t_X23_init 31 rfl) ?_
  refine r_newa (pc := 71) X 1 204 (Nat.le_of_ble_eq_true rfl) (Nat.le_of_ble_eq_true rfl) rfl q492 (r32_c rfl) rfl (dl_at t_X23_init 32 rfl) fun a71 h71 p71 k71 l71 E71 => ?_
  have k73 := kx (E64.trans E71) (by decide) k64
  refine r_putrF (pc := 73) X hname fX23_12 k73 q3550 rfl rfl (dl_at t_X23_init 33 rfl)  (fun h73 E73 => ?_)
  refine g_aload_n (pc := 76) X (j := 0) (i := 0) (q := 0) (x := a0) rfl rfl (dl_at t_X23_init 34 rfl) ?_
  refine g_sipush (pc := 77) X (n := 500) rfl (dl_at t_X23_init 35 rfl) ?_
  refine r_newa (pc := 80) X 1 205 (Nat.le_of_ble_eq_true rfl) (Nat.le_of_ble_eq_true rfl) rfl q492 (r32_c rfl) rfl (dl_at t_X23_init 36 rfl) fun a80 h80 p80 k80 l80 E80 => ?_
  have k82 := kx (E73.trans E80) (by decide) k73
  refine r_putrF (pc := 82) X hname fX23_13 k82 q3552 rfl rfl (dl_at t_X23_init 37 rfl)  (fun h82 E82 => ?_)
  refine g_aload_n (pc := 85) X (j := 0) (i := 0) (q := 0) (x := a0) rfl rfl (dl_at t_X23_init 38 rfl) ?_
  refine g_sipush (pc := 86) X (n := 500) rfl (dl_at t_X23_init 39 rfl) ?_
  refine r_newa (pc := 89) X 1 206 (Nat.le_of_ble_eq_true rfl) (Nat.le_of_ble_eq_true rfl) rfl q492 (r32_c rfl) rfl (dl_at t_X23_init 40 rfl) fun a89 h89 p89 k89 l89 E89 => ?_
  have k91 := kx (E82.trans E89) (by decide) k82
  refine r_putrF (pc := 91) X hname fX23_14 k91 q3554 rfl rfl (dl_at t_X23_init 41 rfl)  (fun h91 E91 => ?_)
  refine g_aload_n (pc := 94) X (j := 0) (i := 0) (q := 0) (x := a0) rfl rfl (dl_at t_X23_init 42 rfl) ?_
  refine g_sipush (pc := 95) X (n := 500) rfl (dl_at t_X23_init 43 rfl) ?_
  refine r_newa (pc := 98) X 1 207 (Nat.le_of_ble_eq_true rfl) (Nat.le_of_ble_eq_true rfl) rfl q492 (r32_c rfl) rfl (dl_at t_X23_init 44 rfl) fun a98 h98 p98 k98 l98 E98 => ?_
  have k100 := kx (E91.trans E98) (by decide) k91
  refine r_putrF (pc := 100) X hname fX23_15 k100 q3556 rfl rfl (dl_at t_X23_init 45 rfl)  (fun h100 E100 => ?_)
  refine g_aload_n (pc := 103) X (j := 0) (i := 0) (q := 0) (x := a0) rfl rfl (dl_at t_X23_init 46 rfl) ?_
  refine g_sipush (pc := 104) X (n := 500) rfl (dl_at t_X23_init 47 rfl) ?_
  refine r_newa (pc := 107) X 1 208 (Nat.le_of_ble_eq_true rfl) (Nat.le_of_ble_eq_true rfl) rfl q492 (r32_c rfl) rfl (dl_at t_X23_init 48 rfl) fun a107 h107 p107 k107 l107 E107 => ?_
  have k109 := kx (E100.trans E107) (by decide) k100
  refine r_putrF (pc := 109) X hname fX23_16 k109 q3559 rfl rfl (dl_at t_X23_init 49 rfl)  (fun h109 E109 => ?_)
  refine g_aload_n (pc := 112) X (j := 0) (i := 0) (q := 0) (x := a0) rfl rfl (dl_at t_X23_init 50 rfl) ?_
  refine g_sipush (pc := 113) X (n := 3000) rfl (dl_at t_X23_init 51 rfl) ?_
  refine r_newa (pc := 116) X 1 209 (Nat.le_of_ble_eq_true rfl) (Nat.le_of_ble_eq_true rfl) rfl q492 (r32_c rfl) rfl (dl_at t_X23_init 52 rfl) fun a116 h116 p116 k116 l116 E116 => ?_
  have k118 := kx (E109.trans E116) (by decide) k109
  refine r_putrF (pc := 118) X hname fX23_17 k118 q3562 rfl rfl (dl_at t_X23_init 53 rfl)  (fun h118 E118 => ?_)
  refine g_aload_n (pc := 121) X (j := 0) (i := 0) (q := 0) (x := a0) rfl rfl (dl_at t_X23_init 54 rfl) ?_
  refine g_sipush (pc := 122) X (n := 3000) rfl (dl_at t_X23_init 55 rfl) ?_
  refine r_newa (pc := 125) X 1 210 (Nat.le_of_ble_eq_true rfl) (Nat.le_of_ble_eq_true rfl) rfl q492 (r32_c rfl) rfl (dl_at t_X23_init 56 rfl) fun a125 h125 p125 k125 l125 E125 => ?_
  have k127 := kx (E118.trans E125) (by decide) k118
  refine r_putrF (pc := 127) X hname fX23_18 k127 q3563 rfl rfl (dl_at t_X23_init 57 rfl)  (fun h127 E127 => ?_)
  refine g_aload_n (pc := 130) X (j := 0) (i := 0) (q := 0) (x := a0) rfl rfl (dl_at t_X23_init 58 rfl) ?_
  refine g_sipush (pc := 131) X (n := 3000) rfl (dl_at t_X23_init 59 rfl) ?_
  refine r_newa (pc := 134) X 1 211 (Nat.le_of_ble_eq_true rfl) (Nat.le_of_ble_eq_true rfl) rfl q492 (r32_c rfl) rfl (dl_at t_X23_init 60 rfl) fun a134 h134 p134 k134 l134 E134 => ?_
  have k136 := kx (E127.trans E134) (by decide) k127
  refine r_putrF (pc := 136) X hname fX23_19 k136 q3564 rfl rfl (dl_at t_X23_init 61 rfl)  (fun h136 E136 => ?_)
  refine g_aload_n (pc := 139) X (j := 0) (i := 0) (q := 0) (x := a0) rfl rfl (dl_at t_X23_init 62 rfl) ?_
  refine g_sipush (pc := 140) X (n := 3000) rfl (dl_at t_X23_init 63 rfl) ?_
  refine r_newa (pc := 143) X 1 212 (Nat.le_of_ble_eq_true rfl) (Nat.le_of_ble_eq_true rfl) rfl q492 (r32_c rfl) rfl (dl_at t_X23_init 64 rfl) fun a143 h143 p143 k143 l143 E143 => ?_
  have k145 := kx (E136.trans E143) (by decide) k136
  refine r_putrF (pc := 145) X hname fX23_20 k145 q3567 rfl rfl (dl_at t_X23_init 65 rfl)  (fun h145 E145 => ?_)
  refine g_aload_n (pc := 148) X (j := 0) (i := 0) (q := 0) (x := a0) rfl rfl (dl_at t_X23_init 66 rfl) ?_
  refine g_bipush (pc := 149) X (n := 40) rfl (dl_at t_X23_init 67 rfl) ?_
  refine r_newa (pc := 151) X 1 213 (Nat.le_of_ble_eq_true rfl) (Nat.le_of_ble_eq_true rfl) rfl q492 (r32_c rfl) rfl (dl_at t_X23_init 68 rfl) fun a151 h151 p151 k151 l151 E151 => ?_
  have k153 := kx (E145.trans E151) (by decide) k145
  refine r_putrF (pc := 153) X hname fX23_21 k153 q3570 rfl rfl (dl_at t_X23_init 69 rfl)  (fun h153 E153 => ?_)
  refine g_aload_n (pc := 156) X (j := 0) (i := 0) (q := 0) (x := a0) rfl rfl (dl_at t_X23_init 70 rfl) ?_
  refine g_bipush (pc := 157) X (n := 40) rfl (dl_at t_X23_init 71 rfl) ?_
  refine r_newa (pc := 159) X 1 214 (Nat.le_of_ble_eq_true rfl) (Nat.le_of_ble_eq_true rfl) rfl q492 (r32_c rfl) rfl (dl_at t_X23_init 72 rfl) fun a159 h159 p159 k159 l159 E159 => ?_
  have k161 := kx (E153.trans E159) (by decide) k153
  refine r_putrF (pc := 161) X hname fX23_22 k161 q3571 rfl rfl (dl_at t_X23_init 73 rfl)  (fun h161 E161 => ?_)
  refine g_aload_n (pc := 164) X (j := 0) (i := 0) (q := 0) (x := a0) rfl rfl (dl_at t_X23_init 74 rfl) ?_
  refine g_bipush (pc := 165) X (n := 40) rfl (dl_at t_X23_init 75 rfl) ?_
  refine r_newa (pc := 167) X 1 215 (Nat.le_of_ble_eq_true rfl) (Nat.le_of_ble_eq_true rfl) rfl q492 (r32_c rfl) rfl (dl_at t_X23_init 76 rfl) fun a167 h167 p167 k167 l167 E167 => ?_
  have k169 := kx (E161.trans E167) (by decide) k161
  refine r_putrF (pc := 169) X hname fX23_23 k169 q3572 rfl rfl (dl_at t_X23_init 77 rfl)  (fun h169 E169 => ?_)
  refine g_aload_n (pc := 172) X (j := 0) (i := 0) (q := 0) (x := a0) rfl rfl (dl_at t_X23_init 78 rfl) ?_
  refine g_bipush (pc := 173) X (n := 40) rfl (dl_at t_X23_init 79 rfl) ?_
  refine r_newa (pc := 175) X 1 216 (Nat.le_of_ble_eq_true rfl) (Nat.le_of_ble_eq_true rfl) rfl q492 (r32_c rfl) rfl (dl_at t_X23_init 80 rfl) fun a175 h175 p175 k175 l175 E175 => ?_
  have k177 := kx (E169.trans E175) (by decide) k169
  refine r_putrF (pc := 177) X hname fX23_24 k177 q3573 rfl rfl (dl_at t_X23_init 81 rfl)  (fun h177 E177 => ?_)
  exact g_vret (pc := 180) X (v := 0) rfl rfl (dl_at t_X23_init 82 rfl)
