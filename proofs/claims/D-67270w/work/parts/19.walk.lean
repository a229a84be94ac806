set_option maxRecDepth 100000
theorem cnegL {own : String} {i : Nat} {n : Int} {x : Int64} (h : x = Int64.ofInt n) (q : Cond.constantLong own i x ∈ lw_all) : Cond.constantLong own i (Int64.ofInt n) ∈ lw_all := h ▸ q
def k_X14_line : List (Nat × Instr × Nat) := [(0, .aload_n 0, 1), (1, .getfield 196, 3), (4, .sipush 1500, 3), (7, .if_icmp .ge 7, 3), (10, .iconst 1, 1), (11, .goto 4, 3), (14, .iconst 0, 1), (15, .invokestatic 296, 3), (18, .aload_n 0, 1), (19, .getfield 27, 3), (22, .aload_n 0, 1), (23, .getfield 196, 3), (26, .iload_n 1, 1), (27, .iastore, 1), (28, .aload_n 0, 1), (29, .getfield 31, 3), (32, .aload_n 0, 1), (33, .getfield 196, 3), (36, .iload_n 2, 1), (37, .iastore, 1), (38, .aload_n 0, 1), (39, .getfield 34, 3), (42, .aload_n 0, 1), (43, .getfield 196, 3), (46, .iload_n 3, 1), (47, .iastore, 1), (48, .aload_n 0, 1), (49, .getfield 37, 3), (52, .aload_n 0, 1), (53, .getfield 196, 3), (56, .iload 4, 2), (58, .iastore, 1), (59, .aload_n 0, 1), (60, .dup, 1), (61, .getfield 196, 3), (64, .iconst 1, 1), (65, .iadd, 1), (66, .putfield 196, 3), (69, .return_, 1)]
theorem t_X14_line : ∀ q ∈ k_X14_line, decode cX14_line q.1 = .ok q.2 := dl_all (by decide +kernel)
noncomputable def m_X14_line_j15 (a0 a1 a2 a3 a4 s0_15 : Int) (h : Hp) : Option ((Int × Int) × Hp) :=
  bT (m_X1_room s0_15 h) (fun _ h15 =>
  gd (h15 (h15 a0 12) (-2) % 16 = 1 ∧ (0 : Int) ≤ (h15 a0 18) ∧ (h15 a0 18) < h15 (h15 a0 12) (-1)) (pt h15 (h15 a0 12) (h15 a0 18) a1 fun h27 =>
  gd (h27 (h27 a0 13) (-2) % 16 = 1 ∧ (0 : Int) ≤ (h27 a0 18) ∧ (h27 a0 18) < h27 (h27 a0 13) (-1)) (pt h27 (h27 a0 13) (h27 a0 18) a2 fun h37 =>
  gd (h37 (h37 a0 14) (-2) % 16 = 1 ∧ (0 : Int) ≤ (h37 a0 18) ∧ (h37 a0 18) < h37 (h37 a0 14) (-1)) (pt h37 (h37 a0 14) (h37 a0 18) a3 fun h47 =>
  gd (h47 (h47 a0 15) (-2) % 16 = 1 ∧ (0 : Int) ≤ (h47 a0 18) ∧ (h47 a0 18) < h47 (h47 a0 15) (-1)) (pt h47 (h47 a0 15) (h47 a0 18) a4 fun h58 =>
  pt h58 a0 18 (w32 ((h58 a0 18) + 1)) fun h66 =>
  some ((0, 0), h66)))))) (fun a_ h_ => some ((1, a_), h_))
noncomputable def m_X14_line (a0 a1 a2 a3 a4 : Int) (h : Hp) : Option ((Int × Int) × Hp) :=
  if 1500 ≤ (h a0 18) then (m_X14_line_j15 a0 a1 a2 a3 a4 0 h)
  else (m_X14_line_j15 a0 a1 a2 a3 a4 1 h)
theorem s_X14_line {l : Launch} [NoTr l] {D : SD} {a0 a1 a2 a3 a4 : Int} {h : Hp} (hk : h a0 (-2) = 224) (r1 : r32 a1) (r2 : r32 a2) (r3 : r32 a3) (r4 : r32 a4) {r : (Int × Int) × Hp} (hm : m_X14_line a0 a1 a2 a3 a4 h = some r) : Sim l D yX14_line (Cond.code yX14_line cX14_line 5 (Option.none : Option Jvm.ClassFile.FieldType)) 10 372 [rv D a0, iv a1, iv a2, iv a3, iv a4] h 0 r := by
  refine Sim.of (fin := fun (v : (Int × Int) × Hp) => v) (lsE := [(0, rv D a0), (1, iv a1), (2, iv a2), (3, iv a3), (4, iv a4)]) hm rfl cwS_code (la_r (la_i (la_i (la_i (la_i la_n))))) (ll_r (ll_i (ll_i (ll_i (ll_i ll_n))))) ?_
  intro p e s m below meth c X hcw hmm hcc hnm hname
  have hno := noh hcw hnm hmm hcc
  unfold m_X14_line
  refine g_aload_n (pc := 0) X (j := 0) (i := 0) (q := 0) (x := a0) rfl rfl (dl_at t_X14_line 0 rfl) ?_
  refine r_geti (pc := 1) X fX14_18 hk q1269 (dl_at t_X14_line 1 rfl) fun g1 => ?_
  refine g_sipush (pc := 4) X (n := 1500) rfl (dl_at t_X14_line 2 rfl) ?_
  refine g_join (γ := Int) (fun q => (q = 0 ∨ q = 1)) 15 (fun q => [(0, rv D a0), (1, iv a1), (2, iv a2), (3, iv a3), (4, iv a4)]) (fun q => [iv q]) (fun q => h) (fun q => m_X14_line_j15 a0 a1 a2 a3 a4 q h) ?_ ?_
  · rintro s0_15 rs0_15
    try dsimp only
    unfold m_X14_line_j15
    refine r_callTv (pc := 15) X (fun _ hv => s_X1_room rs0_15 hv) cw_code q1653 q355 (in_Sc X (As := [iv s0_15]) (Or.inr ⟨_, nw_in q2522 rfl⟩) q1652 q355 q1653 ⟨by decide, by decide⟩ rfl (dl_at t_X14_line 7 rfl)) (dl_at t_X14_line 7 rfl) (cat24 (st := []) (Nat.le_of_ble_eq_true rfl)) (Nat.le_of_ble_eq_true rfl) (Nat.le_of_ble_eq_true rfl) (fun v15 h15 E15 => ?_) (fun _ _ ha _ => gt_at fun Q hQ => gt_out (Q := Q) X rfl ha (hno _) _ Q rfl hQ)
    refine g_aload_n (pc := 18) X (j := 0) (i := 0) (q := 0) (x := a0) rfl rfl (dl_at t_X14_line 8 rfl) ?_
    have k19 := kx E15 (by decide) hk
    refine r_getr (pc := 19) X fX14_12 k19 q1260 (dl_at t_X14_line 9 rfl) ?_
    refine g_aload_n (pc := 22) X (j := 0) (i := 0) (q := 0) (x := a0) rfl rfl (dl_at t_X14_line 10 rfl) ?_
    refine r_geti (pc := 23) X fX14_18 k19 q1269 (dl_at t_X14_line 11 rfl) fun g23 => ?_
    refine g_iload_n (pc := 26) X (j := 1) (i := 1) (q := 1) (x := a1) rfl rfl (dl_at t_X14_line 12 rfl) ?_
    refine g_gd fun k27 => ?_
    refine r_iast (pc := 27) X g23 r1 k27 (dl_at t_X14_line 13 rfl) (fun h27 E27 => ?_)
    refine g_aload_n (pc := 28) X (j := 0) (i := 0) (q := 0) (x := a0) rfl rfl (dl_at t_X14_line 14 rfl) ?_
    have k29 := kx E27 (by decide) k19
    refine r_getr (pc := 29) X fX14_13 k29 q1262 (dl_at t_X14_line 15 rfl) ?_
    refine g_aload_n (pc := 32) X (j := 0) (i := 0) (q := 0) (x := a0) rfl rfl (dl_at t_X14_line 16 rfl) ?_
    refine r_geti (pc := 33) X fX14_18 k29 q1269 (dl_at t_X14_line 17 rfl) fun g33 => ?_
    refine g_iload_n (pc := 36) X (j := 2) (i := 2) (q := 2) (x := a2) rfl rfl (dl_at t_X14_line 18 rfl) ?_
    refine g_gd fun k37 => ?_
    refine r_iast (pc := 37) X g33 r2 k37 (dl_at t_X14_line 19 rfl) (fun h37 E37 => ?_)
    refine g_aload_n (pc := 38) X (j := 0) (i := 0) (q := 0) (x := a0) rfl rfl (dl_at t_X14_line 20 rfl) ?_
    have k39 := kx E37 (by decide) k29
    refine r_getr (pc := 39) X fX14_14 k39 q1264 (dl_at t_X14_line 21 rfl) ?_
    refine g_aload_n (pc := 42) X (j := 0) (i := 0) (q := 0) (x := a0) rfl rfl (dl_at t_X14_line 22 rfl) ?_
    refine r_geti (pc := 43) X fX14_18 k39 q1269 (dl_at t_X14_line 23 rfl) fun g43 => ?_
    refine g_iload_n (pc := 46) X (j := 3) (i := 3) (q := 3) (x := a3) rfl rfl (dl_at t_X14_line 24 rfl) ?_
    refine g_gd fun k47 => ?_
    refine r_iast (pc := 47) X g43 r3 k47 (dl_at t_X14_line 25 rfl) (fun h47 E47 => ?_)
    refine g_aload_n (pc := 48) X (j := 0) (i := 0) (q := 0) (x := a0) rfl rfl (dl_at t_X14_line 26 rfl) ?_
    have k49 := kx E47 (by decide) k39
    refine r_getr (pc := 49) X fX14_15 k49 q1265 (dl_at t_X14_line 27 rfl) ?_
    refine g_aload_n (pc := 52) X (j := 0) (i := 0) (q := 0) (x := a0) rfl rfl (dl_at t_X14_line 28 rfl) ?_
    refine r_geti (pc := 53) X fX14_18 k49 q1269 (dl_at t_X14_line 29 rfl) fun g53 => ?_
    refine g_iload (pc := 56) X (i := 4) (q := 4) (x := a4) rfl (dl_at t_X14_line 30 rfl) ?_
    refine g_gd fun k58 => ?_
    refine r_iast (pc := 58) X g53 r4 k58 (dl_at t_X14_line 31 rfl) (fun h58 E58 => ?_)
    refine g_aload_n (pc := 59) X (j := 0) (i := 0) (q := 0) (x := a0) rfl rfl (dl_at t_X14_line 32 rfl) ?_
    refine g_dup (pc := 60) X rv_cat (dl_at t_X14_line 33 rfl) ?_
    have k61 := kx E58 (by decide) k49
    refine r_geti (pc := 61) X fX14_18 k61 q1269 (dl_at t_X14_line 34 rfl) fun g61 => ?_
    refine g_iconst (pc := 64) X (n := 1) (dl_at t_X14_line 35 rfl) ?_
    refine g_iadd (pc := 65) X g61 (r32_c rfl) (dl_at t_X14_line 36 rfl) ?_
    refine r_puti (pc := 66) X fX14_18 k61 q1269 rfl (dl_at t_X14_line 37 rfl) (r32_w _) (fun h66 E66 => ?_)
    exact g_vret (pc := 69) X (v := 0) rfl rfl (dl_at t_X14_line 38 rfl)
  intro J15
  refine g_icmpge (pc := 7) X g1 (r32_c rfl) (off := 7) (tgt := 14) rfl (dl_at t_X14_line 3 rfl) (fun _ => ?_) (fun _ => ?_)
  · refine g_iconst (pc := 14) X (n := 0) (dl_at t_X14_line 6 rfl) ?_
    exact J15 0 (Or.inl rfl)
  refine g_iconst (pc := 10) X (n := 1) (dl_at t_X14_line 4 rfl) ?_
  refine g_goto (pc := 11) X (off := 4) (tgt := 15) rfl (dl_at t_X14_line 5 rfl) ?_
  exact J15 1 (Or.inr rfl)
def k_X28_orderOf : List (Nat × Instr × Nat) := [(0, .aload_n 0, 1), (1, .getfield 9, 3), (4, .getfield 29, 3), (7, .aload_n 0, 1), (8, .getfield 21, 3), (11, .iload_n 1, 1), (12, .iadd, 1), (13, .iaload, 1), (14, .ireturn, 1)]
theorem t_X28_orderOf : ∀ q ∈ k_X28_orderOf, decode cX28_orderOf q.1 = .ok q.2 := dl_all (by decide +kernel)
noncomputable def m_X28_orderOf (a0 a1 : Int) (h : Hp) : Option (Int) :=
  gd (h (h a0 0) (-2) = 240) (gd (h (h (h a0 0) 2) (-2) % 16 = 1 ∧ (0 : Int) ≤ (w32 ((h a0 1) + a1)) ∧ (w32 ((h a0 1) + a1)) < h (h (h a0 0) 2) (-1)) (some (h (h (h a0 0) 2) (w32 ((h a0 1) + a1)))))
theorem s_X28_orderOf {l : Launch} [NoTr l] {D : SD} {a0 a1 : Int} {h : Hp} (hk : h a0 (-2) = 288) (r1 : r32 a1) {r : Int} (hm : m_X28_orderOf a0 a1 h = some r) : Sim l D yX28_orderOf (Cond.code yX28_orderOf cX28_orderOf 2 (Option.some Jvm.ClassFile.FieldType.int)) 0 0 [rv D a0, iv a1] h 1 ((0, r), h) := by
  refine Sim.of (fin := fun (v : Int) => ((0, v), h)) (lsE := [(0, rv D a0), (1, iv a1)]) hm rfl cwS_code (la_r (la_i la_n)) (ll_r (ll_i ll_n)) ?_
  intro p e s m below meth c X hcw hmm hcc hnm hname
  unfold m_X28_orderOf
  refine g_aload_n (pc := 0) X (j := 0) (i := 0) (q := 0) (x := a0) rfl rfl (dl_at t_X28_orderOf 0 rfl) ?_
  refine r_getr (pc := 1) X fX28_0 hk q2528 (dl_at t_X28_orderOf 1 rfl) ?_
  refine g_gd fun k4 => ?_
  refine r_getrN (pc := 4) X fX15_2 k4 (nw_in q1134 rfl) (dl_at t_X28_orderOf 2 rfl) ?_
  refine g_aload_n (pc := 7) X (j := 0) (i := 0) (q := 0) (x := a0) rfl rfl (dl_at t_X28_orderOf 3 rfl) ?_
  refine r_geti (pc := 8) X fX28_1 hk q2529 (dl_at t_X28_orderOf 4 rfl) fun g8 => ?_
  refine g_iload_n (pc := 11) X (j := 1) (i := 1) (q := 1) (x := a1) rfl rfl (dl_at t_X28_orderOf 5 rfl) ?_
  refine g_iadd (pc := 12) X g8 r1 (dl_at t_X28_orderOf 6 rfl) ?_
  refine g_gd fun k13 => ?_
  refine g_iald (pc := 13) X (r32_w _) k13 (dl_at t_X28_orderOf 7 rfl) fun g13 => ?_
  exact g_iret (pc := 14) X g13 rfl rfl (dl_at t_X28_orderOf 8 rfl)
def k_X28_nextAt : List (Nat × Instr × Nat) := [(0, .aload_n 0, 1), (1, .getfield 9, 3), (4, .getfield 41, 3), (7, .aload_n 0, 1), (8, .getfield 35, 3), (11, .iload_n 1, 1), (12, .iadd, 1), (13, .iaload, 1), (14, .ireturn, 1)]
theorem t_X28_nextAt : ∀ q ∈ k_X28_nextAt, decode cX28_nextAt q.1 = .ok q.2 := dl_all (by decide +kernel)
noncomputable def m_X28_nextAt (a0 a1 : Int) (h : Hp) : Option (Int) :=
  gd (h (h a0 0) (-2) = 240) (gd (h (h (h a0 0) 6) (-2) % 16 = 1 ∧ (0 : Int) ≤ (w32 ((h a0 15) + a1)) ∧ (w32 ((h a0 15) + a1)) < h (h (h a0 0) 6) (-1)) (some (h (h (h a0 0) 6) (w32 ((h a0 15) + a1)))))
theorem s_X28_nextAt {l : Launch} [NoTr l] {D : SD} {a0 a1 : Int} {h : Hp} (hk : h a0 (-2) = 288) (r1 : r32 a1) {r : Int} (hm : m_X28_nextAt a0 a1 h = some r) : Sim l D yX28_nextAt (Cond.code yX28_nextAt cX28_nextAt 2 (Option.some Jvm.ClassFile.FieldType.int)) 0 0 [rv D a0, iv a1] h 1 ((0, r), h) := by
  refine Sim.of (fin := fun (v : Int) => ((0, v), h)) (lsE := [(0, rv D a0), (1, iv a1)]) hm rfl cwS_code (la_r (la_i la_n)) (ll_r (ll_i ll_n)) ?_
  intro p e s m below meth c X hcw hmm hcc hnm hname
  unfold m_X28_nextAt
  refine g_aload_n (pc := 0) X (j := 0) (i := 0) (q := 0) (x := a0) rfl rfl (dl_at t_X28_nextAt 0 rfl) ?_
  refine r_getr (pc := 1) X fX28_0 hk q2528 (dl_at t_X28_nextAt 1 rfl) ?_
  refine g_gd fun k4 => ?_
  refine r_getrN (pc := 4) X fX15_6 k4 (nw_in q1143 rfl) (dl_at t_X28_nextAt 2 rfl) ?_
  refine g_aload_n (pc := 7) X (j := 0) (i := 0) (q := 0) (x := a0) rfl rfl (dl_at t_X28_nextAt 3 rfl) ?_
  refine r_geti (pc := 8) X fX28_15 hk q2557 (dl_at t_X28_nextAt 4 rfl) fun g8 => ?_
  refine g_iload_n (pc := 11) X (j := 1) (i := 1) (q := 1) (x := a1) rfl rfl (dl_at t_X28_nextAt 5 rfl) ?_
  refine g_iadd (pc := 12) X g8 r1 (dl_at t_X28_nextAt 6 rfl) ?_
  refine g_gd fun k13 => ?_
  refine g_iald (pc := 13) X (r32_w _) k13 (dl_at t_X28_nextAt 7 rfl) fun g13 => ?_
  exact g_iret (pc := 14) X g13 rfl rfl (dl_at t_X28_nextAt 8 rfl)
def k_X14_place : List (Nat × Instr × Nat) := [(0, .iconst 0, 1), (1, .istore 4, 2), (3, .iconst 0, 1), (4, .istore 5, 2), (6, .iload 5, 2), (8, .aload_n 1, 1), (9, .getfield 324, 3), (12, .if_icmp .ge 74, 3), (15, .aload_n 1, 1), (16, .iload 5, 2), (18, .invokevirtual 653, 3), (21, .ifCond .ge 6, 3), (24, .goto 56, 3), (27, .iload_n 3, 1), (28, .ifCond .eq 37, 3), (31, .iload 4, 2), (33, .iconst 1, 1), (34, .iadd, 1), (35, .aload_n 1, 1), (36, .getfield 645, 3), (39, .if_icmp .ge 26, 3), (42, .iload 5, 2), (44, .aload_n 1, 1), (45, .aload_n 1, 1), (46, .iload 4, 2), (48, .iconst 1, 1), (49, .iadd, 1), (50, .invokevirtual 656, 3), (53, .invokevirtual 659, 3), (56, .if_icmp .lt 9, 3), (59, .iinc 4 1, 3), (62, .goto (-35), 3), (65, .aload_n 0, 1), (66, .getfield 65, 3), (69, .aload_n 1, 1), (70, .iload 5, 2), (72, .invokevirtual 653, 3), (75, .iload_n 2, 1), (76, .iload 4, 2), (78, .iadd, 1), (79, .iastore, 1), (80, .iinc 5 1, 3), (83, .goto (-77), 3), (86, .return_, 1)]
theorem t_X14_place : ∀ q ∈ k_X14_place, decode cX14_place q.1 = .ok q.2 := dl_all (by decide +kernel)
noncomputable def m_X14_place_j80 (x5_6 x4_80 : Int) (h_80 : Hp) : Option ((Int × Int × Hp) ⊕ ((Hp))) :=
  lt_ (w32 (x5_6 + 1)) fun x5_80 =>
  some (.inl (x4_80, x5_80, h_80))
noncomputable def m_X14_place_l27 (a1 a3 x5_6 x4_27 : Int) (h_6 : Hp) : Option ((Int) ⊕ ((Int))) :=
  if a3 = 0 then (some (.inr x4_27))
  else (if (h_6 a1 18) ≤ (w32 (x4_27 + 1)) then (some (.inr x4_27))
  else ((m_X28_breakOf a1 (w32 (x4_27 + 1)) h_6).bind fun v50 =>
  (m_X28_nextAt a1 v50 h_6).bind fun v53 =>
  if x5_6 < v53 then (some (.inr x4_27))
  else (lt_ (w32 (x4_27 + 1)) fun x4_59 =>
  some (.inl x4_59))))
noncomputable def m_X14_place_l6 (a0 a1 a2 a3 x4_6 x5_6 : Int) (h_6 : Hp) : Option ((Int × Int × Hp) ⊕ ((Hp))) :=
  gd (h_6 a1 (-2) = 288) (if (h_6 a1 2) ≤ x5_6 then (some (.inr h_6))
  else ((m_X28_orderOf a1 x5_6 h_6).bind fun v18 =>
  if 0 ≤ v18 then ((lp (fun (q : Int) => m_X14_place_l27 a1 a3 x5_6 q h_6) x4_6).bind (fun (y65 : Int) => (m_X28_orderOf a1 x5_6 h_6).bind fun v72 =>
  gd (h_6 (h_6 a0 28) (-2) % 16 = 1 ∧ (0 : Int) ≤ v72 ∧ v72 < h_6 (h_6 a0 28) (-1)) (pt h_6 (h_6 a0 28) v72 (w32 (a2 + y65)) fun h79 =>
  m_X14_place_j80 x5_6 y65 h79)))
  else (m_X14_place_j80 x5_6 x4_6 h_6)))
noncomputable def m_X14_place (a0 a1 a2 a3 : Int) (h : Hp) : Option (Hp) :=
  lt_ 0 fun x4_1 =>
  lt_ 0 fun x5_4 =>
  (lp (fun (q : Int × Int × Hp) => m_X14_place_l6 a0 a1 a2 a3 q.1 q.2.1 q.2.2) (x4_1, x5_4, h)).bind (fun (x : Hp) => some x)
theorem s_X14_place {l : Launch} [NoTr l] {D : SD} {a0 a1 a2 a3 : Int} {h : Hp} (hk : h a0 (-2) = 224) (r2 : r32 a2) (r3 : (a3 = 0 ∨ a3 = 1)) {r : Hp} (hm : m_X14_place a0 a1 a2 a3 h = some r) : Sim l D yX14_place (Cond.code yX14_place cX14_place 6 (Option.none : Option Jvm.ClassFile.FieldType)) 1 37 [rv D a0, rv D a1, iv a2, iv a3] h 0 ((0, 0), r) := by
  refine Sim.of (fin := fun (v : Hp) => ((0, 0), v)) (lsE := [(0, rv D a0), (1, rv D a1), (2, iv a2), (3, iv a3)]) hm rfl cwS_code (la_r (la_r (la_i (la_i la_n)))) (ll_r (ll_r (ll_i (ll_i ll_n)))) ?_
  intro p e s m below meth c X hcw hmm hcc hnm hname
  unfold m_X14_place
  refine g_iconst (pc := 0) X (n := 0) (dl_at t_X14_place 0 rfl) ?_
  refine g_ltz (Or.inl rfl) fun x4_1 r4_1 => ?_
  refine g_istoreN (pc := 1) X (i := 4) (x := x4_1) (b := 3) (w := iv a3) (rest := [(0, rv D a0), (1, rv D a1), (2, iv a2)]) (Nat.le_of_ble_eq_true rfl) [3, 0, 1, 2] rfl (by decide) rfl rfl (dl_at t_X14_place 1 rfl) ?_
  refine g_iconst (pc := 3) X (n := 0) (dl_at t_X14_place 2 rfl) ?_
  refine g_ltz (Or.inl rfl) fun x5_4 r5_4 => ?_
  refine g_istoreN (pc := 4) X (i := 5) (x := x5_4) (b := 4) (w := iv x4_1) (rest := [(3, iv a3), (0, rv D a0), (1, rv D a1), (2, iv a2)]) (Nat.le_of_ble_eq_true rfl) [0, 1, 2, 3, 4] rfl (by decide) rfl rfl (dl_at t_X14_place 3 rfl) ?_
  refine g_ls (ls2 := [(0, rv D a0), (1, rv D a1), (2, iv a2), (3, iv a3), (4, iv x4_1), (5, iv x5_4)]) [3, 4, 5, 2, 1, 0] rfl ?_
  refine g_loop0F (fun (q : Int × Int × Hp) => [(0, rv D a0), (1, rv D a1), (2, iv a2), (3, iv a3), (4, iv q.1), (5, iv q.2.1)]) (fun (q : Int × Int × Hp) => q.2.2) (fun (q : Int × Int × Hp) => r32 q.1 ∧ r32 q.2.1 ∧ Ext h q.2.2) (x4_1, x5_4, h) ⟨(r32_z r4_1), (r32_z r5_4), (Ext.refl _)⟩ ?_ (fun _ => rfl)
  · rintro ⟨x4_6, x5_6, h_6⟩ ⟨r4_6, r5_6, E_6⟩
    try dsimp only
    unfold m_X14_place_l6
    refine g_iload (pc := 6) X (i := 5) (q := 5) (x := x5_6) rfl (dl_at t_X14_place 4 rfl) ?_
    refine g_aload_n (pc := 8) X (j := 1) (i := 1) (q := 1) (x := a1) rfl rfl (dl_at t_X14_place 5 rfl) ?_
    refine g_gd fun k9 => ?_
    refine r_getiN (pc := 9) X fX28_2 k9 (nw_in q2533 rfl) (dl_at t_X14_place 6 rfl) fun g9 => ?_
    refine g_icmpge (pc := 12) X r5_6 g9 (off := 74) (tgt := 86) rfl (dl_at t_X14_place 7 rfl) (fun _ => ?_) (fun _ => ?_)
    · exact g_at fun Q hQ => (g_vret (pc := 86) X (v := 0) rfl rfl (dl_at t_X14_place 43 rfl)) _ Q rfl hQ
    refine g_aload_n (pc := 15) X (j := 1) (i := 1) (q := 1) (x := a1) rfl rfl (dl_at t_X14_place 8 rfl) ?_
    refine g_iload (pc := 16) X (i := 5) (q := 5) (x := x5_6) rfl (dl_at t_X14_place 9 rfl) ?_
    refine r_callRi (pc := 18) X (fun _ hv => s_X28_orderOf k9 r5_6 hv) cw_code q2959 q396 (in_Vk X (As := [iv x5_6]) kX28 k9 (Or.inr ⟨_, nw_in q2956 rfl⟩) q2958 qs194 cw_code q2959 ⟨by decide, by decide⟩ rfl (dl_at t_X14_place 10 rfl)) (dl_at t_X14_place 10 rfl) (cat24 (st := []) (Nat.le_of_ble_eq_true rfl)) (Nat.le_of_ble_eq_true rfl) (Nat.le_of_ble_eq_true rfl) fun v18 g18 => ?_
    refine g_join (γ := Int × Hp) (fun q => r32 q.1 ∧ Ext h_6 q.2) 80 (fun q => [(0, rv D a0), (1, rv D a1), (2, iv a2), (3, iv a3), (4, iv q.1), (5, iv x5_6)]) (fun q => []) (fun q => q.2) (fun q => m_X14_place_j80 x5_6 q.1 q.2) ?_ ?_
    · rintro ⟨x4_80, h_80⟩ ⟨r4_80, E_80⟩
      try dsimp only
      unfold m_X14_place_j80
      refine r_iincN (pc := 80) X (i := 5) (q := 5) (n := 1) (x := x5_6) (b := 4) (w := iv x4_80) (rest := [(0, rv D a0), (1, rv D a1), (2, iv a2), (3, iv a3)]) rfl r5_6 (r32_c rfl) (Nat.le_of_ble_eq_true rfl) [4, 0, 1, 2, 3] rfl (by decide) rfl rfl (dl_at t_X14_place 41 rfl) fun x5_80 r5_80 => ?_
      refine g_goto (pc := 83) X (off := (-77)) (tgt := 6) rfl (dl_at t_X14_place 42 rfl) ?_
      refine g_ls (ls2 := [(0, rv D a0), (1, rv D a1), (2, iv a2), (3, iv a3), (4, iv x4_80), (5, iv x5_80)]) [2, 3, 4, 5, 1, 0] rfl ?_
      exact g_at fun Q hQ => hQ ⟨r4_80, r5_80, (E_6.trans E_80)⟩
    intro J80
    refine g_ifge (pc := 21) X g18 (off := 6) (tgt := 27) rfl (dl_at t_X14_place 11 rfl) (fun _ => ?_) (fun _ => ?_)
    · refine g_loop1 (fun (q : Int) => [(0, rv D a0), (1, rv D a1), (2, iv a2), (3, iv a3), (4, iv q), (5, iv x5_6)]) (fun (q : Int) => h_6) (fun (q : Int) => r32 q) 65 (fun (y65 : Int) => [(0, rv D a0), (1, rv D a1), (2, iv a2), (3, iv a3), (4, iv y65), (5, iv x5_6)]) (fun (y65 : Int) => h_6) (fun (y65 : Int) => r32 y65) x4_6 r4_6 ?_ ?_
      · rintro x4_27 r4_27
        try dsimp only
        unfold m_X14_place_l27
        refine g_iload_n (pc := 27) X (j := 3) (i := 3) (q := 3) (x := a3) rfl rfl (dl_at t_X14_place 13 rfl) ?_
        refine g_ifeq (pc := 28) X (r32_z r3) (off := 37) (tgt := 65) rfl (dl_at t_X14_place 14 rfl) (fun _ => ?_) (fun _ => ?_)
        · exact g_at fun Q hQ => hQ r4_27
        refine g_iload (pc := 31) X (i := 4) (q := 4) (x := x4_27) rfl (dl_at t_X14_place 15 rfl) ?_
        refine g_iconst (pc := 33) X (n := 1) (dl_at t_X14_place 16 rfl) ?_
        refine g_iadd (pc := 34) X r4_27 (r32_c rfl) (dl_at t_X14_place 17 rfl) ?_
        refine g_aload_n (pc := 35) X (j := 1) (i := 1) (q := 1) (x := a1) rfl rfl (dl_at t_X14_place 18 rfl) ?_
        refine r_getiN (pc := 36) X fX28_18 k9 (nw_in q2563 rfl) (dl_at t_X14_place 19 rfl) fun g36 => ?_
        refine g_icmpge (pc := 39) X (r32_w _) g36 (off := 26) (tgt := 65) rfl (dl_at t_X14_place 20 rfl) (fun _ => ?_) (fun _ => ?_)
        · exact g_at fun Q hQ => hQ r4_27
        refine g_iload (pc := 42) X (i := 5) (q := 5) (x := x5_6) rfl (dl_at t_X14_place 21 rfl) ?_
        refine g_aload_n (pc := 44) X (j := 1) (i := 1) (q := 1) (x := a1) rfl rfl (dl_at t_X14_place 22 rfl) ?_
        refine g_aload_n (pc := 45) X (j := 1) (i := 1) (q := 1) (x := a1) rfl rfl (dl_at t_X14_place 23 rfl) ?_
        refine g_iload (pc := 46) X (i := 4) (q := 4) (x := x4_27) rfl (dl_at t_X14_place 24 rfl) ?_
        refine g_iconst (pc := 48) X (n := 1) (dl_at t_X14_place 25 rfl) ?_
        refine g_iadd (pc := 49) X r4_27 (r32_c rfl) (dl_at t_X14_place 26 rfl) ?_
        refine r_callRi (pc := 50) X (fun _ hv => s_X28_breakOf k9 (r32_w _) hv) cw_code q2939 q396 (in_Vk X (As := [iv (w32 (x4_27 + 1))]) kX28 k9 (Or.inr ⟨_, nw_in q2960 rfl⟩) q2938 qs189 cw_code q2939 ⟨by decide, by decide⟩ rfl (dl_at t_X14_place 27 rfl)) (dl_at t_X14_place 27 rfl) (cat24 (st := [rv D a1, iv x5_6]) (Nat.le_of_ble_eq_true rfl)) (Nat.le_of_ble_eq_true rfl) (Nat.le_of_ble_eq_true rfl) fun v50 g50 => ?_
        refine r_callRi (pc := 53) X (fun _ hv => s_X28_nextAt k9 g50 hv) cw_code q2964 q396 (in_Vk X (As := [iv v50]) kX28 k9 (Or.inr ⟨_, nw_in q2961 rfl⟩) q2963 qs195 cw_code q2964 ⟨by decide, by decide⟩ rfl (dl_at t_X14_place 28 rfl)) (dl_at t_X14_place 28 rfl) (cat24 (st := [iv x5_6]) (Nat.le_of_ble_eq_true rfl)) (Nat.le_of_ble_eq_true rfl) (Nat.le_of_ble_eq_true rfl) fun v53 g53 => ?_
        refine g_icmplt (pc := 56) X r5_6 g53 (off := 9) (tgt := 65) rfl (dl_at t_X14_place 29 rfl) (fun _ => ?_) (fun _ => ?_)
        · exact g_at fun Q hQ => hQ r4_27
        refine r_iincN (pc := 59) X (i := 4) (q := 4) (n := 1) (x := x4_27) (b := 3) (w := iv a3) (rest := [(0, rv D a0), (1, rv D a1), (2, iv a2), (5, iv x5_6)]) rfl r4_27 (r32_c rfl) (Nat.le_of_ble_eq_true rfl) [3, 0, 1, 2, 5] rfl (by decide) rfl rfl (dl_at t_X14_place 30 rfl) fun x4_59 r4_59 => ?_
        refine g_goto (pc := 62) X (off := (-35)) (tgt := 27) rfl (dl_at t_X14_place 31 rfl) ?_
        refine g_ls (ls2 := [(0, rv D a0), (1, rv D a1), (2, iv a2), (3, iv a3), (4, iv x4_59), (5, iv x5_6)]) [2, 3, 4, 1, 0, 5] rfl ?_
        exact g_at fun Q hQ => hQ r4_59
      · rintro x4_65 r4_65
        try dsimp only [sE]
        refine g_aload_n (pc := 65) X (j := 0) (i := 0) (q := 0) (x := a0) rfl rfl (dl_at t_X14_place 32 rfl) ?_
        have k66 := kx E_6 (by decide) hk
        refine r_getr (pc := 66) X fX14_28 k66 q1281 (dl_at t_X14_place 33 rfl) ?_
        refine g_aload_n (pc := 69) X (j := 1) (i := 1) (q := 1) (x := a1) rfl rfl (dl_at t_X14_place 34 rfl) ?_
        refine g_iload (pc := 70) X (i := 5) (q := 5) (x := x5_6) rfl (dl_at t_X14_place 35 rfl) ?_
        refine r_callRi (pc := 72) X (fun _ hv => s_X28_orderOf k9 r5_6 hv) cw_code q2959 q396 (in_Vk X (As := [iv x5_6]) kX28 k9 (Or.inr ⟨_, nw_in q2956 rfl⟩) q2958 qs194 cw_code q2959 ⟨by decide, by decide⟩ rfl (dl_at t_X14_place 36 rfl)) (dl_at t_X14_place 36 rfl) (cat24 (st := [rv D (h_6 a0 28)]) (Nat.le_of_ble_eq_true rfl)) (Nat.le_of_ble_eq_true rfl) (Nat.le_of_ble_eq_true rfl) fun v72 g72 => ?_
        refine g_iload_n (pc := 75) X (j := 2) (i := 2) (q := 2) (x := a2) rfl rfl (dl_at t_X14_place 37 rfl) ?_
        refine g_iload (pc := 76) X (i := 4) (q := 4) (x := x4_65) rfl (dl_at t_X14_place 38 rfl) ?_
        refine g_iadd (pc := 78) X r2 r4_65 (dl_at t_X14_place 39 rfl) ?_
        refine g_gd fun k79 => ?_
        refine r_iast (pc := 79) X g72 (r32_w _) k79 (dl_at t_X14_place 40 rfl) (fun h79 E79 => ?_)
        exact J80 (x4_65, h79) ⟨r4_65, E79⟩
    refine g_goto (pc := 24) X (off := 56) (tgt := 80) rfl (dl_at t_X14_place 12 rfl) ?_
    exact J80 (x4_6, h_6) ⟨r4_6, (Ext.refl _)⟩
def k_X14_rowLine : List (Nat × Instr × Nat) := [(0, .aload_n 0, 1), (1, .getfield 56, 3), (4, .iload_n 1, 1), (5, .iaload, 1), (6, .istore_n 3, 1), (7, .aload_n 0, 1), (8, .iload_n 3, 1), (9, .iconst 2, 1), (10, .invokevirtual 283, 3), (13, .istore 4, 2), (15, .iconst 0, 1), (16, .istore 5, 2), (18, .iload 5, 2), (20, .aload_n 0, 1), (21, .getfield 47, 3), (24, .iload_n 1, 1), (25, .iaload, 1), (26, .if_icmp .ge 77, 3), (29, .aload_n 0, 1), (30, .getfield 50, 3), (33, .bipush 8, 2), (35, .iload_n 1, 1), (36, .imul, 1), (37, .iload 5, 2), (39, .iadd, 1), (40, .iaload, 1), (41, .istore 6, 2), (43, .iload 6, 2), (45, .ifCond .lt 52, 3), (48, .aload_n 0, 1), (49, .getfield 24, 3), (52, .iload 6, 2), (54, .aaload, 1), (55, .getfield 645, 3), (58, .aload_n 0, 1), (59, .getfield 24, 3), (62, .iload 6, 2), (64, .aaload, 1), (65, .getfield 336, 3), (68, .imul, 1), (69, .iload 4, 2), (71, .if_icmp .le 26, 3), (74, .aload_n 0, 1), (75, .getfield 24, 3), (78, .iload 6, 2), (80, .aaload, 1), (81, .getfield 645, 3), (84, .aload_n 0, 1), (85, .getfield 24, 3), (88, .iload 6, 2), (90, .aaload, 1), (91, .getfield 336, 3), (94, .imul, 1), (95, .istore 4, 2), (97, .iinc 5 1, 3), (100, .goto (-82), 3), (103, .aload_n 0, 1), (104, .iconst (-1), 1), (105, .iload_n 1, 1), (106, .isub, 1), (107, .iconst 0, 1), (108, .iload 4, 2), (110, .iload_n 2, 1), (111, .invokevirtual 646, 3), (114, .aload_n 0, 1), (115, .getfield 40, 3), (118, .aload_n 0, 1), (119, .getfield 196, 3), (122, .iconst 1, 1), (123, .isub, 1), (124, .aload_n 0, 1), (125, .aload_n 0, 1), (126, .getfield 173, 3), (129, .getfield 431, 3), (132, .iload_n 3, 1), (133, .iaload, 1), (134, .bipush 13, 2), (136, .invokevirtual 283, 3), (139, .ifCond .ne 7, 3), (142, .iconst 1, 1), (143, .goto 4, 3), (146, .iconst 0, 1), (147, .bastore, 1), (148, .iconst 0, 1), (149, .istore 5, 2), (151, .iload 5, 2), (153, .aload_n 0, 1), (154, .getfield 47, 3), (157, .iload_n 1, 1), (158, .iaload, 1), (159, .if_icmp .ge 46, 3), (162, .aload_n 0, 1), (163, .getfield 50, 3), (166, .bipush 8, 2), (168, .iload_n 1, 1), (169, .imul, 1), (170, .iload 5, 2), (172, .iadd, 1), (173, .iaload, 1), (174, .istore 6, 2), (176, .iload 6, 2), (178, .ifCond .lt 21, 3), (181, .aload_n 0, 1), (182, .aload_n 0, 1), (183, .getfield 24, 3), (186, .iload 6, 2), (188, .aaload, 1), (189, .aload_n 0, 1), (190, .getfield 196, 3), (193, .iconst 1, 1), (194, .isub, 1), (195, .iconst 0, 1), (196, .invokevirtual 649, 3), (199, .iinc 5 1, 3), (202, .goto (-51), 3), (205, .return_, 1)]
theorem t_X14_rowLine : ∀ q ∈ k_X14_rowLine, decode cX14_rowLine q.1 = .ok q.2 := dl_all (by decide +kernel)
noncomputable def m_X14_rowLine_j97 (x5_18 x4_97 : Int) : Option ((Int × Int) ⊕ ((Int))) :=
  lt_ (w32 (x5_18 + 1)) fun x5_97 =>
  some (.inl (x4_97, x5_97))
noncomputable def m_X14_rowLine_l18 (a0 a1 x4_18 x5_18 : Int) (h : Hp) : Option ((Int × Int) ⊕ ((Int))) :=
  gd (h (h a0 19) (-2) % 16 = 1 ∧ (0 : Int) ≤ a1 ∧ a1 < h (h a0 19) (-1)) (if (h (h a0 19) a1) ≤ x5_18 then (some (.inr x4_18))
  else (gd (h (h a0 20) (-2) % 16 = 1 ∧ (0 : Int) ≤ (w32 ((w32 (8 * a1)) + x5_18)) ∧ (w32 ((w32 (8 * a1)) + x5_18)) < h (h a0 20) (-1)) (lt_ (h (h a0 20) (w32 ((w32 (8 * a1)) + x5_18))) fun x6_41 =>
  if x6_41 < 0 then (m_X14_rowLine_j97 x5_18 x4_18)
  else (gd (h (h a0 10) (-2) % 16 = 9 ∧ (0 : Int) ≤ x6_41 ∧ x6_41 < h (h a0 10) (-1)) (gd (h (h (h a0 10) x6_41) (-2) = 288) (if (w32 ((h (h (h a0 10) x6_41) 18) * (h (h (h a0 10) x6_41) 7))) ≤ x4_18 then (m_X14_rowLine_j97 x5_18 x4_18)
  else (lt_ (w32 ((h (h (h a0 10) x6_41) 18) * (h (h (h a0 10) x6_41) 7))) fun x4_95 =>
  m_X14_rowLine_j97 x5_18 x4_95)))))))
noncomputable def m_X14_rowLine_j199 (x5_151 : Int) (h_199 : Hp) : Option ((Int × Hp) ⊕ (((Int × Int) × Hp))) :=
  lt_ (w32 (x5_151 + 1)) fun x5_199 =>
  some (.inl (x5_199, h_199))
noncomputable def m_X14_rowLine_l151 (a0 a1 x5_151 : Int) (h_151 : Hp) : Option ((Int × Hp) ⊕ (((Int × Int) × Hp))) :=
  gd (h_151 (h_151 a0 19) (-2) % 16 = 1 ∧ (0 : Int) ≤ a1 ∧ a1 < h_151 (h_151 a0 19) (-1)) (if (h_151 (h_151 a0 19) a1) ≤ x5_151 then (some (.inr ((0, 0), h_151)))
  else (gd (h_151 (h_151 a0 20) (-2) % 16 = 1 ∧ (0 : Int) ≤ (w32 ((w32 (8 * a1)) + x5_151)) ∧ (w32 ((w32 (8 * a1)) + x5_151)) < h_151 (h_151 a0 20) (-1)) (lt_ (h_151 (h_151 a0 20) (w32 ((w32 (8 * a1)) + x5_151))) fun x6_174 =>
  if x6_174 < 0 then (m_X14_rowLine_j199 x5_151 h_151)
  else (gd (h_151 (h_151 a0 10) (-2) % 16 = 9 ∧ (0 : Int) ≤ x6_174 ∧ x6_174 < h_151 (h_151 a0 10) (-1)) ((m_X14_place a0 (h_151 (h_151 a0 10) x6_174) (w32 ((h_151 a0 18) - 1)) 0 h_151).bind fun h196 =>
  m_X14_rowLine_j199 x5_151 h196)))))
noncomputable def m_X14_rowLine_j147 (a0 a1 s0_147 s1_147 s2_147 : Int) (h111 : Hp) : Option ((Int × Int) × Hp) :=
  gd (h111 s0_147 (-2) % 16 = 3 ∧ (0 : Int) ≤ s1_147 ∧ s1_147 < h111 s0_147 (-1)) (pt h111 s0_147 s1_147 s2_147 fun h147 =>
  lt_ 0 fun x5_149 =>
  (lp (fun (q : Int × Hp) => m_X14_rowLine_l151 a0 a1 q.1 q.2) (x5_149, h147)).bind (fun (x : (Int × Int) × Hp) => some x))
noncomputable def m_X14_rowLine (a0 a1 a2 : Int) (h : Hp) : Option ((Int × Int) × Hp) :=
  gd (h (h a0 22) (-2) % 16 = 1 ∧ (0 : Int) ≤ a1 ∧ a1 < h (h a0 22) (-1)) (lt_ (h (h a0 22) a1) fun x3_6 =>
  (m_X14_property a0 x3_6 2 h).bind fun v10 =>
  lt_ 0 fun x5_16 =>
  (lp (fun (q : Int × Int) => m_X14_rowLine_l18 a0 a1 q.1 q.2 h) (v10, x5_16)).bind (fun (y103 : Int) => bT (m_X14_line a0 (w32 ((-1) - a1)) 0 y103 a2 h) (fun _ h111 =>
  gd (h111 (h111 a0 6) (-2) = 96) (gd (h111 (h111 (h111 a0 6) 6) (-2) % 16 = 1 ∧ (0 : Int) ≤ x3_6 ∧ x3_6 < h111 (h111 (h111 a0 6) 6) (-1)) ((m_X14_property a0 (h111 (h111 (h111 a0 6) 6) x3_6) 13 h111).bind fun v136 =>
  if v136 ≠ 0 then (m_X14_rowLine_j147 a0 a1 (h111 a0 16) (w32 ((h111 a0 18) - 1)) 0 h111)
  else (m_X14_rowLine_j147 a0 a1 (h111 a0 16) (w32 ((h111 a0 18) - 1)) 1 h111)))) (fun a_ h_ => some ((1, a_), h_))))
theorem s_X14_rowLine {l : Launch} [NoTr l] {D : SD} {a0 a1 a2 : Int} {h : Hp} (hk : h a0 (-2) = 224) (r1 : r32 a1) (r2 : r32 a2) {r : (Int × Int) × Hp} (hm : m_X14_rowLine a0 a1 a2 h = some r) : Sim l D yX14_rowLine (Cond.code yX14_rowLine cX14_rowLine 7 (Option.none : Option Jvm.ClassFile.FieldType)) 11 412 [rv D a0, iv a1, iv a2] h 0 r := by
  refine Sim.of (fin := fun (v : (Int × Int) × Hp) => v) (lsE := [(0, rv D a0), (1, iv a1), (2, iv a2)]) hm rfl cwS_code (la_r (la_i (la_i la_n))) (ll_r (ll_i (ll_i ll_n))) ?_
  intro p e s m below meth c X hcw hmm hcc hnm hname
  have hno := noh hcw hnm hmm hcc
  unfold m_X14_rowLine
  refine g_aload_n (pc := 0) X (j := 0) (i := 0) (q := 0) (x := a0) rfl rfl (dl_at t_X14_rowLine 0 rfl) ?_
  refine r_getr (pc := 1) X fX14_22 hk q1275 (dl_at t_X14_rowLine 1 rfl) ?_
  refine g_iload_n (pc := 4) X (j := 1) (i := 1) (q := 1) (x := a1) rfl rfl (dl_at t_X14_rowLine 2 rfl) ?_
  refine g_gd fun k5 => ?_
  refine g_iald (pc := 5) X r1 k5 (dl_at t_X14_rowLine 3 rfl) fun g5 => ?_
  refine g_lti g5 fun x3_6 r3_6 => ?_
  refine g_istore_nN (pc := 6) X (j := 3) (i := 3) (x := x3_6) (b := 2) (w := iv a2) (rest := [(0, rv D a0), (1, iv a1)]) rfl (Nat.le_of_ble_eq_true rfl) [2, 0, 1] rfl (by decide) rfl rfl (dl_at t_X14_rowLine 4 rfl) ?_
  refine g_aload_n (pc := 7) X (j := 0) (i := 0) (q := 2) (x := a0) rfl rfl (dl_at t_X14_rowLine 5 rfl) ?_
  refine g_iload_n (pc := 8) X (j := 3) (i := 3) (q := 0) (x := x3_6) rfl rfl (dl_at t_X14_rowLine 6 rfl) ?_
  refine g_iconst (pc := 9) X (n := 2) (dl_at t_X14_rowLine 7 rfl) ?_
  refine r_callRi (pc := 10) X (fun _ hv => s_X14_property hk r3_6 (r32_c rfl) hv) cw_code q2504 q368 (in_Vk X (As := [iv x3_6, iv 2]) kX14 hk (Or.inl q2501) q2503 qs119 cw_code q2504 ⟨by decide, by decide⟩ rfl (dl_at t_X14_rowLine 8 rfl)) (dl_at t_X14_rowLine 8 rfl) (cat24 (st := []) (Nat.le_of_ble_eq_true rfl)) (Nat.le_of_ble_eq_true rfl) (Nat.le_of_ble_eq_true rfl) fun v10 g10 => ?_
  refine g_istoreN (pc := 13) X (i := 4) (x := v10) (b := 3) (w := iv x3_6) (rest := [(2, iv a2), (0, rv D a0), (1, iv a1)]) (Nat.le_of_ble_eq_true rfl) [0, 1, 2, 3] rfl (by decide) rfl rfl (dl_at t_X14_rowLine 9 rfl) ?_
  refine g_iconst (pc := 15) X (n := 0) (dl_at t_X14_rowLine 10 rfl) ?_
  refine g_ltz (Or.inl rfl) fun x5_16 r5_16 => ?_
  refine g_istoreN (pc := 16) X (i := 5) (x := x5_16) (b := 4) (w := iv v10) (rest := [(3, iv x3_6), (2, iv a2), (0, rv D a0), (1, iv a1)]) (Nat.le_of_ble_eq_true rfl) [0, 1, 2, 3, 4] rfl (by decide) rfl rfl (dl_at t_X14_rowLine 11 rfl) ?_
  refine g_ls (ls2 := [(0, rv D a0), (1, iv a1), (2, iv a2), (3, iv x3_6), (4, iv v10), (5, iv x5_16)]) [4, 5, 3, 2, 1, 0] rfl ?_
  refine g_loop1 (fun (q : Int × Int) => [(0, rv D a0), (1, iv a1), (2, iv a2), (3, iv x3_6), (4, iv q.1), (5, iv q.2)]) (fun (q : Int × Int) => h) (fun (q : Int × Int) => r32 q.1 ∧ r32 q.2) 103 (fun (y103 : Int) => [(0, rv D a0), (1, iv a1), (2, iv a2), (3, iv x3_6), (4, iv y103)]) (fun (y103 : Int) => h) (fun (y103 : Int) => r32 y103) (v10, x5_16) ⟨g10, (r32_z r5_16)⟩ ?_ ?_
  · rintro ⟨x4_18, x5_18⟩ ⟨r4_18, r5_18⟩
    try dsimp only
    unfold m_X14_rowLine_l18
    refine g_iload (pc := 18) X (i := 5) (q := 5) (x := x5_18) rfl (dl_at t_X14_rowLine 12 rfl) ?_
    refine g_aload_n (pc := 20) X (j := 0) (i := 0) (q := 0) (x := a0) rfl rfl (dl_at t_X14_rowLine 13 rfl) ?_
    refine r_getr (pc := 21) X fX14_19 hk q1271 (dl_at t_X14_rowLine 14 rfl) ?_
    refine g_iload_n (pc := 24) X (j := 1) (i := 1) (q := 1) (x := a1) rfl rfl (dl_at t_X14_rowLine 15 rfl) ?_
    refine g_gd fun k25 => ?_
    refine g_iald (pc := 25) X r1 k25 (dl_at t_X14_rowLine 16 rfl) fun g25 => ?_
    refine g_icmpge (pc := 26) X r5_18 g25 (off := 77) (tgt := 103) rfl (dl_at t_X14_rowLine 17 rfl) (fun _ => ?_) (fun _ => ?_)
    · refine g_ls (ls2 := [(0, rv D a0), (1, iv a1), (2, iv a2), (3, iv x3_6), (4, iv x4_18)]) [0, 1, 2, 3, 4] rfl ?_
      exact g_at fun Q hQ => hQ r4_18
    refine g_aload_n (pc := 29) X (j := 0) (i := 0) (q := 0) (x := a0) rfl rfl (dl_at t_X14_rowLine 18 rfl) ?_
    refine r_getr (pc := 30) X fX14_20 hk q1272 (dl_at t_X14_rowLine 19 rfl) ?_
    refine g_bipush (pc := 33) X (n := 8) rfl (dl_at t_X14_rowLine 20 rfl) ?_
    refine g_iload_n (pc := 35) X (j := 1) (i := 1) (q := 1) (x := a1) rfl rfl (dl_at t_X14_rowLine 21 rfl) ?_
    refine g_imul (pc := 36) X (r32_c rfl) r1 (dl_at t_X14_rowLine 22 rfl) ?_
    refine g_iload (pc := 37) X (i := 5) (q := 5) (x := x5_18) rfl (dl_at t_X14_rowLine 23 rfl) ?_
    refine g_iadd (pc := 39) X (r32_w _) r5_18 (dl_at t_X14_rowLine 24 rfl) ?_
    refine g_gd fun k40 => ?_
    refine g_iald (pc := 40) X (r32_w _) k40 (dl_at t_X14_rowLine 25 rfl) fun g40 => ?_
    refine g_lti g40 fun x6_41 r6_41 => ?_
    refine g_istoreN (pc := 41) X (i := 6) (x := x6_41) (b := 5) (w := iv x5_18) (rest := [(0, rv D a0), (1, iv a1), (2, iv a2), (3, iv x3_6), (4, iv x4_18)]) (Nat.le_of_ble_eq_true rfl) [5, 0, 1, 2, 3, 4] rfl (by decide) rfl rfl (dl_at t_X14_rowLine 26 rfl) ?_
    refine g_iload (pc := 43) X (i := 6) (q := 0) (x := x6_41) rfl (dl_at t_X14_rowLine 27 rfl) ?_
    refine g_join (γ := Int) (fun q => r32 q) 97 (fun q => [(0, rv D a0), (1, iv a1), (2, iv a2), (3, iv x3_6), (4, iv q), (5, iv x5_18)]) (fun q => []) (fun q => h) (fun q => m_X14_rowLine_j97 x5_18 q) ?_ ?_
    · rintro x4_97 r4_97
      try dsimp only
      unfold m_X14_rowLine_j97
      refine r_iincN (pc := 97) X (i := 5) (q := 5) (n := 1) (x := x5_18) (b := 4) (w := iv x4_97) (rest := [(0, rv D a0), (1, iv a1), (2, iv a2), (3, iv x3_6)]) rfl r5_18 (r32_c rfl) (Nat.le_of_ble_eq_true rfl) [4, 0, 1, 2, 3] rfl (by decide) rfl rfl (dl_at t_X14_rowLine 54 rfl) fun x5_97 r5_97 => ?_
      refine g_goto (pc := 100) X (off := (-82)) (tgt := 18) rfl (dl_at t_X14_rowLine 55 rfl) ?_
      refine g_ls (ls2 := [(0, rv D a0), (1, iv a1), (2, iv a2), (3, iv x3_6), (4, iv x4_97), (5, iv x5_97)]) [2, 3, 4, 5, 1, 0] rfl ?_
      exact g_at fun Q hQ => hQ ⟨r4_97, r5_97⟩
    intro J97
    refine g_iflt (pc := 45) X r6_41 (off := 52) (tgt := 97) rfl (dl_at t_X14_rowLine 28 rfl) (fun _ => ?_) (fun _ => ?_)
    · refine g_ls (ls2 := [(0, rv D a0), (1, iv a1), (2, iv a2), (3, iv x3_6), (4, iv x4_18), (5, iv x5_18)]) [2, 3, 4, 5, 6, 1] rfl ?_
      exact J97 x4_18 r4_18
    refine g_aload_n (pc := 48) X (j := 0) (i := 0) (q := 2) (x := a0) rfl rfl (dl_at t_X14_rowLine 29 rfl) ?_
    refine r_getr (pc := 49) X fX14_10 hk q1256 (dl_at t_X14_rowLine 30 rfl) ?_
    refine g_iload (pc := 52) X (i := 6) (q := 0) (x := x6_41) rfl (dl_at t_X14_rowLine 31 rfl) ?_
    refine g_gd fun k54 => ?_
    refine g_aald (pc := 54) X 9 (Nat.le_of_ble_eq_true rfl) (Nat.le_of_ble_eq_true rfl) r6_41 rfl k54 (dl_at t_X14_rowLine 32 rfl) ?_
    refine g_gd fun k55 => ?_
    refine r_getiN (pc := 55) X fX28_18 k55 (nw_in q2563 rfl) (dl_at t_X14_rowLine 33 rfl) fun g55 => ?_
    refine g_aload_n (pc := 58) X (j := 0) (i := 0) (q := 2) (x := a0) rfl rfl (dl_at t_X14_rowLine 34 rfl) ?_
    refine r_getr (pc := 59) X fX14_10 hk q1256 (dl_at t_X14_rowLine 35 rfl) ?_
    refine g_iload (pc := 62) X (i := 6) (q := 0) (x := x6_41) rfl (dl_at t_X14_rowLine 36 rfl) ?_
    refine g_aald (pc := 64) X 9 (Nat.le_of_ble_eq_true rfl) (Nat.le_of_ble_eq_true rfl) r6_41 rfl k54 (dl_at t_X14_rowLine 37 rfl) ?_
    refine r_getiN (pc := 65) X fX28_7 k55 (nw_in q2546 rfl) (dl_at t_X14_rowLine 38 rfl) fun g65 => ?_
    refine g_imul (pc := 68) X g55 g65 (dl_at t_X14_rowLine 39 rfl) ?_
    refine g_iload (pc := 69) X (i := 4) (q := 6) (x := x4_18) rfl (dl_at t_X14_rowLine 40 rfl) ?_
    refine g_icmple (pc := 71) X (r32_w _) r4_18 (off := 26) (tgt := 97) rfl (dl_at t_X14_rowLine 41 rfl) (fun _ => ?_) (fun _ => ?_)
    · refine g_ls (ls2 := [(0, rv D a0), (1, iv a1), (2, iv a2), (3, iv x3_6), (4, iv x4_18), (5, iv x5_18)]) [2, 3, 4, 5, 6, 1] rfl ?_
      exact J97 x4_18 r4_18
    refine g_aload_n (pc := 74) X (j := 0) (i := 0) (q := 2) (x := a0) rfl rfl (dl_at t_X14_rowLine 42 rfl) ?_
    refine r_getr (pc := 75) X fX14_10 hk q1256 (dl_at t_X14_rowLine 43 rfl) ?_
    refine g_iload (pc := 78) X (i := 6) (q := 0) (x := x6_41) rfl (dl_at t_X14_rowLine 44 rfl) ?_
    refine g_aald (pc := 80) X 9 (Nat.le_of_ble_eq_true rfl) (Nat.le_of_ble_eq_true rfl) r6_41 rfl k54 (dl_at t_X14_rowLine 45 rfl) ?_
    refine r_getiN (pc := 81) X fX28_18 k55 (nw_in q2563 rfl) (dl_at t_X14_rowLine 46 rfl) fun g81 => ?_
    refine g_aload_n (pc := 84) X (j := 0) (i := 0) (q := 2) (x := a0) rfl rfl (dl_at t_X14_rowLine 47 rfl) ?_
    refine r_getr (pc := 85) X fX14_10 hk q1256 (dl_at t_X14_rowLine 48 rfl) ?_
    refine g_iload (pc := 88) X (i := 6) (q := 0) (x := x6_41) rfl (dl_at t_X14_rowLine 49 rfl) ?_
    refine g_aald (pc := 90) X 9 (Nat.le_of_ble_eq_true rfl) (Nat.le_of_ble_eq_true rfl) r6_41 rfl k54 (dl_at t_X14_rowLine 50 rfl) ?_
    refine r_getiN (pc := 91) X fX28_7 k55 (nw_in q2546 rfl) (dl_at t_X14_rowLine 51 rfl) fun g91 => ?_
    refine g_imul (pc := 94) X g81 g91 (dl_at t_X14_rowLine 52 rfl) ?_
    refine g_lti (r32_w _) fun x4_95 r4_95 => ?_
    refine g_istoreN (pc := 95) X (i := 4) (x := x4_95) (b := 3) (w := iv x3_6) (rest := [(5, iv x5_18), (0, rv D a0), (1, iv a1), (2, iv a2)]) (Nat.le_of_ble_eq_true rfl) [5, 1, 2, 3, 4] rfl (by decide) rfl rfl (dl_at t_X14_rowLine 53 rfl) ?_
    refine g_ls (ls2 := [(0, rv D a0), (1, iv a1), (2, iv a2), (3, iv x3_6), (4, iv x4_95), (5, iv x5_18)]) [3, 4, 5, 1, 0, 2] rfl ?_
    exact J97 x4_95 r4_95
  · rintro x4_103 r4_103
    try dsimp only [sE]
    refine g_aload_n (pc := 103) X (j := 0) (i := 0) (q := 0) (x := a0) rfl rfl (dl_at t_X14_rowLine 56 rfl) ?_
    refine g_iconst (pc := 104) X (n := (-1)) (dl_at t_X14_rowLine 57 rfl) ?_
    refine g_iload_n (pc := 105) X (j := 1) (i := 1) (q := 1) (x := a1) rfl rfl (dl_at t_X14_rowLine 58 rfl) ?_
    refine g_isub (pc := 106) X (r32_c rfl) r1 (dl_at t_X14_rowLine 59 rfl) ?_
    refine g_iconst (pc := 107) X (n := 0) (dl_at t_X14_rowLine 60 rfl) ?_
    refine g_iload (pc := 108) X (i := 4) (q := 4) (x := x4_103) rfl (dl_at t_X14_rowLine 61 rfl) ?_
    refine g_iload_n (pc := 110) X (j := 2) (i := 2) (q := 2) (x := a2) rfl rfl (dl_at t_X14_rowLine 62 rfl) ?_
    refine r_callTv (pc := 111) X (fun _ hv => s_X14_line hk (r32_w _) (r32_c rfl) r4_103 r2 hv) cw_code q2951 q368 (in_Vk X (As := [iv (w32 ((-1) - a1)), iv 0, iv x4_103, iv a2]) kX14 hk (Or.inl q2948) q2950 qs192 cw_code q2951 ⟨by decide, by decide⟩ rfl (dl_at t_X14_rowLine 63 rfl)) (dl_at t_X14_rowLine 63 rfl) (cat24 (st := []) (Nat.le_of_ble_eq_true rfl)) (Nat.le_of_ble_eq_true rfl) (Nat.le_of_ble_eq_true rfl) (fun v111 h111 E111 => ?_) (fun _ _ ha _ => gt_at fun Q hQ => gt_out (Q := Q) X rfl ha (hno _) _ Q rfl hQ)
    refine g_aload_n (pc := 114) X (j := 0) (i := 0) (q := 0) (x := a0) rfl rfl (dl_at t_X14_rowLine 64 rfl) ?_
    have k115 := kx E111 (by decide) hk
    refine r_getr (pc := 115) X fX14_16 k115 q1266 (dl_at t_X14_rowLine 65 rfl) ?_
    refine g_aload_n (pc := 118) X (j := 0) (i := 0) (q := 0) (x := a0) rfl rfl (dl_at t_X14_rowLine 66 rfl) ?_
    refine r_geti (pc := 119) X fX14_18 k115 q1269 (dl_at t_X14_rowLine 67 rfl) fun g119 => ?_
    refine g_iconst (pc := 122) X (n := 1) (dl_at t_X14_rowLine 68 rfl) ?_
    refine g_isub (pc := 123) X g119 (r32_c rfl) (dl_at t_X14_rowLine 69 rfl) ?_
    refine g_aload_n (pc := 124) X (j := 0) (i := 0) (q := 0) (x := a0) rfl rfl (dl_at t_X14_rowLine 70 rfl) ?_
    refine g_aload_n (pc := 125) X (j := 0) (i := 0) (q := 0) (x := a0) rfl rfl (dl_at t_X14_rowLine 71 rfl) ?_
    refine r_getr (pc := 126) X fX14_6 k115 q1249 (dl_at t_X14_rowLine 72 rfl) ?_
    refine g_gd fun k129 => ?_
    refine r_getrN (pc := 129) X fX6_6 k129 (nw_in q661 rfl) (dl_at t_X14_rowLine 73 rfl) ?_
    refine g_iload_n (pc := 132) X (j := 3) (i := 3) (q := 3) (x := x3_6) rfl rfl (dl_at t_X14_rowLine 74 rfl) ?_
    refine g_gd fun k133 => ?_
    refine g_iald (pc := 133) X r3_6 k133 (dl_at t_X14_rowLine 75 rfl) fun g133 => ?_
    refine g_bipush (pc := 134) X (n := 13) rfl (dl_at t_X14_rowLine 76 rfl) ?_
    refine r_callRi (pc := 136) X (fun _ hv => s_X14_property k115 g133 (r32_c rfl) hv) cw_code q2504 q368 (in_Vk X (As := [iv (h111 (h111 (h111 a0 6) 6) x3_6), iv 13]) kX14 k115 (Or.inl q2501) q2503 qs119 cw_code q2504 ⟨by decide, by decide⟩ rfl (dl_at t_X14_rowLine 77 rfl)) (dl_at t_X14_rowLine 77 rfl) (cat24 (st := [iv (w32 ((h111 a0 18) - 1)), rv D (h111 a0 16)]) (Nat.le_of_ble_eq_true rfl)) (Nat.le_of_ble_eq_true rfl) (Nat.le_of_ble_eq_true rfl) fun v136 g136 => ?_
    refine g_join (γ := Int × Int × Int) (fun q => r32 q.2.1 ∧ (q.2.2 = 0 ∨ q.2.2 = 1)) 147 (fun q => [(0, rv D a0), (1, iv a1)]) (fun q => [iv q.2.2, iv q.2.1, rv D q.1]) (fun q => h111) (fun q => m_X14_rowLine_j147 a0 a1 q.1 q.2.1 q.2.2 h111) ?_ ?_
    · rintro ⟨s0_147, s1_147, s2_147⟩ ⟨rs1_147, rs2_147⟩
      try dsimp only
      unfold m_X14_rowLine_j147
      refine g_gd fun k147 => ?_
      refine r_zast (pc := 147) X rs1_147 rs2_147 k147 (dl_at t_X14_rowLine 82 rfl) (fun h147 E147 => ?_)
      refine g_iconst (pc := 148) X (n := 0) (dl_at t_X14_rowLine 83 rfl) ?_
      refine g_ltz (Or.inl rfl) fun x5_149 r5_149 => ?_
      refine g_istore (pc := 149) X (i := 5) (x := x5_149) (rest := [(0, rv D a0), (1, iv a1)]) (Nat.le_of_ble_eq_true rfl) [0, 1] rfl rfl (dl_at t_X14_rowLine 84 rfl) ?_
      refine g_ls (ls2 := [(0, rv D a0), (1, iv a1), (5, iv x5_149)]) [1, 2, 0] rfl ?_
      refine g_loop0F (fun (q : Int × Hp) => [(0, rv D a0), (1, iv a1), (5, iv q.1)]) (fun (q : Int × Hp) => q.2) (fun (q : Int × Hp) => r32 q.1 ∧ Ext h147 q.2) (x5_149, h147) ⟨(r32_z r5_149), (Ext.refl _)⟩ ?_ (fun _ => rfl)
      · rintro ⟨x5_151, h_151⟩ ⟨r5_151, E_151⟩
        try dsimp only
        unfold m_X14_rowLine_l151
        refine g_iload (pc := 151) X (i := 5) (q := 2) (x := x5_151) rfl (dl_at t_X14_rowLine 85 rfl) ?_
        refine g_aload_n (pc := 153) X (j := 0) (i := 0) (q := 0) (x := a0) rfl rfl (dl_at t_X14_rowLine 86 rfl) ?_
        have k154 := kx (E147.trans E_151) (by decide) k115
        refine r_getr (pc := 154) X fX14_19 k154 q1271 (dl_at t_X14_rowLine 87 rfl) ?_
        refine g_iload_n (pc := 157) X (j := 1) (i := 1) (q := 1) (x := a1) rfl rfl (dl_at t_X14_rowLine 88 rfl) ?_
        refine g_gd fun k158 => ?_
        refine g_iald (pc := 158) X r1 k158 (dl_at t_X14_rowLine 89 rfl) fun g158 => ?_
        refine g_icmpge (pc := 159) X r5_151 g158 (off := 46) (tgt := 205) rfl (dl_at t_X14_rowLine 90 rfl) (fun _ => ?_) (fun _ => ?_)
        · exact g_at fun Q hQ => (g_vret (pc := 205) X (v := 0) rfl rfl (dl_at t_X14_rowLine 115 rfl)) _ Q rfl hQ
        refine g_aload_n (pc := 162) X (j := 0) (i := 0) (q := 0) (x := a0) rfl rfl (dl_at t_X14_rowLine 91 rfl) ?_
        refine r_getr (pc := 163) X fX14_20 k154 q1272 (dl_at t_X14_rowLine 92 rfl) ?_
        refine g_bipush (pc := 166) X (n := 8) rfl (dl_at t_X14_rowLine 93 rfl) ?_
        refine g_iload_n (pc := 168) X (j := 1) (i := 1) (q := 1) (x := a1) rfl rfl (dl_at t_X14_rowLine 94 rfl) ?_
        refine g_imul (pc := 169) X (r32_c rfl) r1 (dl_at t_X14_rowLine 95 rfl) ?_
        refine g_iload (pc := 170) X (i := 5) (q := 2) (x := x5_151) rfl (dl_at t_X14_rowLine 96 rfl) ?_
        refine g_iadd (pc := 172) X (r32_w _) r5_151 (dl_at t_X14_rowLine 97 rfl) ?_
        refine g_gd fun k173 => ?_
        refine g_iald (pc := 173) X (r32_w _) k173 (dl_at t_X14_rowLine 98 rfl) fun g173 => ?_
        refine g_lti g173 fun x6_174 r6_174 => ?_
        refine g_istoreN (pc := 174) X (i := 6) (x := x6_174) (b := 5) (w := iv x5_151) (rest := [(0, rv D a0), (1, iv a1)]) (Nat.le_of_ble_eq_true rfl) [2, 0, 1] rfl (by decide) rfl rfl (dl_at t_X14_rowLine 99 rfl) ?_
        refine g_iload (pc := 176) X (i := 6) (q := 0) (x := x6_174) rfl (dl_at t_X14_rowLine 100 rfl) ?_
        refine g_join (γ := Hp) (fun q => Ext h_151 q) 199 (fun q => [(0, rv D a0), (1, iv a1), (5, iv x5_151)]) (fun q => []) (fun q => q) (fun q => m_X14_rowLine_j199 x5_151 q) ?_ ?_
        · rintro h_199 E_199
          try dsimp only
          unfold m_X14_rowLine_j199
          refine r_iinc (pc := 199) X (i := 5) (q := 2) (n := 1) (x := x5_151) (rest := [(0, rv D a0), (1, iv a1)]) rfl r5_151 (r32_c rfl) (Nat.le_of_ble_eq_true rfl) [0, 1] rfl rfl (dl_at t_X14_rowLine 113 rfl) fun x5_199 r5_199 => ?_
          refine g_goto (pc := 202) X (off := (-51)) (tgt := 151) rfl (dl_at t_X14_rowLine 114 rfl) ?_
          refine g_ls (ls2 := [(0, rv D a0), (1, iv a1), (5, iv x5_199)]) [1, 2, 0] rfl ?_
          exact g_at fun Q hQ => hQ ⟨r5_199, (E_151.trans E_199)⟩
        intro J199
        refine g_iflt (pc := 178) X r6_174 (off := 21) (tgt := 199) rfl (dl_at t_X14_rowLine 101 rfl) (fun _ => ?_) (fun _ => ?_)
        · refine g_ls (ls2 := [(0, rv D a0), (1, iv a1), (5, iv x5_151)]) [2, 3, 1] rfl ?_
          exact J199 h_151 (Ext.refl _)
        refine g_aload_n (pc := 181) X (j := 0) (i := 0) (q := 2) (x := a0) rfl rfl (dl_at t_X14_rowLine 102 rfl) ?_
        refine g_aload_n (pc := 182) X (j := 0) (i := 0) (q := 2) (x := a0) rfl rfl (dl_at t_X14_rowLine 103 rfl) ?_
        refine r_getr (pc := 183) X fX14_10 k154 q1256 (dl_at t_X14_rowLine 104 rfl) ?_
        refine g_iload (pc := 186) X (i := 6) (q := 0) (x := x6_174) rfl (dl_at t_X14_rowLine 105 rfl) ?_
        refine g_gd fun k188 => ?_
        refine g_aald (pc := 188) X 9 (Nat.le_of_ble_eq_true rfl) (Nat.le_of_ble_eq_true rfl) r6_174 rfl k188 (dl_at t_X14_rowLine 106 rfl) ?_
        refine g_aload_n (pc := 189) X (j := 0) (i := 0) (q := 2) (x := a0) rfl rfl (dl_at t_X14_rowLine 107 rfl) ?_
        refine r_geti (pc := 190) X fX14_18 k154 q1269 (dl_at t_X14_rowLine 108 rfl) fun g190 => ?_
        refine g_iconst (pc := 193) X (n := 1) (dl_at t_X14_rowLine 109 rfl) ?_
        refine g_isub (pc := 194) X g190 (r32_c rfl) (dl_at t_X14_rowLine 110 rfl) ?_
        refine g_iconst (pc := 195) X (n := 0) (dl_at t_X14_rowLine 111 rfl) ?_
        refine r_callV (pc := 196) X (fun _ hv => s_X14_place k154 (r32_w _) (Or.inl rfl) hv) cw_code q2955 q368 (in_Vk X (As := [rv D (h_151 (h_151 a0 10) x6_174), iv (w32 ((h_151 a0 18) - 1)), iv 0]) kX14 k154 (Or.inl q2952) q2954 qs193 cw_code q2955 ⟨by decide, by decide⟩ rfl (dl_at t_X14_rowLine 112 rfl)) (dl_at t_X14_rowLine 112 rfl) (cat24 (st := []) (Nat.le_of_ble_eq_true rfl)) (Nat.le_of_ble_eq_true rfl) (Nat.le_of_ble_eq_true rfl) fun h196 E196 => ?_
        refine g_ls (ls2 := [(0, rv D a0), (1, iv a1), (5, iv x5_151)]) [2, 3, 1] rfl ?_
        exact J199 h196 E196
    intro J147
    refine g_ifne (pc := 139) X g136 (off := 7) (tgt := 146) rfl (dl_at t_X14_rowLine 78 rfl) (fun _ => ?_) (fun _ => ?_)
    · refine g_iconst (pc := 146) X (n := 0) (dl_at t_X14_rowLine 81 rfl) ?_
      refine g_ls (ls2 := [(0, rv D a0), (1, iv a1)]) [0, 1] rfl ?_
      exact J147 ((h111 a0 16), (w32 ((h111 a0 18) - 1)), 0) ⟨(r32_w _), (Or.inl rfl)⟩
    refine g_iconst (pc := 142) X (n := 1) (dl_at t_X14_rowLine 79 rfl) ?_
    refine g_goto (pc := 143) X (off := 4) (tgt := 147) rfl (dl_at t_X14_rowLine 80 rfl) ?_
    refine g_ls (ls2 := [(0, rv D a0), (1, iv a1)]) [0, 1] rfl ?_
    exact J147 ((h111 a0 16), (w32 ((h111 a0 18) - 1)), 1) ⟨(r32_w _), (Or.inr rfl)⟩
def k_X14_paragraphLines : List (Nat × Instr × Nat) := [(0, .aload_n 0, 1), (1, .getfield 24, 3), (4, .iload_n 1, 1), (5, .aaload, 1), (6, .astore_n 3, 1), (7, .aload_n 0, 1), (8, .getfield 196, 3), (11, .istore 4, 2), (13, .iconst 0, 1), (14, .istore 5, 2), (16, .iload 5, 2), (18, .aload_n 3, 1), (19, .getfield 645, 3), (22, .if_icmp .ge 111, 3), (25, .aload_n 0, 1), (26, .iload_n 1, 1), (27, .iload 5, 2), (29, .aload_n 3, 1), (30, .getfield 336, 3), (33, .iload 5, 2), (35, .ifCond .ne 7, 3), (38, .iload_n 2, 1), (39, .goto 4, 3), (42, .iconst 0, 1), (43, .invokevirtual 646, 3), (46, .iload 5, 2), (48, .iconst 1, 1), (49, .iadd, 1), (50, .aload_n 3, 1), (51, .getfield 645, 3), (54, .if_icmp .ge 7, 3), (57, .iconst 1, 1), (58, .goto 4, 3), (61, .iconst 0, 1), (62, .istore 6, 2), (64, .aload_n 0, 1), (65, .getfield 40, 3), (68, .aload_n 0, 1), (69, .getfield 196, 3), (72, .iconst 1, 1), (73, .isub, 1), (74, .iload 6, 2), (76, .ifCond .eq 38, 3), (79, .iload 5, 2), (81, .iconst 1, 1), (82, .iadd, 1), (83, .aload_n 3, 1), (84, .getfield 345, 3), (87, .if_icmp .lt 23, 3), (90, .aload_n 3, 1), (91, .getfield 645, 3), (94, .iload 5, 2), (96, .isub, 1), (97, .iconst 1, 1), (98, .isub, 1), (99, .aload_n 3, 1), (100, .getfield 348, 3), (103, .if_icmp .lt 7, 3), (106, .iconst 1, 1), (107, .goto 19, 3), (110, .iconst 0, 1), (111, .goto 15, 3), (114, .aload_n 3, 1), (115, .getfield 351, 3), (118, .ifCond .ne 7, 3), (121, .iconst 1, 1), (122, .goto 4, 3), (125, .iconst 0, 1), (126, .bastore, 1), (127, .iinc 5 1, 3), (130, .goto (-114), 3), (133, .aload_n 0, 1), (134, .aload_n 3, 1), (135, .iload 4, 2), (137, .iconst 1, 1), (138, .invokevirtual 649, 3), (141, .return_, 1)]
theorem t_X14_paragraphLines : ∀ q ∈ k_X14_paragraphLines, decode cX14_paragraphLines q.1 = .ok q.2 := dl_all (by decide +kernel)
noncomputable def m_X14_paragraphLines_j126 (x5_16 s0_126 s1_126 s2_126 : Int) (h43 : Hp) : Option ((Int × Hp) ⊕ (((Int × Int) × Hp))) :=
  gd (h43 s0_126 (-2) % 16 = 3 ∧ (0 : Int) ≤ s1_126 ∧ s1_126 < h43 s0_126 (-1)) (pt h43 s0_126 s1_126 s2_126 fun h126 =>
  lt_ (w32 (x5_16 + 1)) fun x5_127 =>
  some (.inl (x5_127, h126)))
noncomputable def m_X14_paragraphLines_j110 (x5_16 s0_110 s1_110 : Int) (h43 : Hp) : Option ((Int × Hp) ⊕ (((Int × Int) × Hp))) :=
  m_X14_paragraphLines_j126 x5_16 s0_110 s1_110 0 h43
noncomputable def m_X14_paragraphLines_j62 (a0 x3_6 x5_16 s0_62 : Int) (h43 : Hp) : Option ((Int × Hp) ⊕ (((Int × Int) × Hp))) :=
  if s0_62 = 0 then (if (h43 x3_6 12) ≠ 0 then (m_X14_paragraphLines_j126 x5_16 (h43 a0 16) (w32 ((h43 a0 18) - 1)) 0 h43)
  else (m_X14_paragraphLines_j126 x5_16 (h43 a0 16) (w32 ((h43 a0 18) - 1)) 1 h43))
  else (if (w32 (x5_16 + 1)) < (h43 x3_6 10) then (m_X14_paragraphLines_j110 x5_16 (h43 a0 16) (w32 ((h43 a0 18) - 1)) h43)
  else (if (w32 ((w32 ((h43 x3_6 18) - x5_16)) - 1)) < (h43 x3_6 11) then (m_X14_paragraphLines_j110 x5_16 (h43 a0 16) (w32 ((h43 a0 18) - 1)) h43)
  else (m_X14_paragraphLines_j126 x5_16 (h43 a0 16) (w32 ((h43 a0 18) - 1)) 1 h43)))
noncomputable def m_X14_paragraphLines_j43 (a0 a1 x3_6 x5_16 s3_43 s4_43 : Int) (h_16 : Hp) : Option ((Int × Hp) ⊕ (((Int × Int) × Hp))) :=
  bT (m_X14_line a0 a1 x5_16 s3_43 s4_43 h_16) (fun _ h43 =>
  if (h43 x3_6 18) ≤ (w32 (x5_16 + 1)) then (m_X14_paragraphLines_j62 a0 x3_6 x5_16 0 h43)
  else (m_X14_paragraphLines_j62 a0 x3_6 x5_16 1 h43)) (fun a_ h_ => some (.inr ((1, a_), h_)))
noncomputable def m_X14_paragraphLines_l16 (a0 a1 a2 x3_6 x4_11 x5_16 : Int) (h_16 : Hp) : Option ((Int × Hp) ⊕ (((Int × Int) × Hp))) :=
  gd (h_16 x3_6 (-2) = 288) (if (h_16 x3_6 18) ≤ x5_16 then ((m_X14_place a0 x3_6 x4_11 1 h_16).bind fun h138 =>
  some (.inr ((0, 0), h138)))
  else (if x5_16 ≠ 0 then (m_X14_paragraphLines_j43 a0 a1 x3_6 x5_16 (h_16 x3_6 7) 0 h_16)
  else (m_X14_paragraphLines_j43 a0 a1 x3_6 x5_16 (h_16 x3_6 7) a2 h_16)))
noncomputable def m_X14_paragraphLines (a0 a1 a2 : Int) (h : Hp) : Option ((Int × Int) × Hp) :=
  gd (h (h a0 10) (-2) % 16 = 9 ∧ (0 : Int) ≤ a1 ∧ a1 < h (h a0 10) (-1)) (lt_ (h (h a0 10) a1) fun x3_6 =>
  lt_ (h a0 18) fun x4_11 =>
  lt_ 0 fun x5_14 =>
  (lp (fun (q : Int × Hp) => m_X14_paragraphLines_l16 a0 a1 a2 x3_6 x4_11 q.1 q.2) (x5_14, h)).bind (fun (x : (Int × Int) × Hp) => some x))
theorem s_X14_paragraphLines {l : Launch} [NoTr l] {D : SD} {a0 a1 a2 : Int} {h : Hp} (hk : h a0 (-2) = 224) (r1 : r32 a1) (r2 : r32 a2) {r : (Int × Int) × Hp} (hm : m_X14_paragraphLines a0 a1 a2 h = some r) : Sim l D yX14_paragraphLines (Cond.code yX14_paragraphLines cX14_paragraphLines 7 (Option.none : Option Jvm.ClassFile.FieldType)) 11 412 [rv D a0, iv a1, iv a2] h 0 r := by
  refine Sim.of (fin := fun (v : (Int × Int) × Hp) => v) (lsE := [(0, rv D a0), (1, iv a1), (2, iv a2)]) hm rfl cwS_code (la_r (la_i (la_i la_n))) (ll_r (ll_i (ll_i ll_n))) ?_
  intro p e s m below meth c X hcw hmm hcc hnm hname
  have hno := noh hcw hnm hmm hcc
  unfold m_X14_paragraphLines
  refine g_aload_n (pc := 0) X (j := 0) (i := 0) (q := 0) (x := a0) rfl rfl (dl_at t_X14_paragraphLines 0 rfl) ?_
  refine r_getr (pc := 1) X fX14_10 hk q1256 (dl_at t_X14_paragraphLines 1 rfl) ?_
  refine g_iload_n (pc := 4) X (j := 1) (i := 1) (q := 1) (x := a1) rfl rfl (dl_at t_X14_paragraphLines 2 rfl) ?_
  refine g_gd fun k5 => ?_
  refine g_aald (pc := 5) X 9 (Nat.le_of_ble_eq_true rfl) (Nat.le_of_ble_eq_true rfl) r1 rfl k5 (dl_at t_X14_paragraphLines 3 rfl) ?_
  refine g_ltr fun x3_6 => ?_
  refine g_astore_nN (pc := 6) X (j := 3) (i := 3) (x := x3_6) (b := 2) (w := iv a2) (rest := [(0, rv D a0), (1, iv a1)]) rfl (Nat.le_of_ble_eq_true rfl) [2, 0, 1] rfl (by decide) rfl rfl (dl_at t_X14_paragraphLines 4 rfl) ?_
  refine g_aload_n (pc := 7) X (j := 0) (i := 0) (q := 2) (x := a0) rfl rfl (dl_at t_X14_paragraphLines 5 rfl) ?_
  refine r_geti (pc := 8) X fX14_18 hk q1269 (dl_at t_X14_paragraphLines 6 rfl) fun g8 => ?_
  refine g_lti g8 fun x4_11 r4_11 => ?_
  refine g_istoreN (pc := 11) X (i := 4) (x := x4_11) (b := 3) (w := rv D x3_6) (rest := [(2, iv a2), (0, rv D a0), (1, iv a1)]) (Nat.le_of_ble_eq_true rfl) [0, 1, 2, 3] rfl (by decide) rv_cat rfl (dl_at t_X14_paragraphLines 7 rfl) ?_
  refine g_iconst (pc := 13) X (n := 0) (dl_at t_X14_paragraphLines 8 rfl) ?_
  refine g_ltz (Or.inl rfl) fun x5_14 r5_14 => ?_
  refine g_istoreN (pc := 14) X (i := 5) (x := x5_14) (b := 4) (w := iv x4_11) (rest := [(3, rv D x3_6), (2, iv a2), (0, rv D a0), (1, iv a1)]) (Nat.le_of_ble_eq_true rfl) [0, 1, 2, 3, 4] rfl (by decide) rfl rfl (dl_at t_X14_paragraphLines 9 rfl) ?_
  refine g_ls (ls2 := [(0, rv D a0), (1, iv a1), (2, iv a2), (3, rv D x3_6), (4, iv x4_11), (5, iv x5_14)]) [4, 5, 3, 2, 1, 0] rfl ?_
  refine g_loop0F (fun (q : Int × Hp) => [(0, rv D a0), (1, iv a1), (2, iv a2), (3, rv D x3_6), (4, iv x4_11), (5, iv q.1)]) (fun (q : Int × Hp) => q.2) (fun (q : Int × Hp) => r32 q.1 ∧ Ext h q.2) (x5_14, h) ⟨(r32_z r5_14), (Ext.refl _)⟩ ?_ (fun _ => rfl)
  · rintro ⟨x5_16, h_16⟩ ⟨r5_16, E_16⟩
    try dsimp only
    unfold m_X14_paragraphLines_l16
    refine g_iload (pc := 16) X (i := 5) (q := 5) (x := x5_16) rfl (dl_at t_X14_paragraphLines 10 rfl) ?_
    refine g_aload_n (pc := 18) X (j := 3) (i := 3) (q := 3) (x := x3_6) rfl rfl (dl_at t_X14_paragraphLines 11 rfl) ?_
    refine g_gd fun k19 => ?_
    refine r_getiN (pc := 19) X fX28_18 k19 (nw_in q2563 rfl) (dl_at t_X14_paragraphLines 12 rfl) fun g19 => ?_
    refine g_icmpge (pc := 22) X r5_16 g19 (off := 111) (tgt := 133) rfl (dl_at t_X14_paragraphLines 13 rfl) (fun _ => ?_) (fun _ => ?_)
    · refine g_aload_n (pc := 133) X (j := 0) (i := 0) (q := 0) (x := a0) rfl rfl (dl_at t_X14_paragraphLines 71 rfl) ?_
      refine g_aload_n (pc := 134) X (j := 3) (i := 3) (q := 3) (x := x3_6) rfl rfl (dl_at t_X14_paragraphLines 72 rfl) ?_
      refine g_iload (pc := 135) X (i := 4) (q := 4) (x := x4_11) rfl (dl_at t_X14_paragraphLines 73 rfl) ?_
      refine g_iconst (pc := 137) X (n := 1) (dl_at t_X14_paragraphLines 74 rfl) ?_
      have k138 := kx E_16 (by decide) hk
      refine r_callV (pc := 138) X (fun _ hv => s_X14_place k138 r4_11 (Or.inr rfl) hv) cw_code q2955 q368 (in_Vk X (As := [rv D x3_6, iv x4_11, iv 1]) kX14 k138 (Or.inl q2952) q2954 qs193 cw_code q2955 ⟨by decide, by decide⟩ rfl (dl_at t_X14_paragraphLines 75 rfl)) (dl_at t_X14_paragraphLines 75 rfl) (cat24 (st := []) (Nat.le_of_ble_eq_true rfl)) (Nat.le_of_ble_eq_true rfl) (Nat.le_of_ble_eq_true rfl) fun h138 E138 => ?_
      exact g_at fun Q hQ => (g_vret (pc := 141) X (v := 0) rfl rfl (dl_at t_X14_paragraphLines 76 rfl)) _ Q rfl hQ
    refine g_aload_n (pc := 25) X (j := 0) (i := 0) (q := 0) (x := a0) rfl rfl (dl_at t_X14_paragraphLines 14 rfl) ?_
    refine g_iload_n (pc := 26) X (j := 1) (i := 1) (q := 1) (x := a1) rfl rfl (dl_at t_X14_paragraphLines 15 rfl) ?_
    refine g_iload (pc := 27) X (i := 5) (q := 5) (x := x5_16) rfl (dl_at t_X14_paragraphLines 16 rfl) ?_
    refine g_aload_n (pc := 29) X (j := 3) (i := 3) (q := 3) (x := x3_6) rfl rfl (dl_at t_X14_paragraphLines 17 rfl) ?_
    refine r_getiN (pc := 30) X fX28_7 k19 (nw_in q2546 rfl) (dl_at t_X14_paragraphLines 18 rfl) fun g30 => ?_
    refine g_iload (pc := 33) X (i := 5) (q := 5) (x := x5_16) rfl (dl_at t_X14_paragraphLines 19 rfl) ?_
    refine g_join (γ := Int × Int) (fun q => r32 q.1 ∧ r32 q.2) 43 (fun q => [(0, rv D a0), (1, iv a1), (2, iv a2), (3, rv D x3_6), (4, iv x4_11), (5, iv x5_16)]) (fun q => [iv q.2, iv q.1, iv x5_16, iv a1, rv D a0]) (fun q => h_16) (fun q => m_X14_paragraphLines_j43 a0 a1 x3_6 x5_16 q.1 q.2 h_16) ?_ ?_
    · rintro ⟨s3_43, s4_43⟩ ⟨rs3_43, rs4_43⟩
      try dsimp only
      unfold m_X14_paragraphLines_j43
      have k43 := kx E_16 (by decide) hk
      refine r_callTv (pc := 43) X (fun _ hv => s_X14_line k43 r1 r5_16 rs3_43 rs4_43 hv) cw_code q2951 q368 (in_Vk X (As := [iv a1, iv x5_16, iv s3_43, iv s4_43]) kX14 k43 (Or.inl q2948) q2950 qs192 cw_code q2951 ⟨by decide, by decide⟩ rfl (dl_at t_X14_paragraphLines 24 rfl)) (dl_at t_X14_paragraphLines 24 rfl) (cat24 (st := []) (Nat.le_of_ble_eq_true rfl)) (Nat.le_of_ble_eq_true rfl) (Nat.le_of_ble_eq_true rfl) (fun v43 h43 E43 => ?_) (fun _ _ ha _ => gt_at fun Q hQ => gt_out (Q := Q) X rfl ha (hno _) _ Q rfl hQ)
      refine g_iload (pc := 46) X (i := 5) (q := 5) (x := x5_16) rfl (dl_at t_X14_paragraphLines 25 rfl) ?_
      refine g_iconst (pc := 48) X (n := 1) (dl_at t_X14_paragraphLines 26 rfl) ?_
      refine g_iadd (pc := 49) X r5_16 (r32_c rfl) (dl_at t_X14_paragraphLines 27 rfl) ?_
      refine g_aload_n (pc := 50) X (j := 3) (i := 3) (q := 3) (x := x3_6) rfl rfl (dl_at t_X14_paragraphLines 28 rfl) ?_
      have k51 := kx E43 (by decide) k19
      refine r_getiN (pc := 51) X fX28_18 k51 (nw_in q2563 rfl) (dl_at t_X14_paragraphLines 29 rfl) fun g51 => ?_
      refine g_join (γ := Int) (fun q => (q = 0 ∨ q = 1)) 62 (fun q => [(0, rv D a0), (1, iv a1), (2, iv a2), (3, rv D x3_6), (4, iv x4_11), (5, iv x5_16)]) (fun q => [iv q]) (fun q => h43) (fun q => m_X14_paragraphLines_j62 a0 x3_6 x5_16 q h43) ?_ ?_
      · rintro s0_62 rs0_62
        try dsimp only
        unfold m_X14_paragraphLines_j62
        refine g_istoreN (pc := 62) X (i := 6) (x := s0_62) (b := 5) (w := iv x5_16) (rest := [(0, rv D a0), (1, iv a1), (2, iv a2), (3, rv D x3_6), (4, iv x4_11)]) (Nat.le_of_ble_eq_true rfl) [5, 0, 1, 2, 3, 4] rfl (by decide) rfl rfl (dl_at t_X14_paragraphLines 34 rfl) ?_
        refine g_aload_n (pc := 64) X (j := 0) (i := 0) (q := 2) (x := a0) rfl rfl (dl_at t_X14_paragraphLines 35 rfl) ?_
        have k65 := kx E43 (by decide) k43
        refine r_getr (pc := 65) X fX14_16 k65 q1266 (dl_at t_X14_paragraphLines 36 rfl) ?_
        refine g_aload_n (pc := 68) X (j := 0) (i := 0) (q := 2) (x := a0) rfl rfl (dl_at t_X14_paragraphLines 37 rfl) ?_
        refine r_geti (pc := 69) X fX14_18 k65 q1269 (dl_at t_X14_paragraphLines 38 rfl) fun g69 => ?_
        refine g_iconst (pc := 72) X (n := 1) (dl_at t_X14_paragraphLines 39 rfl) ?_
        refine g_isub (pc := 73) X g69 (r32_c rfl) (dl_at t_X14_paragraphLines 40 rfl) ?_
        refine g_iload (pc := 74) X (i := 6) (q := 0) (x := s0_62) rfl (dl_at t_X14_paragraphLines 41 rfl) ?_
        refine g_join (γ := Int × Int × Int) (fun q => r32 q.2.1 ∧ (q.2.2 = 0 ∨ q.2.2 = 1)) 126 (fun q => [(0, rv D a0), (1, iv a1), (2, iv a2), (3, rv D x3_6), (4, iv x4_11), (5, iv x5_16)]) (fun q => [iv q.2.2, iv q.2.1, rv D q.1]) (fun q => h43) (fun q => m_X14_paragraphLines_j126 x5_16 q.1 q.2.1 q.2.2 h43) ?_ ?_
        · rintro ⟨s0_126, s1_126, s2_126⟩ ⟨rs1_126, rs2_126⟩
          try dsimp only
          unfold m_X14_paragraphLines_j126
          refine g_gd fun k126 => ?_
          refine r_zast (pc := 126) X rs1_126 rs2_126 k126 (dl_at t_X14_paragraphLines 68 rfl) (fun h126 E126 => ?_)
          refine r_iincN (pc := 127) X (i := 5) (q := 5) (n := 1) (x := x5_16) (b := 4) (w := iv x4_11) (rest := [(0, rv D a0), (1, iv a1), (2, iv a2), (3, rv D x3_6)]) rfl r5_16 (r32_c rfl) (Nat.le_of_ble_eq_true rfl) [4, 0, 1, 2, 3] rfl (by decide) rfl rfl (dl_at t_X14_paragraphLines 69 rfl) fun x5_127 r5_127 => ?_
          refine g_goto (pc := 130) X (off := (-114)) (tgt := 16) rfl (dl_at t_X14_paragraphLines 70 rfl) ?_
          refine g_ls (ls2 := [(0, rv D a0), (1, iv a1), (2, iv a2), (3, rv D x3_6), (4, iv x4_11), (5, iv x5_127)]) [2, 3, 4, 5, 1, 0] rfl ?_
          exact g_at fun Q hQ => hQ ⟨r5_127, (E_16.trans (E43.trans E126))⟩
        intro J126
        refine g_ifeq (pc := 76) X (r32_z rs0_62) (off := 38) (tgt := 114) rfl (dl_at t_X14_paragraphLines 42 rfl) (fun _ => ?_) (fun _ => ?_)
        · refine g_aload_n (pc := 114) X (j := 3) (i := 3) (q := 5) (x := x3_6) rfl rfl (dl_at t_X14_paragraphLines 62 rfl) ?_
          refine r_getzN (pc := 115) X fX28_12 k51 (nw_in q2553 rfl) (dl_at t_X14_paragraphLines 63 rfl) fun g115 => ?_
          refine g_ifne (pc := 118) X (r32_z g115) (off := 7) (tgt := 125) rfl (dl_at t_X14_paragraphLines 64 rfl) (fun _ => ?_) (fun _ => ?_)
          · refine g_iconst (pc := 125) X (n := 0) (dl_at t_X14_paragraphLines 67 rfl) ?_
            refine g_ls (ls2 := [(0, rv D a0), (1, iv a1), (2, iv a2), (3, rv D x3_6), (4, iv x4_11), (5, iv x5_16)]) [2, 3, 4, 5, 6, 1] rfl ?_
            exact J126 ((h43 a0 16), (w32 ((h43 a0 18) - 1)), 0) ⟨(r32_w _), (Or.inl rfl)⟩
          refine g_iconst (pc := 121) X (n := 1) (dl_at t_X14_paragraphLines 65 rfl) ?_
          refine g_goto (pc := 122) X (off := 4) (tgt := 126) rfl (dl_at t_X14_paragraphLines 66 rfl) ?_
          refine g_ls (ls2 := [(0, rv D a0), (1, iv a1), (2, iv a2), (3, rv D x3_6), (4, iv x4_11), (5, iv x5_16)]) [2, 3, 4, 5, 6, 1] rfl ?_
          exact J126 ((h43 a0 16), (w32 ((h43 a0 18) - 1)), 1) ⟨(r32_w _), (Or.inr rfl)⟩
        refine g_iload (pc := 79) X (i := 5) (q := 1) (x := x5_16) rfl (dl_at t_X14_paragraphLines 43 rfl) ?_
        refine g_iconst (pc := 81) X (n := 1) (dl_at t_X14_paragraphLines 44 rfl) ?_
        refine g_iadd (pc := 82) X r5_16 (r32_c rfl) (dl_at t_X14_paragraphLines 45 rfl) ?_
        refine g_aload_n (pc := 83) X (j := 3) (i := 3) (q := 5) (x := x3_6) rfl rfl (dl_at t_X14_paragraphLines 46 rfl) ?_
        refine r_getiN (pc := 84) X fX28_10 k51 (nw_in q2551 rfl) (dl_at t_X14_paragraphLines 47 rfl) fun g84 => ?_
        refine g_join (γ := Int × Int) (fun q => r32 q.2) 110 (fun q => [(0, rv D a0), (1, iv a1), (2, iv a2), (3, rv D x3_6), (4, iv x4_11), (5, iv x5_16)]) (fun q => [iv q.2, rv D q.1]) (fun q => h43) (fun q => m_X14_paragraphLines_j110 x5_16 q.1 q.2 h43) ?_ ?_
        · rintro ⟨s0_110, s1_110⟩ rs1_110
          try dsimp only
          unfold m_X14_paragraphLines_j110
          refine g_iconst (pc := 110) X (n := 0) (dl_at t_X14_paragraphLines 60 rfl) ?_
          refine g_goto (pc := 111) X (off := 15) (tgt := 126) rfl (dl_at t_X14_paragraphLines 61 rfl) ?_
          exact J126 (s0_110, s1_110, 0) ⟨rs1_110, (Or.inl rfl)⟩
        intro J110
        refine g_icmplt (pc := 87) X (r32_w _) g84 (off := 23) (tgt := 110) rfl (dl_at t_X14_paragraphLines 48 rfl) (fun _ => ?_) (fun _ => ?_)
        · refine g_ls (ls2 := [(0, rv D a0), (1, iv a1), (2, iv a2), (3, rv D x3_6), (4, iv x4_11), (5, iv x5_16)]) [2, 3, 4, 5, 6, 1] rfl ?_
          exact J110 ((h43 a0 16), (w32 ((h43 a0 18) - 1))) (r32_w _)
        refine g_aload_n (pc := 90) X (j := 3) (i := 3) (q := 5) (x := x3_6) rfl rfl (dl_at t_X14_paragraphLines 49 rfl) ?_
        refine r_getiN (pc := 91) X fX28_18 k51 (nw_in q2563 rfl) (dl_at t_X14_paragraphLines 50 rfl) fun g91 => ?_
        refine g_iload (pc := 94) X (i := 5) (q := 1) (x := x5_16) rfl (dl_at t_X14_paragraphLines 51 rfl) ?_
        refine g_isub (pc := 96) X g91 r5_16 (dl_at t_X14_paragraphLines 52 rfl) ?_
        refine g_iconst (pc := 97) X (n := 1) (dl_at t_X14_paragraphLines 53 rfl) ?_
        refine g_isub (pc := 98) X (r32_w _) (r32_c rfl) (dl_at t_X14_paragraphLines 54 rfl) ?_
        refine g_aload_n (pc := 99) X (j := 3) (i := 3) (q := 5) (x := x3_6) rfl rfl (dl_at t_X14_paragraphLines 55 rfl) ?_
        refine r_getiN (pc := 100) X fX28_11 k51 (nw_in q2552 rfl) (dl_at t_X14_paragraphLines 56 rfl) fun g100 => ?_
        refine g_icmplt (pc := 103) X (r32_w _) g100 (off := 7) (tgt := 110) rfl (dl_at t_X14_paragraphLines 57 rfl) (fun _ => ?_) (fun _ => ?_)
        · refine g_ls (ls2 := [(0, rv D a0), (1, iv a1), (2, iv a2), (3, rv D x3_6), (4, iv x4_11), (5, iv x5_16)]) [2, 3, 4, 5, 6, 1] rfl ?_
          exact J110 ((h43 a0 16), (w32 ((h43 a0 18) - 1))) (r32_w _)
        refine g_iconst (pc := 106) X (n := 1) (dl_at t_X14_paragraphLines 58 rfl) ?_
        refine g_goto (pc := 107) X (off := 19) (tgt := 126) rfl (dl_at t_X14_paragraphLines 59 rfl) ?_
        refine g_ls (ls2 := [(0, rv D a0), (1, iv a1), (2, iv a2), (3, rv D x3_6), (4, iv x4_11), (5, iv x5_16)]) [2, 3, 4, 5, 6, 1] rfl ?_
        exact J126 ((h43 a0 16), (w32 ((h43 a0 18) - 1)), 1) ⟨(r32_w _), (Or.inr rfl)⟩
      intro J62
      refine g_icmpge (pc := 54) X (r32_w _) g51 (off := 7) (tgt := 61) rfl (dl_at t_X14_paragraphLines 30 rfl) (fun _ => ?_) (fun _ => ?_)
      · refine g_iconst (pc := 61) X (n := 0) (dl_at t_X14_paragraphLines 33 rfl) ?_
        exact J62 0 (Or.inl rfl)
      refine g_iconst (pc := 57) X (n := 1) (dl_at t_X14_paragraphLines 31 rfl) ?_
      refine g_goto (pc := 58) X (off := 4) (tgt := 62) rfl (dl_at t_X14_paragraphLines 32 rfl) ?_
      exact J62 1 (Or.inr rfl)
    intro J43
    refine g_ifne (pc := 35) X r5_16 (off := 7) (tgt := 42) rfl (dl_at t_X14_paragraphLines 20 rfl) (fun _ => ?_) (fun _ => ?_)
    · refine g_iconst (pc := 42) X (n := 0) (dl_at t_X14_paragraphLines 23 rfl) ?_
      exact J43 ((h_16 x3_6 7), 0) ⟨g30, (r32_c rfl)⟩
    refine g_iload_n (pc := 38) X (j := 2) (i := 2) (q := 2) (x := a2) rfl rfl (dl_at t_X14_paragraphLines 21 rfl) ?_
    refine g_goto (pc := 39) X (off := 4) (tgt := 43) rfl (dl_at t_X14_paragraphLines 22 rfl) ?_
    exact J43 ((h_16 x3_6 7), a2) ⟨g30, r2⟩
def k_X14_set : List (Nat × Instr × Nat) := [(0, .aload_n 1, 1), (1, .aload_n 0, 1), (2, .getfield 182, 3), (5, .invokevirtual 630, 3), (8, .iconst 0, 1), (9, .istore_n 2, 1), (10, .iload_n 2, 1), (11, .aload_n 0, 1), (12, .getfield 189, 3), (15, .if_icmp .ge 26, 3), (18, .aload_n 1, 1), (19, .aload_n 0, 1), (20, .getfield 20, 3), (23, .iload_n 2, 1), (24, .aaload, 1), (25, .aload_n 0, 1), (26, .getfield 154, 3), (29, .getfield 359, 3), (32, .invokevirtual 635, 3), (35, .iinc 2 1, 3), (38, .goto (-28), 3), (41, .iconst 0, 1), (42, .istore_n 2, 1), (43, .iload_n 2, 1), (44, .aload_n 0, 1), (45, .getfield 202, 3), (48, .if_icmp .ge 55, 3), (51, .aload_n 0, 1), (52, .getfield 59, 3), (55, .iload_n 2, 1), (56, .iaload, 1), (57, .ifCond .ge 24, 3), (60, .aload_n 0, 1), (61, .iconst (-1), 1), (62, .aload_n 0, 1), (63, .getfield 59, 3), (66, .iload_n 2, 1), (67, .iaload, 1), (68, .isub, 1), (69, .aload_n 0, 1), (70, .getfield 62, 3), (73, .iload_n 2, 1), (74, .iaload, 1), (75, .invokevirtual 639, 3), (78, .goto 19, 3), (81, .aload_n 0, 1), (82, .aload_n 0, 1), (83, .getfield 59, 3), (86, .iload_n 2, 1), (87, .iaload, 1), (88, .aload_n 0, 1), (89, .getfield 62, 3), (92, .iload_n 2, 1), (93, .iaload, 1), (94, .invokevirtual 642, 3), (97, .iinc 2 1, 3), (100, .goto (-57), 3), (103, .aload_n 0, 1), (104, .getfield 196, 3), (107, .ifCond .le 15, 3), (110, .aload_n 0, 1), (111, .getfield 40, 3), (114, .aload_n 0, 1), (115, .getfield 196, 3), (118, .iconst 1, 1), (119, .isub, 1), (120, .iconst 1, 1), (121, .bastore, 1), (122, .iconst 0, 1), (123, .istore_n 2, 1), (124, .iload_n 2, 1), (125, .aload_n 0, 1), (126, .getfield 158, 3), (129, .getfield 223, 3), (132, .if_icmp .ge 91, 3), (135, .aload_n 0, 1), (136, .getfield 74, 3), (139, .iload_n 2, 1), (140, .aload_n 0, 1), (141, .getfield 68, 3), (144, .iload_n 2, 1), (145, .iaload, 1), (146, .aload_n 0, 1), (147, .getfield 205, 3), (150, .if_icmp .ge 17, 3), (153, .aload_n 0, 1), (154, .getfield 65, 3), (157, .aload_n 0, 1), (158, .getfield 68, 3), (161, .iload_n 2, 1), (162, .iaload, 1), (163, .iaload, 1), (164, .goto 9, 3), (167, .aload_n 0, 1), (168, .getfield 196, 3), (171, .iconst 1, 1), (172, .isub, 1), (173, .iastore, 1), (174, .aload_n 0, 1), (175, .getfield 77, 3), (178, .iload_n 2, 1), (179, .aload_n 0, 1), (180, .getfield 71, 3), (183, .iload_n 2, 1), (184, .iaload, 1), (185, .aload_n 0, 1), (186, .getfield 68, 3), (189, .iload_n 2, 1), (190, .iaload, 1), (191, .if_icmp .le 19, 3), (194, .aload_n 0, 1), (195, .getfield 65, 3), (198, .aload_n 0, 1), (199, .getfield 71, 3), (202, .iload_n 2, 1), (203, .iaload, 1), (204, .iconst 1, 1), (205, .isub, 1), (206, .iaload, 1), (207, .goto 9, 3), (210, .aload_n 0, 1), (211, .getfield 74, 3), (214, .iload_n 2, 1), (215, .iaload, 1), (216, .iastore, 1), (217, .iinc 2 1, 3), (220, .goto (-96), 3), (223, .iconst 0, 1), (224, .istore_n 2, 1), (225, .iload_n 2, 1), (226, .aload_n 0, 1), (227, .getfield 208, 3), (230, .if_icmp .ge 26, 3), (233, .aload_n 0, 1), (234, .getfield 86, 3), (237, .iload_n 2, 1), (238, .aload_n 0, 1), (239, .getfield 74, 3), (242, .aload_n 0, 1), (243, .getfield 80, 3), (246, .iload_n 2, 1), (247, .iaload, 1), (248, .iaload, 1), (249, .iastore, 1), (250, .iinc 2 1, 3), (253, .goto (-28), 3), (256, .iconst 0, 1), (257, .istore_n 2, 1), (258, .iload_n 2, 1), (259, .aload_n 0, 1), (260, .getfield 211, 3), (263, .if_icmp .ge 26, 3), (266, .aload_n 0, 1), (267, .getfield 92, 3), (270, .iload_n 2, 1), (271, .aload_n 0, 1), (272, .getfield 74, 3), (275, .aload_n 0, 1), (276, .getfield 89, 3), (279, .iload_n 2, 1), (280, .iaload, 1), (281, .iaload, 1), (282, .iastore, 1), (283, .iinc 2 1, 3), (286, .goto (-28), 3), (289, .return_, 1)]
theorem t_X14_set : ∀ q ∈ k_X14_set, decode cX14_set q.1 = .ok q.2 := dl_all (by decide +kernel)
noncomputable def m_X14_set_l10 (a0 a1 x2_10 : Int) (h_10 : Hp) : Option ((Int × Hp) ⊕ ((Hp))) :=
  if (h_10 a0 9) ≤ x2_10 then (some (.inr h_10))
  else (gd (h_10 (h_10 a0 8) (-2) % 16 = 9 ∧ (0 : Int) ≤ x2_10 ∧ x2_10 < h_10 (h_10 a0 8) (-1)) (gd (h_10 (h_10 a0 0) (-2) = 160) ((m_X17_set a1 (h_10 (h_10 a0 8) x2_10) (h_10 (h_10 a0 0) 0) h_10).bind fun h32 =>
  lt_ (w32 (x2_10 + 1)) fun x2_35 =>
  some (.inl (x2_35, h32)))))
noncomputable def m_X14_set_j97 (x2_43 : Int) (h_97 : Hp) : Option ((Int × Hp) ⊕ ((Hp) ⊕ (((Int × Int) × Hp)))) :=
  lt_ (w32 (x2_43 + 1)) fun x2_97 =>
  some (.inl (x2_97, h_97))
noncomputable def m_X14_set_l43 (a0 x2_43 : Int) (h_43 : Hp) : Option ((Int × Hp) ⊕ ((Hp) ⊕ (((Int × Int) × Hp)))) :=
  if (h_43 a0 26) ≤ x2_43 then (some (.inr (.inl h_43)))
  else (gd (h_43 (h_43 a0 24) (-2) % 16 = 1 ∧ (0 : Int) ≤ x2_43 ∧ x2_43 < h_43 (h_43 a0 24) (-1)) (if 0 ≤ (h_43 (h_43 a0 24) x2_43) then (gd (h_43 (h_43 a0 25) (-2) % 16 = 1 ∧ (0 : Int) ≤ x2_43 ∧ x2_43 < h_43 (h_43 a0 25) (-1)) (bT (m_X14_paragraphLines a0 (h_43 (h_43 a0 24) x2_43) (h_43 (h_43 a0 25) x2_43) h_43) (fun _ h94 =>
  m_X14_set_j97 x2_43 h94) (fun a_ h_ => some (.inr (.inr ((1, a_), h_))))))
  else (gd (h_43 (h_43 a0 25) (-2) % 16 = 1 ∧ (0 : Int) ≤ x2_43 ∧ x2_43 < h_43 (h_43 a0 25) (-1)) (bT (m_X14_rowLine a0 (w32 ((-1) - (h_43 (h_43 a0 24) x2_43))) (h_43 (h_43 a0 25) x2_43) h_43) (fun _ h75 =>
  m_X14_set_j97 x2_43 h75) (fun a_ h_ => some (.inr (.inr ((1, a_), h_))))))))
noncomputable def m_X14_set_j216 (x2_124 s0_216 s2_216 : Int) (h173 : Hp) : Option ((Int × Hp) ⊕ ((Hp))) :=
  gd (h173 s0_216 (-2) % 16 = 1 ∧ (0 : Int) ≤ x2_124 ∧ x2_124 < h173 s0_216 (-1)) (pt h173 s0_216 x2_124 s2_216 fun h216 =>
  lt_ (w32 (x2_124 + 1)) fun x2_217 =>
  some (.inl (x2_217, h216)))
noncomputable def m_X14_set_j173 (a0 x2_124 s0_173 s2_173 : Int) (h_124 : Hp) : Option ((Int × Hp) ⊕ ((Hp))) :=
  gd (h_124 s0_173 (-2) % 16 = 1 ∧ (0 : Int) ≤ x2_124 ∧ x2_124 < h_124 s0_173 (-1)) (pt h_124 s0_173 x2_124 s2_173 fun h173 =>
  gd (h173 (h173 a0 30) (-2) % 16 = 1 ∧ (0 : Int) ≤ x2_124 ∧ x2_124 < h173 (h173 a0 30) (-1)) (gd (h173 (h173 a0 29) (-2) % 16 = 1 ∧ (0 : Int) ≤ x2_124 ∧ x2_124 < h173 (h173 a0 29) (-1)) (if (h173 (h173 a0 30) x2_124) ≤ (h173 (h173 a0 29) x2_124) then (gd (h173 (h173 a0 31) (-2) % 16 = 1 ∧ (0 : Int) ≤ x2_124 ∧ x2_124 < h173 (h173 a0 31) (-1)) (m_X14_set_j216 x2_124 (h173 a0 32) (h173 (h173 a0 31) x2_124) h173))
  else (gd (h173 (h173 a0 28) (-2) % 16 = 1 ∧ (0 : Int) ≤ (w32 ((h173 (h173 a0 30) x2_124) - 1)) ∧ (w32 ((h173 (h173 a0 30) x2_124) - 1)) < h173 (h173 a0 28) (-1)) (m_X14_set_j216 x2_124 (h173 a0 32) (h173 (h173 a0 28) (w32 ((h173 (h173 a0 30) x2_124) - 1))) h173)))))
noncomputable def m_X14_set_l124 (a0 x2_124 : Int) (h_124 : Hp) : Option ((Int × Hp) ⊕ ((Hp))) :=
  gd (h_124 (h_124 a0 2) (-2) = 112) (if (h_124 (h_124 a0 2) 2) ≤ x2_124 then (some (.inr h_124))
  else (gd (h_124 (h_124 a0 29) (-2) % 16 = 1 ∧ (0 : Int) ≤ x2_124 ∧ x2_124 < h_124 (h_124 a0 29) (-1)) (if (h_124 a0 27) ≤ (h_124 (h_124 a0 29) x2_124) then (m_X14_set_j173 a0 x2_124 (h_124 a0 31) (w32 ((h_124 a0 18) - 1)) h_124)
  else (gd (h_124 (h_124 a0 28) (-2) % 16 = 1 ∧ (0 : Int) ≤ (h_124 (h_124 a0 29) x2_124) ∧ (h_124 (h_124 a0 29) x2_124) < h_124 (h_124 a0 28) (-1)) (m_X14_set_j173 a0 x2_124 (h_124 a0 31) (h_124 (h_124 a0 28) (h_124 (h_124 a0 29) x2_124)) h_124)))))
noncomputable def m_X14_set_l225 (a0 x2_225 : Int) (h_225 : Hp) : Option ((Int × Hp) ⊕ ((Hp))) :=
  if (h_225 a0 36) ≤ x2_225 then (some (.inr h_225))
  else (gd (h_225 (h_225 a0 33) (-2) % 16 = 1 ∧ (0 : Int) ≤ x2_225 ∧ x2_225 < h_225 (h_225 a0 33) (-1)) (gd (h_225 (h_225 a0 31) (-2) % 16 = 1 ∧ (0 : Int) ≤ (h_225 (h_225 a0 33) x2_225) ∧ (h_225 (h_225 a0 33) x2_225) < h_225 (h_225 a0 31) (-1)) (gd (h_225 (h_225 a0 35) (-2) % 16 = 1 ∧ (0 : Int) ≤ x2_225 ∧ x2_225 < h_225 (h_225 a0 35) (-1)) (pt h_225 (h_225 a0 35) x2_225 (h_225 (h_225 a0 31) (h_225 (h_225 a0 33) x2_225)) fun h249 =>
  lt_ (w32 (x2_225 + 1)) fun x2_250 =>
  some (.inl (x2_250, h249))))))
noncomputable def m_X14_set_l258 (a0 x2_258 : Int) (h_258 : Hp) : Option ((Int × Hp) ⊕ (((Int × Int) × Hp))) :=
  if (h_258 a0 39) ≤ x2_258 then (some (.inr ((0, 0), h_258)))
  else (gd (h_258 (h_258 a0 37) (-2) % 16 = 1 ∧ (0 : Int) ≤ x2_258 ∧ x2_258 < h_258 (h_258 a0 37) (-1)) (gd (h_258 (h_258 a0 31) (-2) % 16 = 1 ∧ (0 : Int) ≤ (h_258 (h_258 a0 37) x2_258) ∧ (h_258 (h_258 a0 37) x2_258) < h_258 (h_258 a0 31) (-1)) (gd (h_258 (h_258 a0 38) (-2) % 16 = 1 ∧ (0 : Int) ≤ x2_258 ∧ x2_258 < h_258 (h_258 a0 38) (-1)) (pt h_258 (h_258 a0 38) x2_258 (h_258 (h_258 a0 31) (h_258 (h_258 a0 37) x2_258)) fun h282 =>
  lt_ (w32 (x2_258 + 1)) fun x2_283 =>
  some (.inl (x2_283, h282))))))
noncomputable def m_X14_set_j122 (a0 : Int) (h_122 : Hp) : Option ((Int × Int) × Hp) :=
  lt_ 0 fun x2_123 =>
  (lp (fun (q : Int × Hp) => m_X14_set_l124 a0 q.1 q.2) (x2_123, h_122)).bind (fun (y223 : Hp) => lt_ 0 fun x2_224 =>
  (lp (fun (q : Int × Hp) => m_X14_set_l225 a0 q.1 q.2) (x2_224, y223)).bind (fun (y256 : Hp) => lt_ 0 fun x2_257 =>
  (lp (fun (q : Int × Hp) => m_X14_set_l258 a0 q.1 q.2) (x2_257, y256)).bind (fun (x : (Int × Int) × Hp) => some x)))
noncomputable def m_X14_set (a0 a1 : Int) (h : Hp) : Option ((Int × Int) × Hp) :=
  gd (h a1 (-2) = 272) ((m_X17_begin a1 (h a0 7) h).bind fun h5 =>
  lt_ 0 fun x2_9 =>
  (lp (fun (q : Int × Hp) => m_X14_set_l10 a0 a1 q.1 q.2) (x2_9, h5)).bind (fun (y41 : Hp) => lt_ 0 fun x2_42 =>
  (lp (fun (q : Int × Hp) => m_X14_set_l43 a0 q.1 q.2) (x2_42, y41)).bind (sE (fun (y103 : Hp) => if (y103 a0 18) ≤ 0 then (m_X14_set_j122 a0 y103)
  else (gd (y103 (y103 a0 16) (-2) % 16 = 3 ∧ (0 : Int) ≤ (w32 ((y103 a0 18) - 1)) ∧ (w32 ((y103 a0 18) - 1)) < y103 (y103 a0 16) (-1)) (pt y103 (y103 a0 16) (w32 ((y103 a0 18) - 1)) 1 fun h121 =>
  m_X14_set_j122 a0 h121))) (fun (x : (Int × Int) × Hp) => some x))))
theorem s_X14_set {l : Launch} [NoTr l] {D : SD} {a0 a1 : Int} {h : Hp} (hk : h a0 (-2) = 224) {r : (Int × Int) × Hp} (hm : m_X14_set a0 a1 h = some r) : Sim l D yX14_set (Cond.code yX14_set cX14_set 3 (Option.none : Option Jvm.ClassFile.FieldType)) 12 454 [rv D a0, rv D a1] h 0 r := by
  refine Sim.of (fin := fun (v : (Int × Int) × Hp) => v) (lsE := [(0, rv D a0), (1, rv D a1)]) hm rfl cwS_code (la_r (la_r la_n)) (ll_r (ll_r ll_n)) ?_
  intro p e s m below meth c X hcw hmm hcc hnm hname
  have hno := noh hcw hnm hmm hcc
  unfold m_X14_set
  refine g_aload_n (pc := 0) X (j := 1) (i := 1) (q := 1) (x := a1) rfl rfl (dl_at t_X14_set 0 rfl) ?_
  refine g_aload_n (pc := 1) X (j := 0) (i := 0) (q := 0) (x := a0) rfl rfl (dl_at t_X14_set 1 rfl) ?_
  refine r_getr (pc := 2) X fX14_7 hk q1251 (dl_at t_X14_set 2 rfl) ?_
  refine g_gd fun k5 => ?_
  refine r_callV (pc := 5) X (fun _ hv => s_X17_begin k5 hv) cw_code q2842 q371 (in_Vk X (As := [rv D (h a0 7)]) kX17 k5 (Or.inr ⟨_, nw_in q2839 rfl⟩) q2841 qs170 cw_code q2842 ⟨by decide, by decide⟩ rfl (dl_at t_X14_set 3 rfl)) (dl_at t_X14_set 3 rfl) (cat24 (st := []) (Nat.le_of_ble_eq_true rfl)) (Nat.le_of_ble_eq_true rfl) (Nat.le_of_ble_eq_true rfl) fun h5 E5 => ?_
  refine g_iconst (pc := 8) X (n := 0) (dl_at t_X14_set 4 rfl) ?_
  refine g_ltz (Or.inl rfl) fun x2_9 r2_9 => ?_
  refine g_istore_nN (pc := 9) X (j := 2) (i := 2) (x := x2_9) (b := 1) (w := rv D a1) (rest := [(0, rv D a0)]) rfl (Nat.le_of_ble_eq_true rfl) [1, 0] rfl (by decide) rv_cat rfl (dl_at t_X14_set 5 rfl) ?_
  refine g_ls (ls2 := [(0, rv D a0), (1, rv D a1), (2, iv x2_9)]) [2, 1, 0] rfl ?_
  refine g_loop1 (fun (q : Int × Hp) => [(0, rv D a0), (1, rv D a1), (2, iv q.1)]) (fun (q : Int × Hp) => q.2) (fun (q : Int × Hp) => r32 q.1 ∧ Ext h5 q.2) 41 (fun (y41 : Hp) => [(0, rv D a0)]) (fun (y41 : Hp) => y41) (fun (y41 : Hp) => Ext h5 y41) (x2_9, h5) ⟨(r32_z r2_9), (Ext.refl _)⟩ ?_ ?_
  · rintro ⟨x2_10, h_10⟩ ⟨r2_10, E_10⟩
    try dsimp only
    unfold m_X14_set_l10
    refine g_iload_n (pc := 10) X (j := 2) (i := 2) (q := 2) (x := x2_10) rfl rfl (dl_at t_X14_set 6 rfl) ?_
    refine g_aload_n (pc := 11) X (j := 0) (i := 0) (q := 0) (x := a0) rfl rfl (dl_at t_X14_set 7 rfl) ?_
    have k12 := kx (E5.trans E_10) (by decide) hk
    refine r_geti (pc := 12) X fX14_9 k12 q1255 (dl_at t_X14_set 8 rfl) fun g12 => ?_
    refine g_icmpge (pc := 15) X r2_10 g12 (off := 26) (tgt := 41) rfl (dl_at t_X14_set 9 rfl) (fun _ => ?_) (fun _ => ?_)
    · refine g_ls (ls2 := [(0, rv D a0)]) [0] rfl ?_
      exact g_at fun Q hQ => hQ E_10
    refine g_aload_n (pc := 18) X (j := 1) (i := 1) (q := 1) (x := a1) rfl rfl (dl_at t_X14_set 10 rfl) ?_
    refine g_aload_n (pc := 19) X (j := 0) (i := 0) (q := 0) (x := a0) rfl rfl (dl_at t_X14_set 11 rfl) ?_
    refine r_getr (pc := 20) X fX14_8 k12 q1252 (dl_at t_X14_set 12 rfl) ?_
    refine g_iload_n (pc := 23) X (j := 2) (i := 2) (q := 2) (x := x2_10) rfl rfl (dl_at t_X14_set 13 rfl) ?_
    refine g_gd fun k24 => ?_
    refine g_aald (pc := 24) X 9 (Nat.le_of_ble_eq_true rfl) (Nat.le_of_ble_eq_true rfl) r2_10 rfl k24 (dl_at t_X14_set 14 rfl) ?_
    refine g_aload_n (pc := 25) X (j := 0) (i := 0) (q := 0) (x := a0) rfl rfl (dl_at t_X14_set 15 rfl) ?_
    refine r_getr (pc := 26) X fX14_0 k12 q1241 (dl_at t_X14_set 16 rfl) ?_
    refine g_gd fun k29 => ?_
    refine r_getrN (pc := 29) X fX10_0 k29 (nw_in q1037 rfl) (dl_at t_X14_set 17 rfl) ?_
    have k32 := kx (E5.trans E_10) (by decide) k5
    refine r_callV (pc := 32) X (fun _ hv => s_X17_set k32 hv) cw_code q2850 q371 (in_Vk X (As := [rv D (h_10 (h_10 a0 8) x2_10), rv D (h_10 (h_10 a0 0) 0)]) kX17 k32 (Or.inr ⟨_, nw_in q2847 rfl⟩) q2849 qs171 cw_code q2850 ⟨by decide, by decide⟩ rfl (dl_at t_X14_set 18 rfl)) (dl_at t_X14_set 18 rfl) (cat24 (st := []) (Nat.le_of_ble_eq_true rfl)) (Nat.le_of_ble_eq_true rfl) (Nat.le_of_ble_eq_true rfl) fun h32 E32 => ?_
    refine r_iincN (pc := 35) X (i := 2) (q := 2) (n := 1) (x := x2_10) (b := 1) (w := rv D a1) (rest := [(0, rv D a0)]) rfl r2_10 (r32_c rfl) (Nat.le_of_ble_eq_true rfl) [1, 0] rfl (by decide) rv_cat rfl (dl_at t_X14_set 19 rfl) fun x2_35 r2_35 => ?_
    refine g_goto (pc := 38) X (off := (-28)) (tgt := 10) rfl (dl_at t_X14_set 20 rfl) ?_
    refine g_ls (ls2 := [(0, rv D a0), (1, rv D a1), (2, iv x2_35)]) [2, 1, 0] rfl ?_
    exact g_at fun Q hQ => hQ ⟨r2_35, (E_10.trans E32)⟩
  · rintro h_41 E_41
    try dsimp only [sE]
    refine g_iconst (pc := 41) X (n := 0) (dl_at t_X14_set 21 rfl) ?_
    refine g_ltz (Or.inl rfl) fun x2_42 r2_42 => ?_
    refine g_istore_n (pc := 42) X (j := 2) (i := 2) (x := x2_42) (rest := [(0, rv D a0)]) rfl (Nat.le_of_ble_eq_true rfl) [0] rfl rfl (dl_at t_X14_set 22 rfl) ?_
    refine g_ls (ls2 := [(0, rv D a0), (2, iv x2_42)]) [1, 0] rfl ?_
    refine g_loop1F (fun (q : Int × Hp) => [(0, rv D a0), (2, iv q.1)]) (fun (q : Int × Hp) => q.2) (fun (q : Int × Hp) => r32 q.1 ∧ Ext h_41 q.2) 103 (fun (y103 : Hp) => [(0, rv D a0)]) (fun (y103 : Hp) => y103) (fun (y103 : Hp) => Ext h_41 y103) (x2_42, h_41) ⟨(r32_z r2_42), (Ext.refl _)⟩ ?_ ?_ (fun _ => rfl)
    · rintro ⟨x2_43, h_43⟩ ⟨r2_43, E_43⟩
      try dsimp only
      unfold m_X14_set_l43
      refine g_iload_n (pc := 43) X (j := 2) (i := 2) (q := 1) (x := x2_43) rfl rfl (dl_at t_X14_set 23 rfl) ?_
      refine g_aload_n (pc := 44) X (j := 0) (i := 0) (q := 0) (x := a0) rfl rfl (dl_at t_X14_set 24 rfl) ?_
      have k45 := kx (E5.trans (E_41.trans E_43)) (by decide) hk
      refine r_geti (pc := 45) X fX14_26 k45 q1279 (dl_at t_X14_set 25 rfl) fun g45 => ?_
      refine g_icmpge (pc := 48) X r2_43 g45 (off := 55) (tgt := 103) rfl (dl_at t_X14_set 26 rfl) (fun _ => ?_) (fun _ => ?_)
      · refine g_ls (ls2 := [(0, rv D a0)]) [0] rfl ?_
        exact g_at fun Q hQ => hQ E_43
      refine g_aload_n (pc := 51) X (j := 0) (i := 0) (q := 0) (x := a0) rfl rfl (dl_at t_X14_set 27 rfl) ?_
      refine r_getr (pc := 52) X fX14_24 k45 q1277 (dl_at t_X14_set 28 rfl) ?_
      refine g_iload_n (pc := 55) X (j := 2) (i := 2) (q := 1) (x := x2_43) rfl rfl (dl_at t_X14_set 29 rfl) ?_
      refine g_gd fun k56 => ?_
      refine g_iald (pc := 56) X r2_43 k56 (dl_at t_X14_set 30 rfl) fun g56 => ?_
      refine g_join (γ := Hp) (fun q => Ext h_43 q) 97 (fun q => [(0, rv D a0), (2, iv x2_43)]) (fun q => []) (fun q => q) (fun q => m_X14_set_j97 x2_43 q) ?_ ?_
      · rintro h_97 E_97
        try dsimp only
        unfold m_X14_set_j97
        refine r_iinc (pc := 97) X (i := 2) (q := 1) (n := 1) (x := x2_43) (rest := [(0, rv D a0)]) rfl r2_43 (r32_c rfl) (Nat.le_of_ble_eq_true rfl) [0] rfl rfl (dl_at t_X14_set 55 rfl) fun x2_97 r2_97 => ?_
        refine g_goto (pc := 100) X (off := (-57)) (tgt := 43) rfl (dl_at t_X14_set 56 rfl) ?_
        refine g_ls (ls2 := [(0, rv D a0), (2, iv x2_97)]) [1, 0] rfl ?_
        exact g_at fun Q hQ => hQ ⟨r2_97, (E_43.trans E_97)⟩
      intro J97
      refine g_ifge (pc := 57) X g56 (off := 24) (tgt := 81) rfl (dl_at t_X14_set 31 rfl) (fun _ => ?_) (fun _ => ?_)
      · refine g_aload_n (pc := 81) X (j := 0) (i := 0) (q := 0) (x := a0) rfl rfl (dl_at t_X14_set 45 rfl) ?_
        refine g_aload_n (pc := 82) X (j := 0) (i := 0) (q := 0) (x := a0) rfl rfl (dl_at t_X14_set 46 rfl) ?_
        refine r_getr (pc := 83) X fX14_24 k45 q1277 (dl_at t_X14_set 47 rfl) ?_
        refine g_iload_n (pc := 86) X (j := 2) (i := 2) (q := 1) (x := x2_43) rfl rfl (dl_at t_X14_set 48 rfl) ?_
        refine g_iald (pc := 87) X r2_43 k56 (dl_at t_X14_set 49 rfl) fun g87 => ?_
        refine g_aload_n (pc := 88) X (j := 0) (i := 0) (q := 0) (x := a0) rfl rfl (dl_at t_X14_set 50 rfl) ?_
        refine r_getr (pc := 89) X fX14_25 k45 q1278 (dl_at t_X14_set 51 rfl) ?_
        refine g_iload_n (pc := 92) X (j := 2) (i := 2) (q := 1) (x := x2_43) rfl rfl (dl_at t_X14_set 52 rfl) ?_
        refine g_gd fun k93 => ?_
        refine g_iald (pc := 93) X r2_43 k93 (dl_at t_X14_set 53 rfl) fun g93 => ?_
        refine r_callTv (pc := 94) X (fun _ hv => s_X14_paragraphLines k45 g87 g93 hv) cw_code q2968 q368 (in_Vk X (As := [iv (h_43 (h_43 a0 24) x2_43), iv (h_43 (h_43 a0 25) x2_43)]) kX14 k45 (Or.inl q2965) q2967 qs196 cw_code q2968 ⟨by decide, by decide⟩ rfl (dl_at t_X14_set 54 rfl)) (dl_at t_X14_set 54 rfl) (cat24 (st := []) (Nat.le_of_ble_eq_true rfl)) (Nat.le_of_ble_eq_true rfl) (Nat.le_of_ble_eq_true rfl) (fun v94 h94 E94 => ?_) (fun _ _ ha _ => gt_at fun Q hQ => gt_out (Q := Q) X rfl ha (hno _) _ Q rfl hQ)
        exact J97 h94 E94
      refine g_aload_n (pc := 60) X (j := 0) (i := 0) (q := 0) (x := a0) rfl rfl (dl_at t_X14_set 32 rfl) ?_
      refine g_iconst (pc := 61) X (n := (-1)) (dl_at t_X14_set 33 rfl) ?_
      refine g_aload_n (pc := 62) X (j := 0) (i := 0) (q := 0) (x := a0) rfl rfl (dl_at t_X14_set 34 rfl) ?_
      refine r_getr (pc := 63) X fX14_24 k45 q1277 (dl_at t_X14_set 35 rfl) ?_
      refine g_iload_n (pc := 66) X (j := 2) (i := 2) (q := 1) (x := x2_43) rfl rfl (dl_at t_X14_set 36 rfl) ?_
      refine g_iald (pc := 67) X r2_43 k56 (dl_at t_X14_set 37 rfl) fun g67 => ?_
      refine g_isub (pc := 68) X (r32_c rfl) g67 (dl_at t_X14_set 38 rfl) ?_
      refine g_aload_n (pc := 69) X (j := 0) (i := 0) (q := 0) (x := a0) rfl rfl (dl_at t_X14_set 39 rfl) ?_
      refine r_getr (pc := 70) X fX14_25 k45 q1278 (dl_at t_X14_set 40 rfl) ?_
      refine g_iload_n (pc := 73) X (j := 2) (i := 2) (q := 1) (x := x2_43) rfl rfl (dl_at t_X14_set 41 rfl) ?_
      refine g_gd fun k74 => ?_
      refine g_iald (pc := 74) X r2_43 k74 (dl_at t_X14_set 42 rfl) fun g74 => ?_
      refine r_callTv (pc := 75) X (fun _ hv => s_X14_rowLine k45 (r32_w _) g74 hv) cw_code q2947 q368 (in_Vk X (As := [iv (w32 ((-1) - (h_43 (h_43 a0 24) x2_43))), iv (h_43 (h_43 a0 25) x2_43)]) kX14 k45 (Or.inl q2944) q2946 qs191 cw_code q2947 ⟨by decide, by decide⟩ rfl (dl_at t_X14_set 43 rfl)) (dl_at t_X14_set 43 rfl) (cat24 (st := []) (Nat.le_of_ble_eq_true rfl)) (Nat.le_of_ble_eq_true rfl) (Nat.le_of_ble_eq_true rfl) (fun v75 h75 E75 => ?_) (fun _ _ ha _ => gt_at fun Q hQ => gt_out (Q := Q) X rfl ha (hno _) _ Q rfl hQ)
      refine g_goto (pc := 78) X (off := 19) (tgt := 97) rfl (dl_at t_X14_set 44 rfl) ?_
      exact J97 h75 E75
    · rintro h_103 E_103
      try dsimp only [sE]
      refine g_aload_n (pc := 103) X (j := 0) (i := 0) (q := 0) (x := a0) rfl rfl (dl_at t_X14_set 57 rfl) ?_
      have k104 := kx (E5.trans (E_41.trans E_103)) (by decide) hk
      refine r_geti (pc := 104) X fX14_18 k104 q1269 (dl_at t_X14_set 58 rfl) fun g104 => ?_
      refine g_join (γ := Hp) (fun q => Ext h_103 q) 122 (fun q => [(0, rv D a0)]) (fun q => []) (fun q => q) (fun q => m_X14_set_j122 a0 q) ?_ ?_
      · rintro h_122 E_122
        try dsimp only
        unfold m_X14_set_j122
        refine g_iconst (pc := 122) X (n := 0) (dl_at t_X14_set 68 rfl) ?_
        refine g_ltz (Or.inl rfl) fun x2_123 r2_123 => ?_
        refine g_istore_n (pc := 123) X (j := 2) (i := 2) (x := x2_123) (rest := [(0, rv D a0)]) rfl (Nat.le_of_ble_eq_true rfl) [0] rfl rfl (dl_at t_X14_set 69 rfl) ?_
        refine g_ls (ls2 := [(0, rv D a0), (2, iv x2_123)]) [1, 0] rfl ?_
        refine g_loop1 (fun (q : Int × Hp) => [(0, rv D a0), (2, iv q.1)]) (fun (q : Int × Hp) => q.2) (fun (q : Int × Hp) => r32 q.1 ∧ Ext h_122 q.2) 223 (fun (y223 : Hp) => [(0, rv D a0)]) (fun (y223 : Hp) => y223) (fun (y223 : Hp) => Ext h_122 y223) (x2_123, h_122) ⟨(r32_z r2_123), (Ext.refl _)⟩ ?_ ?_
        · rintro ⟨x2_124, h_124⟩ ⟨r2_124, E_124⟩
          try dsimp only
          unfold m_X14_set_l124
          refine g_iload_n (pc := 124) X (j := 2) (i := 2) (q := 1) (x := x2_124) rfl rfl (dl_at t_X14_set 70 rfl) ?_
          refine g_aload_n (pc := 125) X (j := 0) (i := 0) (q := 0) (x := a0) rfl rfl (dl_at t_X14_set 71 rfl) ?_
          have k126 := kx (E_122.trans E_124) (by decide) k104
          refine r_getr (pc := 126) X fX14_2 k126 q1243 (dl_at t_X14_set 72 rfl) ?_
          refine g_gd fun k129 => ?_
          refine r_getiN (pc := 129) X fX7_2 k129 (nw_in q785 rfl) (dl_at t_X14_set 73 rfl) fun g129 => ?_
          refine g_icmpge (pc := 132) X r2_124 g129 (off := 91) (tgt := 223) rfl (dl_at t_X14_set 74 rfl) (fun _ => ?_) (fun _ => ?_)
          · refine g_ls (ls2 := [(0, rv D a0)]) [0] rfl ?_
            exact g_at fun Q hQ => hQ E_124
          refine g_aload_n (pc := 135) X (j := 0) (i := 0) (q := 0) (x := a0) rfl rfl (dl_at t_X14_set 75 rfl) ?_
          refine r_getr (pc := 136) X fX14_31 k126 q1284 (dl_at t_X14_set 76 rfl) ?_
          refine g_iload_n (pc := 139) X (j := 2) (i := 2) (q := 1) (x := x2_124) rfl rfl (dl_at t_X14_set 77 rfl) ?_
          refine g_aload_n (pc := 140) X (j := 0) (i := 0) (q := 0) (x := a0) rfl rfl (dl_at t_X14_set 78 rfl) ?_
          refine r_getr (pc := 141) X fX14_29 k126 q1282 (dl_at t_X14_set 79 rfl) ?_
          refine g_iload_n (pc := 144) X (j := 2) (i := 2) (q := 1) (x := x2_124) rfl rfl (dl_at t_X14_set 80 rfl) ?_
          refine g_gd fun k145 => ?_
          refine g_iald (pc := 145) X r2_124 k145 (dl_at t_X14_set 81 rfl) fun g145 => ?_
          refine g_aload_n (pc := 146) X (j := 0) (i := 0) (q := 0) (x := a0) rfl rfl (dl_at t_X14_set 82 rfl) ?_
          refine r_geti (pc := 147) X fX14_27 k126 q1280 (dl_at t_X14_set 83 rfl) fun g147 => ?_
          refine g_join (γ := Int × Int) (fun q => r32 q.2) 173 (fun q => [(0, rv D a0), (2, iv x2_124)]) (fun q => [iv q.2, iv x2_124, rv D q.1]) (fun q => h_124) (fun q => m_X14_set_j173 a0 x2_124 q.1 q.2 h_124) ?_ ?_
          · rintro ⟨s0_173, s2_173⟩ rs2_173
            try dsimp only
            unfold m_X14_set_j173
            refine g_gd fun k173 => ?_
            refine r_iast (pc := 173) X r2_124 rs2_173 k173 (dl_at t_X14_set 97 rfl) (fun h173 E173 => ?_)
            refine g_aload_n (pc := 174) X (j := 0) (i := 0) (q := 0) (x := a0) rfl rfl (dl_at t_X14_set 98 rfl) ?_
            have k175 := kx E173 (by decide) k126
            refine r_getr (pc := 175) X fX14_32 k175 q1286 (dl_at t_X14_set 99 rfl) ?_
            refine g_iload_n (pc := 178) X (j := 2) (i := 2) (q := 1) (x := x2_124) rfl rfl (dl_at t_X14_set 100 rfl) ?_
            refine g_aload_n (pc := 179) X (j := 0) (i := 0) (q := 0) (x := a0) rfl rfl (dl_at t_X14_set 101 rfl) ?_
            refine r_getr (pc := 180) X fX14_30 k175 q1283 (dl_at t_X14_set 102 rfl) ?_
            refine g_iload_n (pc := 183) X (j := 2) (i := 2) (q := 1) (x := x2_124) rfl rfl (dl_at t_X14_set 103 rfl) ?_
            refine g_gd fun k184 => ?_
            refine g_iald (pc := 184) X r2_124 k184 (dl_at t_X14_set 104 rfl) fun g184 => ?_
            refine g_aload_n (pc := 185) X (j := 0) (i := 0) (q := 0) (x := a0) rfl rfl (dl_at t_X14_set 105 rfl) ?_
            refine r_getr (pc := 186) X fX14_29 k175 q1282 (dl_at t_X14_set 106 rfl) ?_
            refine g_iload_n (pc := 189) X (j := 2) (i := 2) (q := 1) (x := x2_124) rfl rfl (dl_at t_X14_set 107 rfl) ?_
            refine g_gd fun k190 => ?_
            refine g_iald (pc := 190) X r2_124 k190 (dl_at t_X14_set 108 rfl) fun g190 => ?_
            refine g_join (γ := Int × Int) (fun q => r32 q.2) 216 (fun q => [(0, rv D a0), (2, iv x2_124)]) (fun q => [iv q.2, iv x2_124, rv D q.1]) (fun q => h173) (fun q => m_X14_set_j216 x2_124 q.1 q.2 h173) ?_ ?_
            · rintro ⟨s0_216, s2_216⟩ rs2_216
              try dsimp only
              unfold m_X14_set_j216
              refine g_gd fun k216 => ?_
              refine r_iast (pc := 216) X r2_124 rs2_216 k216 (dl_at t_X14_set 124 rfl) (fun h216 E216 => ?_)
              refine r_iinc (pc := 217) X (i := 2) (q := 1) (n := 1) (x := x2_124) (rest := [(0, rv D a0)]) rfl r2_124 (r32_c rfl) (Nat.le_of_ble_eq_true rfl) [0] rfl rfl (dl_at t_X14_set 125 rfl) fun x2_217 r2_217 => ?_
              refine g_goto (pc := 220) X (off := (-96)) (tgt := 124) rfl (dl_at t_X14_set 126 rfl) ?_
              refine g_ls (ls2 := [(0, rv D a0), (2, iv x2_217)]) [1, 0] rfl ?_
              exact g_at fun Q hQ => hQ ⟨r2_217, (E_124.trans (E173.trans E216))⟩
            intro J216
            refine g_icmple (pc := 191) X g184 g190 (off := 19) (tgt := 210) rfl (dl_at t_X14_set 109 rfl) (fun _ => ?_) (fun _ => ?_)
            · refine g_aload_n (pc := 210) X (j := 0) (i := 0) (q := 0) (x := a0) rfl rfl (dl_at t_X14_set 120 rfl) ?_
              refine r_getr (pc := 211) X fX14_31 k175 q1284 (dl_at t_X14_set 121 rfl) ?_
              refine g_iload_n (pc := 214) X (j := 2) (i := 2) (q := 1) (x := x2_124) rfl rfl (dl_at t_X14_set 122 rfl) ?_
              refine g_gd fun k215 => ?_
              refine g_iald (pc := 215) X r2_124 k215 (dl_at t_X14_set 123 rfl) fun g215 => ?_
              exact J216 ((h173 a0 32), (h173 (h173 a0 31) x2_124)) g215
            refine g_aload_n (pc := 194) X (j := 0) (i := 0) (q := 0) (x := a0) rfl rfl (dl_at t_X14_set 110 rfl) ?_
            refine r_getr (pc := 195) X fX14_28 k175 q1281 (dl_at t_X14_set 111 rfl) ?_
            refine g_aload_n (pc := 198) X (j := 0) (i := 0) (q := 0) (x := a0) rfl rfl (dl_at t_X14_set 112 rfl) ?_
            refine r_getr (pc := 199) X fX14_30 k175 q1283 (dl_at t_X14_set 113 rfl) ?_
            refine g_iload_n (pc := 202) X (j := 2) (i := 2) (q := 1) (x := x2_124) rfl rfl (dl_at t_X14_set 114 rfl) ?_
            refine g_iald (pc := 203) X r2_124 k184 (dl_at t_X14_set 115 rfl) fun g203 => ?_
            refine g_iconst (pc := 204) X (n := 1) (dl_at t_X14_set 116 rfl) ?_
            refine g_isub (pc := 205) X g203 (r32_c rfl) (dl_at t_X14_set 117 rfl) ?_
            refine g_gd fun k206 => ?_
            refine g_iald (pc := 206) X (r32_w _) k206 (dl_at t_X14_set 118 rfl) fun g206 => ?_
            refine g_goto (pc := 207) X (off := 9) (tgt := 216) rfl (dl_at t_X14_set 119 rfl) ?_
            exact J216 ((h173 a0 32), (h173 (h173 a0 28) (w32 ((h173 (h173 a0 30) x2_124) - 1)))) g206
          intro J173
          refine g_icmpge (pc := 150) X g145 g147 (off := 17) (tgt := 167) rfl (dl_at t_X14_set 84 rfl) (fun _ => ?_) (fun _ => ?_)
          · refine g_aload_n (pc := 167) X (j := 0) (i := 0) (q := 0) (x := a0) rfl rfl (dl_at t_X14_set 93 rfl) ?_
            refine r_geti (pc := 168) X fX14_18 k126 q1269 (dl_at t_X14_set 94 rfl) fun g168 => ?_
            refine g_iconst (pc := 171) X (n := 1) (dl_at t_X14_set 95 rfl) ?_
            refine g_isub (pc := 172) X g168 (r32_c rfl) (dl_at t_X14_set 96 rfl) ?_
            exact J173 ((h_124 a0 31), (w32 ((h_124 a0 18) - 1))) (r32_w _)
          refine g_aload_n (pc := 153) X (j := 0) (i := 0) (q := 0) (x := a0) rfl rfl (dl_at t_X14_set 85 rfl) ?_
          refine r_getr (pc := 154) X fX14_28 k126 q1281 (dl_at t_X14_set 86 rfl) ?_
          refine g_aload_n (pc := 157) X (j := 0) (i := 0) (q := 0) (x := a0) rfl rfl (dl_at t_X14_set 87 rfl) ?_
          refine r_getr (pc := 158) X fX14_29 k126 q1282 (dl_at t_X14_set 88 rfl) ?_
          refine g_iload_n (pc := 161) X (j := 2) (i := 2) (q := 1) (x := x2_124) rfl rfl (dl_at t_X14_set 89 rfl) ?_
          refine g_iald (pc := 162) X r2_124 k145 (dl_at t_X14_set 90 rfl) fun g162 => ?_
          refine g_gd fun k163 => ?_
          refine g_iald (pc := 163) X g162 k163 (dl_at t_X14_set 91 rfl) fun g163 => ?_
          refine g_goto (pc := 164) X (off := 9) (tgt := 173) rfl (dl_at t_X14_set 92 rfl) ?_
          exact J173 ((h_124 a0 31), (h_124 (h_124 a0 28) (h_124 (h_124 a0 29) x2_124))) g163
        · rintro h_223 E_223
          try dsimp only [sE]
          refine g_iconst (pc := 223) X (n := 0) (dl_at t_X14_set 127 rfl) ?_
          refine g_ltz (Or.inl rfl) fun x2_224 r2_224 => ?_
          refine g_istore_n (pc := 224) X (j := 2) (i := 2) (x := x2_224) (rest := [(0, rv D a0)]) rfl (Nat.le_of_ble_eq_true rfl) [0] rfl rfl (dl_at t_X14_set 128 rfl) ?_
          refine g_ls (ls2 := [(0, rv D a0), (2, iv x2_224)]) [1, 0] rfl ?_
          refine g_loop1 (fun (q : Int × Hp) => [(0, rv D a0), (2, iv q.1)]) (fun (q : Int × Hp) => q.2) (fun (q : Int × Hp) => r32 q.1 ∧ Ext h_223 q.2) 256 (fun (y256 : Hp) => [(0, rv D a0)]) (fun (y256 : Hp) => y256) (fun (y256 : Hp) => Ext h_223 y256) (x2_224, h_223) ⟨(r32_z r2_224), (Ext.refl _)⟩ ?_ ?_
          · rintro ⟨x2_225, h_225⟩ ⟨r2_225, E_225⟩
            try dsimp only
            unfold m_X14_set_l225
            refine g_iload_n (pc := 225) X (j := 2) (i := 2) (q := 1) (x := x2_225) rfl rfl (dl_at t_X14_set 129 rfl) ?_
            refine g_aload_n (pc := 226) X (j := 0) (i := 0) (q := 0) (x := a0) rfl rfl (dl_at t_X14_set 130 rfl) ?_
            have k227 := kx (E_122.trans (E_223.trans E_225)) (by decide) k104
            refine r_geti (pc := 227) X fX14_36 k227 q1293 (dl_at t_X14_set 131 rfl) fun g227 => ?_
            refine g_icmpge (pc := 230) X r2_225 g227 (off := 26) (tgt := 256) rfl (dl_at t_X14_set 132 rfl) (fun _ => ?_) (fun _ => ?_)
            · refine g_ls (ls2 := [(0, rv D a0)]) [0] rfl ?_
              exact g_at fun Q hQ => hQ E_225
            refine g_aload_n (pc := 233) X (j := 0) (i := 0) (q := 0) (x := a0) rfl rfl (dl_at t_X14_set 133 rfl) ?_
            refine r_getr (pc := 234) X fX14_35 k227 q1291 (dl_at t_X14_set 134 rfl) ?_
            refine g_iload_n (pc := 237) X (j := 2) (i := 2) (q := 1) (x := x2_225) rfl rfl (dl_at t_X14_set 135 rfl) ?_
            refine g_aload_n (pc := 238) X (j := 0) (i := 0) (q := 0) (x := a0) rfl rfl (dl_at t_X14_set 136 rfl) ?_
            refine r_getr (pc := 239) X fX14_31 k227 q1284 (dl_at t_X14_set 137 rfl) ?_
            refine g_aload_n (pc := 242) X (j := 0) (i := 0) (q := 0) (x := a0) rfl rfl (dl_at t_X14_set 138 rfl) ?_
            refine r_getr (pc := 243) X fX14_33 k227 q1288 (dl_at t_X14_set 139 rfl) ?_
            refine g_iload_n (pc := 246) X (j := 2) (i := 2) (q := 1) (x := x2_225) rfl rfl (dl_at t_X14_set 140 rfl) ?_
            refine g_gd fun k247 => ?_
            refine g_iald (pc := 247) X r2_225 k247 (dl_at t_X14_set 141 rfl) fun g247 => ?_
            refine g_gd fun k248 => ?_
            refine g_iald (pc := 248) X g247 k248 (dl_at t_X14_set 142 rfl) fun g248 => ?_
            refine g_gd fun k249 => ?_
            refine r_iast (pc := 249) X r2_225 g248 k249 (dl_at t_X14_set 143 rfl) (fun h249 E249 => ?_)
            refine r_iinc (pc := 250) X (i := 2) (q := 1) (n := 1) (x := x2_225) (rest := [(0, rv D a0)]) rfl r2_225 (r32_c rfl) (Nat.le_of_ble_eq_true rfl) [0] rfl rfl (dl_at t_X14_set 144 rfl) fun x2_250 r2_250 => ?_
            refine g_goto (pc := 253) X (off := (-28)) (tgt := 225) rfl (dl_at t_X14_set 145 rfl) ?_
            refine g_ls (ls2 := [(0, rv D a0), (2, iv x2_250)]) [1, 0] rfl ?_
            exact g_at fun Q hQ => hQ ⟨r2_250, (E_225.trans E249)⟩
          · rintro h_256 E_256
            try dsimp only [sE]
            refine g_iconst (pc := 256) X (n := 0) (dl_at t_X14_set 146 rfl) ?_
            refine g_ltz (Or.inl rfl) fun x2_257 r2_257 => ?_
            refine g_istore_n (pc := 257) X (j := 2) (i := 2) (x := x2_257) (rest := [(0, rv D a0)]) rfl (Nat.le_of_ble_eq_true rfl) [0] rfl rfl (dl_at t_X14_set 147 rfl) ?_
            refine g_ls (ls2 := [(0, rv D a0), (2, iv x2_257)]) [1, 0] rfl ?_
            refine g_loop0F (fun (q : Int × Hp) => [(0, rv D a0), (2, iv q.1)]) (fun (q : Int × Hp) => q.2) (fun (q : Int × Hp) => r32 q.1 ∧ Ext h_256 q.2) (x2_257, h_256) ⟨(r32_z r2_257), (Ext.refl _)⟩ ?_ (fun _ => rfl)
            · rintro ⟨x2_258, h_258⟩ ⟨r2_258, E_258⟩
              try dsimp only
              unfold m_X14_set_l258
              refine g_iload_n (pc := 258) X (j := 2) (i := 2) (q := 1) (x := x2_258) rfl rfl (dl_at t_X14_set 148 rfl) ?_
              refine g_aload_n (pc := 259) X (j := 0) (i := 0) (q := 0) (x := a0) rfl rfl (dl_at t_X14_set 149 rfl) ?_
              have k260 := kx (E_122.trans (E_223.trans (E_256.trans E_258))) (by decide) k104
              refine r_geti (pc := 260) X fX14_39 k260 q1299 (dl_at t_X14_set 150 rfl) fun g260 => ?_
              refine g_icmpge (pc := 263) X r2_258 g260 (off := 26) (tgt := 289) rfl (dl_at t_X14_set 151 rfl) (fun _ => ?_) (fun _ => ?_)
              · exact g_at fun Q hQ => (g_vret (pc := 289) X (v := 0) rfl rfl (dl_at t_X14_set 165 rfl)) _ Q rfl hQ
              refine g_aload_n (pc := 266) X (j := 0) (i := 0) (q := 0) (x := a0) rfl rfl (dl_at t_X14_set 152 rfl) ?_
              refine r_getr (pc := 267) X fX14_38 k260 q1297 (dl_at t_X14_set 153 rfl) ?_
              refine g_iload_n (pc := 270) X (j := 2) (i := 2) (q := 1) (x := x2_258) rfl rfl (dl_at t_X14_set 154 rfl) ?_
              refine g_aload_n (pc := 271) X (j := 0) (i := 0) (q := 0) (x := a0) rfl rfl (dl_at t_X14_set 155 rfl) ?_
              refine r_getr (pc := 272) X fX14_31 k260 q1284 (dl_at t_X14_set 156 rfl) ?_
              refine g_aload_n (pc := 275) X (j := 0) (i := 0) (q := 0) (x := a0) rfl rfl (dl_at t_X14_set 157 rfl) ?_
              refine r_getr (pc := 276) X fX14_37 k260 q1295 (dl_at t_X14_set 158 rfl) ?_
              refine g_iload_n (pc := 279) X (j := 2) (i := 2) (q := 1) (x := x2_258) rfl rfl (dl_at t_X14_set 159 rfl) ?_
              refine g_gd fun k280 => ?_
              refine g_iald (pc := 280) X r2_258 k280 (dl_at t_X14_set 160 rfl) fun g280 => ?_
              refine g_gd fun k281 => ?_
              refine g_iald (pc := 281) X g280 k281 (dl_at t_X14_set 161 rfl) fun g281 => ?_
              refine g_gd fun k282 => ?_
              refine r_iast (pc := 282) X r2_258 g281 k282 (dl_at t_X14_set 162 rfl) (fun h282 E282 => ?_)
              refine r_iinc (pc := 283) X (i := 2) (q := 1) (n := 1) (x := x2_258) (rest := [(0, rv D a0)]) rfl r2_258 (r32_c rfl) (Nat.le_of_ble_eq_true rfl) [0] rfl rfl (dl_at t_X14_set 163 rfl) fun x2_283 r2_283 => ?_
              refine g_goto (pc := 286) X (off := (-28)) (tgt := 258) rfl (dl_at t_X14_set 164 rfl) ?_
              refine g_ls (ls2 := [(0, rv D a0), (2, iv x2_283)]) [1, 0] rfl ?_
              exact g_at fun Q hQ => hQ ⟨r2_283, (E_258.trans E282)⟩
      intro J122
      refine g_ifle (pc := 107) X g104 (off := 15) (tgt := 122) rfl (dl_at t_X14_set 59 rfl) (fun _ => ?_) (fun _ => ?_)
      · exact J122 h_103 (Ext.refl _)
      refine g_aload_n (pc := 110) X (j := 0) (i := 0) (q := 0) (x := a0) rfl rfl (dl_at t_X14_set 60 rfl) ?_
      refine r_getr (pc := 111) X fX14_16 k104 q1266 (dl_at t_X14_set 61 rfl) ?_
      refine g_aload_n (pc := 114) X (j := 0) (i := 0) (q := 0) (x := a0) rfl rfl (dl_at t_X14_set 62 rfl) ?_
      refine r_geti (pc := 115) X fX14_18 k104 q1269 (dl_at t_X14_set 63 rfl) fun g115 => ?_
      refine g_iconst (pc := 118) X (n := 1) (dl_at t_X14_set 64 rfl) ?_
      refine g_isub (pc := 119) X g115 (r32_c rfl) (dl_at t_X14_set 65 rfl) ?_
      refine g_iconst (pc := 120) X (n := 1) (dl_at t_X14_set 66 rfl) ?_
      refine g_gd fun k121 => ?_
      refine r_zast (pc := 121) X (r32_w _) (Or.inr rfl) k121 (dl_at t_X14_set 67 rfl) (fun h121 E121 => ?_)
      exact J122 h121 E121
def k_X14_prepareNotes : List (Nat × Instr × Nat) := [(0, .aload_n 0, 1), (1, .getfield 120, 3), (4, .iconst 0, 1), (5, .iconst 0, 1), (6, .iastore, 1), (7, .iconst 0, 1), (8, .istore_n 1, 1), (9, .iload_n 1, 1), (10, .aload_n 0, 1), (11, .getfield 208, 3), (14, .if_icmp .ge 33, 3), (17, .aload_n 0, 1), (18, .getfield 120, 3), (21, .iload_n 1, 1), (22, .iconst 1, 1), (23, .iadd, 1), (24, .aload_n 0, 1), (25, .getfield 120, 3), (28, .iload_n 1, 1), (29, .iaload, 1), (30, .aload_n 0, 1), (31, .getfield 83, 3), (34, .iload_n 1, 1), (35, .aaload, 1), (36, .getfield 645, 3), (39, .iadd, 1), (40, .iastore, 1), (41, .iinc 1 1, 3), (44, .goto (-35), 3), (47, .aload_n 0, 1), (48, .aload_n 0, 1), (49, .getfield 120, 3), (52, .aload_n 0, 1), (53, .getfield 208, 3), (56, .iaload, 1), (57, .putfield 220, 3), (60, .aload_n 0, 1), (61, .getfield 123, 3), (64, .iconst 0, 1), (65, .lconst 0, 1), (66, .lastore, 1), (67, .iconst 0, 1), (68, .istore_n 1, 1), (69, .iload_n 1, 1), (70, .aload_n 0, 1), (71, .getfield 208, 3), (74, .if_icmp .ge 66, 3), (77, .aload_n 0, 1), (78, .getfield 120, 3), (81, .iload_n 1, 1), (82, .iaload, 1), (83, .istore_n 2, 1), (84, .iload_n 2, 1), (85, .aload_n 0, 1), (86, .getfield 120, 3), (89, .iload_n 1, 1), (90, .iconst 1, 1), (91, .iadd, 1), (92, .iaload, 1), (93, .if_icmp .ge 41, 3), (96, .aload_n 0, 1), (97, .getfield 127, 3), (100, .iload_n 2, 1), (101, .iload_n 1, 1), (102, .iastore, 1), (103, .aload_n 0, 1), (104, .getfield 123, 3), (107, .iload_n 2, 1), (108, .iconst 1, 1), (109, .iadd, 1), (110, .aload_n 0, 1), (111, .getfield 123, 3), (114, .iload_n 2, 1), (115, .laload, 1), (116, .aload_n 0, 1), (117, .getfield 83, 3), (120, .iload_n 1, 1), (121, .aaload, 1), (122, .getfield 336, 3), (125, .i2l, 1), (126, .ladd, 1), (127, .lastore, 1), (128, .iinc 2 1, 3), (131, .goto (-47), 3), (134, .iinc 1 1, 3), (137, .goto (-68), 3), (140, .return_, 1)]
theorem t_X14_prepareNotes : ∀ q ∈ k_X14_prepareNotes, decode cX14_prepareNotes q.1 = .ok q.2 := dl_all (by decide +kernel)
noncomputable def m_X14_prepareNotes_l9 (a0 x1_9 : Int) (h_9 : Hp) : Option ((Int × Hp) ⊕ ((Hp))) :=
  if (h_9 a0 36) ≤ x1_9 then (some (.inr h_9))
  else (gd (h_9 (h_9 a0 54) (-2) % 16 = 1 ∧ (0 : Int) ≤ x1_9 ∧ x1_9 < h_9 (h_9 a0 54) (-1)) (gd (h_9 (h_9 a0 34) (-2) % 16 = 9 ∧ (0 : Int) ≤ x1_9 ∧ x1_9 < h_9 (h_9 a0 34) (-1)) (gd (h_9 (h_9 (h_9 a0 34) x1_9) (-2) = 288) (gd (h_9 (h_9 a0 54) (-2) % 16 = 1 ∧ (0 : Int) ≤ (w32 (x1_9 + 1)) ∧ (w32 (x1_9 + 1)) < h_9 (h_9 a0 54) (-1)) (pt h_9 (h_9 a0 54) (w32 (x1_9 + 1)) (w32 ((h_9 (h_9 a0 54) x1_9) + (h_9 (h_9 (h_9 a0 34) x1_9) 18))) fun h40 =>
  lt_ (w32 (x1_9 + 1)) fun x1_41 =>
  some (.inl (x1_41, h40)))))))
noncomputable def m_X14_prepareNotes_l84 (a0 x1_69 x2_84 : Int) (h_84 : Hp) : Option ((Int × Hp) ⊕ ((Hp))) :=
  gd (h_84 (h_84 a0 54) (-2) % 16 = 1 ∧ (0 : Int) ≤ (w32 (x1_69 + 1)) ∧ (w32 (x1_69 + 1)) < h_84 (h_84 a0 54) (-1)) (if (h_84 (h_84 a0 54) (w32 (x1_69 + 1))) ≤ x2_84 then (some (.inr h_84))
  else (gd (h_84 (h_84 a0 56) (-2) % 16 = 1 ∧ (0 : Int) ≤ x2_84 ∧ x2_84 < h_84 (h_84 a0 56) (-1)) (pt h_84 (h_84 a0 56) x2_84 x1_69 fun h102 =>
  gd (h102 (h102 a0 55) (-2) % 16 = 4 ∧ (0 : Int) ≤ x2_84 ∧ x2_84 < h102 (h102 a0 55) (-1)) (gd (h102 (h102 a0 34) (-2) % 16 = 9 ∧ (0 : Int) ≤ x1_69 ∧ x1_69 < h102 (h102 a0 34) (-1)) (gd (h102 (h102 (h102 a0 34) x1_69) (-2) = 288) (gd (h102 (h102 a0 55) (-2) % 16 = 4 ∧ (0 : Int) ≤ (w32 (x2_84 + 1)) ∧ (w32 (x2_84 + 1)) < h102 (h102 a0 55) (-1)) (pt h102 (h102 a0 55) (w32 (x2_84 + 1)) (w64 ((h102 (h102 a0 55) x2_84) + (h102 (h102 (h102 a0 34) x1_69) 7))) fun h127 =>
  lt_ (w32 (x2_84 + 1)) fun x2_128 =>
  some (.inl (x2_128, h127)))))))))
noncomputable def m_X14_prepareNotes_l69 (a0 x1_69 : Int) (h_69 : Hp) : Option ((Int × Hp) ⊕ ((Hp))) :=
  if (h_69 a0 36) ≤ x1_69 then (some (.inr h_69))
  else (gd (h_69 (h_69 a0 54) (-2) % 16 = 1 ∧ (0 : Int) ≤ x1_69 ∧ x1_69 < h_69 (h_69 a0 54) (-1)) (lt_ (h_69 (h_69 a0 54) x1_69) fun x2_83 =>
  (lp (fun (q : Int × Hp) => m_X14_prepareNotes_l84 a0 x1_69 q.1 q.2) (x2_83, h_69)).bind (fun (y134 : Hp) => lt_ (w32 (x1_69 + 1)) fun x1_134 =>
  some (.inl (x1_134, y134)))))
noncomputable def m_X14_prepareNotes (a0 : Int) (h : Hp) : Option (Hp) :=
  gd (h (h a0 54) (-2) % 16 = 1 ∧ (0 : Int) ≤ 0 ∧ 0 < h (h a0 54) (-1)) (pt h (h a0 54) 0 0 fun h6 =>
  lt_ 0 fun x1_8 =>
  (lp (fun (q : Int × Hp) => m_X14_prepareNotes_l9 a0 q.1 q.2) (x1_8, h6)).bind (fun (y47 : Hp) => gd (y47 (y47 a0 54) (-2) % 16 = 1 ∧ (0 : Int) ≤ (y47 a0 36) ∧ (y47 a0 36) < y47 (y47 a0 54) (-1)) (pt y47 a0 57 (y47 (y47 a0 54) (y47 a0 36)) fun h57 =>
  gd (h57 (h57 a0 55) (-2) % 16 = 4 ∧ (0 : Int) ≤ 0 ∧ 0 < h57 (h57 a0 55) (-1)) (pt h57 (h57 a0 55) 0 0 fun h66 =>
  lt_ 0 fun x1_68 =>
  (lp (fun (q : Int × Hp) => m_X14_prepareNotes_l69 a0 q.1 q.2) (x1_68, h66)).bind (fun (x : Hp) => some x)))))
theorem s_X14_prepareNotes {l : Launch} [NoTr l] {D : SD} {a0 : Int} {h : Hp} (hk : h a0 (-2) = 224) {r : Hp} (hm : m_X14_prepareNotes a0 h = some r) : Sim l D yX14_prepareNotes (Cond.code yX14_prepareNotes cX14_prepareNotes 3 (Option.none : Option Jvm.ClassFile.FieldType)) 0 0 [rv D a0] h 0 ((0, 0), r) := by
  refine Sim.of (fin := fun (v : Hp) => ((0, 0), v)) (lsE := [(0, rv D a0)]) hm rfl cwS_code (la_r la_n) (ll_r ll_n) ?_
  intro p e s m below meth c X hcw hmm hcc hnm hname
  unfold m_X14_prepareNotes
  refine g_aload_n (pc := 0) X (j := 0) (i := 0) (q := 0) (x := a0) rfl rfl (dl_at t_X14_prepareNotes 0 rfl) ?_
  refine r_getr (pc := 1) X fX14_54 hk q1316 (dl_at t_X14_prepareNotes 1 rfl) ?_
  refine g_iconst (pc := 4) X (n := 0) (dl_at t_X14_prepareNotes 2 rfl) ?_
  refine g_iconst (pc := 5) X (n := 0) (dl_at t_X14_prepareNotes 3 rfl) ?_
  refine g_gd fun k6 => ?_
  refine r_iast (pc := 6) X (r32_c rfl) (r32_c rfl) k6 (dl_at t_X14_prepareNotes 4 rfl) (fun h6 E6 => ?_)
  refine g_iconst (pc := 7) X (n := 0) (dl_at t_X14_prepareNotes 5 rfl) ?_
  refine g_ltz (Or.inl rfl) fun x1_8 r1_8 => ?_
  refine g_istore_nN (pc := 8) X (j := 1) (i := 1) (x := x1_8) (b := 0) (w := rv D a0) (rest := []) rfl (Nat.le_of_ble_eq_true rfl) [0] rfl (by decide) rv_cat rfl (dl_at t_X14_prepareNotes 6 rfl) ?_
  refine g_ls (ls2 := [(0, rv D a0), (1, iv x1_8)]) [1, 0] rfl ?_
  refine g_loop1 (fun (q : Int × Hp) => [(0, rv D a0), (1, iv q.1)]) (fun (q : Int × Hp) => q.2) (fun (q : Int × Hp) => r32 q.1 ∧ Ext h6 q.2) 47 (fun (y47 : Hp) => [(0, rv D a0)]) (fun (y47 : Hp) => y47) (fun (y47 : Hp) => Ext h6 y47) (x1_8, h6) ⟨(r32_z r1_8), (Ext.refl _)⟩ ?_ ?_
  · rintro ⟨x1_9, h_9⟩ ⟨r1_9, E_9⟩
    try dsimp only
    unfold m_X14_prepareNotes_l9
    refine g_iload_n (pc := 9) X (j := 1) (i := 1) (q := 1) (x := x1_9) rfl rfl (dl_at t_X14_prepareNotes 7 rfl) ?_
    refine g_aload_n (pc := 10) X (j := 0) (i := 0) (q := 0) (x := a0) rfl rfl (dl_at t_X14_prepareNotes 8 rfl) ?_
    have k11 := kx (E6.trans E_9) (by decide) hk
    refine r_geti (pc := 11) X fX14_36 k11 q1293 (dl_at t_X14_prepareNotes 9 rfl) fun g11 => ?_
    refine g_icmpge (pc := 14) X r1_9 g11 (off := 33) (tgt := 47) rfl (dl_at t_X14_prepareNotes 10 rfl) (fun _ => ?_) (fun _ => ?_)
    · refine g_ls (ls2 := [(0, rv D a0)]) [0] rfl ?_
      exact g_at fun Q hQ => hQ E_9
    refine g_aload_n (pc := 17) X (j := 0) (i := 0) (q := 0) (x := a0) rfl rfl (dl_at t_X14_prepareNotes 11 rfl) ?_
    refine r_getr (pc := 18) X fX14_54 k11 q1316 (dl_at t_X14_prepareNotes 12 rfl) ?_
    refine g_iload_n (pc := 21) X (j := 1) (i := 1) (q := 1) (x := x1_9) rfl rfl (dl_at t_X14_prepareNotes 13 rfl) ?_
    refine g_iconst (pc := 22) X (n := 1) (dl_at t_X14_prepareNotes 14 rfl) ?_
    refine g_iadd (pc := 23) X r1_9 (r32_c rfl) (dl_at t_X14_prepareNotes 15 rfl) ?_
    refine g_aload_n (pc := 24) X (j := 0) (i := 0) (q := 0) (x := a0) rfl rfl (dl_at t_X14_prepareNotes 16 rfl) ?_
    refine r_getr (pc := 25) X fX14_54 k11 q1316 (dl_at t_X14_prepareNotes 17 rfl) ?_
    refine g_iload_n (pc := 28) X (j := 1) (i := 1) (q := 1) (x := x1_9) rfl rfl (dl_at t_X14_prepareNotes 18 rfl) ?_
    refine g_gd fun k29 => ?_
    refine g_iald (pc := 29) X r1_9 k29 (dl_at t_X14_prepareNotes 19 rfl) fun g29 => ?_
    refine g_aload_n (pc := 30) X (j := 0) (i := 0) (q := 0) (x := a0) rfl rfl (dl_at t_X14_prepareNotes 20 rfl) ?_
    refine r_getr (pc := 31) X fX14_34 k11 q1290 (dl_at t_X14_prepareNotes 21 rfl) ?_
    refine g_iload_n (pc := 34) X (j := 1) (i := 1) (q := 1) (x := x1_9) rfl rfl (dl_at t_X14_prepareNotes 22 rfl) ?_
    refine g_gd fun k35 => ?_
    refine g_aald (pc := 35) X 9 (Nat.le_of_ble_eq_true rfl) (Nat.le_of_ble_eq_true rfl) r1_9 rfl k35 (dl_at t_X14_prepareNotes 23 rfl) ?_
    refine g_gd fun k36 => ?_
    refine r_getiN (pc := 36) X fX28_18 k36 (nw_in q2563 rfl) (dl_at t_X14_prepareNotes 24 rfl) fun g36 => ?_
    refine g_iadd (pc := 39) X g29 g36 (dl_at t_X14_prepareNotes 25 rfl) ?_
    refine g_gd fun k40 => ?_
    refine r_iast (pc := 40) X (r32_w _) (r32_w _) k40 (dl_at t_X14_prepareNotes 26 rfl) (fun h40 E40 => ?_)
    refine r_iincN (pc := 41) X (i := 1) (q := 1) (n := 1) (x := x1_9) (b := 0) (w := rv D a0) (rest := []) rfl r1_9 (r32_c rfl) (Nat.le_of_ble_eq_true rfl) [0] rfl (by decide) rv_cat rfl (dl_at t_X14_prepareNotes 27 rfl) fun x1_41 r1_41 => ?_
    refine g_goto (pc := 44) X (off := (-35)) (tgt := 9) rfl (dl_at t_X14_prepareNotes 28 rfl) ?_
    refine g_ls (ls2 := [(0, rv D a0), (1, iv x1_41)]) [1, 0] rfl ?_
    exact g_at fun Q hQ => hQ ⟨r1_41, (E_9.trans E40)⟩
  · rintro h_47 E_47
    try dsimp only [sE]
    refine g_aload_n (pc := 47) X (j := 0) (i := 0) (q := 0) (x := a0) rfl rfl (dl_at t_X14_prepareNotes 29 rfl) ?_
    refine g_aload_n (pc := 48) X (j := 0) (i := 0) (q := 0) (x := a0) rfl rfl (dl_at t_X14_prepareNotes 30 rfl) ?_
    have k49 := kx (E6.trans E_47) (by decide) hk
    refine r_getr (pc := 49) X fX14_54 k49 q1316 (dl_at t_X14_prepareNotes 31 rfl) ?_
    refine g_aload_n (pc := 52) X (j := 0) (i := 0) (q := 0) (x := a0) rfl rfl (dl_at t_X14_prepareNotes 32 rfl) ?_
    refine r_geti (pc := 53) X fX14_36 k49 q1293 (dl_at t_X14_prepareNotes 33 rfl) fun g53 => ?_
    refine g_gd fun k56 => ?_
    refine g_iald (pc := 56) X g53 k56 (dl_at t_X14_prepareNotes 34 rfl) fun g56 => ?_
    refine r_puti (pc := 57) X fX14_57 k49 q1320 rfl (dl_at t_X14_prepareNotes 35 rfl) g56 (fun h57 E57 => ?_)
    refine g_aload_n (pc := 60) X (j := 0) (i := 0) (q := 0) (x := a0) rfl rfl (dl_at t_X14_prepareNotes 36 rfl) ?_
    have k61 := kx E57 (by decide) k49
    refine r_getr (pc := 61) X fX14_55 k61 q1318 (dl_at t_X14_prepareNotes 37 rfl) ?_
    refine g_iconst (pc := 64) X (n := 0) (dl_at t_X14_prepareNotes 38 rfl) ?_
    refine g_lconst0 (pc := 65) X (dl_at t_X14_prepareNotes 39 rfl) ?_
    refine g_gd fun k66 => ?_
    refine r_last (pc := 66) X (r32_c rfl) (r64_c rfl) k66 (dl_at t_X14_prepareNotes 40 rfl) (fun h66 E66 => ?_)
    refine g_iconst (pc := 67) X (n := 0) (dl_at t_X14_prepareNotes 41 rfl) ?_
    refine g_ltz (Or.inl rfl) fun x1_68 r1_68 => ?_
    refine g_istore_nN (pc := 68) X (j := 1) (i := 1) (x := x1_68) (b := 0) (w := rv D a0) (rest := []) rfl (Nat.le_of_ble_eq_true rfl) [0] rfl (by decide) rv_cat rfl (dl_at t_X14_prepareNotes 42 rfl) ?_
    refine g_ls (ls2 := [(0, rv D a0), (1, iv x1_68)]) [1, 0] rfl ?_
    refine g_loop0F (fun (q : Int × Hp) => [(0, rv D a0), (1, iv q.1)]) (fun (q : Int × Hp) => q.2) (fun (q : Int × Hp) => r32 q.1 ∧ Ext h66 q.2) (x1_68, h66) ⟨(r32_z r1_68), (Ext.refl _)⟩ ?_ (fun _ => rfl)
    · rintro ⟨x1_69, h_69⟩ ⟨r1_69, E_69⟩
      try dsimp only
      unfold m_X14_prepareNotes_l69
      refine g_iload_n (pc := 69) X (j := 1) (i := 1) (q := 1) (x := x1_69) rfl rfl (dl_at t_X14_prepareNotes 43 rfl) ?_
      refine g_aload_n (pc := 70) X (j := 0) (i := 0) (q := 0) (x := a0) rfl rfl (dl_at t_X14_prepareNotes 44 rfl) ?_
      have k71 := kx (E66.trans E_69) (by decide) k61
      refine r_geti (pc := 71) X fX14_36 k71 q1293 (dl_at t_X14_prepareNotes 45 rfl) fun g71 => ?_
      refine g_icmpge (pc := 74) X r1_69 g71 (off := 66) (tgt := 140) rfl (dl_at t_X14_prepareNotes 46 rfl) (fun _ => ?_) (fun _ => ?_)
      · exact g_at fun Q hQ => (g_vret (pc := 140) X (v := 0) rfl rfl (dl_at t_X14_prepareNotes 86 rfl)) _ Q rfl hQ
      refine g_aload_n (pc := 77) X (j := 0) (i := 0) (q := 0) (x := a0) rfl rfl (dl_at t_X14_prepareNotes 47 rfl) ?_
      refine r_getr (pc := 78) X fX14_54 k71 q1316 (dl_at t_X14_prepareNotes 48 rfl) ?_
      refine g_iload_n (pc := 81) X (j := 1) (i := 1) (q := 1) (x := x1_69) rfl rfl (dl_at t_X14_prepareNotes 49 rfl) ?_
      refine g_gd fun k82 => ?_
      refine g_iald (pc := 82) X r1_69 k82 (dl_at t_X14_prepareNotes 50 rfl) fun g82 => ?_
      refine g_lti g82 fun x2_83 r2_83 => ?_
      refine g_istore_nN (pc := 83) X (j := 2) (i := 2) (x := x2_83) (b := 1) (w := iv x1_69) (rest := [(0, rv D a0)]) rfl (Nat.le_of_ble_eq_true rfl) [1, 0] rfl (by decide) rfl rfl (dl_at t_X14_prepareNotes 51 rfl) ?_
      refine g_ls (ls2 := [(0, rv D a0), (1, iv x1_69), (2, iv x2_83)]) [2, 1, 0] rfl ?_
      refine g_loop1 (fun (q : Int × Hp) => [(0, rv D a0), (1, iv x1_69), (2, iv q.1)]) (fun (q : Int × Hp) => q.2) (fun (q : Int × Hp) => r32 q.1 ∧ Ext h_69 q.2) 134 (fun (y134 : Hp) => [(0, rv D a0), (1, iv x1_69)]) (fun (y134 : Hp) => y134) (fun (y134 : Hp) => Ext h_69 y134) (x2_83, h_69) ⟨r2_83, (Ext.refl _)⟩ ?_ ?_
      · rintro ⟨x2_84, h_84⟩ ⟨r2_84, E_84⟩
        try dsimp only
        unfold m_X14_prepareNotes_l84
        refine g_iload_n (pc := 84) X (j := 2) (i := 2) (q := 2) (x := x2_84) rfl rfl (dl_at t_X14_prepareNotes 52 rfl) ?_
        refine g_aload_n (pc := 85) X (j := 0) (i := 0) (q := 0) (x := a0) rfl rfl (dl_at t_X14_prepareNotes 53 rfl) ?_
        have k86 := kx E_84 (by decide) k71
        refine r_getr (pc := 86) X fX14_54 k86 q1316 (dl_at t_X14_prepareNotes 54 rfl) ?_
        refine g_iload_n (pc := 89) X (j := 1) (i := 1) (q := 1) (x := x1_69) rfl rfl (dl_at t_X14_prepareNotes 55 rfl) ?_
        refine g_iconst (pc := 90) X (n := 1) (dl_at t_X14_prepareNotes 56 rfl) ?_
        refine g_iadd (pc := 91) X r1_69 (r32_c rfl) (dl_at t_X14_prepareNotes 57 rfl) ?_
        refine g_gd fun k92 => ?_
        refine g_iald (pc := 92) X (r32_w _) k92 (dl_at t_X14_prepareNotes 58 rfl) fun g92 => ?_
        refine g_icmpge (pc := 93) X r2_84 g92 (off := 41) (tgt := 134) rfl (dl_at t_X14_prepareNotes 59 rfl) (fun _ => ?_) (fun _ => ?_)
        · refine g_ls (ls2 := [(0, rv D a0), (1, iv x1_69)]) [0, 1] rfl ?_
          exact g_at fun Q hQ => hQ E_84
        refine g_aload_n (pc := 96) X (j := 0) (i := 0) (q := 0) (x := a0) rfl rfl (dl_at t_X14_prepareNotes 60 rfl) ?_
        refine r_getr (pc := 97) X fX14_56 k86 q1319 (dl_at t_X14_prepareNotes 61 rfl) ?_
        refine g_iload_n (pc := 100) X (j := 2) (i := 2) (q := 2) (x := x2_84) rfl rfl (dl_at t_X14_prepareNotes 62 rfl) ?_
        refine g_iload_n (pc := 101) X (j := 1) (i := 1) (q := 1) (x := x1_69) rfl rfl (dl_at t_X14_prepareNotes 63 rfl) ?_
        refine g_gd fun k102 => ?_
        refine r_iast (pc := 102) X r2_84 r1_69 k102 (dl_at t_X14_prepareNotes 64 rfl) (fun h102 E102 => ?_)
        refine g_aload_n (pc := 103) X (j := 0) (i := 0) (q := 0) (x := a0) rfl rfl (dl_at t_X14_prepareNotes 65 rfl) ?_
        have k104 := kx E102 (by decide) k86
        refine r_getr (pc := 104) X fX14_55 k104 q1318 (dl_at t_X14_prepareNotes 66 rfl) ?_
        refine g_iload_n (pc := 107) X (j := 2) (i := 2) (q := 2) (x := x2_84) rfl rfl (dl_at t_X14_prepareNotes 67 rfl) ?_
        refine g_iconst (pc := 108) X (n := 1) (dl_at t_X14_prepareNotes 68 rfl) ?_
        refine g_iadd (pc := 109) X r2_84 (r32_c rfl) (dl_at t_X14_prepareNotes 69 rfl) ?_
        refine g_aload_n (pc := 110) X (j := 0) (i := 0) (q := 0) (x := a0) rfl rfl (dl_at t_X14_prepareNotes 70 rfl) ?_
        refine r_getr (pc := 111) X fX14_55 k104 q1318 (dl_at t_X14_prepareNotes 71 rfl) ?_
        refine g_iload_n (pc := 114) X (j := 2) (i := 2) (q := 2) (x := x2_84) rfl rfl (dl_at t_X14_prepareNotes 72 rfl) ?_
        refine g_gd fun k115 => ?_
        refine g_lald (pc := 115) X r2_84 k115 (dl_at t_X14_prepareNotes 73 rfl) fun g115 => ?_
        refine g_aload_n (pc := 116) X (j := 0) (i := 0) (q := 0) (x := a0) rfl rfl (dl_at t_X14_prepareNotes 74 rfl) ?_
        refine r_getr (pc := 117) X fX14_34 k104 q1290 (dl_at t_X14_prepareNotes 75 rfl) ?_
        refine g_iload_n (pc := 120) X (j := 1) (i := 1) (q := 1) (x := x1_69) rfl rfl (dl_at t_X14_prepareNotes 76 rfl) ?_
        refine g_gd fun k121 => ?_
        refine g_aald (pc := 121) X 9 (Nat.le_of_ble_eq_true rfl) (Nat.le_of_ble_eq_true rfl) r1_69 rfl k121 (dl_at t_X14_prepareNotes 77 rfl) ?_
        refine g_gd fun k122 => ?_
        refine r_getiN (pc := 122) X fX28_7 k122 (nw_in q2546 rfl) (dl_at t_X14_prepareNotes 78 rfl) fun g122 => ?_
        refine g_i2l (pc := 125) X g122 (dl_at t_X14_prepareNotes 79 rfl) ?_
        refine g_ladd (pc := 126) X g115 (r64_of g122) (dl_at t_X14_prepareNotes 80 rfl) ?_
        refine g_gd fun k127 => ?_
        refine r_last (pc := 127) X (r32_w _) (r64_w _) k127 (dl_at t_X14_prepareNotes 81 rfl) (fun h127 E127 => ?_)
        refine r_iincN (pc := 128) X (i := 2) (q := 2) (n := 1) (x := x2_84) (b := 1) (w := iv x1_69) (rest := [(0, rv D a0)]) rfl r2_84 (r32_c rfl) (Nat.le_of_ble_eq_true rfl) [1, 0] rfl (by decide) rfl rfl (dl_at t_X14_prepareNotes 82 rfl) fun x2_128 r2_128 => ?_
        refine g_goto (pc := 131) X (off := (-47)) (tgt := 84) rfl (dl_at t_X14_prepareNotes 83 rfl) ?_
        refine g_ls (ls2 := [(0, rv D a0), (1, iv x1_69), (2, iv x2_128)]) [2, 1, 0] rfl ?_
        exact g_at fun Q hQ => hQ ⟨r2_128, (E_84.trans (E102.trans E127))⟩
      · rintro h_134 E_134
        try dsimp only [sE]
        refine r_iincN (pc := 134) X (i := 1) (q := 1) (n := 1) (x := x1_69) (b := 0) (w := rv D a0) (rest := []) rfl r1_69 (r32_c rfl) (Nat.le_of_ble_eq_true rfl) [0] rfl (by decide) rv_cat rfl (dl_at t_X14_prepareNotes 84 rfl) fun x1_134 r1_134 => ?_
        refine g_goto (pc := 137) X (off := (-68)) (tgt := 69) rfl (dl_at t_X14_prepareNotes 85 rfl) ?_
        refine g_ls (ls2 := [(0, rv D a0), (1, iv x1_134)]) [1, 0] rfl ?_
        exact g_at fun Q hQ => hQ ⟨r1_134, (E_69.trans E_134)⟩
def k_X14_begins : List (Nat × Instr × Nat) := [(0, .iload_n 1, 1), (1, .istore_n 3, 1), (2, .iload_n 2, 1), (3, .istore 4, 2), (5, .iload_n 3, 1), (6, .ifCond .lt 55, 3), (9, .iload 4, 2), (11, .ifCond .lt 50, 3), (14, .aload_n 0, 1), (15, .getfield 154, 3), (18, .getfield 708, 3), (21, .iload_n 3, 1), (22, .iaload, 1), (23, .aload_n 0, 1), (24, .getfield 154, 3), (27, .getfield 708, 3), (30, .iload 4, 2), (32, .iaload, 1), (33, .if_icmp .ne 28, 3), (36, .aload_n 0, 1), (37, .getfield 154, 3), (40, .getfield 699, 3), (43, .iload_n 3, 1), (44, .iaload, 1), (45, .istore_n 3, 1), (46, .aload_n 0, 1), (47, .getfield 154, 3), (50, .getfield 699, 3), (53, .iload 4, 2), (55, .iaload, 1), (56, .istore 4, 2), (58, .goto (-53), 3), (61, .iload_n 3, 1), (62, .ifCond .lt 34, 3), (65, .iload 4, 2), (67, .ifCond .lt 29, 3), (70, .aload_n 0, 1), (71, .getfield 154, 3), (74, .getfield 708, 3), (77, .iload_n 3, 1), (78, .iaload, 1), (79, .aload_n 0, 1), (80, .getfield 154, 3), (83, .getfield 708, 3), (86, .iload 4, 2), (88, .iaload, 1), (89, .if_icmp .ge 7, 3), (92, .iconst 1, 1), (93, .goto 4, 3), (96, .iconst 0, 1), (97, .ireturn, 1)]
theorem t_X14_begins : ∀ q ∈ k_X14_begins, decode cX14_begins q.1 = .ok q.2 := dl_all (by decide +kernel)
noncomputable def m_X14_begins_l5 (a0 x3_5 x4_5 : Int) (h : Hp) : Option ((Int × Int) ⊕ ((Int × Int))) :=
  if x3_5 < 0 then (some (.inr (x3_5, x4_5)))
  else (if x4_5 < 0 then (some (.inr (x3_5, x4_5)))
  else (gd (h (h a0 0) (-2) = 160) (gd (h (h (h a0 0) 10) (-2) % 16 = 1 ∧ (0 : Int) ≤ x3_5 ∧ x3_5 < h (h (h a0 0) 10) (-1)) (gd (h (h (h a0 0) 10) (-2) % 16 = 1 ∧ (0 : Int) ≤ x4_5 ∧ x4_5 < h (h (h a0 0) 10) (-1)) (if (h (h (h a0 0) 10) x3_5) ≠ (h (h (h a0 0) 10) x4_5) then (some (.inr (x3_5, x4_5)))
  else (gd (h (h (h a0 0) 14) (-2) % 16 = 1 ∧ (0 : Int) ≤ x3_5 ∧ x3_5 < h (h (h a0 0) 14) (-1)) (lt_ (h (h (h a0 0) 14) x3_5) fun x3_45 =>
  gd (h (h (h a0 0) 14) (-2) % 16 = 1 ∧ (0 : Int) ≤ x4_5 ∧ x4_5 < h (h (h a0 0) 14) (-1)) (lt_ (h (h (h a0 0) 14) x4_5) fun x4_56 =>
  some (.inl (x3_45, x4_56))))))))))
noncomputable def m_X14_begins (a0 a1 a2 : Int) (h : Hp) : Option (Int) :=
  (lp (fun (q : Int × Int) => m_X14_begins_l5 a0 q.1 q.2 h) (a1, a2)).bind (fun (y61 : Int × Int) => if y61.1 < 0 then (some 0)
  else (if y61.2 < 0 then (some 0)
  else (gd (h (h a0 0) (-2) = 160) (gd (h (h (h a0 0) 10) (-2) % 16 = 1 ∧ (0 : Int) ≤ y61.1 ∧ y61.1 < h (h (h a0 0) 10) (-1)) (gd (h (h (h a0 0) 10) (-2) % 16 = 1 ∧ (0 : Int) ≤ y61.2 ∧ y61.2 < h (h (h a0 0) 10) (-1)) (if (h (h (h a0 0) 10) y61.2) ≤ (h (h (h a0 0) 10) y61.1) then (some 0)
  else (some 1)))))))
theorem s_X14_begins {l : Launch} [NoTr l] {D : SD} {a0 a1 a2 : Int} {h : Hp} (hk : h a0 (-2) = 224) (r1 : r32 a1) (r2 : r32 a2) {r : Int} (hm : m_X14_begins a0 a1 a2 h = some r) : Sim l D yX14_begins (Cond.code yX14_begins cX14_begins 5 (Option.some Jvm.ClassFile.FieldType.boolean)) 0 0 [rv D a0, iv a1, iv a2] h 3 ((0, r), h) := by
  refine Sim.of (fin := fun (v : Int) => ((0, v), h)) (lsE := [(0, rv D a0), (1, iv a1), (2, iv a2)]) hm rfl cwS_code (la_r (la_i (la_i la_n))) (ll_r (ll_i (ll_i ll_n))) ?_
  intro p e s m below meth c X hcw hmm hcc hnm hname
  unfold m_X14_begins
  refine g_iload_n (pc := 0) X (j := 1) (i := 1) (q := 1) (x := a1) rfl rfl (dl_at t_X14_begins 0 rfl) ?_
  refine g_istore_nN (pc := 1) X (j := 3) (i := 3) (x := a1) (b := 2) (w := iv a2) (rest := [(0, rv D a0)]) rfl (Nat.le_of_ble_eq_true rfl) [2, 0] rfl (by decide) rfl rfl (dl_at t_X14_begins 1 rfl) ?_
  refine g_iload_n (pc := 2) X (j := 2) (i := 2) (q := 1) (x := a2) rfl rfl (dl_at t_X14_begins 2 rfl) ?_
  refine g_istoreN (pc := 3) X (i := 4) (x := a2) (b := 3) (w := iv a1) (rest := [(0, rv D a0)]) (Nat.le_of_ble_eq_true rfl) [0, 2] rfl (by decide) rfl rfl (dl_at t_X14_begins 3 rfl) ?_
  refine g_ls (ls2 := [(0, rv D a0), (3, iv a1), (4, iv a2)]) [2, 1, 0] rfl ?_
  refine g_loop1 (fun (q : Int × Int) => [(0, rv D a0), (3, iv q.1), (4, iv q.2)]) (fun (q : Int × Int) => h) (fun (q : Int × Int) => r32 q.1 ∧ r32 q.2) 61 (fun (y61 : Int × Int) => [(0, rv D a0), (3, iv y61.1), (4, iv y61.2)]) (fun (y61 : Int × Int) => h) (fun (y61 : Int × Int) => r32 y61.1 ∧ r32 y61.2) (a1, a2) ⟨r1, r2⟩ ?_ ?_
  · rintro ⟨x3_5, x4_5⟩ ⟨r3_5, r4_5⟩
    try dsimp only
    unfold m_X14_begins_l5
    refine g_iload_n (pc := 5) X (j := 3) (i := 3) (q := 1) (x := x3_5) rfl rfl (dl_at t_X14_begins 4 rfl) ?_
    refine g_iflt (pc := 6) X r3_5 (off := 55) (tgt := 61) rfl (dl_at t_X14_begins 5 rfl) (fun _ => ?_) (fun _ => ?_)
    · exact g_at fun Q hQ => hQ ⟨r3_5, r4_5⟩
    refine g_iload (pc := 9) X (i := 4) (q := 2) (x := x4_5) rfl (dl_at t_X14_begins 6 rfl) ?_
    refine g_iflt (pc := 11) X r4_5 (off := 50) (tgt := 61) rfl (dl_at t_X14_begins 7 rfl) (fun _ => ?_) (fun _ => ?_)
    · exact g_at fun Q hQ => hQ ⟨r3_5, r4_5⟩
    refine g_aload_n (pc := 14) X (j := 0) (i := 0) (q := 0) (x := a0) rfl rfl (dl_at t_X14_begins 8 rfl) ?_
    refine r_getr (pc := 15) X fX14_0 hk q1241 (dl_at t_X14_begins 9 rfl) ?_
    refine g_gd fun k18 => ?_
    refine r_getrN (pc := 18) X fX10_10 k18 (nw_in q1058 rfl) (dl_at t_X14_begins 10 rfl) ?_
    refine g_iload_n (pc := 21) X (j := 3) (i := 3) (q := 1) (x := x3_5) rfl rfl (dl_at t_X14_begins 11 rfl) ?_
    refine g_gd fun k22 => ?_
    refine g_iald (pc := 22) X r3_5 k22 (dl_at t_X14_begins 12 rfl) fun g22 => ?_
    refine g_aload_n (pc := 23) X (j := 0) (i := 0) (q := 0) (x := a0) rfl rfl (dl_at t_X14_begins 13 rfl) ?_
    refine r_getr (pc := 24) X fX14_0 hk q1241 (dl_at t_X14_begins 14 rfl) ?_
    refine r_getrN (pc := 27) X fX10_10 k18 (nw_in q1058 rfl) (dl_at t_X14_begins 15 rfl) ?_
    refine g_iload (pc := 30) X (i := 4) (q := 2) (x := x4_5) rfl (dl_at t_X14_begins 16 rfl) ?_
    refine g_gd fun k32 => ?_
    refine g_iald (pc := 32) X r4_5 k32 (dl_at t_X14_begins 17 rfl) fun g32 => ?_
    refine g_icmpne (pc := 33) X g22 g32 (off := 28) (tgt := 61) rfl (dl_at t_X14_begins 18 rfl) (fun _ => ?_) (fun _ => ?_)
    · exact g_at fun Q hQ => hQ ⟨r3_5, r4_5⟩
    refine g_aload_n (pc := 36) X (j := 0) (i := 0) (q := 0) (x := a0) rfl rfl (dl_at t_X14_begins 19 rfl) ?_
    refine r_getr (pc := 37) X fX14_0 hk q1241 (dl_at t_X14_begins 20 rfl) ?_
    refine r_getrN (pc := 40) X fX10_14 k18 (nw_in q1066 rfl) (dl_at t_X14_begins 21 rfl) ?_
    refine g_iload_n (pc := 43) X (j := 3) (i := 3) (q := 1) (x := x3_5) rfl rfl (dl_at t_X14_begins 22 rfl) ?_
    refine g_gd fun k44 => ?_
    refine g_iald (pc := 44) X r3_5 k44 (dl_at t_X14_begins 23 rfl) fun g44 => ?_
    refine g_lti g44 fun x3_45 r3_45 => ?_
    refine g_istore_n (pc := 45) X (j := 3) (i := 3) (x := x3_45) (rest := [(0, rv D a0), (4, iv x4_5)]) rfl (Nat.le_of_ble_eq_true rfl) [0, 2] rfl rfl (dl_at t_X14_begins 24 rfl) ?_
    refine g_aload_n (pc := 46) X (j := 0) (i := 0) (q := 1) (x := a0) rfl rfl (dl_at t_X14_begins 25 rfl) ?_
    refine r_getr (pc := 47) X fX14_0 hk q1241 (dl_at t_X14_begins 26 rfl) ?_
    refine r_getrN (pc := 50) X fX10_14 k18 (nw_in q1066 rfl) (dl_at t_X14_begins 27 rfl) ?_
    refine g_iload (pc := 53) X (i := 4) (q := 2) (x := x4_5) rfl (dl_at t_X14_begins 28 rfl) ?_
    refine g_gd fun k55 => ?_
    refine g_iald (pc := 55) X r4_5 k55 (dl_at t_X14_begins 29 rfl) fun g55 => ?_
    refine g_lti g55 fun x4_56 r4_56 => ?_
    refine g_istoreN (pc := 56) X (i := 4) (x := x4_56) (b := 3) (w := iv x3_45) (rest := [(0, rv D a0)]) (Nat.le_of_ble_eq_true rfl) [0, 1] rfl (by decide) rfl rfl (dl_at t_X14_begins 30 rfl) ?_
    refine g_goto (pc := 58) X (off := (-53)) (tgt := 5) rfl (dl_at t_X14_begins 31 rfl) ?_
    refine g_ls (ls2 := [(0, rv D a0), (3, iv x3_45), (4, iv x4_56)]) [2, 1, 0] rfl ?_
    exact g_at fun Q hQ => hQ ⟨r3_45, r4_56⟩
  · rintro ⟨x3_61, x4_61⟩ ⟨r3_61, r4_61⟩
    try dsimp only [sE]
    refine g_iload_n (pc := 61) X (j := 3) (i := 3) (q := 1) (x := x3_61) rfl rfl (dl_at t_X14_begins 32 rfl) ?_
    refine g_iflt (pc := 62) X r3_61 (off := 34) (tgt := 96) rfl (dl_at t_X14_begins 33 rfl) (fun _ => ?_) (fun _ => ?_)
    · refine g_iconst (pc := 96) X (n := 0) (dl_at t_X14_begins 49 rfl) ?_
      exact g_zret (pc := 97) X (Or.inl rfl) rfl rfl (dl_at t_X14_begins 50 rfl)
    refine g_iload (pc := 65) X (i := 4) (q := 2) (x := x4_61) rfl (dl_at t_X14_begins 34 rfl) ?_
    refine g_iflt (pc := 67) X r4_61 (off := 29) (tgt := 96) rfl (dl_at t_X14_begins 35 rfl) (fun _ => ?_) (fun _ => ?_)
    · refine g_iconst (pc := 96) X (n := 0) (dl_at t_X14_begins 49 rfl) ?_
      exact g_zret (pc := 97) X (Or.inl rfl) rfl rfl (dl_at t_X14_begins 50 rfl)
    refine g_aload_n (pc := 70) X (j := 0) (i := 0) (q := 0) (x := a0) rfl rfl (dl_at t_X14_begins 36 rfl) ?_
    refine r_getr (pc := 71) X fX14_0 hk q1241 (dl_at t_X14_begins 37 rfl) ?_
    refine g_gd fun k74 => ?_
    refine r_getrN (pc := 74) X fX10_10 k74 (nw_in q1058 rfl) (dl_at t_X14_begins 38 rfl) ?_
    refine g_iload_n (pc := 77) X (j := 3) (i := 3) (q := 1) (x := x3_61) rfl rfl (dl_at t_X14_begins 39 rfl) ?_
    refine g_gd fun k78 => ?_
    refine g_iald (pc := 78) X r3_61 k78 (dl_at t_X14_begins 40 rfl) fun g78 => ?_
    refine g_aload_n (pc := 79) X (j := 0) (i := 0) (q := 0) (x := a0) rfl rfl (dl_at t_X14_begins 41 rfl) ?_
    refine r_getr (pc := 80) X fX14_0 hk q1241 (dl_at t_X14_begins 42 rfl) ?_
    refine r_getrN (pc := 83) X fX10_10 k74 (nw_in q1058 rfl) (dl_at t_X14_begins 43 rfl) ?_
    refine g_iload (pc := 86) X (i := 4) (q := 2) (x := x4_61) rfl (dl_at t_X14_begins 44 rfl) ?_
    refine g_gd fun k88 => ?_
    refine g_iald (pc := 88) X r4_61 k88 (dl_at t_X14_begins 45 rfl) fun g88 => ?_
    refine g_icmpge (pc := 89) X g78 g88 (off := 7) (tgt := 96) rfl (dl_at t_X14_begins 46 rfl) (fun _ => ?_) (fun _ => ?_)
    · refine g_iconst (pc := 96) X (n := 0) (dl_at t_X14_begins 49 rfl) ?_
      exact g_zret (pc := 97) X (Or.inl rfl) rfl rfl (dl_at t_X14_begins 50 rfl)
    refine g_iconst (pc := 92) X (n := 1) (dl_at t_X14_begins 47 rfl) ?_
    refine g_goto (pc := 93) X (off := 4) (tgt := 97) rfl (dl_at t_X14_begins 48 rfl) ?_
    exact g_zret (pc := 97) X (Or.inr rfl) rfl rfl (dl_at t_X14_begins 50 rfl)
def k_X10_add : List (Nat × Instr × Nat) := [(0, .aload_n 0, 1), (1, .getfield 85, 3), (4, .sipush 20000, 3), (7, .if_icmp .ge 7, 3), (10, .iconst 1, 1), (11, .goto 4, 3), (14, .iconst 0, 1), (15, .invokestatic 89, 3), (18, .aload_n 0, 1), (19, .dup, 1), (20, .getfield 85, 3), (23, .iconst 1, 1), (24, .iadd, 1), (25, .putfield 85, 3), (28, .aload_n 0, 1), (29, .getfield 85, 3), (32, .iconst 1, 1), (33, .isub, 1), (34, .ireturn, 1)]
theorem t_X10_add : ∀ q ∈ k_X10_add, decode cX10_add q.1 = .ok q.2 := dl_all (by decide +kernel)
noncomputable def m_X10_add_j15 (a0 s0_15 : Int) (h : Hp) : Option ((Int × Int) × Hp) :=
  bT (m_X1_room s0_15 h) (fun _ h15 =>
  pt h15 a0 18 (w32 ((h15 a0 18) + 1)) fun h25 =>
  some ((0, (w32 ((h25 a0 18) - 1))), h25)) (fun a_ h_ => some ((1, a_), h_))
noncomputable def m_X10_add (a0 : Int) (h : Hp) : Option ((Int × Int) × Hp) :=
  if 20000 ≤ (h a0 18) then (m_X10_add_j15 a0 0 h)
  else (m_X10_add_j15 a0 1 h)
theorem s_X10_add {l : Launch} [NoTr l] {D : SD} {a0 : Int} {h : Hp} (hk : h a0 (-2) = 160) {r : (Int × Int) × Hp} (hm : m_X10_add a0 h = some r) : Sim l D yX10_add (Cond.code yX10_add cX10_add 1 (Option.some Jvm.ClassFile.FieldType.int)) 10 372 [rv D a0] h 1 r := by
  refine Sim.of (fin := fun (v : (Int × Int) × Hp) => v) (lsE := [(0, rv D a0)]) hm rfl cwS_code (la_r la_n) (ll_r ll_n) ?_
  intro p e s m below meth c X hcw hmm hcc hnm hname
  have hno := noh hcw hnm hmm hcc
  unfold m_X10_add
  refine g_aload_n (pc := 0) X (j := 0) (i := 0) (q := 0) (x := a0) rfl rfl (dl_at t_X10_add 0 rfl) ?_
  refine r_geti (pc := 1) X fX10_18 hk q1073 (dl_at t_X10_add 1 rfl) fun g1 => ?_
  refine g_sipush (pc := 4) X (n := 20000) rfl (dl_at t_X10_add 2 rfl) ?_
  refine g_join (γ := Int) (fun q => (q = 0 ∨ q = 1)) 15 (fun q => [(0, rv D a0)]) (fun q => [iv q]) (fun q => h) (fun q => m_X10_add_j15 a0 q h) ?_ ?_
  · rintro s0_15 rs0_15
    try dsimp only
    unfold m_X10_add_j15
    refine r_callTv (pc := 15) X (fun _ hv => s_X1_room rs0_15 hv) cw_code q1653 q355 (in_Sc X (As := [iv s0_15]) (Or.inr ⟨_, nw_in q2989 rfl⟩) q1652 q355 q1653 ⟨by decide, by decide⟩ rfl (dl_at t_X10_add 7 rfl)) (dl_at t_X10_add 7 rfl) (cat24 (st := []) (Nat.le_of_ble_eq_true rfl)) (Nat.le_of_ble_eq_true rfl) (Nat.le_of_ble_eq_true rfl) (fun v15 h15 E15 => ?_) (fun _ _ ha _ => gt_at fun Q hQ => gt_out (Q := Q) X rfl ha (hno _) _ Q rfl hQ)
    refine g_aload_n (pc := 18) X (j := 0) (i := 0) (q := 0) (x := a0) rfl rfl (dl_at t_X10_add 8 rfl) ?_
    refine g_dup (pc := 19) X rv_cat (dl_at t_X10_add 9 rfl) ?_
    have k20 := kx E15 (by decide) hk
    refine r_geti (pc := 20) X fX10_18 k20 q1073 (dl_at t_X10_add 10 rfl) fun g20 => ?_
    refine g_iconst (pc := 23) X (n := 1) (dl_at t_X10_add 11 rfl) ?_
    refine g_iadd (pc := 24) X g20 (r32_c rfl) (dl_at t_X10_add 12 rfl) ?_
    refine r_puti (pc := 25) X fX10_18 k20 q1073 rfl (dl_at t_X10_add 13 rfl) (r32_w _) (fun h25 E25 => ?_)
    refine g_aload_n (pc := 28) X (j := 0) (i := 0) (q := 0) (x := a0) rfl rfl (dl_at t_X10_add 14 rfl) ?_
    have k29 := kx E25 (by decide) k20
    refine r_geti (pc := 29) X fX10_18 k29 q1073 (dl_at t_X10_add 15 rfl) fun g29 => ?_
    refine g_iconst (pc := 32) X (n := 1) (dl_at t_X10_add 16 rfl) ?_
    refine g_isub (pc := 33) X g29 (r32_c rfl) (dl_at t_X10_add 17 rfl) ?_
    exact g_iret (pc := 34) X (r32_w _) rfl rfl (dl_at t_X10_add 18 rfl)
  intro J15
  refine g_icmpge (pc := 7) X g1 (r32_c rfl) (off := 7) (tgt := 14) rfl (dl_at t_X10_add 3 rfl) (fun _ => ?_) (fun _ => ?_)
  · refine g_iconst (pc := 14) X (n := 0) (dl_at t_X10_add 6 rfl) ?_
    exact J15 0 (Or.inl rfl)
  refine g_iconst (pc := 10) X (n := 1) (dl_at t_X10_add 4 rfl) ?_
  refine g_goto (pc := 11) X (off := 4) (tgt := 15) rfl (dl_at t_X10_add 5 rfl) ?_
  exact J15 1 (Or.inr rfl)
def k_X14_reach : List (Nat × Instr × Nat) := [(0, .aload_n 0, 1), (1, .getfield 154, 3), (4, .astore 7, 2), (6, .aload 7, 2), (8, .getfield 693, 3), (11, .iload_n 1, 1), (12, .iaload, 1), (13, .istore 8, 2), (15, .iload 8, 2), (17, .ifCond .lt 40, 3), (20, .aload 7, 2), (22, .getfield 664, 3), (25, .iload 8, 2), (27, .iaload, 1), (28, .iload_n 2, 1), (29, .if_icmp .ne 15, 3), (32, .aload 7, 2), (34, .getfield 670, 3), (37, .iload 8, 2), (39, .iaload, 1), (40, .iload_n 3, 1), (41, .if_icmp .eq 16, 3), (44, .aload 7, 2), (46, .getfield 696, 3), (49, .iload 8, 2), (51, .iaload, 1), (52, .istore 8, 2), (54, .goto (-39), 3), (57, .iload 8, 2), (59, .ifCond .lt 69, 3), (62, .lload 4, 2), (64, .aload 7, 2), (66, .getfield 683, 3), (69, .iload 8, 2), (71, .laload, 1), (72, .lcmp, 1), (73, .ifCond .lt 34, 3), (76, .lload 4, 2), (78, .aload 7, 2), (80, .getfield 683, 3), (83, .iload 8, 2), (85, .laload, 1), (86, .lcmp, 1), (87, .ifCond .ne 40, 3), (90, .aload_n 0, 1), (91, .iload 6, 2), (93, .aload 7, 2), (95, .getfield 699, 3), (98, .iload 8, 2), (100, .iaload, 1), (101, .invokevirtual 702, 3), (104, .ifCond .eq 23, 3), (107, .aload 7, 2), (109, .getfield 683, 3), (112, .iload 8, 2), (114, .lload 4, 2), (116, .lastore, 1), (117, .aload 7, 2), (119, .getfield 699, 3), (122, .iload 8, 2), (124, .iload 6, 2), (126, .iastore, 1), (127, .return_, 1), (128, .aload 7, 2), (130, .invokevirtual 706, 3), (133, .istore 8, 2), (135, .aload 7, 2), (137, .getfield 708, 3), (140, .iload 8, 2), (142, .iload_n 1, 1), (143, .iastore, 1), (144, .aload 7, 2), (146, .getfield 664, 3), (149, .iload 8, 2), (151, .iload_n 2, 1), (152, .iastore, 1), (153, .aload 7, 2), (155, .getfield 670, 3), (158, .iload 8, 2), (160, .iload_n 3, 1), (161, .iastore, 1), (162, .aload 7, 2), (164, .getfield 683, 3), (167, .iload 8, 2), (169, .lload 4, 2), (171, .lastore, 1), (172, .aload 7, 2), (174, .getfield 699, 3), (177, .iload 8, 2), (179, .iload 6, 2), (181, .iastore, 1), (182, .aload 7, 2), (184, .getfield 696, 3), (187, .iload 8, 2), (189, .aload 7, 2), (191, .getfield 693, 3), (194, .iload_n 1, 1), (195, .iaload, 1), (196, .iastore, 1), (197, .aload 7, 2), (199, .getfield 693, 3), (202, .iload_n 1, 1), (203, .iload 8, 2), (205, .iastore, 1), (206, .return_, 1)]
theorem t_X14_reach : ∀ q ∈ k_X14_reach, decode cX14_reach q.1 = .ok q.2 := dl_all (by decide +kernel)
noncomputable def m_X14_reach_j44 (x7_4 x8_15 : Int) (h : Hp) : Option ((Int) ⊕ ((Int))) :=
  gd (h (h x7_4 15) (-2) % 16 = 1 ∧ (0 : Int) ≤ x8_15 ∧ x8_15 < h (h x7_4 15) (-1)) (lt_ (h (h x7_4 15) x8_15) fun x8_52 =>
  some (.inl x8_52))
noncomputable def m_X14_reach_l15 (a2 a3 x7_4 x8_15 : Int) (h : Hp) : Option ((Int) ⊕ ((Int))) :=
  if x8_15 < 0 then (some (.inr x8_15))
  else (gd (h (h x7_4 11) (-2) % 16 = 1 ∧ (0 : Int) ≤ x8_15 ∧ x8_15 < h (h x7_4 11) (-1)) (if (h (h x7_4 11) x8_15) ≠ a2 then (m_X14_reach_j44 x7_4 x8_15 h)
  else (gd (h (h x7_4 12) (-2) % 16 = 1 ∧ (0 : Int) ≤ x8_15 ∧ x8_15 < h (h x7_4 12) (-1)) (if (h (h x7_4 12) x8_15) = a3 then (some (.inr x8_15))
  else (m_X14_reach_j44 x7_4 x8_15 h)))))
noncomputable def m_X14_reach_j107 (a4 a6 x7_4 x8_57 : Int) (h : Hp) : Option ((Int × Int) × Hp) :=
  pt h (h x7_4 13) x8_57 a4 fun h116 =>
  gd (h116 (h116 x7_4 14) (-2) % 16 = 1 ∧ (0 : Int) ≤ x8_57 ∧ x8_57 < h116 (h116 x7_4 14) (-1)) (pt h116 (h116 x7_4 14) x8_57 a6 fun h126 =>
  some ((0, 0), h126))
noncomputable def m_X14_reach (a0 a1 a2 a3 a4 a6 : Int) (h : Hp) : Option ((Int × Int) × Hp) :=
  lt_ (h a0 0) fun x7_4 =>
  gd (h x7_4 (-2) = 160) (gd (h (h x7_4 16) (-2) % 16 = 1 ∧ (0 : Int) ≤ a1 ∧ a1 < h (h x7_4 16) (-1)) (lt_ (h (h x7_4 16) a1) fun x8_13 =>
  (lp (fun (q : Int) => m_X14_reach_l15 a2 a3 x7_4 q h) x8_13).bind (fun (y57 : Int) => if y57 < 0 then (bT (m_X10_add x7_4 h) (fun v130 h130 =>
  gd (h130 (h130 x7_4 10) (-2) % 16 = 1 ∧ (0 : Int) ≤ v130 ∧ v130 < h130 (h130 x7_4 10) (-1)) (pt h130 (h130 x7_4 10) v130 a1 fun h143 =>
  gd (h143 (h143 x7_4 11) (-2) % 16 = 1 ∧ (0 : Int) ≤ v130 ∧ v130 < h143 (h143 x7_4 11) (-1)) (pt h143 (h143 x7_4 11) v130 a2 fun h152 =>
  gd (h152 (h152 x7_4 12) (-2) % 16 = 1 ∧ (0 : Int) ≤ v130 ∧ v130 < h152 (h152 x7_4 12) (-1)) (pt h152 (h152 x7_4 12) v130 a3 fun h161 =>
  gd (h161 (h161 x7_4 13) (-2) % 16 = 4 ∧ (0 : Int) ≤ v130 ∧ v130 < h161 (h161 x7_4 13) (-1)) (pt h161 (h161 x7_4 13) v130 a4 fun h171 =>
  gd (h171 (h171 x7_4 14) (-2) % 16 = 1 ∧ (0 : Int) ≤ v130 ∧ v130 < h171 (h171 x7_4 14) (-1)) (pt h171 (h171 x7_4 14) v130 a6 fun h181 =>
  gd (h181 (h181 x7_4 16) (-2) % 16 = 1 ∧ (0 : Int) ≤ a1 ∧ a1 < h181 (h181 x7_4 16) (-1)) (gd (h181 (h181 x7_4 15) (-2) % 16 = 1 ∧ (0 : Int) ≤ v130 ∧ v130 < h181 (h181 x7_4 15) (-1)) (pt h181 (h181 x7_4 15) v130 (h181 (h181 x7_4 16) a1) fun h196 =>
  gd (h196 (h196 x7_4 16) (-2) % 16 = 1 ∧ (0 : Int) ≤ a1 ∧ a1 < h196 (h196 x7_4 16) (-1)) (pt h196 (h196 x7_4 16) a1 v130 fun h205 =>
  some ((0, 0), h205)))))))))) (fun a_ h_ => some ((1, a_), h_)))
  else (gd (h (h x7_4 13) (-2) % 16 = 4 ∧ (0 : Int) ≤ y57 ∧ y57 < h (h x7_4 13) (-1)) (if (lcmp_ a4 (h (h x7_4 13) y57)) < 0 then (m_X14_reach_j107 a4 a6 x7_4 y57 h)
  else (if (lcmp_ a4 (h (h x7_4 13) y57)) ≠ 0 then (some ((0, 0), h))
  else (gd (h (h x7_4 14) (-2) % 16 = 1 ∧ (0 : Int) ≤ y57 ∧ y57 < h (h x7_4 14) (-1)) ((m_X14_begins a0 a6 (h (h x7_4 14) y57) h).bind fun v101 =>
  if v101 = 0 then (some ((0, 0), h))
  else (m_X14_reach_j107 a4 a6 x7_4 y57 h)))))))))
theorem s_X14_reach {l : Launch} [NoTr l] {D : SD} {a0 a1 a2 a3 a4 a6 : Int} {h : Hp} (hk : h a0 (-2) = 224) (r1 : r32 a1) (r2 : r32 a2) (r3 : r32 a3) (r4 : r64 a4) (r6 : r32 a6) {r : (Int × Int) × Hp} (hm : m_X14_reach a0 a1 a2 a3 a4 a6 h = some r) : Sim l D yX14_reach (Cond.code yX14_reach cX14_reach 9 (Option.none : Option Jvm.ClassFile.FieldType)) 11 408 [rv D a0, iv a1, iv a2, iv a3, jv a4, iv a6] h 0 r := by
  refine Sim.of (fin := fun (v : (Int × Int) × Hp) => v) (lsE := [(0, rv D a0), (1, iv a1), (2, iv a2), (3, iv a3), (4, jv a4), (6, iv a6)]) hm rfl cwS_code (la_r (la_i (la_i (la_i (la_j (la_i la_n)))))) (ll_r (ll_i (ll_i (ll_i (ll_j (ll_i ll_n)))))) ?_
  intro p e s m below meth c X hcw hmm hcc hnm hname
  have hno := noh hcw hnm hmm hcc
  unfold m_X14_reach
  refine g_aload_n (pc := 0) X (j := 0) (i := 0) (q := 0) (x := a0) rfl rfl (dl_at t_X14_reach 0 rfl) ?_
  refine r_getr (pc := 1) X fX14_0 hk q1241 (dl_at t_X14_reach 1 rfl) ?_
  refine g_ltr fun x7_4 => ?_
  refine g_astoreN (pc := 4) X (i := 7) (x := x7_4) (b := 6) (w := iv a6) (rest := [(0, rv D a0), (1, iv a1), (2, iv a2), (3, iv a3), (4, jv a4)]) (Nat.le_of_ble_eq_true rfl) [5, 0, 1, 2, 3, 4] rfl (by decide) rfl rfl (dl_at t_X14_reach 2 rfl) ?_
  refine g_aload (pc := 6) X (i := 7) (q := 0) (x := x7_4) rfl (dl_at t_X14_reach 3 rfl) ?_
  refine g_gd fun k8 => ?_
  refine r_getrN (pc := 8) X fX10_16 k8 (nw_in q1070 rfl) (dl_at t_X14_reach 4 rfl) ?_
  refine g_iload_n (pc := 11) X (j := 1) (i := 1) (q := 3) (x := a1) rfl rfl (dl_at t_X14_reach 5 rfl) ?_
  refine g_gd fun k12 => ?_
  refine g_iald (pc := 12) X r1 k12 (dl_at t_X14_reach 6 rfl) fun g12 => ?_
  refine g_lti g12 fun x8_13 r8_13 => ?_
  refine g_istoreN (pc := 13) X (i := 8) (x := x8_13) (b := 7) (w := rv D x7_4) (rest := [(6, iv a6), (0, rv D a0), (1, iv a1), (2, iv a2), (3, iv a3), (4, jv a4)]) (Nat.le_of_ble_eq_true rfl) [0, 1, 2, 3, 4, 5, 6] rfl (by decide) rv_cat rfl (dl_at t_X14_reach 7 rfl) ?_
  refine g_ls (ls2 := [(0, rv D a0), (1, iv a1), (2, iv a2), (3, iv a3), (4, jv a4), (6, iv a6), (7, rv D x7_4), (8, iv x8_13)]) [3, 4, 5, 6, 7, 2, 1, 0] rfl ?_
  refine g_loop1 (fun (q : Int) => [(0, rv D a0), (1, iv a1), (2, iv a2), (3, iv a3), (4, jv a4), (6, iv a6), (7, rv D x7_4), (8, iv q)]) (fun (q : Int) => h) (fun (q : Int) => r32 q) 57 (fun (y57 : Int) => [(0, rv D a0), (1, iv a1), (2, iv a2), (3, iv a3), (4, jv a4), (6, iv a6), (7, rv D x7_4), (8, iv y57)]) (fun (y57 : Int) => h) (fun (y57 : Int) => r32 y57) x8_13 r8_13 ?_ ?_
  · rintro x8_15 r8_15
    try dsimp only
    unfold m_X14_reach_l15
    refine g_iload (pc := 15) X (i := 8) (q := 7) (x := x8_15) rfl (dl_at t_X14_reach 8 rfl) ?_
    refine g_iflt (pc := 17) X r8_15 (off := 40) (tgt := 57) rfl (dl_at t_X14_reach 9 rfl) (fun _ => ?_) (fun _ => ?_)
    · exact g_at fun Q hQ => hQ r8_15
    refine g_aload (pc := 20) X (i := 7) (q := 6) (x := x7_4) rfl (dl_at t_X14_reach 10 rfl) ?_
    refine r_getrN (pc := 22) X fX10_11 k8 (nw_in q1060 rfl) (dl_at t_X14_reach 11 rfl) ?_
    refine g_iload (pc := 25) X (i := 8) (q := 7) (x := x8_15) rfl (dl_at t_X14_reach 12 rfl) ?_
    refine g_gd fun k27 => ?_
    refine g_iald (pc := 27) X r8_15 k27 (dl_at t_X14_reach 13 rfl) fun g27 => ?_
    refine g_iload_n (pc := 28) X (j := 2) (i := 2) (q := 2) (x := a2) rfl rfl (dl_at t_X14_reach 14 rfl) ?_
    refine g_join (γ := Unit) (fun q => True) 44 (fun q => [(0, rv D a0), (1, iv a1), (2, iv a2), (3, iv a3), (4, jv a4), (6, iv a6), (7, rv D x7_4), (8, iv x8_15)]) (fun q => []) (fun q => h) (fun q => m_X14_reach_j44 x7_4 x8_15 h) ?_ ?_
    · rintro _ _
      try dsimp only
      unfold m_X14_reach_j44
      refine g_aload (pc := 44) X (i := 7) (q := 6) (x := x7_4) rfl (dl_at t_X14_reach 22 rfl) ?_
      refine r_getrN (pc := 46) X fX10_15 k8 (nw_in q1068 rfl) (dl_at t_X14_reach 23 rfl) ?_
      refine g_iload (pc := 49) X (i := 8) (q := 7) (x := x8_15) rfl (dl_at t_X14_reach 24 rfl) ?_
      refine g_gd fun k51 => ?_
      refine g_iald (pc := 51) X r8_15 k51 (dl_at t_X14_reach 25 rfl) fun g51 => ?_
      refine g_lti g51 fun x8_52 r8_52 => ?_
      refine g_istoreN (pc := 52) X (i := 8) (x := x8_52) (b := 7) (w := rv D x7_4) (rest := [(0, rv D a0), (1, iv a1), (2, iv a2), (3, iv a3), (4, jv a4), (6, iv a6)]) (Nat.le_of_ble_eq_true rfl) [6, 0, 1, 2, 3, 4, 5] rfl (by decide) rv_cat rfl (dl_at t_X14_reach 26 rfl) ?_
      refine g_goto (pc := 54) X (off := (-39)) (tgt := 15) rfl (dl_at t_X14_reach 27 rfl) ?_
      refine g_ls (ls2 := [(0, rv D a0), (1, iv a1), (2, iv a2), (3, iv a3), (4, jv a4), (6, iv a6), (7, rv D x7_4), (8, iv x8_52)]) [2, 3, 4, 5, 6, 7, 1, 0] rfl ?_
      exact g_at fun Q hQ => hQ r8_52
    intro J44
    refine g_icmpne (pc := 29) X g27 r2 (off := 15) (tgt := 44) rfl (dl_at t_X14_reach 15 rfl) (fun _ => ?_) (fun _ => ?_)
    · exact J44 () trivial
    refine g_aload (pc := 32) X (i := 7) (q := 6) (x := x7_4) rfl (dl_at t_X14_reach 16 rfl) ?_
    refine r_getrN (pc := 34) X fX10_12 k8 (nw_in q1062 rfl) (dl_at t_X14_reach 17 rfl) ?_
    refine g_iload (pc := 37) X (i := 8) (q := 7) (x := x8_15) rfl (dl_at t_X14_reach 18 rfl) ?_
    refine g_gd fun k39 => ?_
    refine g_iald (pc := 39) X r8_15 k39 (dl_at t_X14_reach 19 rfl) fun g39 => ?_
    refine g_iload_n (pc := 40) X (j := 3) (i := 3) (q := 3) (x := a3) rfl rfl (dl_at t_X14_reach 20 rfl) ?_
    refine g_icmpeq (pc := 41) X g39 r3 (off := 16) (tgt := 57) rfl (dl_at t_X14_reach 21 rfl) (fun _ => ?_) (fun _ => ?_)
    · exact g_at fun Q hQ => hQ r8_15
    exact J44 () trivial
  · rintro x8_57 r8_57
    try dsimp only [sE]
    refine g_iload (pc := 57) X (i := 8) (q := 7) (x := x8_57) rfl (dl_at t_X14_reach 28 rfl) ?_
    refine g_iflt (pc := 59) X r8_57 (off := 69) (tgt := 128) rfl (dl_at t_X14_reach 29 rfl) (fun _ => ?_) (fun _ => ?_)
    · refine g_aload (pc := 128) X (i := 7) (q := 6) (x := x7_4) rfl (dl_at t_X14_reach 63 rfl) ?_
      refine r_callTi (pc := 130) X (fun _ hv => s_X10_add k8 hv) cw_code q2988 q364 (in_Vk X (As := []) kX10 k8 (Or.inr ⟨_, nw_in q2985 rfl⟩) q2987 qs201 cw_code q2988 ⟨by decide, by decide⟩ rfl (dl_at t_X14_reach 64 rfl)) (dl_at t_X14_reach 64 rfl) (cat24 (st := []) (Nat.le_of_ble_eq_true rfl)) (Nat.le_of_ble_eq_true rfl) (Nat.le_of_ble_eq_true rfl) (fun v130 h130 g130 E130 => ?_) (fun _ _ ha _ => gt_at fun Q hQ => gt_out (Q := Q) X rfl ha (hno _) _ Q rfl hQ)
      refine g_istoreN (pc := 133) X (i := 8) (x := v130) (b := 7) (w := rv D x7_4) (rest := [(1, iv a1), (2, iv a2), (3, iv a3), (4, jv a4), (6, iv a6)]) (Nat.le_of_ble_eq_true rfl) [6, 1, 2, 3, 4, 5] rfl (by decide) rv_cat rfl (dl_at t_X14_reach 65 rfl) ?_
      refine g_aload (pc := 135) X (i := 7) (q := 1) (x := x7_4) rfl (dl_at t_X14_reach 66 rfl) ?_
      have k137 := kx E130 (by decide) k8
      refine r_getrN (pc := 137) X fX10_10 k137 (nw_in q1058 rfl) (dl_at t_X14_reach 67 rfl) ?_
      refine g_iload (pc := 140) X (i := 8) (q := 0) (x := v130) rfl (dl_at t_X14_reach 68 rfl) ?_
      refine g_iload_n (pc := 142) X (j := 1) (i := 1) (q := 2) (x := a1) rfl rfl (dl_at t_X14_reach 69 rfl) ?_
      refine g_gd fun k143 => ?_
      refine r_iast (pc := 143) X g130 r1 k143 (dl_at t_X14_reach 70 rfl) (fun h143 E143 => ?_)
      refine g_aload (pc := 144) X (i := 7) (q := 1) (x := x7_4) rfl (dl_at t_X14_reach 71 rfl) ?_
      have k146 := kx E143 (by decide) k137
      refine r_getrN (pc := 146) X fX10_11 k146 (nw_in q1060 rfl) (dl_at t_X14_reach 72 rfl) ?_
      refine g_iload (pc := 149) X (i := 8) (q := 0) (x := v130) rfl (dl_at t_X14_reach 73 rfl) ?_
      refine g_iload_n (pc := 151) X (j := 2) (i := 2) (q := 3) (x := a2) rfl rfl (dl_at t_X14_reach 74 rfl) ?_
      refine g_gd fun k152 => ?_
      refine r_iast (pc := 152) X g130 r2 k152 (dl_at t_X14_reach 75 rfl) (fun h152 E152 => ?_)
      refine g_aload (pc := 153) X (i := 7) (q := 1) (x := x7_4) rfl (dl_at t_X14_reach 76 rfl) ?_
      have k155 := kx E152 (by decide) k146
      refine r_getrN (pc := 155) X fX10_12 k155 (nw_in q1062 rfl) (dl_at t_X14_reach 77 rfl) ?_
      refine g_iload (pc := 158) X (i := 8) (q := 0) (x := v130) rfl (dl_at t_X14_reach 78 rfl) ?_
      refine g_iload_n (pc := 160) X (j := 3) (i := 3) (q := 4) (x := a3) rfl rfl (dl_at t_X14_reach 79 rfl) ?_
      refine g_gd fun k161 => ?_
      refine r_iast (pc := 161) X g130 r3 k161 (dl_at t_X14_reach 80 rfl) (fun h161 E161 => ?_)
      refine g_aload (pc := 162) X (i := 7) (q := 1) (x := x7_4) rfl (dl_at t_X14_reach 81 rfl) ?_
      have k164 := kx E161 (by decide) k155
      refine r_getrN (pc := 164) X fX10_13 k164 (nw_in q1064 rfl) (dl_at t_X14_reach 82 rfl) ?_
      refine g_iload (pc := 167) X (i := 8) (q := 0) (x := v130) rfl (dl_at t_X14_reach 83 rfl) ?_
      refine g_lload (pc := 169) X (i := 4) (q := 5) (x := a4) rfl (dl_at t_X14_reach 84 rfl) ?_
      refine g_gd fun k171 => ?_
      refine r_last (pc := 171) X g130 r4 k171 (dl_at t_X14_reach 85 rfl) (fun h171 E171 => ?_)
      refine g_aload (pc := 172) X (i := 7) (q := 1) (x := x7_4) rfl (dl_at t_X14_reach 86 rfl) ?_
      have k174 := kx E171 (by decide) k164
      refine r_getrN (pc := 174) X fX10_14 k174 (nw_in q1066 rfl) (dl_at t_X14_reach 87 rfl) ?_
      refine g_iload (pc := 177) X (i := 8) (q := 0) (x := v130) rfl (dl_at t_X14_reach 88 rfl) ?_
      refine g_iload (pc := 179) X (i := 6) (q := 6) (x := a6) rfl (dl_at t_X14_reach 89 rfl) ?_
      refine g_gd fun k181 => ?_
      refine r_iast (pc := 181) X g130 r6 k181 (dl_at t_X14_reach 90 rfl) (fun h181 E181 => ?_)
      refine g_aload (pc := 182) X (i := 7) (q := 1) (x := x7_4) rfl (dl_at t_X14_reach 91 rfl) ?_
      have k184 := kx E181 (by decide) k174
      refine r_getrN (pc := 184) X fX10_15 k184 (nw_in q1068 rfl) (dl_at t_X14_reach 92 rfl) ?_
      refine g_iload (pc := 187) X (i := 8) (q := 0) (x := v130) rfl (dl_at t_X14_reach 93 rfl) ?_
      refine g_aload (pc := 189) X (i := 7) (q := 1) (x := x7_4) rfl (dl_at t_X14_reach 94 rfl) ?_
      refine r_getrN (pc := 191) X fX10_16 k184 (nw_in q1070 rfl) (dl_at t_X14_reach 95 rfl) ?_
      refine g_iload_n (pc := 194) X (j := 1) (i := 1) (q := 2) (x := a1) rfl rfl (dl_at t_X14_reach 96 rfl) ?_
      refine g_gd fun k195 => ?_
      refine g_iald (pc := 195) X r1 k195 (dl_at t_X14_reach 97 rfl) fun g195 => ?_
      refine g_gd fun k196 => ?_
      refine r_iast (pc := 196) X g130 g195 k196 (dl_at t_X14_reach 98 rfl) (fun h196 E196 => ?_)
      refine g_aload (pc := 197) X (i := 7) (q := 1) (x := x7_4) rfl (dl_at t_X14_reach 99 rfl) ?_
      have k199 := kx E196 (by decide) k184
      refine r_getrN (pc := 199) X fX10_16 k199 (nw_in q1070 rfl) (dl_at t_X14_reach 100 rfl) ?_
      refine g_iload_n (pc := 202) X (j := 1) (i := 1) (q := 2) (x := a1) rfl rfl (dl_at t_X14_reach 101 rfl) ?_
      refine g_iload (pc := 203) X (i := 8) (q := 0) (x := v130) rfl (dl_at t_X14_reach 102 rfl) ?_
      refine g_gd fun k205 => ?_
      refine r_iast (pc := 205) X r1 g130 k205 (dl_at t_X14_reach 103 rfl) (fun h205 E205 => ?_)
      exact g_vret (pc := 206) X (v := 0) rfl rfl (dl_at t_X14_reach 104 rfl)
    refine g_lload (pc := 62) X (i := 4) (q := 4) (x := a4) rfl (dl_at t_X14_reach 30 rfl) ?_
    refine g_aload (pc := 64) X (i := 7) (q := 6) (x := x7_4) rfl (dl_at t_X14_reach 31 rfl) ?_
    refine r_getrN (pc := 66) X fX10_13 k8 (nw_in q1064 rfl) (dl_at t_X14_reach 32 rfl) ?_
    refine g_iload (pc := 69) X (i := 8) (q := 7) (x := x8_57) rfl (dl_at t_X14_reach 33 rfl) ?_
    refine g_gd fun k71 => ?_
    refine g_lald (pc := 71) X r8_57 k71 (dl_at t_X14_reach 34 rfl) fun g71 => ?_
    refine g_lcmp (pc := 72) X r4 g71 (dl_at t_X14_reach 35 rfl) ?_
    refine g_join (γ := Unit) (fun q => True) 107 (fun q => [(4, jv a4), (6, iv a6), (7, rv D x7_4), (8, iv x8_57)]) (fun q => []) (fun q => h) (fun q => m_X14_reach_j107 a4 a6 x7_4 x8_57 h) ?_ ?_
    · rintro _ _
      try dsimp only
      unfold m_X14_reach_j107
      refine g_aload (pc := 107) X (i := 7) (q := 2) (x := x7_4) rfl (dl_at t_X14_reach 52 rfl) ?_
      refine r_getrN (pc := 109) X fX10_13 k8 (nw_in q1064 rfl) (dl_at t_X14_reach 53 rfl) ?_
      refine g_iload (pc := 112) X (i := 8) (q := 3) (x := x8_57) rfl (dl_at t_X14_reach 54 rfl) ?_
      refine g_lload (pc := 114) X (i := 4) (q := 0) (x := a4) rfl (dl_at t_X14_reach 55 rfl) ?_
      refine r_last (pc := 116) X r8_57 r4 k71 (dl_at t_X14_reach 56 rfl) (fun h116 E116 => ?_)
      refine g_aload (pc := 117) X (i := 7) (q := 2) (x := x7_4) rfl (dl_at t_X14_reach 57 rfl) ?_
      have k119 := kx E116 (by decide) k8
      refine r_getrN (pc := 119) X fX10_14 k119 (nw_in q1066 rfl) (dl_at t_X14_reach 58 rfl) ?_
      refine g_iload (pc := 122) X (i := 8) (q := 3) (x := x8_57) rfl (dl_at t_X14_reach 59 rfl) ?_
      refine g_iload (pc := 124) X (i := 6) (q := 1) (x := a6) rfl (dl_at t_X14_reach 60 rfl) ?_
      refine g_gd fun k126 => ?_
      refine r_iast (pc := 126) X r8_57 r6 k126 (dl_at t_X14_reach 61 rfl) (fun h126 E126 => ?_)
      exact g_vret (pc := 127) X (v := 0) rfl rfl (dl_at t_X14_reach 62 rfl)
    intro J107
    refine g_iflt (pc := 73) X (r32_lcmp _ _) (off := 34) (tgt := 107) rfl (dl_at t_X14_reach 36 rfl) (fun _ => ?_) (fun _ => ?_)
    · refine g_ls (ls2 := [(4, jv a4), (6, iv a6), (7, rv D x7_4), (8, iv x8_57)]) [4, 5, 6, 7] rfl ?_
      exact J107 () trivial
    refine g_lload (pc := 76) X (i := 4) (q := 4) (x := a4) rfl (dl_at t_X14_reach 37 rfl) ?_
    refine g_aload (pc := 78) X (i := 7) (q := 6) (x := x7_4) rfl (dl_at t_X14_reach 38 rfl) ?_
    refine r_getrN (pc := 80) X fX10_13 k8 (nw_in q1064 rfl) (dl_at t_X14_reach 39 rfl) ?_
    refine g_iload (pc := 83) X (i := 8) (q := 7) (x := x8_57) rfl (dl_at t_X14_reach 40 rfl) ?_
    refine g_lald (pc := 85) X r8_57 k71 (dl_at t_X14_reach 41 rfl) fun g85 => ?_
    refine g_lcmp (pc := 86) X r4 g85 (dl_at t_X14_reach 42 rfl) ?_
    refine g_ifne (pc := 87) X (r32_lcmp _ _) (off := 40) (tgt := 127) rfl (dl_at t_X14_reach 43 rfl) (fun _ => ?_) (fun _ => ?_)
    · exact g_vret (pc := 127) X (v := 0) rfl rfl (dl_at t_X14_reach 62 rfl)
    refine g_aload_n (pc := 90) X (j := 0) (i := 0) (q := 0) (x := a0) rfl rfl (dl_at t_X14_reach 44 rfl) ?_
    refine g_iload (pc := 91) X (i := 6) (q := 5) (x := a6) rfl (dl_at t_X14_reach 45 rfl) ?_
    refine g_aload (pc := 93) X (i := 7) (q := 6) (x := x7_4) rfl (dl_at t_X14_reach 46 rfl) ?_
    refine r_getrN (pc := 95) X fX10_14 k8 (nw_in q1066 rfl) (dl_at t_X14_reach 47 rfl) ?_
    refine g_iload (pc := 98) X (i := 8) (q := 7) (x := x8_57) rfl (dl_at t_X14_reach 48 rfl) ?_
    refine g_gd fun k100 => ?_
    refine g_iald (pc := 100) X r8_57 k100 (dl_at t_X14_reach 49 rfl) fun g100 => ?_
    refine r_callRz (pc := 101) X (fun _ hv => s_X14_begins hk r6 g100 hv) cw_code q2984 q368 (in_Vk X (As := [iv a6, iv (h (h x7_4 14) x8_57)]) kX14 hk (Or.inl q2981) q2983 qs200 cw_code q2984 ⟨by decide, by decide⟩ rfl (dl_at t_X14_reach 50 rfl)) (dl_at t_X14_reach 50 rfl) (cat24 (st := []) (Nat.le_of_ble_eq_true rfl)) (Nat.le_of_ble_eq_true rfl) (Nat.le_of_ble_eq_true rfl) fun v101 g101 => ?_
    refine g_ifeq (pc := 104) X (r32_z g101) (off := 23) (tgt := 127) rfl (dl_at t_X14_reach 51 rfl) (fun _ => ?_) (fun _ => ?_)
    · exact g_vret (pc := 127) X (v := 0) rfl rfl (dl_at t_X14_reach 62 rfl)
    refine g_ls (ls2 := [(4, jv a4), (6, iv a6), (7, rv D x7_4), (8, iv x8_57)]) [4, 5, 6, 7] rfl ?_
    exact J107 () trivial
def k_X14_calledBy : List (Nat × Instr × Nat) := [(0, .iconst 0, 1), (1, .istore_n 3, 1), (2, .iload_n 3, 1), (3, .iload_n 1, 1), (4, .if_icmp .ge 16, 3), (7, .aload_n 0, 1), (8, .iload_n 3, 1), (9, .iaload, 1), (10, .iload_n 2, 1), (11, .if_icmp .gt 9, 3), (14, .iinc 3 1, 3), (17, .goto (-15), 3), (20, .iload_n 3, 1), (21, .ireturn, 1)]
theorem t_X14_calledBy : ∀ q ∈ k_X14_calledBy, decode cX14_calledBy q.1 = .ok q.2 := dl_all (by decide +kernel)
noncomputable def m_X14_calledBy_l2 (a0 a1 a2 x3_2 : Int) (h : Hp) : Option ((Int) ⊕ ((Int))) :=
  if a1 ≤ x3_2 then (some (.inr x3_2))
  else (gd (h a0 (-2) % 16 = 1 ∧ (0 : Int) ≤ x3_2 ∧ x3_2 < h a0 (-1)) (if a2 < (h a0 x3_2) then (some (.inr x3_2))
  else (lt_ (w32 (x3_2 + 1)) fun x3_14 =>
  some (.inl x3_14))))
noncomputable def m_X14_calledBy (a0 a1 a2 : Int) (h : Hp) : Option (Int) :=
  lt_ 0 fun x3_1 =>
  (lp (fun (q : Int) => m_X14_calledBy_l2 a0 a1 a2 q h) x3_1).bind (fun (x : Int) => some x)
theorem s_X14_calledBy {l : Launch} [NoTr l] {D : SD} {a0 a1 a2 : Int} {h : Hp} (r1 : r32 a1) (r2 : r32 a2) {r : Int} (hm : m_X14_calledBy a0 a1 a2 h = some r) : Sim l D yX14_calledBy (Cond.code yX14_calledBy cX14_calledBy 4 (Option.some Jvm.ClassFile.FieldType.int)) 0 0 [rv D a0, iv a1, iv a2] h 1 ((0, r), h) := by
  refine Sim.of (fin := fun (v : Int) => ((0, v), h)) (lsE := [(0, rv D a0), (1, iv a1), (2, iv a2)]) hm rfl cwS_code (la_r (la_i (la_i la_n))) (ll_r (ll_i (ll_i ll_n))) ?_
  intro p e s m below meth c X hcw hmm hcc hnm hname
  unfold m_X14_calledBy
  refine g_iconst (pc := 0) X (n := 0) (dl_at t_X14_calledBy 0 rfl) ?_
  refine g_ltz (Or.inl rfl) fun x3_1 r3_1 => ?_
  refine g_istore_nN (pc := 1) X (j := 3) (i := 3) (x := x3_1) (b := 2) (w := iv a2) (rest := [(0, rv D a0), (1, iv a1)]) rfl (Nat.le_of_ble_eq_true rfl) [2, 0, 1] rfl (by decide) rfl rfl (dl_at t_X14_calledBy 1 rfl) ?_
  refine g_ls (ls2 := [(0, rv D a0), (1, iv a1), (2, iv a2), (3, iv x3_1)]) [2, 3, 1, 0] rfl ?_
  refine g_loop0F (fun (q : Int) => [(0, rv D a0), (1, iv a1), (2, iv a2), (3, iv q)]) (fun (q : Int) => h) (fun (q : Int) => r32 q) x3_1 (r32_z r3_1) ?_ (fun _ => rfl)
  · rintro x3_2 r3_2
    try dsimp only
    unfold m_X14_calledBy_l2
    refine g_iload_n (pc := 2) X (j := 3) (i := 3) (q := 3) (x := x3_2) rfl rfl (dl_at t_X14_calledBy 2 rfl) ?_
    refine g_iload_n (pc := 3) X (j := 1) (i := 1) (q := 1) (x := a1) rfl rfl (dl_at t_X14_calledBy 3 rfl) ?_
    refine g_icmpge (pc := 4) X r3_2 r1 (off := 16) (tgt := 20) rfl (dl_at t_X14_calledBy 4 rfl) (fun _ => ?_) (fun _ => ?_)
    · refine g_iload_n (pc := 20) X (j := 3) (i := 3) (q := 3) (x := x3_2) rfl rfl (dl_at t_X14_calledBy 12 rfl) ?_
      exact g_at fun Q hQ => (g_iret (pc := 21) X r3_2 rfl rfl (dl_at t_X14_calledBy 13 rfl)) _ Q rfl hQ
    refine g_aload_n (pc := 7) X (j := 0) (i := 0) (q := 0) (x := a0) rfl rfl (dl_at t_X14_calledBy 5 rfl) ?_
    refine g_iload_n (pc := 8) X (j := 3) (i := 3) (q := 3) (x := x3_2) rfl rfl (dl_at t_X14_calledBy 6 rfl) ?_
    refine g_gd fun k9 => ?_
    refine g_iald (pc := 9) X r3_2 k9 (dl_at t_X14_calledBy 7 rfl) fun g9 => ?_
    refine g_iload_n (pc := 10) X (j := 2) (i := 2) (q := 2) (x := a2) rfl rfl (dl_at t_X14_calledBy 8 rfl) ?_
    refine g_icmpgt (pc := 11) X g9 r2 (off := 9) (tgt := 20) rfl (dl_at t_X14_calledBy 9 rfl) (fun _ => ?_) (fun _ => ?_)
    · refine g_iload_n (pc := 20) X (j := 3) (i := 3) (q := 3) (x := x3_2) rfl rfl (dl_at t_X14_calledBy 12 rfl) ?_
      exact g_at fun Q hQ => (g_iret (pc := 21) X r3_2 rfl rfl (dl_at t_X14_calledBy 13 rfl)) _ Q rfl hQ
    refine r_iincN (pc := 14) X (i := 3) (q := 3) (n := 1) (x := x3_2) (b := 2) (w := iv a2) (rest := [(0, rv D a0), (1, iv a1)]) rfl r3_2 (r32_c rfl) (Nat.le_of_ble_eq_true rfl) [2, 0, 1] rfl (by decide) rfl rfl (dl_at t_X14_calledBy 10 rfl) fun x3_14 r3_14 => ?_
    refine g_goto (pc := 17) X (off := (-15)) (tgt := 2) rfl (dl_at t_X14_calledBy 11 rfl) ?_
    refine g_ls (ls2 := [(0, rv D a0), (1, iv a1), (2, iv a2), (3, iv x3_14)]) [2, 3, 1, 0] rfl ?_
    exact g_at fun Q hQ => hQ r3_14
def k_X14_floatHeight : List (Nat × Instr × Nat) := [(0, .aload_n 0, 1), (1, .aload_n 0, 1), (2, .getfield 89, 3), (5, .iload_n 1, 1), (6, .iaload, 1), (7, .bipush 21, 2), (9, .invokevirtual 283, 3), (12, .istore_n 2, 1), (13, .iload_n 2, 1), (14, .aload_n 0, 1), (15, .getfield 168, 3), (18, .getfield 662, 3), (21, .if_icmp .le 13, 3), (24, .aload_n 0, 1), (25, .getfield 168, 3), (28, .getfield 662, 3), (31, .goto 4, 3), (34, .iload_n 2, 1), (35, .ireturn, 1)]
theorem t_X14_floatHeight : ∀ q ∈ k_X14_floatHeight, decode cX14_floatHeight q.1 = .ok q.2 := dl_all (by decide +kernel)
noncomputable def m_X14_floatHeight (a0 a1 : Int) (h : Hp) : Option (Int) :=
  gd (h (h a0 37) (-2) % 16 = 1 ∧ (0 : Int) ≤ a1 ∧ a1 < h (h a0 37) (-1)) ((m_X14_property a0 (h (h a0 37) a1) 21 h).bind fun v9 =>
  gd (h (h a0 3) (-2) = 48) (if v9 ≤ (h (h a0 3) 24) then (some v9)
  else (some (h (h a0 3) 24))))
theorem s_X14_floatHeight {l : Launch} [NoTr l] {D : SD} {a0 a1 : Int} {h : Hp} (hk : h a0 (-2) = 224) (r1 : r32 a1) {r : Int} (hm : m_X14_floatHeight a0 a1 h = some r) : Sim l D yX14_floatHeight (Cond.code yX14_floatHeight cX14_floatHeight 3 (Option.some Jvm.ClassFile.FieldType.int)) 3 112 [rv D a0, iv a1] h 1 ((0, r), h) := by
  refine Sim.of (fin := fun (v : Int) => ((0, v), h)) (lsE := [(0, rv D a0), (1, iv a1)]) hm rfl cwS_code (la_r (la_i la_n)) (ll_r (ll_i ll_n)) ?_
  intro p e s m below meth c X hcw hmm hcc hnm hname
  unfold m_X14_floatHeight
  refine g_aload_n (pc := 0) X (j := 0) (i := 0) (q := 0) (x := a0) rfl rfl (dl_at t_X14_floatHeight 0 rfl) ?_
  refine g_aload_n (pc := 1) X (j := 0) (i := 0) (q := 0) (x := a0) rfl rfl (dl_at t_X14_floatHeight 1 rfl) ?_
  refine r_getr (pc := 2) X fX14_37 hk q1295 (dl_at t_X14_floatHeight 2 rfl) ?_
  refine g_iload_n (pc := 5) X (j := 1) (i := 1) (q := 1) (x := a1) rfl rfl (dl_at t_X14_floatHeight 3 rfl) ?_
  refine g_gd fun k6 => ?_
  refine g_iald (pc := 6) X r1 k6 (dl_at t_X14_floatHeight 4 rfl) fun g6 => ?_
  refine g_bipush (pc := 7) X (n := 21) rfl (dl_at t_X14_floatHeight 5 rfl) ?_
  refine r_callRi (pc := 9) X (fun _ hv => s_X14_property hk g6 (r32_c rfl) hv) cw_code q2504 q368 (in_Vk X (As := [iv (h (h a0 37) a1), iv 21]) kX14 hk (Or.inl q2501) q2503 qs119 cw_code q2504 ⟨by decide, by decide⟩ rfl (dl_at t_X14_floatHeight 6 rfl)) (dl_at t_X14_floatHeight 6 rfl) (cat24 (st := []) (Nat.le_of_ble_eq_true rfl)) (Nat.le_of_ble_eq_true rfl) (Nat.le_of_ble_eq_true rfl) fun v9 g9 => ?_
  refine g_istore_n (pc := 12) X (j := 2) (i := 2) (x := v9) (rest := [(0, rv D a0)]) rfl (Nat.le_of_ble_eq_true rfl) [0] rfl rfl (dl_at t_X14_floatHeight 7 rfl) ?_
  refine g_iload_n (pc := 13) X (j := 2) (i := 2) (q := 0) (x := v9) rfl rfl (dl_at t_X14_floatHeight 8 rfl) ?_
  refine g_aload_n (pc := 14) X (j := 0) (i := 0) (q := 1) (x := a0) rfl rfl (dl_at t_X14_floatHeight 9 rfl) ?_
  refine r_getr (pc := 15) X fX14_3 hk q1245 (dl_at t_X14_floatHeight 10 rfl) ?_
  refine g_gd fun k18 => ?_
  refine r_getiN (pc := 18) X fX3_24 k18 (nw_in q567 rfl) (dl_at t_X14_floatHeight 11 rfl) fun g18 => ?_
  refine g_icmple (pc := 21) X g9 g18 (off := 13) (tgt := 34) rfl (dl_at t_X14_floatHeight 12 rfl) (fun _ => ?_) (fun _ => ?_)
  · refine g_iload_n (pc := 34) X (j := 2) (i := 2) (q := 0) (x := v9) rfl rfl (dl_at t_X14_floatHeight 17 rfl) ?_
    exact g_iret (pc := 35) X g9 rfl rfl (dl_at t_X14_floatHeight 18 rfl)
  refine g_aload_n (pc := 24) X (j := 0) (i := 0) (q := 1) (x := a0) rfl rfl (dl_at t_X14_floatHeight 13 rfl) ?_
  refine r_getr (pc := 25) X fX14_3 hk q1245 (dl_at t_X14_floatHeight 14 rfl) ?_
  refine r_getiN (pc := 28) X fX3_24 k18 (nw_in q567 rfl) (dl_at t_X14_floatHeight 15 rfl) fun g28 => ?_
  refine g_goto (pc := 31) X (off := 4) (tgt := 35) rfl (dl_at t_X14_floatHeight 16 rfl) ?_
  exact g_iret (pc := 35) X g28 rfl rfl (dl_at t_X14_floatHeight 18 rfl)
def k_X28_isHyphen : List (Nat × Instr × Nat) := [(0, .aload_n 0, 1), (1, .aload_n 0, 1), (2, .iload_n 1, 1), (3, .iconst 1, 1), (4, .iadd, 1), (5, .invokevirtual 237, 3), (8, .invokevirtual 85, 3), (11, .iconst 1, 1), (12, .if_icmp .ne 7, 3), (15, .iconst 1, 1), (16, .goto 4, 3), (19, .iconst 0, 1), (20, .ireturn, 1)]
theorem t_X28_isHyphen : ∀ q ∈ k_X28_isHyphen, decode cX28_isHyphen q.1 = .ok q.2 := dl_all (by decide +kernel)
noncomputable def m_X28_isHyphen (a0 a1 : Int) (h : Hp) : Option (Int) :=
  (m_X28_breakOf a0 (w32 (a1 + 1)) h).bind fun v5 =>
  (m_X28_kind a0 v5 h).bind fun v8 =>
  if v8 ≠ 1 then (some 0)
  else (some 1)
theorem s_X28_isHyphen {l : Launch} [NoTr l] {D : SD} {a0 a1 : Int} {h : Hp} (hk : h a0 (-2) = 288) (r1 : r32 a1) {r : Int} (hm : m_X28_isHyphen a0 a1 h = some r) : Sim l D yX28_isHyphen (Cond.code yX28_isHyphen cX28_isHyphen 2 (Option.some Jvm.ClassFile.FieldType.boolean)) 1 37 [rv D a0, iv a1] h 3 ((0, r), h) := by
  refine Sim.of (fin := fun (v : Int) => ((0, v), h)) (lsE := [(0, rv D a0), (1, iv a1)]) hm rfl cwS_code (la_r (la_i la_n)) (ll_r (ll_i ll_n)) ?_
  intro p e s m below meth c X hcw hmm hcc hnm hname
  unfold m_X28_isHyphen
  refine g_aload_n (pc := 0) X (j := 0) (i := 0) (q := 0) (x := a0) rfl rfl (dl_at t_X28_isHyphen 0 rfl) ?_
  refine g_aload_n (pc := 1) X (j := 0) (i := 0) (q := 0) (x := a0) rfl rfl (dl_at t_X28_isHyphen 1 rfl) ?_
  refine g_iload_n (pc := 2) X (j := 1) (i := 1) (q := 1) (x := a1) rfl rfl (dl_at t_X28_isHyphen 2 rfl) ?_
  refine g_iconst (pc := 3) X (n := 1) (dl_at t_X28_isHyphen 3 rfl) ?_
  refine g_iadd (pc := 4) X r1 (r32_c rfl) (dl_at t_X28_isHyphen 4 rfl) ?_
  refine r_callRi (pc := 5) X (fun _ hv => s_X28_breakOf hk (r32_w _) hv) cw_code q2939 q396 (in_Vk X (As := [iv (w32 (a1 + 1))]) kX28 hk (Or.inl q2936) q2938 qs189 cw_code q2939 ⟨by decide, by decide⟩ rfl (dl_at t_X28_isHyphen 5 rfl)) (dl_at t_X28_isHyphen 5 rfl) (cat24 (st := [rv D a0]) (Nat.le_of_ble_eq_true rfl)) (Nat.le_of_ble_eq_true rfl) (Nat.le_of_ble_eq_true rfl) fun v5 g5 => ?_
  refine r_callRi (pc := 8) X (fun _ hv => s_X28_kind hk g5 hv) cw_code q2862 q396 (in_Vk X (As := [iv v5]) kX28 hk (Or.inl q2859) q2861 qs174 cw_code q2862 ⟨by decide, by decide⟩ rfl (dl_at t_X28_isHyphen 6 rfl)) (dl_at t_X28_isHyphen 6 rfl) (cat24 (st := []) (Nat.le_of_ble_eq_true rfl)) (Nat.le_of_ble_eq_true rfl) (Nat.le_of_ble_eq_true rfl) fun v8 g8 => ?_
  refine g_iconst (pc := 11) X (n := 1) (dl_at t_X28_isHyphen 7 rfl) ?_
  refine g_icmpne (pc := 12) X g8 (r32_c rfl) (off := 7) (tgt := 19) rfl (dl_at t_X28_isHyphen 8 rfl) (fun _ => ?_) (fun _ => ?_)
  · refine g_iconst (pc := 19) X (n := 0) (dl_at t_X28_isHyphen 11 rfl) ?_
    exact g_zret (pc := 20) X (Or.inl rfl) rfl rfl (dl_at t_X28_isHyphen 12 rfl)
  refine g_iconst (pc := 15) X (n := 1) (dl_at t_X28_isHyphen 9 rfl) ?_
  refine g_goto (pc := 16) X (off := 4) (tgt := 20) rfl (dl_at t_X28_isHyphen 10 rfl) ?_
  exact g_zret (pc := 20) X (Or.inr rfl) rfl rfl (dl_at t_X28_isHyphen 12 rfl)
def k_X14_endsCut : List (Nat × Instr × Nat) := [(0, .aload_n 0, 1), (1, .getfield 27, 3), (4, .iload_n 1, 1), (5, .iaload, 1), (6, .ifCond .lt 30, 3), (9, .aload_n 0, 1), (10, .getfield 24, 3), (13, .aload_n 0, 1), (14, .getfield 27, 3), (17, .iload_n 1, 1), (18, .iaload, 1), (19, .aaload, 1), (20, .aload_n 0, 1), (21, .getfield 31, 3), (24, .iload_n 1, 1), (25, .iaload, 1), (26, .invokevirtual 690, 3), (29, .ifCond .eq 7, 3), (32, .iconst 1, 1), (33, .goto 4, 3), (36, .iconst 0, 1), (37, .ireturn, 1)]
theorem t_X14_endsCut : ∀ q ∈ k_X14_endsCut, decode cX14_endsCut q.1 = .ok q.2 := dl_all (by decide +kernel)
noncomputable def m_X14_endsCut (a0 a1 : Int) (h : Hp) : Option (Int) :=
  gd (h (h a0 12) (-2) % 16 = 1 ∧ (0 : Int) ≤ a1 ∧ a1 < h (h a0 12) (-1)) (if (h (h a0 12) a1) < 0 then (some 0)
  else (gd (h (h a0 10) (-2) % 16 = 9 ∧ (0 : Int) ≤ (h (h a0 12) a1) ∧ (h (h a0 12) a1) < h (h a0 10) (-1)) (gd (h (h a0 13) (-2) % 16 = 1 ∧ (0 : Int) ≤ a1 ∧ a1 < h (h a0 13) (-1)) (gd (h (h (h a0 10) (h (h a0 12) a1)) (-2) = 288) ((m_X28_isHyphen (h (h a0 10) (h (h a0 12) a1)) (h (h a0 13) a1) h).bind fun v26 =>
  if v26 = 0 then (some 0)
  else (some 1))))))
theorem s_X14_endsCut {l : Launch} [NoTr l] {D : SD} {a0 a1 : Int} {h : Hp} (hk : h a0 (-2) = 224) (r1 : r32 a1) {r : Int} (hm : m_X14_endsCut a0 a1 h = some r) : Sim l D yX14_endsCut (Cond.code yX14_endsCut cX14_endsCut 2 (Option.some Jvm.ClassFile.FieldType.boolean)) 2 74 [rv D a0, iv a1] h 3 ((0, r), h) := by
  refine Sim.of (fin := fun (v : Int) => ((0, v), h)) (lsE := [(0, rv D a0), (1, iv a1)]) hm rfl cwS_code (la_r (la_i la_n)) (ll_r (ll_i ll_n)) ?_
  intro p e s m below meth c X hcw hmm hcc hnm hname
  unfold m_X14_endsCut
  refine g_aload_n (pc := 0) X (j := 0) (i := 0) (q := 0) (x := a0) rfl rfl (dl_at t_X14_endsCut 0 rfl) ?_
  refine r_getr (pc := 1) X fX14_12 hk q1260 (dl_at t_X14_endsCut 1 rfl) ?_
  refine g_iload_n (pc := 4) X (j := 1) (i := 1) (q := 1) (x := a1) rfl rfl (dl_at t_X14_endsCut 2 rfl) ?_
  refine g_gd fun k5 => ?_
  refine g_iald (pc := 5) X r1 k5 (dl_at t_X14_endsCut 3 rfl) fun g5 => ?_
  refine g_iflt (pc := 6) X g5 (off := 30) (tgt := 36) rfl (dl_at t_X14_endsCut 4 rfl) (fun _ => ?_) (fun _ => ?_)
  · refine g_iconst (pc := 36) X (n := 0) (dl_at t_X14_endsCut 20 rfl) ?_
    exact g_zret (pc := 37) X (Or.inl rfl) rfl rfl (dl_at t_X14_endsCut 21 rfl)
  refine g_aload_n (pc := 9) X (j := 0) (i := 0) (q := 0) (x := a0) rfl rfl (dl_at t_X14_endsCut 5 rfl) ?_
  refine r_getr (pc := 10) X fX14_10 hk q1256 (dl_at t_X14_endsCut 6 rfl) ?_
  refine g_aload_n (pc := 13) X (j := 0) (i := 0) (q := 0) (x := a0) rfl rfl (dl_at t_X14_endsCut 7 rfl) ?_
  refine r_getr (pc := 14) X fX14_12 hk q1260 (dl_at t_X14_endsCut 8 rfl) ?_
  refine g_iload_n (pc := 17) X (j := 1) (i := 1) (q := 1) (x := a1) rfl rfl (dl_at t_X14_endsCut 9 rfl) ?_
  refine g_iald (pc := 18) X r1 k5 (dl_at t_X14_endsCut 10 rfl) fun g18 => ?_
  refine g_gd fun k19 => ?_
  refine g_aald (pc := 19) X 9 (Nat.le_of_ble_eq_true rfl) (Nat.le_of_ble_eq_true rfl) g18 rfl k19 (dl_at t_X14_endsCut 11 rfl) ?_
  refine g_aload_n (pc := 20) X (j := 0) (i := 0) (q := 0) (x := a0) rfl rfl (dl_at t_X14_endsCut 12 rfl) ?_
  refine r_getr (pc := 21) X fX14_13 hk q1262 (dl_at t_X14_endsCut 13 rfl) ?_
  refine g_iload_n (pc := 24) X (j := 1) (i := 1) (q := 1) (x := a1) rfl rfl (dl_at t_X14_endsCut 14 rfl) ?_
  refine g_gd fun k25 => ?_
  refine g_iald (pc := 25) X r1 k25 (dl_at t_X14_endsCut 15 rfl) fun g25 => ?_
  refine g_gd fun k26 => ?_
  refine r_callRz (pc := 26) X (fun _ hv => s_X28_isHyphen k26 g25 hv) cw_code q3013 q396 (in_Vk X (As := [iv (h (h a0 13) a1)]) kX28 k26 (Or.inr ⟨_, nw_in q3010 rfl⟩) q3012 qs206 cw_code q3013 ⟨by decide, by decide⟩ rfl (dl_at t_X14_endsCut 16 rfl)) (dl_at t_X14_endsCut 16 rfl) (cat24 (st := []) (Nat.le_of_ble_eq_true rfl)) (Nat.le_of_ble_eq_true rfl) (Nat.le_of_ble_eq_true rfl) fun v26 g26 => ?_
  refine g_ifeq (pc := 29) X (r32_z g26) (off := 7) (tgt := 36) rfl (dl_at t_X14_endsCut 17 rfl) (fun _ => ?_) (fun _ => ?_)
  · refine g_iconst (pc := 36) X (n := 0) (dl_at t_X14_endsCut 20 rfl) ?_
    exact g_zret (pc := 37) X (Or.inl rfl) rfl rfl (dl_at t_X14_endsCut 21 rfl)
  refine g_iconst (pc := 32) X (n := 1) (dl_at t_X14_endsCut 18 rfl) ?_
  refine g_goto (pc := 33) X (off := 4) (tgt := 37) rfl (dl_at t_X14_endsCut 19 rfl) ?_
  exact g_zret (pc := 37) X (Or.inr rfl) rfl rfl (dl_at t_X14_endsCut 21 rfl)
def k_X14_column : List (Nat × Instr × Nat) := [(0, .aload_n 0, 1), (1, .getfield 154, 3), (4, .getfield 664, 3), (7, .iload_n 1, 1), (8, .iaload, 1), (9, .istore 8, 2), (11, .iload 8, 2), (13, .istore 9, 2), (15, .iload 6, 2), (17, .iload 5, 2), (19, .if_icmp .le 47, 3), (22, .aload_n 0, 1), (23, .getfield 120, 3), (26, .iload 6, 2), (28, .iconst 1, 1), (29, .isub, 1), (30, .iaload, 1), (31, .istore 10, 2), (33, .aload_n 0, 1), (34, .getfield 120, 3), (37, .iload 6, 2), (39, .iaload, 1), (40, .iload 10, 2), (42, .isub, 1), (43, .iconst 2, 1), (44, .if_icmp .le 10, 3), (47, .iload 10, 2), (49, .iconst 2, 1), (50, .iadd, 1), (51, .goto 10, 3), (54, .aload_n 0, 1), (55, .getfield 120, 3), (58, .iload 6, 2), (60, .iaload, 1), (61, .istore 9, 2), (63, .goto 21, 3), (66, .iload 8, 2), (68, .aload_n 0, 1), (69, .getfield 120, 3), (72, .iload 6, 2), (74, .iaload, 1), (75, .if_icmp .ge 9, 3), (78, .iload 8, 2), (80, .iconst 1, 1), (81, .iadd, 1), (82, .istore 9, 2), (84, .lload_n 3, 1), (85, .aload_n 0, 1), (86, .getfield 123, 3), (89, .iload 9, 2), (91, .laload, 1), (92, .ladd, 1), (93, .aload_n 0, 1), (94, .getfield 123, 3), (97, .iload 8, 2), (99, .laload, 1), (100, .lsub, 1), (101, .lstore 10, 2), (103, .iload 9, 2), (105, .iload 8, 2), (107, .if_icmp .le 16, 3), (110, .lload 10, 2), (112, .aload_n 0, 1), (113, .getfield 168, 3), (116, .getfield 667, 3), (119, .i2l, 1), (120, .ladd, 1), (121, .lstore 10, 2), (123, .lload 10, 2), (125, .aload_n 0, 1), (126, .getfield 168, 3), (129, .getfield 662, 3), (132, .i2l, 1), (133, .lcmp, 1), (134, .ifCond .le 5, 3), (137, .iconst 0, 1), (138, .ireturn, 1), (139, .aload_n 0, 1), (140, .getfield 40, 3), (143, .iload_n 2, 1), (144, .baload, 1), (145, .ifCond .ne 5, 3), (148, .iconst 1, 1), (149, .ireturn, 1), (150, .aload_n 0, 1), (151, .getfield 154, 3), (154, .getfield 670, 3), (157, .iload_n 1, 1), (158, .iaload, 1), (159, .istore 12, 2), (161, .iload 12, 2), (163, .iload 7, 2), (165, .if_icmp .ge 43, 3), (168, .lload 10, 2), (170, .aload_n 0, 1), (171, .iload 12, 2), (173, .invokevirtual 673, 3), (176, .i2l, 1), (177, .ladd, 1), (178, .aload_n 0, 1), (179, .getfield 168, 3), (182, .getfield 662, 3), (185, .i2l, 1), (186, .lcmp, 1), (187, .ifCond .gt 21, 3), (190, .lload 10, 2), (192, .aload_n 0, 1), (193, .iload 12, 2), (195, .invokevirtual 673, 3), (198, .i2l, 1), (199, .ladd, 1), (200, .lstore 10, 2), (202, .iinc 12 1, 3), (205, .goto (-44), 3), (208, .iload 9, 2), (210, .aload_n 0, 1), (211, .getfield 120, 3), (214, .iload 6, 2), (216, .iaload, 1), (217, .if_icmp .ge 63, 3), (220, .lload 10, 2), (222, .aload_n 0, 1), (223, .getfield 123, 3), (226, .iload 9, 2), (228, .iconst 1, 1), (229, .iadd, 1), (230, .laload, 1), (231, .ladd, 1), (232, .aload_n 0, 1), (233, .getfield 123, 3), (236, .iload 9, 2), (238, .laload, 1), (239, .lsub, 1), (240, .aload_n 0, 1), (241, .getfield 168, 3), (244, .getfield 662, 3), (247, .i2l, 1), (248, .lcmp, 1), (249, .ifCond .gt 31, 3), (252, .lload 10, 2), (254, .aload_n 0, 1), (255, .getfield 123, 3), (258, .iload 9, 2), (260, .iconst 1, 1), (261, .iadd, 1), (262, .laload, 1), (263, .aload_n 0, 1), (264, .getfield 123, 3), (267, .iload 9, 2), (269, .laload, 1), (270, .lsub, 1), (271, .ladd, 1), (272, .lstore 10, 2), (274, .iinc 9 1, 3), (277, .goto (-69), 3), (280, .ldc2_w 676, 3), (283, .aload_n 0, 1), (284, .getfield 168, 3), (287, .getfield 662, 3), (290, .i2l, 1), (291, .lload 10, 2), (293, .lsub, 1), (294, .lmul, 1), (295, .aload_n 0, 1), (296, .getfield 168, 3), (299, .getfield 662, 3), (302, .i2l, 1), (303, .ldiv, 1), (304, .lstore 13, 2), (306, .iload_n 2, 1), (307, .aload_n 0, 1), (308, .getfield 196, 3), (311, .iconst 1, 1), (312, .isub, 1), (313, .if_icmp .ne 7, 3), (316, .lconst 0, 1), (317, .goto 24, 3), (320, .lload 13, 2), (322, .lload 13, 2), (324, .lmul, 1), (325, .aload_n 0, 1), (326, .iload_n 2, 1), (327, .invokevirtual 678, 3), (330, .ifCond .eq 9, 3), (333, .ldc2_w 681, 3), (336, .goto 4, 3), (339, .lconst 0, 1), (340, .ladd, 1), (341, .lstore 15, 2), (343, .aload_n 0, 1), (344, .iload_n 2, 1), (345, .iconst 1, 1), (346, .iadd, 1), (347, .iload 9, 2), (349, .iload 12, 2), (351, .aload_n 0, 1), (352, .getfield 154, 3), (355, .getfield 683, 3), (358, .iload_n 1, 1), (359, .laload, 1), (360, .lload 15, 2), (362, .ladd, 1), (363, .iload_n 1, 1), (364, .invokevirtual 686, 3), (367, .iconst 1, 1), (368, .ireturn, 1)]
theorem t_X14_column : ∀ q ∈ k_X14_column, decode cX14_column q.1 = .ok q.2 := dl_all (by decide +kernel)
noncomputable def m_X14_column_l161 (a0 a7 x10_161 x12_161 : Int) (h : Hp) : Option ((Int × Int) ⊕ ((Int × Int))) :=
  if a7 ≤ x12_161 then (some (.inr (x10_161, x12_161)))
  else ((m_X14_floatHeight a0 x12_161 h).bind fun v173 =>
  if 0 < (lcmp_ (w64 (x10_161 + v173)) (h (h a0 3) 24)) then (some (.inr (x10_161, x12_161)))
  else ((m_X14_floatHeight a0 x12_161 h).bind fun v195 =>
  lt_ (w64 (x10_161 + v195)) fun x10_200 =>
  lt_ (w32 (x12_161 + 1)) fun x12_202 =>
  some (.inl (x10_200, x12_202))))
noncomputable def m_X14_column_l208 (a0 a6 x9_208 x10_208_1 : Int) (h : Hp) : Option ((Int × Int) ⊕ ((Int × Int))) :=
  gd (h (h a0 54) (-2) % 16 = 1 ∧ (0 : Int) ≤ a6 ∧ a6 < h (h a0 54) (-1)) (if (h (h a0 54) a6) ≤ x9_208 then (some (.inr (x9_208, x10_208_1)))
  else (gd (h (h a0 55) (-2) % 16 = 4 ∧ (0 : Int) ≤ (w32 (x9_208 + 1)) ∧ (w32 (x9_208 + 1)) < h (h a0 55) (-1)) (gd (h (h a0 55) (-2) % 16 = 4 ∧ (0 : Int) ≤ x9_208 ∧ x9_208 < h (h a0 55) (-1)) (if 0 < (lcmp_ (w64 ((w64 (x10_208_1 + (h (h a0 55) (w32 (x9_208 + 1))))) - (h (h a0 55) x9_208))) (h (h a0 3) 24)) then (some (.inr (x9_208, x10_208_1)))
  else (lt_ (w64 (x10_208_1 + (w64 ((h (h a0 55) (w32 (x9_208 + 1))) - (h (h a0 55) x9_208))))) fun x10_272 =>
  lt_ (w32 (x9_208 + 1)) fun x9_274 =>
  some (.inl (x9_274, x10_272)))))))
noncomputable def m_X14_column_j341 (x12_208 a0 a1 a2 x9_280 s0_341 : Int) (h : Hp) : Option ((Int × Int) × Hp) :=
  gd (h (h (h a0 0) 13) (-2) % 16 = 4 ∧ (0 : Int) ≤ a1 ∧ a1 < h (h (h a0 0) 13) (-1)) (bT (m_X14_reach a0 (w32 (a2 + 1)) x9_280 x12_208 (w64 ((h (h (h a0 0) 13) a1) + s0_341)) a1 h) (fun _ h364 =>
  some ((0, 1), h364)) (fun a_ h_ => some ((1, a_), h_)))
noncomputable def m_X14_column_j340 (x12_208 a0 a1 a2 x9_280 s0_340 s1_340 : Int) (h : Hp) : Option ((Int × Int) × Hp) :=
  m_X14_column_j341 x12_208 a0 a1 a2 x9_280 (w64 (s0_340 + s1_340)) h
noncomputable def m_X14_column_j123 (x9_84 a0 a1 a2 a6 a7 x10_123 : Int) (h : Hp) : Option ((Int × Int) × Hp) :=
  gd (h (h a0 3) (-2) = 48) (if (lcmp_ x10_123 (h (h a0 3) 24)) ≤ 0 then (gd (h (h a0 16) (-2) % 16 = 3 ∧ (0 : Int) ≤ a2 ∧ a2 < h (h a0 16) (-1)) (if (h (h a0 16) a2) ≠ 0 then (gd (h (h (h a0 0) 12) (-2) % 16 = 1 ∧ (0 : Int) ≤ a1 ∧ a1 < h (h (h a0 0) 12) (-1)) (lt_ (h (h (h a0 0) 12) a1) fun x12_159 =>
  (lp (fun (q : Int × Int) => m_X14_column_l161 a0 a7 q.1 q.2 h) (x10_123, x12_159)).bind (fun (y208 : Int × Int) => (lp (fun (q : Int × Int) => m_X14_column_l208 a0 a6 q.1 q.2 h) (x9_84, y208.1)).bind (fun (y280 : Int × Int) => gd ((h (h a0 3) 24) ≠ 0) (lt_ (w64 (Int.tdiv (w64 (100 * (w64 ((h (h a0 3) 24) - y280.2)))) (h (h a0 3) 24))) fun x13_304 =>
  if a2 ≠ (w32 ((h a0 18) - 1)) then ((m_X14_endsCut a0 a2 h).bind fun v327 =>
  if v327 = 0 then (m_X14_column_j340 y208.2 a0 a1 a2 y280.1 (w64 (x13_304 * x13_304)) 0 h)
  else (m_X14_column_j340 y208.2 a0 a1 a2 y280.1 (w64 (x13_304 * x13_304)) 400 h))
  else (m_X14_column_j341 y208.2 a0 a1 a2 y280.1 0 h))))))
  else (some ((0, 1), h))))
  else (some ((0, 0), h)))
noncomputable def m_X14_column_j84 (x8_9 a7 a0 a1 a2 a3 a6 x9_84 : Int) (h : Hp) : Option ((Int × Int) × Hp) :=
  gd (h (h a0 55) (-2) % 16 = 4 ∧ (0 : Int) ≤ x9_84 ∧ x9_84 < h (h a0 55) (-1)) (gd (h (h a0 55) (-2) % 16 = 4 ∧ (0 : Int) ≤ x8_9 ∧ x8_9 < h (h a0 55) (-1)) (lt_ (w64 ((w64 (a3 + (h (h a0 55) x9_84))) - (h (h a0 55) x8_9))) fun x10_101 =>
  if x9_84 ≤ x8_9 then (m_X14_column_j123 x9_84 a0 a1 a2 a6 a7 x10_101 h)
  else (gd (h (h a0 3) (-2) = 48) (lt_ (w64 (x10_101 + (h (h a0 3) 27))) fun x10_121 =>
  m_X14_column_j123 x9_84 a0 a1 a2 a6 a7 x10_121 h))))
noncomputable def m_X14_column_j61 (x8_9 a7 a0 a1 a2 a3 a6 s0_61 : Int) (h : Hp) : Option ((Int × Int) × Hp) :=
  m_X14_column_j84 x8_9 a7 a0 a1 a2 a3 a6 s0_61 h
noncomputable def m_X14_column (a0 a1 a2 a3 a5 a6 a7 : Int) (h : Hp) : Option ((Int × Int) × Hp) :=
  gd (h (h a0 0) (-2) = 160) (gd (h (h (h a0 0) 11) (-2) % 16 = 1 ∧ (0 : Int) ≤ a1 ∧ a1 < h (h (h a0 0) 11) (-1)) (lt_ (h (h (h a0 0) 11) a1) fun x8_9 =>
  if a6 ≤ a5 then (gd (h (h a0 54) (-2) % 16 = 1 ∧ (0 : Int) ≤ a6 ∧ a6 < h (h a0 54) (-1)) (if (h (h a0 54) a6) ≤ x8_9 then (m_X14_column_j84 x8_9 a7 a0 a1 a2 a3 a6 x8_9 h)
  else (lt_ (w32 (x8_9 + 1)) fun x9_82 =>
  m_X14_column_j84 x8_9 a7 a0 a1 a2 a3 a6 x9_82 h)))
  else (gd (h (h a0 54) (-2) % 16 = 1 ∧ (0 : Int) ≤ (w32 (a6 - 1)) ∧ (w32 (a6 - 1)) < h (h a0 54) (-1)) (lt_ (h (h a0 54) (w32 (a6 - 1))) fun x10_31 =>
  gd (h (h a0 54) (-2) % 16 = 1 ∧ (0 : Int) ≤ a6 ∧ a6 < h (h a0 54) (-1)) (if (w32 ((h (h a0 54) a6) - x10_31)) ≤ 2 then (m_X14_column_j61 x8_9 a7 a0 a1 a2 a3 a6 (h (h a0 54) a6) h)
  else (m_X14_column_j61 x8_9 a7 a0 a1 a2 a3 a6 (w32 (x10_31 + 2)) h))))))
theorem s_X14_column {l : Launch} [NoTr l] {D : SD} {a0 a1 a2 a3 a5 a6 a7 : Int} {h : Hp} (hk : h a0 (-2) = 224) (r1 : r32 a1) (r2 : r32 a2) (r3 : r64 a3) (r5 : r32 a5) (r6 : r32 a6) (r7 : r32 a7) {r : (Int × Int) × Hp} (hm : m_X14_column a0 a1 a2 a3 a5 a6 a7 h = some r) : Sim l D yX14_column (Cond.code yX14_column cX14_column 17 (Option.some Jvm.ClassFile.FieldType.boolean)) 12 452 [rv D a0, iv a1, iv a2, jv a3, iv a5, iv a6, iv a7] h 3 r := by
  refine Sim.of (fin := fun (v : (Int × Int) × Hp) => v) (lsE := [(0, rv D a0), (1, iv a1), (2, iv a2), (3, jv a3), (5, iv a5), (6, iv a6), (7, iv a7)]) hm rfl cwS_code (la_r (la_i (la_i (la_j (la_i (la_i (la_i la_n))))))) (ll_r (ll_i (ll_i (ll_j (ll_i (ll_i (ll_i ll_n))))))) ?_
  intro p e s m below meth c X hcw hmm hcc hnm hname
  have hno := noh hcw hnm hmm hcc
  unfold m_X14_column
  refine g_aload_n (pc := 0) X (j := 0) (i := 0) (q := 0) (x := a0) rfl rfl (dl_at t_X14_column 0 rfl) ?_
  refine r_getr (pc := 1) X fX14_0 hk q1241 (dl_at t_X14_column 1 rfl) ?_
  refine g_gd fun k4 => ?_
  refine r_getrN (pc := 4) X fX10_11 k4 (nw_in q1060 rfl) (dl_at t_X14_column 2 rfl) ?_
  refine g_iload_n (pc := 7) X (j := 1) (i := 1) (q := 1) (x := a1) rfl rfl (dl_at t_X14_column 3 rfl) ?_
  refine g_gd fun k8 => ?_
  refine g_iald (pc := 8) X r1 k8 (dl_at t_X14_column 4 rfl) fun g8 => ?_
  refine g_lti g8 fun x8_9 r8_9 => ?_
  refine g_istoreN (pc := 9) X (i := 8) (x := x8_9) (b := 7) (w := iv a7) (rest := [(0, rv D a0), (1, iv a1), (2, iv a2), (3, jv a3), (5, iv a5), (6, iv a6)]) (Nat.le_of_ble_eq_true rfl) [6, 0, 1, 2, 3, 4, 5] rfl (by decide) rfl rfl (dl_at t_X14_column 5 rfl) ?_
  refine g_iload (pc := 11) X (i := 8) (q := 0) (x := x8_9) rfl (dl_at t_X14_column 6 rfl) ?_
  refine g_istoreN (pc := 13) X (i := 9) (x := x8_9) (b := 8) (w := iv x8_9) (rest := [(7, iv a7), (0, rv D a0), (1, iv a1), (2, iv a2), (3, jv a3), (5, iv a5), (6, iv a6)]) (Nat.le_of_ble_eq_true rfl) [0, 1, 2, 3, 4, 5, 6, 7] rfl (by decide) rfl rfl (dl_at t_X14_column 7 rfl) ?_
  refine g_iload (pc := 15) X (i := 6) (q := 8) (x := a6) rfl (dl_at t_X14_column 8 rfl) ?_
  refine g_iload (pc := 17) X (i := 5) (q := 7) (x := a5) rfl (dl_at t_X14_column 9 rfl) ?_
  refine g_join (γ := Int) (fun q => r32 q) 84 (fun q => [(0, rv D a0), (1, iv a1), (2, iv a2), (3, jv a3), (6, iv a6), (7, iv a7), (8, iv x8_9), (9, iv q)]) (fun q => []) (fun q => h) (fun q => m_X14_column_j84 x8_9 a7 a0 a1 a2 a3 a6 q h) ?_ ?_
  · rintro x9_84 r9_84
    try dsimp only
    unfold m_X14_column_j84
    refine g_lload_n (pc := 84) X (j := 3) (i := 3) (q := 3) (x := a3) rfl rfl (dl_at t_X14_column 46 rfl) ?_
    refine g_aload_n (pc := 85) X (j := 0) (i := 0) (q := 0) (x := a0) rfl rfl (dl_at t_X14_column 47 rfl) ?_
    refine r_getr (pc := 86) X fX14_55 hk q1318 (dl_at t_X14_column 48 rfl) ?_
    refine g_iload (pc := 89) X (i := 9) (q := 7) (x := x9_84) rfl (dl_at t_X14_column 49 rfl) ?_
    refine g_gd fun k91 => ?_
    refine g_lald (pc := 91) X r9_84 k91 (dl_at t_X14_column 50 rfl) fun g91 => ?_
    refine g_ladd (pc := 92) X r3 g91 (dl_at t_X14_column 51 rfl) ?_
    refine g_aload_n (pc := 93) X (j := 0) (i := 0) (q := 0) (x := a0) rfl rfl (dl_at t_X14_column 52 rfl) ?_
    refine r_getr (pc := 94) X fX14_55 hk q1318 (dl_at t_X14_column 53 rfl) ?_
    refine g_iload (pc := 97) X (i := 8) (q := 6) (x := x8_9) rfl (dl_at t_X14_column 54 rfl) ?_
    refine g_gd fun k99 => ?_
    refine g_lald (pc := 99) X r8_9 k99 (dl_at t_X14_column 55 rfl) fun g99 => ?_
    refine g_lsub (pc := 100) X (r64_w _) g99 (dl_at t_X14_column 56 rfl) ?_
    refine g_ltl (r64_w _) fun x10_101 r10_101 => ?_
    refine g_lstoreN (pc := 101) X (i := 10) (x := x10_101) (b := 9) (w := iv x9_84) (rest := [(0, rv D a0), (1, iv a1), (2, iv a2), (6, iv a6), (7, iv a7), (8, iv x8_9)]) (Nat.le_of_ble_eq_true rfl) [7, 0, 1, 2, 4, 5, 6] rfl (by decide) (by decide) rfl rfl (dl_at t_X14_column 57 rfl) ?_
    refine g_iload (pc := 103) X (i := 9) (q := 1) (x := x9_84) rfl (dl_at t_X14_column 58 rfl) ?_
    refine g_iload (pc := 105) X (i := 8) (q := 7) (x := x8_9) rfl (dl_at t_X14_column 59 rfl) ?_
    refine g_join (γ := Int) (fun q => r64 q) 123 (fun q => [(0, rv D a0), (1, iv a1), (2, iv a2), (6, iv a6), (7, iv a7), (9, iv x9_84), (10, jv q)]) (fun q => []) (fun q => h) (fun q => m_X14_column_j123 x9_84 a0 a1 a2 a6 a7 q h) ?_ ?_
    · rintro x10_123 r10_123
      try dsimp only
      unfold m_X14_column_j123
      refine g_lload (pc := 123) X (i := 10) (q := 6) (x := x10_123) rfl (dl_at t_X14_column 68 rfl) ?_
      refine g_aload_n (pc := 125) X (j := 0) (i := 0) (q := 0) (x := a0) rfl rfl (dl_at t_X14_column 69 rfl) ?_
      refine r_getr (pc := 126) X fX14_3 hk q1245 (dl_at t_X14_column 70 rfl) ?_
      refine g_gd fun k129 => ?_
      refine r_getiN (pc := 129) X fX3_24 k129 (nw_in q567 rfl) (dl_at t_X14_column 71 rfl) fun g129 => ?_
      refine g_i2l (pc := 132) X g129 (dl_at t_X14_column 72 rfl) ?_
      refine g_lcmp (pc := 133) X r10_123 (r64_of g129) (dl_at t_X14_column 73 rfl) ?_
      refine g_ifle (pc := 134) X (r32_lcmp _ _) (off := 5) (tgt := 139) rfl (dl_at t_X14_column 74 rfl) (fun _ => ?_) (fun _ => ?_)
      · refine g_aload_n (pc := 139) X (j := 0) (i := 0) (q := 0) (x := a0) rfl rfl (dl_at t_X14_column 77 rfl) ?_
        refine r_getr (pc := 140) X fX14_16 hk q1266 (dl_at t_X14_column 78 rfl) ?_
        refine g_iload_n (pc := 143) X (j := 2) (i := 2) (q := 2) (x := a2) rfl rfl (dl_at t_X14_column 79 rfl) ?_
        refine g_gd fun k144 => ?_
        refine g_zald (pc := 144) X r2 k144 (dl_at t_X14_column 80 rfl) fun g144 => ?_
        refine g_ifne (pc := 145) X (r32_z g144) (off := 5) (tgt := 150) rfl (dl_at t_X14_column 81 rfl) (fun _ => ?_) (fun _ => ?_)
        · refine g_aload_n (pc := 150) X (j := 0) (i := 0) (q := 0) (x := a0) rfl rfl (dl_at t_X14_column 84 rfl) ?_
          refine r_getr (pc := 151) X fX14_0 hk q1241 (dl_at t_X14_column 85 rfl) ?_
          refine r_getrN (pc := 154) X fX10_12 k4 (nw_in q1062 rfl) (dl_at t_X14_column 86 rfl) ?_
          refine g_iload_n (pc := 157) X (j := 1) (i := 1) (q := 1) (x := a1) rfl rfl (dl_at t_X14_column 87 rfl) ?_
          refine g_gd fun k158 => ?_
          refine g_iald (pc := 158) X r1 k158 (dl_at t_X14_column 88 rfl) fun g158 => ?_
          refine g_lti g158 fun x12_159 r12_159 => ?_
          refine g_istore (pc := 159) X (i := 12) (x := x12_159) (rest := [(0, rv D a0), (1, iv a1), (2, iv a2), (6, iv a6), (7, iv a7), (9, iv x9_84), (10, jv x10_123)]) (Nat.le_of_ble_eq_true rfl) [0, 1, 2, 3, 4, 5, 6] rfl rfl (dl_at t_X14_column 89 rfl) ?_
          refine g_ls (ls2 := [(0, rv D a0), (1, iv a1), (2, iv a2), (6, iv a6), (7, iv a7), (9, iv x9_84), (10, jv x10_123), (12, iv x12_159)]) [1, 2, 3, 4, 5, 6, 7, 0] rfl ?_
          refine g_loop1 (fun (q : Int × Int) => [(0, rv D a0), (1, iv a1), (2, iv a2), (6, iv a6), (7, iv a7), (9, iv x9_84), (10, jv q.1), (12, iv q.2)]) (fun (q : Int × Int) => h) (fun (q : Int × Int) => r64 q.1 ∧ r32 q.2) 208 (fun (y208 : Int × Int) => [(0, rv D a0), (1, iv a1), (2, iv a2), (6, iv a6), (9, iv x9_84), (10, jv y208.1), (12, iv y208.2)]) (fun (y208 : Int × Int) => h) (fun (y208 : Int × Int) => r64 y208.1 ∧ r32 y208.2) (x10_123, x12_159) ⟨r10_123, r12_159⟩ ?_ ?_
          · rintro ⟨x10_161, x12_161⟩ ⟨r10_161, r12_161⟩
            try dsimp only
            unfold m_X14_column_l161
            refine g_iload (pc := 161) X (i := 12) (q := 7) (x := x12_161) rfl (dl_at t_X14_column 90 rfl) ?_
            refine g_iload (pc := 163) X (i := 7) (q := 4) (x := a7) rfl (dl_at t_X14_column 91 rfl) ?_
            refine g_icmpge (pc := 165) X r12_161 r7 (off := 43) (tgt := 208) rfl (dl_at t_X14_column 92 rfl) (fun _ => ?_) (fun _ => ?_)
            · refine g_ls (ls2 := [(0, rv D a0), (1, iv a1), (2, iv a2), (6, iv a6), (9, iv x9_84), (10, jv x10_161), (12, iv x12_161)]) [0, 1, 2, 3, 5, 6, 7] rfl ?_
              exact g_at fun Q hQ => hQ ⟨r10_161, r12_161⟩
            refine g_lload (pc := 168) X (i := 10) (q := 6) (x := x10_161) rfl (dl_at t_X14_column 93 rfl) ?_
            refine g_aload_n (pc := 170) X (j := 0) (i := 0) (q := 0) (x := a0) rfl rfl (dl_at t_X14_column 94 rfl) ?_
            refine g_iload (pc := 171) X (i := 12) (q := 7) (x := x12_161) rfl (dl_at t_X14_column 95 rfl) ?_
            refine r_callRi (pc := 173) X (fun _ hv => s_X14_floatHeight hk r12_161 hv) cw_code q3004 q368 (in_Vk X (As := [iv x12_161]) kX14 hk (Or.inl q3001) q3003 qs204 cw_code q3004 ⟨by decide, by decide⟩ rfl (dl_at t_X14_column 96 rfl)) (dl_at t_X14_column 96 rfl) (cat24 (st := [jv x10_161]) (Nat.le_of_ble_eq_true rfl)) (Nat.le_of_ble_eq_true rfl) (Nat.le_of_ble_eq_true rfl) fun v173 g173 => ?_
            refine g_i2l (pc := 176) X g173 (dl_at t_X14_column 97 rfl) ?_
            refine g_ladd (pc := 177) X r10_161 (r64_of g173) (dl_at t_X14_column 98 rfl) ?_
            refine g_aload_n (pc := 178) X (j := 0) (i := 0) (q := 0) (x := a0) rfl rfl (dl_at t_X14_column 99 rfl) ?_
            refine r_getr (pc := 179) X fX14_3 hk q1245 (dl_at t_X14_column 100 rfl) ?_
            refine r_getiN (pc := 182) X fX3_24 k129 (nw_in q567 rfl) (dl_at t_X14_column 101 rfl) fun g182 => ?_
            refine g_i2l (pc := 185) X g182 (dl_at t_X14_column 102 rfl) ?_
            refine g_lcmp (pc := 186) X (r64_w _) (r64_of g182) (dl_at t_X14_column 103 rfl) ?_
            refine g_ifgt (pc := 187) X (r32_lcmp _ _) (off := 21) (tgt := 208) rfl (dl_at t_X14_column 104 rfl) (fun _ => ?_) (fun _ => ?_)
            · refine g_ls (ls2 := [(0, rv D a0), (1, iv a1), (2, iv a2), (6, iv a6), (9, iv x9_84), (10, jv x10_161), (12, iv x12_161)]) [0, 1, 2, 3, 5, 6, 7] rfl ?_
              exact g_at fun Q hQ => hQ ⟨r10_161, r12_161⟩
            refine g_lload (pc := 190) X (i := 10) (q := 6) (x := x10_161) rfl (dl_at t_X14_column 105 rfl) ?_
            refine g_aload_n (pc := 192) X (j := 0) (i := 0) (q := 0) (x := a0) rfl rfl (dl_at t_X14_column 106 rfl) ?_
            refine g_iload (pc := 193) X (i := 12) (q := 7) (x := x12_161) rfl (dl_at t_X14_column 107 rfl) ?_
            refine r_callRi (pc := 195) X (fun _ hv => s_X14_floatHeight hk r12_161 hv) cw_code q3004 q368 (in_Vk X (As := [iv x12_161]) kX14 hk (Or.inl q3001) q3003 qs204 cw_code q3004 ⟨by decide, by decide⟩ rfl (dl_at t_X14_column 108 rfl)) (dl_at t_X14_column 108 rfl) (cat24 (st := [jv x10_161]) (Nat.le_of_ble_eq_true rfl)) (Nat.le_of_ble_eq_true rfl) (Nat.le_of_ble_eq_true rfl) fun v195 g195 => ?_
            refine g_i2l (pc := 198) X g195 (dl_at t_X14_column 109 rfl) ?_
            refine g_ladd (pc := 199) X r10_161 (r64_of g195) (dl_at t_X14_column 110 rfl) ?_
            refine g_ltl (r64_w _) fun x10_200 r10_200 => ?_
            refine g_lstoreN (pc := 200) X (i := 10) (x := x10_200) (b := 9) (w := iv x9_84) (rest := [(0, rv D a0), (1, iv a1), (2, iv a2), (6, iv a6), (7, iv a7), (12, iv x12_161)]) (Nat.le_of_ble_eq_true rfl) [5, 0, 1, 2, 3, 4, 7] rfl (by decide) (by decide) rfl rfl (dl_at t_X14_column 111 rfl) ?_
            refine r_iinc (pc := 202) X (i := 12) (q := 7) (n := 1) (x := x12_161) (rest := [(10, jv x10_200), (9, iv x9_84), (0, rv D a0), (1, iv a1), (2, iv a2), (6, iv a6), (7, iv a7)]) rfl r12_161 (r32_c rfl) (Nat.le_of_ble_eq_true rfl) [0, 1, 2, 3, 4, 5, 6] rfl rfl (dl_at t_X14_column 112 rfl) fun x12_202 r12_202 => ?_
            refine g_goto (pc := 205) X (off := (-44)) (tgt := 161) rfl (dl_at t_X14_column 113 rfl) ?_
            refine g_ls (ls2 := [(0, rv D a0), (1, iv a1), (2, iv a2), (6, iv a6), (7, iv a7), (9, iv x9_84), (10, jv x10_200), (12, iv x12_202)]) [3, 4, 5, 6, 7, 2, 1, 0] rfl ?_
            exact g_at fun Q hQ => hQ ⟨r10_200, r12_202⟩
          · rintro ⟨x10_208, x12_208⟩ ⟨r10_208, r12_208⟩
            try dsimp only [sE]
            refine g_loop1 (fun (q : Int × Int) => [(0, rv D a0), (1, iv a1), (2, iv a2), (6, iv a6), (9, iv q.1), (10, jv q.2), (12, iv x12_208)]) (fun (q : Int × Int) => h) (fun (q : Int × Int) => r32 q.1 ∧ r64 q.2) 280 (fun (y280 : Int × Int) => [(0, rv D a0), (1, iv a1), (2, iv a2), (9, iv y280.1), (10, jv y280.2), (12, iv x12_208)]) (fun (y280 : Int × Int) => h) (fun (y280 : Int × Int) => r32 y280.1 ∧ r64 y280.2) (x9_84, x10_208) ⟨r9_84, r10_208⟩ ?_ ?_
            · rintro ⟨x9_208, x10_208_1⟩ ⟨r9_208, r10_208_1⟩
              try dsimp only
              unfold m_X14_column_l208
              refine g_iload (pc := 208) X (i := 9) (q := 4) (x := x9_208) rfl (dl_at t_X14_column 114 rfl) ?_
              refine g_aload_n (pc := 210) X (j := 0) (i := 0) (q := 0) (x := a0) rfl rfl (dl_at t_X14_column 115 rfl) ?_
              refine r_getr (pc := 211) X fX14_54 hk q1316 (dl_at t_X14_column 116 rfl) ?_
              refine g_iload (pc := 214) X (i := 6) (q := 3) (x := a6) rfl (dl_at t_X14_column 117 rfl) ?_
              refine g_gd fun k216 => ?_
              refine g_iald (pc := 216) X r6 k216 (dl_at t_X14_column 118 rfl) fun g216 => ?_
              refine g_icmpge (pc := 217) X r9_208 g216 (off := 63) (tgt := 280) rfl (dl_at t_X14_column 119 rfl) (fun _ => ?_) (fun _ => ?_)
              · refine g_ls (ls2 := [(0, rv D a0), (1, iv a1), (2, iv a2), (9, iv x9_208), (10, jv x10_208_1), (12, iv x12_208)]) [0, 1, 2, 4, 5, 6] rfl ?_
                exact g_at fun Q hQ => hQ ⟨r9_208, r10_208_1⟩
              refine g_lload (pc := 220) X (i := 10) (q := 5) (x := x10_208_1) rfl (dl_at t_X14_column 120 rfl) ?_
              refine g_aload_n (pc := 222) X (j := 0) (i := 0) (q := 0) (x := a0) rfl rfl (dl_at t_X14_column 121 rfl) ?_
              refine r_getr (pc := 223) X fX14_55 hk q1318 (dl_at t_X14_column 122 rfl) ?_
              refine g_iload (pc := 226) X (i := 9) (q := 4) (x := x9_208) rfl (dl_at t_X14_column 123 rfl) ?_
              refine g_iconst (pc := 228) X (n := 1) (dl_at t_X14_column 124 rfl) ?_
              refine g_iadd (pc := 229) X r9_208 (r32_c rfl) (dl_at t_X14_column 125 rfl) ?_
              refine g_gd fun k230 => ?_
              refine g_lald (pc := 230) X (r32_w _) k230 (dl_at t_X14_column 126 rfl) fun g230 => ?_
              refine g_ladd (pc := 231) X r10_208_1 g230 (dl_at t_X14_column 127 rfl) ?_
              refine g_aload_n (pc := 232) X (j := 0) (i := 0) (q := 0) (x := a0) rfl rfl (dl_at t_X14_column 128 rfl) ?_
              refine r_getr (pc := 233) X fX14_55 hk q1318 (dl_at t_X14_column 129 rfl) ?_
              refine g_iload (pc := 236) X (i := 9) (q := 4) (x := x9_208) rfl (dl_at t_X14_column 130 rfl) ?_
              refine g_gd fun k238 => ?_
              refine g_lald (pc := 238) X r9_208 k238 (dl_at t_X14_column 131 rfl) fun g238 => ?_
              refine g_lsub (pc := 239) X (r64_w _) g238 (dl_at t_X14_column 132 rfl) ?_
              refine g_aload_n (pc := 240) X (j := 0) (i := 0) (q := 0) (x := a0) rfl rfl (dl_at t_X14_column 133 rfl) ?_
              refine r_getr (pc := 241) X fX14_3 hk q1245 (dl_at t_X14_column 134 rfl) ?_
              refine r_getiN (pc := 244) X fX3_24 k129 (nw_in q567 rfl) (dl_at t_X14_column 135 rfl) fun g244 => ?_
              refine g_i2l (pc := 247) X g244 (dl_at t_X14_column 136 rfl) ?_
              refine g_lcmp (pc := 248) X (r64_w _) (r64_of g244) (dl_at t_X14_column 137 rfl) ?_
              refine g_ifgt (pc := 249) X (r32_lcmp _ _) (off := 31) (tgt := 280) rfl (dl_at t_X14_column 138 rfl) (fun _ => ?_) (fun _ => ?_)
              · refine g_ls (ls2 := [(0, rv D a0), (1, iv a1), (2, iv a2), (9, iv x9_208), (10, jv x10_208_1), (12, iv x12_208)]) [0, 1, 2, 4, 5, 6] rfl ?_
                exact g_at fun Q hQ => hQ ⟨r9_208, r10_208_1⟩
              refine g_lload (pc := 252) X (i := 10) (q := 5) (x := x10_208_1) rfl (dl_at t_X14_column 139 rfl) ?_
              refine g_aload_n (pc := 254) X (j := 0) (i := 0) (q := 0) (x := a0) rfl rfl (dl_at t_X14_column 140 rfl) ?_
              refine r_getr (pc := 255) X fX14_55 hk q1318 (dl_at t_X14_column 141 rfl) ?_
              refine g_iload (pc := 258) X (i := 9) (q := 4) (x := x9_208) rfl (dl_at t_X14_column 142 rfl) ?_
              refine g_iconst (pc := 260) X (n := 1) (dl_at t_X14_column 143 rfl) ?_
              refine g_iadd (pc := 261) X r9_208 (r32_c rfl) (dl_at t_X14_column 144 rfl) ?_
              refine g_lald (pc := 262) X (r32_w _) k230 (dl_at t_X14_column 145 rfl) fun g262 => ?_
              refine g_aload_n (pc := 263) X (j := 0) (i := 0) (q := 0) (x := a0) rfl rfl (dl_at t_X14_column 146 rfl) ?_
              refine r_getr (pc := 264) X fX14_55 hk q1318 (dl_at t_X14_column 147 rfl) ?_
              refine g_iload (pc := 267) X (i := 9) (q := 4) (x := x9_208) rfl (dl_at t_X14_column 148 rfl) ?_
              refine g_lald (pc := 269) X r9_208 k238 (dl_at t_X14_column 149 rfl) fun g269 => ?_
              refine g_lsub (pc := 270) X g262 g269 (dl_at t_X14_column 150 rfl) ?_
              refine g_ladd (pc := 271) X r10_208_1 (r64_w _) (dl_at t_X14_column 151 rfl) ?_
              refine g_ltl (r64_w _) fun x10_272 r10_272 => ?_
              refine g_lstoreN (pc := 272) X (i := 10) (x := x10_272) (b := 9) (w := iv x9_208) (rest := [(0, rv D a0), (1, iv a1), (2, iv a2), (6, iv a6), (12, iv x12_208)]) (Nat.le_of_ble_eq_true rfl) [4, 0, 1, 2, 3, 6] rfl (by decide) (by decide) rfl rfl (dl_at t_X14_column 152 rfl) ?_
              refine r_iinc (pc := 274) X (i := 9) (q := 1) (n := 1) (x := x9_208) (rest := [(10, jv x10_272), (0, rv D a0), (1, iv a1), (2, iv a2), (6, iv a6), (12, iv x12_208)]) rfl r9_208 (r32_c rfl) (Nat.le_of_ble_eq_true rfl) [0, 2, 3, 4, 5, 6] rfl rfl (dl_at t_X14_column 153 rfl) fun x9_274 r9_274 => ?_
              refine g_goto (pc := 277) X (off := (-69)) (tgt := 208) rfl (dl_at t_X14_column 154 rfl) ?_
              refine g_ls (ls2 := [(0, rv D a0), (1, iv a1), (2, iv a2), (6, iv a6), (9, iv x9_274), (10, jv x10_272), (12, iv x12_208)]) [2, 3, 4, 5, 0, 1, 6] rfl ?_
              exact g_at fun Q hQ => hQ ⟨r9_274, r10_272⟩
            · rintro ⟨x9_280, x10_280⟩ ⟨r9_280, r10_280⟩
              try dsimp only [sE]
              refine g_ldc2 (pc := 280) X (index := 676) (n := 100) q3005 (dl_at t_X14_column 155 rfl) ?_
              refine g_aload_n (pc := 283) X (j := 0) (i := 0) (q := 0) (x := a0) rfl rfl (dl_at t_X14_column 156 rfl) ?_
              refine r_getr (pc := 284) X fX14_3 hk q1245 (dl_at t_X14_column 157 rfl) ?_
              refine r_getiN (pc := 287) X fX3_24 k129 (nw_in q567 rfl) (dl_at t_X14_column 158 rfl) fun g287 => ?_
              refine g_i2l (pc := 290) X g287 (dl_at t_X14_column 159 rfl) ?_
              refine g_lload (pc := 291) X (i := 10) (q := 4) (x := x10_280) rfl (dl_at t_X14_column 160 rfl) ?_
              refine g_lsub (pc := 293) X (r64_of g287) r10_280 (dl_at t_X14_column 161 rfl) ?_
              refine g_lmul (pc := 294) X (r64_c rfl) (r64_w _) (dl_at t_X14_column 162 rfl) ?_
              refine g_aload_n (pc := 295) X (j := 0) (i := 0) (q := 0) (x := a0) rfl rfl (dl_at t_X14_column 163 rfl) ?_
              refine r_getr (pc := 296) X fX14_3 hk q1245 (dl_at t_X14_column 164 rfl) ?_
              refine r_getiN (pc := 299) X fX3_24 k129 (nw_in q567 rfl) (dl_at t_X14_column 165 rfl) fun g299 => ?_
              refine g_i2l (pc := 302) X g299 (dl_at t_X14_column 166 rfl) ?_
              refine g_gd fun z303 => ?_
              refine g_ldiv (pc := 303) X (r64_w _) (r64_of g299) z303 (dl_at t_X14_column 167 rfl) ?_
              refine g_ltl (r64_w _) fun x13_304 r13_304 => ?_
              refine g_lstoreN (pc := 304) X (i := 13) (x := x13_304) (b := 12) (w := iv x12_208) (rest := [(0, rv D a0), (1, iv a1), (2, iv a2), (9, iv x9_280)]) (Nat.le_of_ble_eq_true rfl) [5, 0, 1, 2, 3] rfl (by decide) (by decide) rfl rfl (dl_at t_X14_column 168 rfl) ?_
              refine g_iload_n (pc := 306) X (j := 2) (i := 2) (q := 4) (x := a2) rfl rfl (dl_at t_X14_column 169 rfl) ?_
              refine g_aload_n (pc := 307) X (j := 0) (i := 0) (q := 2) (x := a0) rfl rfl (dl_at t_X14_column 170 rfl) ?_
              refine r_geti (pc := 308) X fX14_18 hk q1269 (dl_at t_X14_column 171 rfl) fun g308 => ?_
              refine g_iconst (pc := 311) X (n := 1) (dl_at t_X14_column 172 rfl) ?_
              refine g_isub (pc := 312) X g308 (r32_c rfl) (dl_at t_X14_column 173 rfl) ?_
              refine g_join (γ := Int) (fun q => r64 q) 341 (fun q => [(0, rv D a0), (1, iv a1), (2, iv a2), (9, iv x9_280), (12, iv x12_208)]) (fun q => [jv q]) (fun q => h) (fun q => m_X14_column_j341 x12_208 a0 a1 a2 x9_280 q h) ?_ ?_
              · rintro s0_341 rs0_341
                try dsimp only
                unfold m_X14_column_j341
                refine g_lstore (pc := 341) X (i := 15) (x := s0_341) (rest := [(0, rv D a0), (1, iv a1), (2, iv a2), (9, iv x9_280), (12, iv x12_208)]) (Nat.le_of_ble_eq_true rfl) [0, 1, 2, 3, 4] rfl rfl (dl_at t_X14_column 188 rfl) ?_
                refine g_aload_n (pc := 343) X (j := 0) (i := 0) (q := 1) (x := a0) rfl rfl (dl_at t_X14_column 189 rfl) ?_
                refine g_iload_n (pc := 344) X (j := 2) (i := 2) (q := 3) (x := a2) rfl rfl (dl_at t_X14_column 190 rfl) ?_
                refine g_iconst (pc := 345) X (n := 1) (dl_at t_X14_column 191 rfl) ?_
                refine g_iadd (pc := 346) X r2 (r32_c rfl) (dl_at t_X14_column 192 rfl) ?_
                refine g_iload (pc := 347) X (i := 9) (q := 4) (x := x9_280) rfl (dl_at t_X14_column 193 rfl) ?_
                refine g_iload (pc := 349) X (i := 12) (q := 5) (x := x12_208) rfl (dl_at t_X14_column 194 rfl) ?_
                refine g_aload_n (pc := 351) X (j := 0) (i := 0) (q := 1) (x := a0) rfl rfl (dl_at t_X14_column 195 rfl) ?_
                refine r_getr (pc := 352) X fX14_0 hk q1241 (dl_at t_X14_column 196 rfl) ?_
                refine r_getrN (pc := 355) X fX10_13 k4 (nw_in q1064 rfl) (dl_at t_X14_column 197 rfl) ?_
                refine g_iload_n (pc := 358) X (j := 1) (i := 1) (q := 2) (x := a1) rfl rfl (dl_at t_X14_column 198 rfl) ?_
                refine g_gd fun k359 => ?_
                refine g_lald (pc := 359) X r1 k359 (dl_at t_X14_column 199 rfl) fun g359 => ?_
                refine g_lload (pc := 360) X (i := 15) (q := 0) (x := s0_341) rfl (dl_at t_X14_column 200 rfl) ?_
                refine g_ladd (pc := 362) X g359 rs0_341 (dl_at t_X14_column 201 rfl) ?_
                refine g_iload_n (pc := 363) X (j := 1) (i := 1) (q := 2) (x := a1) rfl rfl (dl_at t_X14_column 202 rfl) ?_
                refine r_callTv (pc := 364) X (fun _ hv => s_X14_reach hk (r32_w _) r9_280 r12_208 (r64_w _) r1 hv) cw_code q2980 q368 (in_Vk X (As := [iv (w32 (a2 + 1)), iv x9_280, iv x12_208, jv (w64 ((h (h (h a0 0) 13) a1) + s0_341)), iv a1]) kX14 hk (Or.inl q2977) q2979 qs199 cw_code q2980 ⟨by decide, by decide⟩ rfl (dl_at t_X14_column 203 rfl)) (dl_at t_X14_column 203 rfl) (cat24 (st := []) (Nat.le_of_ble_eq_true rfl)) (Nat.le_of_ble_eq_true rfl) (Nat.le_of_ble_eq_true rfl) (fun v364 h364 E364 => ?_) (fun _ _ ha _ => gt_at fun Q hQ => gt_out (Q := Q) X rfl ha (hno _) _ Q rfl hQ)
                refine g_iconst (pc := 367) X (n := 1) (dl_at t_X14_column 204 rfl) ?_
                exact g_zret (pc := 368) X (Or.inr rfl) rfl rfl (dl_at t_X14_column 205 rfl)
              intro J341
              refine g_icmpne (pc := 313) X r2 (r32_w _) (off := 7) (tgt := 320) rfl (dl_at t_X14_column 174 rfl) (fun _ => ?_) (fun _ => ?_)
              · refine g_lload (pc := 320) X (i := 13) (q := 0) (x := x13_304) rfl (dl_at t_X14_column 177 rfl) ?_
                refine g_lload (pc := 322) X (i := 13) (q := 0) (x := x13_304) rfl (dl_at t_X14_column 178 rfl) ?_
                refine g_lmul (pc := 324) X r13_304 r13_304 (dl_at t_X14_column 179 rfl) ?_
                refine g_aload_n (pc := 325) X (j := 0) (i := 0) (q := 2) (x := a0) rfl rfl (dl_at t_X14_column 180 rfl) ?_
                refine g_iload_n (pc := 326) X (j := 2) (i := 2) (q := 4) (x := a2) rfl rfl (dl_at t_X14_column 181 rfl) ?_
                refine r_callRz (pc := 327) X (fun _ hv => s_X14_endsCut hk r2 hv) cw_code q3009 q368 (in_Vk X (As := [iv a2]) kX14 hk (Or.inl q3006) q3008 qs205 cw_code q3009 ⟨by decide, by decide⟩ rfl (dl_at t_X14_column 182 rfl)) (dl_at t_X14_column 182 rfl) (cat24 (st := [jv (w64 (x13_304 * x13_304))]) (Nat.le_of_ble_eq_true rfl)) (Nat.le_of_ble_eq_true rfl) (Nat.le_of_ble_eq_true rfl) fun v327 g327 => ?_
                refine g_join (γ := Int × Int) (fun q => r64 q.1 ∧ r64 q.2) 340 (fun q => [(0, rv D a0), (1, iv a1), (2, iv a2), (9, iv x9_280), (12, iv x12_208)]) (fun q => [jv q.2, jv q.1]) (fun q => h) (fun q => m_X14_column_j340 x12_208 a0 a1 a2 x9_280 q.1 q.2 h) ?_ ?_
                · rintro ⟨s0_340, s1_340⟩ ⟨rs0_340, rs1_340⟩
                  try dsimp only
                  unfold m_X14_column_j340
                  refine g_ladd (pc := 340) X rs0_340 rs1_340 (dl_at t_X14_column 187 rfl) ?_
                  exact J341 (w64 (s0_340 + s1_340)) (r64_w _)
                intro J340
                refine g_ifeq (pc := 330) X (r32_z g327) (off := 9) (tgt := 339) rfl (dl_at t_X14_column 183 rfl) (fun _ => ?_) (fun _ => ?_)
                · refine g_lconst0 (pc := 339) X (dl_at t_X14_column 186 rfl) ?_
                  refine g_ls (ls2 := [(0, rv D a0), (1, iv a1), (2, iv a2), (9, iv x9_280), (12, iv x12_208)]) [2, 3, 4, 5, 1] rfl ?_
                  exact J340 ((w64 (x13_304 * x13_304)), 0) ⟨(r64_w _), (r64_c rfl)⟩
                refine g_ldc2 (pc := 333) X (index := 681) (n := 400) q3014 (dl_at t_X14_column 184 rfl) ?_
                refine g_goto (pc := 336) X (off := 4) (tgt := 340) rfl (dl_at t_X14_column 185 rfl) ?_
                refine g_ls (ls2 := [(0, rv D a0), (1, iv a1), (2, iv a2), (9, iv x9_280), (12, iv x12_208)]) [2, 3, 4, 5, 1] rfl ?_
                exact J340 ((w64 (x13_304 * x13_304)), 400) ⟨(r64_w _), (r64_c rfl)⟩
              refine g_lconst0 (pc := 316) X (dl_at t_X14_column 175 rfl) ?_
              refine g_goto (pc := 317) X (off := 24) (tgt := 341) rfl (dl_at t_X14_column 176 rfl) ?_
              refine g_ls (ls2 := [(0, rv D a0), (1, iv a1), (2, iv a2), (9, iv x9_280), (12, iv x12_208)]) [2, 3, 4, 5, 1] rfl ?_
              exact J341 0 (r64_c rfl)
        refine g_iconst (pc := 148) X (n := 1) (dl_at t_X14_column 82 rfl) ?_
        exact g_zret (pc := 149) X (Or.inr rfl) rfl rfl (dl_at t_X14_column 83 rfl)
      refine g_iconst (pc := 137) X (n := 0) (dl_at t_X14_column 75 rfl) ?_
      exact g_zret (pc := 138) X (Or.inl rfl) rfl rfl (dl_at t_X14_column 76 rfl)
    intro J123
    refine g_icmple (pc := 107) X r9_84 r8_9 (off := 16) (tgt := 123) rfl (dl_at t_X14_column 60 rfl) (fun _ => ?_) (fun _ => ?_)
    · refine g_ls (ls2 := [(0, rv D a0), (1, iv a1), (2, iv a2), (6, iv a6), (7, iv a7), (9, iv x9_84), (10, jv x10_101)]) [2, 3, 4, 5, 6, 1, 0] rfl ?_
      exact J123 x10_101 r10_101
    refine g_lload (pc := 110) X (i := 10) (q := 0) (x := x10_101) rfl (dl_at t_X14_column 61 rfl) ?_
    refine g_aload_n (pc := 112) X (j := 0) (i := 0) (q := 2) (x := a0) rfl rfl (dl_at t_X14_column 62 rfl) ?_
    refine r_getr (pc := 113) X fX14_3 hk q1245 (dl_at t_X14_column 63 rfl) ?_
    refine g_gd fun k116 => ?_
    refine r_getiN (pc := 116) X fX3_27 k116 (nw_in q573 rfl) (dl_at t_X14_column 64 rfl) fun g116 => ?_
    refine g_i2l (pc := 119) X g116 (dl_at t_X14_column 65 rfl) ?_
    refine g_ladd (pc := 120) X r10_101 (r64_of g116) (dl_at t_X14_column 66 rfl) ?_
    refine g_ltl (r64_w _) fun x10_121 r10_121 => ?_
    refine g_lstoreN (pc := 121) X (i := 10) (x := x10_121) (b := 9) (w := iv x9_84) (rest := [(0, rv D a0), (1, iv a1), (2, iv a2), (6, iv a6), (7, iv a7)]) (Nat.le_of_ble_eq_true rfl) [1, 2, 3, 4, 5, 6] rfl (by decide) (by decide) rfl rfl (dl_at t_X14_column 67 rfl) ?_
    refine g_ls (ls2 := [(0, rv D a0), (1, iv a1), (2, iv a2), (6, iv a6), (7, iv a7), (9, iv x9_84), (10, jv x10_121)]) [2, 3, 4, 5, 6, 1, 0] rfl ?_
    exact J123 x10_121 r10_121
  intro J84
  refine g_icmple (pc := 19) X r6 r5 (off := 47) (tgt := 66) rfl (dl_at t_X14_column 10 rfl) (fun _ => ?_) (fun _ => ?_)
  · refine g_iload (pc := 66) X (i := 8) (q := 1) (x := x8_9) rfl (dl_at t_X14_column 36 rfl) ?_
    refine g_aload_n (pc := 68) X (j := 0) (i := 0) (q := 3) (x := a0) rfl rfl (dl_at t_X14_column 37 rfl) ?_
    refine r_getr (pc := 69) X fX14_54 hk q1316 (dl_at t_X14_column 38 rfl) ?_
    refine g_iload (pc := 72) X (i := 6) (q := 8) (x := a6) rfl (dl_at t_X14_column 39 rfl) ?_
    refine g_gd fun k74 => ?_
    refine g_iald (pc := 74) X r6 k74 (dl_at t_X14_column 40 rfl) fun g74 => ?_
    refine g_icmpge (pc := 75) X r8_9 g74 (off := 9) (tgt := 84) rfl (dl_at t_X14_column 41 rfl) (fun _ => ?_) (fun _ => ?_)
    · refine g_ls (ls2 := [(0, rv D a0), (1, iv a1), (2, iv a2), (3, jv a3), (6, iv a6), (7, iv a7), (8, iv x8_9), (9, iv x8_9)]) [3, 4, 5, 6, 8, 2, 1, 0] rfl ?_
      exact J84 x8_9 r8_9
    refine g_iload (pc := 78) X (i := 8) (q := 1) (x := x8_9) rfl (dl_at t_X14_column 42 rfl) ?_
    refine g_iconst (pc := 80) X (n := 1) (dl_at t_X14_column 43 rfl) ?_
    refine g_iadd (pc := 81) X r8_9 (r32_c rfl) (dl_at t_X14_column 44 rfl) ?_
    refine g_lti (r32_w _) fun x9_82 r9_82 => ?_
    refine g_istoreN (pc := 82) X (i := 9) (x := x9_82) (b := 8) (w := iv x8_9) (rest := [(7, iv a7), (0, rv D a0), (1, iv a1), (2, iv a2), (3, jv a3), (6, iv a6)]) (Nat.le_of_ble_eq_true rfl) [1, 2, 3, 4, 5, 6, 8] rfl (by decide) rfl rfl (dl_at t_X14_column 45 rfl) ?_
    refine g_ls (ls2 := [(0, rv D a0), (1, iv a1), (2, iv a2), (3, jv a3), (6, iv a6), (7, iv a7), (8, iv x8_9), (9, iv x9_82)]) [3, 4, 5, 6, 7, 2, 1, 0] rfl ?_
    exact J84 x9_82 r9_82
  refine g_aload_n (pc := 22) X (j := 0) (i := 0) (q := 3) (x := a0) rfl rfl (dl_at t_X14_column 11 rfl) ?_
  refine r_getr (pc := 23) X fX14_54 hk q1316 (dl_at t_X14_column 12 rfl) ?_
  refine g_iload (pc := 26) X (i := 6) (q := 8) (x := a6) rfl (dl_at t_X14_column 13 rfl) ?_
  refine g_iconst (pc := 28) X (n := 1) (dl_at t_X14_column 14 rfl) ?_
  refine g_isub (pc := 29) X r6 (r32_c rfl) (dl_at t_X14_column 15 rfl) ?_
  refine g_gd fun k30 => ?_
  refine g_iald (pc := 30) X (r32_w _) k30 (dl_at t_X14_column 16 rfl) fun g30 => ?_
  refine g_lti g30 fun x10_31 r10_31 => ?_
  refine g_istore (pc := 31) X (i := 10) (x := x10_31) (rest := [(8, iv x8_9), (7, iv a7), (0, rv D a0), (1, iv a1), (2, iv a2), (3, jv a3), (6, iv a6)]) (Nat.le_of_ble_eq_true rfl) [1, 2, 3, 4, 5, 6, 8] rfl rfl (dl_at t_X14_column 17 rfl) ?_
  refine g_aload_n (pc := 33) X (j := 0) (i := 0) (q := 3) (x := a0) rfl rfl (dl_at t_X14_column 18 rfl) ?_
  refine r_getr (pc := 34) X fX14_54 hk q1316 (dl_at t_X14_column 19 rfl) ?_
  refine g_iload (pc := 37) X (i := 6) (q := 7) (x := a6) rfl (dl_at t_X14_column 20 rfl) ?_
  refine g_gd fun k39 => ?_
  refine g_iald (pc := 39) X r6 k39 (dl_at t_X14_column 21 rfl) fun g39 => ?_
  refine g_iload (pc := 40) X (i := 10) (q := 0) (x := x10_31) rfl (dl_at t_X14_column 22 rfl) ?_
  refine g_isub (pc := 42) X g39 r10_31 (dl_at t_X14_column 23 rfl) ?_
  refine g_iconst (pc := 43) X (n := 2) (dl_at t_X14_column 24 rfl) ?_
  refine g_join (γ := Int) (fun q => r32 q) 61 (fun q => [(0, rv D a0), (1, iv a1), (2, iv a2), (3, jv a3), (6, iv a6), (7, iv a7), (8, iv x8_9)]) (fun q => [iv q]) (fun q => h) (fun q => m_X14_column_j61 x8_9 a7 a0 a1 a2 a3 a6 q h) ?_ ?_
  · rintro s0_61 rs0_61
    try dsimp only
    unfold m_X14_column_j61
    refine g_istoreN (pc := 61) X (i := 9) (x := s0_61) (b := 8) (w := iv x8_9) (rest := [(0, rv D a0), (1, iv a1), (2, iv a2), (3, jv a3), (6, iv a6), (7, iv a7)]) (Nat.le_of_ble_eq_true rfl) [6, 0, 1, 2, 3, 4, 5] rfl (by decide) rfl rfl (dl_at t_X14_column 34 rfl) ?_
    refine g_goto (pc := 63) X (off := 21) (tgt := 84) rfl (dl_at t_X14_column 35 rfl) ?_
    refine g_ls (ls2 := [(0, rv D a0), (1, iv a1), (2, iv a2), (3, jv a3), (6, iv a6), (7, iv a7), (8, iv x8_9), (9, iv s0_61)]) [2, 3, 4, 5, 6, 7, 1, 0] rfl ?_
    exact J84 s0_61 rs0_61
  intro J61
  refine g_icmple (pc := 44) X (r32_w _) (r32_c rfl) (off := 10) (tgt := 54) rfl (dl_at t_X14_column 25 rfl) (fun _ => ?_) (fun _ => ?_)
  · refine g_aload_n (pc := 54) X (j := 0) (i := 0) (q := 3) (x := a0) rfl rfl (dl_at t_X14_column 30 rfl) ?_
    refine r_getr (pc := 55) X fX14_54 hk q1316 (dl_at t_X14_column 31 rfl) ?_
    refine g_iload (pc := 58) X (i := 6) (q := 7) (x := a6) rfl (dl_at t_X14_column 32 rfl) ?_
    refine g_iald (pc := 60) X r6 k39 (dl_at t_X14_column 33 rfl) fun g60 => ?_
    refine g_ls (ls2 := [(0, rv D a0), (1, iv a1), (2, iv a2), (3, jv a3), (6, iv a6), (7, iv a7), (8, iv x8_9)]) [3, 4, 5, 6, 7, 2, 1] rfl ?_
    exact J61 (h (h a0 54) a6) g60
  refine g_iload (pc := 47) X (i := 10) (q := 0) (x := x10_31) rfl (dl_at t_X14_column 26 rfl) ?_
  refine g_iconst (pc := 49) X (n := 2) (dl_at t_X14_column 27 rfl) ?_
  refine g_iadd (pc := 50) X r10_31 (r32_c rfl) (dl_at t_X14_column 28 rfl) ?_
  refine g_goto (pc := 51) X (off := 10) (tgt := 61) rfl (dl_at t_X14_column 29 rfl) ?_
  refine g_ls (ls2 := [(0, rv D a0), (1, iv a1), (2, iv a2), (3, jv a3), (6, iv a6), (7, iv a7), (8, iv x8_9)]) [3, 4, 5, 6, 7, 2, 1] rfl ?_
  exact J61 (w32 (x10_31 + 2)) (r32_w _)
def k_X14_columnsFrom : List (Nat × Instr × Nat) := [(0, .aload_n 0, 1), (1, .getfield 86, 3), (4, .aload_n 0, 1), (5, .getfield 208, 3), (8, .iload_n 2, 1), (9, .iconst 1, 1), (10, .isub, 1), (11, .invokestatic 725, 3), (14, .istore_n 3, 1), (15, .iload_n 3, 1), (16, .istore 4, 2), (18, .aload_n 0, 1), (19, .getfield 92, 3), (22, .aload_n 0, 1), (23, .getfield 211, 3), (26, .iload_n 2, 1), (27, .iconst 1, 1), (28, .isub, 1), (29, .invokestatic 725, 3), (32, .istore 5, 2), (34, .lconst 0, 1), (35, .lstore 6, 2), (37, .iconst 1, 1), (38, .istore 8, 2), (40, .iload_n 2, 1), (41, .istore 9, 2), (43, .iload 9, 2), (45, .aload_n 0, 1), (46, .getfield 196, 3), (49, .if_icmp .ge 137, 3), (52, .iload 8, 2), (54, .ifCond .eq 132, 3), (57, .lload 6, 2), (59, .aload_n 0, 1), (60, .getfield 34, 3), (63, .iload 9, 2), (65, .iaload, 1), (66, .iload 9, 2), (68, .iload_n 2, 1), (69, .if_icmp .le 13, 3), (72, .aload_n 0, 1), (73, .getfield 37, 3), (76, .iload 9, 2), (78, .iaload, 1), (79, .goto 4, 3), (82, .iconst 0, 1), (83, .iadd, 1), (84, .i2l, 1), (85, .ladd, 1), (86, .lstore 6, 2), (88, .iload 4, 2), (90, .aload_n 0, 1), (91, .getfield 208, 3), (94, .if_icmp .ge 21, 3), (97, .aload_n 0, 1), (98, .getfield 86, 3), (101, .iload 4, 2), (103, .iaload, 1), (104, .iload 9, 2), (106, .if_icmp .gt 9, 3), (109, .iinc 4 1, 3), (112, .goto (-24), 3), (115, .iload 5, 2), (117, .aload_n 0, 1), (118, .getfield 211, 3), (121, .if_icmp .ge 21, 3), (124, .aload_n 0, 1), (125, .getfield 92, 3), (128, .iload 5, 2), (130, .iaload, 1), (131, .iload 9, 2), (133, .if_icmp .gt 9, 3), (136, .iinc 5 1, 3), (139, .goto (-24), 3), (142, .lload 6, 2), (144, .aload_n 0, 1), (145, .getfield 168, 3), (148, .getfield 662, 3), (151, .i2l, 1), (152, .lcmp, 1), (153, .ifCond .gt 24, 3), (156, .aload_n 0, 1), (157, .iload_n 1, 1), (158, .iload 9, 2), (160, .lload 6, 2), (162, .iload_n 3, 1), (163, .iload 4, 2), (165, .iload 5, 2), (167, .invokevirtual 729, 3), (170, .ifCond .eq 7, 3), (173, .iconst 1, 1), (174, .goto 4, 3), (177, .iconst 0, 1), (178, .istore 8, 2), (180, .iinc 9 1, 3), (183, .goto (-140), 3), (186, .return_, 1)]
theorem t_X14_columnsFrom : ∀ q ∈ k_X14_columnsFrom, decode cX14_columnsFrom q.1 = .ok q.2 := dl_all (by decide +kernel)
noncomputable def m_X14_columnsFrom_l88 (a0 x9_43 x4_88 : Int) (h_43 : Hp) : Option ((Int) ⊕ ((Int))) :=
  if (h_43 a0 36) ≤ x4_88 then (some (.inr x4_88))
  else (gd (h_43 (h_43 a0 35) (-2) % 16 = 1 ∧ (0 : Int) ≤ x4_88 ∧ x4_88 < h_43 (h_43 a0 35) (-1)) (if x9_43 < (h_43 (h_43 a0 35) x4_88) then (some (.inr x4_88))
  else (lt_ (w32 (x4_88 + 1)) fun x4_109 =>
  some (.inl x4_109))))
noncomputable def m_X14_columnsFrom_l115 (a0 x9_43 x5_115 : Int) (h_43 : Hp) : Option ((Int) ⊕ ((Int))) :=
  if (h_43 a0 39) ≤ x5_115 then (some (.inr x5_115))
  else (gd (h_43 (h_43 a0 38) (-2) % 16 = 1 ∧ (0 : Int) ≤ x5_115 ∧ x5_115 < h_43 (h_43 a0 38) (-1)) (if x9_43 < (h_43 (h_43 a0 38) x5_115) then (some (.inr x5_115))
  else (lt_ (w32 (x5_115 + 1)) fun x5_136 =>
  some (.inl x5_136))))
noncomputable def m_X14_columnsFrom_j178 (x4_115 x5_142 x6_86 x9_43 s0_178 : Int) (h_178 : Hp) : Option ((Int × Int × Int × Int × Int × Hp) ⊕ (((Int × Int) × Hp))) :=
  lt_ (w32 (x9_43 + 1)) fun x9_180 =>
  some (.inl (x4_115, x5_142, x6_86, s0_178, x9_180, h_178))
noncomputable def m_X14_columnsFrom_j177 (x4_115 x5_142 x6_86 x9_43 : Int) (h_177 : Hp) : Option ((Int × Int × Int × Int × Int × Hp) ⊕ (((Int × Int) × Hp))) :=
  m_X14_columnsFrom_j178 x4_115 x5_142 x6_86 x9_43 0 h_177
noncomputable def m_X14_columnsFrom_j83 (a0 a1 v11 x4_43 x5_43 x6_43 x9_43 s1_83 s2_83 : Int) (h_43 : Hp) : Option ((Int × Int × Int × Int × Int × Hp) ⊕ (((Int × Int) × Hp))) :=
  lt_ (w64 (x6_43 + (w32 (s1_83 + s2_83)))) fun x6_86 =>
  (lp (fun (q : Int) => m_X14_columnsFrom_l88 a0 x9_43 q h_43) x4_43).bind (fun (y115 : Int) => (lp (fun (q : Int) => m_X14_columnsFrom_l115 a0 x9_43 q h_43) x5_43).bind (fun (y142 : Int) => gd (h_43 (h_43 a0 3) (-2) = 48) (if 0 < (lcmp_ x6_86 (h_43 (h_43 a0 3) 24)) then (m_X14_columnsFrom_j177 y115 y142 x6_86 x9_43 h_43)
  else (bT (m_X14_column a0 a1 x9_43 x6_86 v11 y115 y142 h_43) (fun v167 h167 =>
  if v167 = 0 then (m_X14_columnsFrom_j177 y115 y142 x6_86 x9_43 h167)
  else (m_X14_columnsFrom_j178 y115 y142 x6_86 x9_43 1 h167)) (fun a_ h_ => some (.inr ((1, a_), h_)))))))
noncomputable def m_X14_columnsFrom_l43 (a0 a1 a2 v11 x4_43 x5_43 x6_43 x8_43 x9_43 : Int) (h_43 : Hp) : Option ((Int × Int × Int × Int × Int × Hp) ⊕ (((Int × Int) × Hp))) :=
  if (h_43 a0 18) ≤ x9_43 then (some (.inr ((0, 0), h_43)))
  else (if x8_43 = 0 then (some (.inr ((0, 0), h_43)))
  else (gd (h_43 (h_43 a0 14) (-2) % 16 = 1 ∧ (0 : Int) ≤ x9_43 ∧ x9_43 < h_43 (h_43 a0 14) (-1)) (if x9_43 ≤ a2 then (m_X14_columnsFrom_j83 a0 a1 v11 x4_43 x5_43 x6_43 x9_43 (h_43 (h_43 a0 14) x9_43) 0 h_43)
  else (gd (h_43 (h_43 a0 15) (-2) % 16 = 1 ∧ (0 : Int) ≤ x9_43 ∧ x9_43 < h_43 (h_43 a0 15) (-1)) (m_X14_columnsFrom_j83 a0 a1 v11 x4_43 x5_43 x6_43 x9_43 (h_43 (h_43 a0 14) x9_43) (h_43 (h_43 a0 15) x9_43) h_43)))))
noncomputable def m_X14_columnsFrom (a0 a1 a2 : Int) (h : Hp) : Option ((Int × Int) × Hp) :=
  (m_X14_calledBy (h a0 35) (h a0 36) (w32 (a2 - 1)) h).bind fun v11 =>
  (m_X14_calledBy (h a0 38) (h a0 39) (w32 (a2 - 1)) h).bind fun v29 =>
  lt_ 0 fun x6_35 =>
  lt_ 1 fun x8_38 =>
  (lp (fun (q : Int × Int × Int × Int × Int × Hp) => m_X14_columnsFrom_l43 a0 a1 a2 v11 q.1 q.2.1 q.2.2.1 q.2.2.2.1 q.2.2.2.2.1 q.2.2.2.2.2) (v11, v29, x6_35, x8_38, a2, h)).bind (fun (x : (Int × Int) × Hp) => some x)
theorem s_X14_columnsFrom {l : Launch} [NoTr l] {D : SD} {a0 a1 a2 : Int} {h : Hp} (hk : h a0 (-2) = 224) (r1 : r32 a1) (r2 : r32 a2) {r : (Int × Int) × Hp} (hm : m_X14_columnsFrom a0 a1 a2 h = some r) : Sim l D yX14_columnsFrom (Cond.code yX14_columnsFrom cX14_columnsFrom 10 (Option.none : Option Jvm.ClassFile.FieldType)) 13 504 [rv D a0, iv a1, iv a2] h 0 r := by
  refine Sim.of (fin := fun (v : (Int × Int) × Hp) => v) (lsE := [(0, rv D a0), (1, iv a1), (2, iv a2)]) hm rfl cwS_code (la_r (la_i (la_i la_n))) (ll_r (ll_i (ll_i ll_n))) ?_
  intro p e s m below meth c X hcw hmm hcc hnm hname
  have hno := noh hcw hnm hmm hcc
  unfold m_X14_columnsFrom
  refine g_aload_n (pc := 0) X (j := 0) (i := 0) (q := 0) (x := a0) rfl rfl (dl_at t_X14_columnsFrom 0 rfl) ?_
  refine r_getr (pc := 1) X fX14_35 hk q1291 (dl_at t_X14_columnsFrom 1 rfl) ?_
  refine g_aload_n (pc := 4) X (j := 0) (i := 0) (q := 0) (x := a0) rfl rfl (dl_at t_X14_columnsFrom 2 rfl) ?_
  refine r_geti (pc := 5) X fX14_36 hk q1293 (dl_at t_X14_columnsFrom 3 rfl) fun g5 => ?_
  refine g_iload_n (pc := 8) X (j := 2) (i := 2) (q := 2) (x := a2) rfl rfl (dl_at t_X14_columnsFrom 4 rfl) ?_
  refine g_iconst (pc := 9) X (n := 1) (dl_at t_X14_columnsFrom 5 rfl) ?_
  refine g_isub (pc := 10) X r2 (r32_c rfl) (dl_at t_X14_columnsFrom 6 rfl) ?_
  refine r_callRi (pc := 11) X (fun _ hv => s_X14_calledBy g5 (r32_w _) hv) cw_code q2996 q368 (in_Sc X (As := [rv D (h a0 35), iv (h a0 36), iv (w32 (a2 - 1))]) (Or.inl q2994) q2995 q368 q2996 ⟨by decide, by decide⟩ rfl (dl_at t_X14_columnsFrom 7 rfl)) (dl_at t_X14_columnsFrom 7 rfl) (cat24 (st := []) (Nat.le_of_ble_eq_true rfl)) (Nat.le_of_ble_eq_true rfl) (Nat.le_of_ble_eq_true rfl) fun v11 g11 => ?_
  refine g_istore_nN (pc := 14) X (j := 3) (i := 3) (x := v11) (b := 2) (w := iv a2) (rest := [(0, rv D a0), (1, iv a1)]) rfl (Nat.le_of_ble_eq_true rfl) [2, 0, 1] rfl (by decide) rfl rfl (dl_at t_X14_columnsFrom 8 rfl) ?_
  refine g_iload_n (pc := 15) X (j := 3) (i := 3) (q := 0) (x := v11) rfl rfl (dl_at t_X14_columnsFrom 9 rfl) ?_
  refine g_istoreN (pc := 16) X (i := 4) (x := v11) (b := 3) (w := iv v11) (rest := [(2, iv a2), (0, rv D a0), (1, iv a1)]) (Nat.le_of_ble_eq_true rfl) [0, 1, 2, 3] rfl (by decide) rfl rfl (dl_at t_X14_columnsFrom 10 rfl) ?_
  refine g_aload_n (pc := 18) X (j := 0) (i := 0) (q := 3) (x := a0) rfl rfl (dl_at t_X14_columnsFrom 11 rfl) ?_
  refine r_getr (pc := 19) X fX14_38 hk q1297 (dl_at t_X14_columnsFrom 12 rfl) ?_
  refine g_aload_n (pc := 22) X (j := 0) (i := 0) (q := 3) (x := a0) rfl rfl (dl_at t_X14_columnsFrom 13 rfl) ?_
  refine r_geti (pc := 23) X fX14_39 hk q1299 (dl_at t_X14_columnsFrom 14 rfl) fun g23 => ?_
  refine g_iload_n (pc := 26) X (j := 2) (i := 2) (q := 2) (x := a2) rfl rfl (dl_at t_X14_columnsFrom 15 rfl) ?_
  refine g_iconst (pc := 27) X (n := 1) (dl_at t_X14_columnsFrom 16 rfl) ?_
  refine g_isub (pc := 28) X r2 (r32_c rfl) (dl_at t_X14_columnsFrom 17 rfl) ?_
  refine r_callRi (pc := 29) X (fun _ hv => s_X14_calledBy g23 (r32_w _) hv) cw_code q2996 q368 (in_Sc X (As := [rv D (h a0 38), iv (h a0 39), iv (w32 (a2 - 1))]) (Or.inl q2994) q2995 q368 q2996 ⟨by decide, by decide⟩ rfl (dl_at t_X14_columnsFrom 18 rfl)) (dl_at t_X14_columnsFrom 18 rfl) (cat24 (st := []) (Nat.le_of_ble_eq_true rfl)) (Nat.le_of_ble_eq_true rfl) (Nat.le_of_ble_eq_true rfl) fun v29 g29 => ?_
  refine g_istoreN (pc := 32) X (i := 5) (x := v29) (b := 4) (w := iv v11) (rest := [(3, iv v11), (2, iv a2), (0, rv D a0), (1, iv a1)]) (Nat.le_of_ble_eq_true rfl) [0, 1, 2, 3, 4] rfl (by decide) rfl rfl (dl_at t_X14_columnsFrom 19 rfl) ?_
  refine g_lconst0 (pc := 34) X (dl_at t_X14_columnsFrom 20 rfl) ?_
  refine g_ltl (r64_c rfl) fun x6_35 r6_35 => ?_
  refine g_lstoreN (pc := 35) X (i := 6) (x := x6_35) (b := 5) (w := iv v29) (rest := [(4, iv v11), (3, iv v11), (2, iv a2), (0, rv D a0), (1, iv a1)]) (Nat.le_of_ble_eq_true rfl) [0, 1, 2, 3, 4, 5] rfl (by decide) (by decide) rfl rfl (dl_at t_X14_columnsFrom 21 rfl) ?_
  refine g_iconst (pc := 37) X (n := 1) (dl_at t_X14_columnsFrom 22 rfl) ?_
  refine g_ltz (Or.inr rfl) fun x8_38 r8_38 => ?_
  refine g_istore (pc := 38) X (i := 8) (x := x8_38) (rest := [(6, jv x6_35), (5, iv v29), (4, iv v11), (3, iv v11), (2, iv a2), (0, rv D a0), (1, iv a1)]) (Nat.le_of_ble_eq_true rfl) [0, 1, 2, 3, 4, 5, 6] rfl rfl (dl_at t_X14_columnsFrom 23 rfl) ?_
  refine g_iload_n (pc := 40) X (j := 2) (i := 2) (q := 5) (x := a2) rfl rfl (dl_at t_X14_columnsFrom 24 rfl) ?_
  refine g_istoreN (pc := 41) X (i := 9) (x := a2) (b := 8) (w := iv x8_38) (rest := [(6, jv x6_35), (5, iv v29), (4, iv v11), (3, iv v11), (2, iv a2), (0, rv D a0), (1, iv a1)]) (Nat.le_of_ble_eq_true rfl) [0, 1, 2, 3, 4, 5, 6, 7] rfl (by decide) rfl rfl (dl_at t_X14_columnsFrom 25 rfl) ?_
  refine g_ls (ls2 := [(0, rv D a0), (1, iv a1), (2, iv a2), (3, iv v11), (4, iv v11), (5, iv v29), (6, jv x6_35), (8, iv x8_38), (9, iv a2)]) [7, 8, 6, 5, 4, 3, 2, 1, 0] rfl ?_
  refine g_loop0F (fun (q : Int × Int × Int × Int × Int × Hp) => [(0, rv D a0), (1, iv a1), (2, iv a2), (3, iv v11), (4, iv q.1), (5, iv q.2.1), (6, jv q.2.2.1), (8, iv q.2.2.2.1), (9, iv q.2.2.2.2.1)]) (fun (q : Int × Int × Int × Int × Int × Hp) => q.2.2.2.2.2) (fun (q : Int × Int × Int × Int × Int × Hp) => r32 q.1 ∧ r32 q.2.1 ∧ r64 q.2.2.1 ∧ (q.2.2.2.1 = 0 ∨ q.2.2.2.1 = 1) ∧ r32 q.2.2.2.2.1 ∧ Ext h q.2.2.2.2.2) (v11, v29, x6_35, x8_38, a2, h) ⟨g11, g29, r6_35, r8_38, r2, (Ext.refl _)⟩ ?_ (fun _ => rfl)
  · rintro ⟨x4_43, x5_43, x6_43, x8_43, x9_43, h_43⟩ ⟨r4_43, r5_43, r6_43, r8_43, r9_43, E_43⟩
    try dsimp only
    unfold m_X14_columnsFrom_l43
    refine g_iload (pc := 43) X (i := 9) (q := 8) (x := x9_43) rfl (dl_at t_X14_columnsFrom 26 rfl) ?_
    refine g_aload_n (pc := 45) X (j := 0) (i := 0) (q := 0) (x := a0) rfl rfl (dl_at t_X14_columnsFrom 27 rfl) ?_
    have k46 := kx E_43 (by decide) hk
    refine r_geti (pc := 46) X fX14_18 k46 q1269 (dl_at t_X14_columnsFrom 28 rfl) fun g46 => ?_
    refine g_icmpge (pc := 49) X r9_43 g46 (off := 137) (tgt := 186) rfl (dl_at t_X14_columnsFrom 29 rfl) (fun _ => ?_) (fun _ => ?_)
    · exact g_at fun Q hQ => (g_vret (pc := 186) X (v := 0) rfl rfl (dl_at t_X14_columnsFrom 96 rfl)) _ Q rfl hQ
    refine g_iload (pc := 52) X (i := 8) (q := 7) (x := x8_43) rfl (dl_at t_X14_columnsFrom 30 rfl) ?_
    refine g_ifeq (pc := 54) X (r32_z r8_43) (off := 132) (tgt := 186) rfl (dl_at t_X14_columnsFrom 31 rfl) (fun _ => ?_) (fun _ => ?_)
    · exact g_at fun Q hQ => (g_vret (pc := 186) X (v := 0) rfl rfl (dl_at t_X14_columnsFrom 96 rfl)) _ Q rfl hQ
    refine g_lload (pc := 57) X (i := 6) (q := 6) (x := x6_43) rfl (dl_at t_X14_columnsFrom 32 rfl) ?_
    refine g_aload_n (pc := 59) X (j := 0) (i := 0) (q := 0) (x := a0) rfl rfl (dl_at t_X14_columnsFrom 33 rfl) ?_
    refine r_getr (pc := 60) X fX14_14 k46 q1264 (dl_at t_X14_columnsFrom 34 rfl) ?_
    refine g_iload (pc := 63) X (i := 9) (q := 8) (x := x9_43) rfl (dl_at t_X14_columnsFrom 35 rfl) ?_
    refine g_gd fun k65 => ?_
    refine g_iald (pc := 65) X r9_43 k65 (dl_at t_X14_columnsFrom 36 rfl) fun g65 => ?_
    refine g_iload (pc := 66) X (i := 9) (q := 8) (x := x9_43) rfl (dl_at t_X14_columnsFrom 37 rfl) ?_
    refine g_iload_n (pc := 68) X (j := 2) (i := 2) (q := 2) (x := a2) rfl rfl (dl_at t_X14_columnsFrom 38 rfl) ?_
    refine g_join (γ := Int × Int) (fun q => r32 q.1 ∧ r32 q.2) 83 (fun q => [(0, rv D a0), (1, iv a1), (2, iv a2), (3, iv v11), (4, iv x4_43), (5, iv x5_43), (9, iv x9_43)]) (fun q => [iv q.2, iv q.1, jv x6_43]) (fun q => h_43) (fun q => m_X14_columnsFrom_j83 a0 a1 v11 x4_43 x5_43 x6_43 x9_43 q.1 q.2 h_43) ?_ ?_
    · rintro ⟨s1_83, s2_83⟩ ⟨rs1_83, rs2_83⟩
      try dsimp only
      unfold m_X14_columnsFrom_j83
      refine g_iadd (pc := 83) X rs1_83 rs2_83 (dl_at t_X14_columnsFrom 46 rfl) ?_
      refine g_i2l (pc := 84) X (r32_w _) (dl_at t_X14_columnsFrom 47 rfl) ?_
      refine g_ladd (pc := 85) X r6_43 (r64_of (r32_w _)) (dl_at t_X14_columnsFrom 48 rfl) ?_
      refine g_ltl (r64_w _) fun x6_86 r6_86 => ?_
      refine g_lstoreN (pc := 86) X (i := 6) (x := x6_86) (b := 5) (w := iv x5_43) (rest := [(0, rv D a0), (1, iv a1), (2, iv a2), (3, iv v11), (4, iv x4_43), (9, iv x9_43)]) (Nat.le_of_ble_eq_true rfl) [5, 0, 1, 2, 3, 4, 6] rfl (by decide) (by decide) rfl rfl (dl_at t_X14_columnsFrom 49 rfl) ?_
      refine g_ls (ls2 := [(0, rv D a0), (1, iv a1), (2, iv a2), (3, iv v11), (4, iv x4_43), (5, iv x5_43), (6, jv x6_86), (9, iv x9_43)]) [2, 3, 4, 5, 6, 1, 0, 7] rfl ?_
      refine g_loop1 (fun (q : Int) => [(0, rv D a0), (1, iv a1), (2, iv a2), (3, iv v11), (4, iv q), (5, iv x5_43), (6, jv x6_86), (9, iv x9_43)]) (fun (q : Int) => h_43) (fun (q : Int) => r32 q) 115 (fun (y115 : Int) => [(0, rv D a0), (1, iv a1), (2, iv a2), (3, iv v11), (4, iv y115), (5, iv x5_43), (6, jv x6_86), (9, iv x9_43)]) (fun (y115 : Int) => h_43) (fun (y115 : Int) => r32 y115) x4_43 r4_43 ?_ ?_
      · rintro x4_88 r4_88
        try dsimp only
        unfold m_X14_columnsFrom_l88
        refine g_iload (pc := 88) X (i := 4) (q := 4) (x := x4_88) rfl (dl_at t_X14_columnsFrom 50 rfl) ?_
        refine g_aload_n (pc := 90) X (j := 0) (i := 0) (q := 0) (x := a0) rfl rfl (dl_at t_X14_columnsFrom 51 rfl) ?_
        refine r_geti (pc := 91) X fX14_36 k46 q1293 (dl_at t_X14_columnsFrom 52 rfl) fun g91 => ?_
        refine g_icmpge (pc := 94) X r4_88 g91 (off := 21) (tgt := 115) rfl (dl_at t_X14_columnsFrom 53 rfl) (fun _ => ?_) (fun _ => ?_)
        · exact g_at fun Q hQ => hQ r4_88
        refine g_aload_n (pc := 97) X (j := 0) (i := 0) (q := 0) (x := a0) rfl rfl (dl_at t_X14_columnsFrom 54 rfl) ?_
        refine r_getr (pc := 98) X fX14_35 k46 q1291 (dl_at t_X14_columnsFrom 55 rfl) ?_
        refine g_iload (pc := 101) X (i := 4) (q := 4) (x := x4_88) rfl (dl_at t_X14_columnsFrom 56 rfl) ?_
        refine g_gd fun k103 => ?_
        refine g_iald (pc := 103) X r4_88 k103 (dl_at t_X14_columnsFrom 57 rfl) fun g103 => ?_
        refine g_iload (pc := 104) X (i := 9) (q := 7) (x := x9_43) rfl (dl_at t_X14_columnsFrom 58 rfl) ?_
        refine g_icmpgt (pc := 106) X g103 r9_43 (off := 9) (tgt := 115) rfl (dl_at t_X14_columnsFrom 59 rfl) (fun _ => ?_) (fun _ => ?_)
        · exact g_at fun Q hQ => hQ r4_88
        refine r_iincN (pc := 109) X (i := 4) (q := 4) (n := 1) (x := x4_88) (b := 3) (w := iv v11) (rest := [(0, rv D a0), (1, iv a1), (2, iv a2), (5, iv x5_43), (6, jv x6_86), (9, iv x9_43)]) rfl r4_88 (r32_c rfl) (Nat.le_of_ble_eq_true rfl) [3, 0, 1, 2, 5, 6, 7] rfl (by decide) rfl rfl (dl_at t_X14_columnsFrom 60 rfl) fun x4_109 r4_109 => ?_
        refine g_goto (pc := 112) X (off := (-24)) (tgt := 88) rfl (dl_at t_X14_columnsFrom 61 rfl) ?_
        refine g_ls (ls2 := [(0, rv D a0), (1, iv a1), (2, iv a2), (3, iv v11), (4, iv x4_109), (5, iv x5_43), (6, jv x6_86), (9, iv x9_43)]) [2, 3, 4, 1, 0, 5, 6, 7] rfl ?_
        exact g_at fun Q hQ => hQ r4_109
      · rintro x4_115 r4_115
        try dsimp only [sE]
        refine g_loop1 (fun (q : Int) => [(0, rv D a0), (1, iv a1), (2, iv a2), (3, iv v11), (4, iv x4_115), (5, iv q), (6, jv x6_86), (9, iv x9_43)]) (fun (q : Int) => h_43) (fun (q : Int) => r32 q) 142 (fun (y142 : Int) => [(0, rv D a0), (1, iv a1), (2, iv a2), (3, iv v11), (4, iv x4_115), (5, iv y142), (6, jv x6_86), (9, iv x9_43)]) (fun (y142 : Int) => h_43) (fun (y142 : Int) => r32 y142) x5_43 r5_43 ?_ ?_
        · rintro x5_115 r5_115
          try dsimp only
          unfold m_X14_columnsFrom_l115
          refine g_iload (pc := 115) X (i := 5) (q := 5) (x := x5_115) rfl (dl_at t_X14_columnsFrom 62 rfl) ?_
          refine g_aload_n (pc := 117) X (j := 0) (i := 0) (q := 0) (x := a0) rfl rfl (dl_at t_X14_columnsFrom 63 rfl) ?_
          refine r_geti (pc := 118) X fX14_39 k46 q1299 (dl_at t_X14_columnsFrom 64 rfl) fun g118 => ?_
          refine g_icmpge (pc := 121) X r5_115 g118 (off := 21) (tgt := 142) rfl (dl_at t_X14_columnsFrom 65 rfl) (fun _ => ?_) (fun _ => ?_)
          · exact g_at fun Q hQ => hQ r5_115
          refine g_aload_n (pc := 124) X (j := 0) (i := 0) (q := 0) (x := a0) rfl rfl (dl_at t_X14_columnsFrom 66 rfl) ?_
          refine r_getr (pc := 125) X fX14_38 k46 q1297 (dl_at t_X14_columnsFrom 67 rfl) ?_
          refine g_iload (pc := 128) X (i := 5) (q := 5) (x := x5_115) rfl (dl_at t_X14_columnsFrom 68 rfl) ?_
          refine g_gd fun k130 => ?_
          refine g_iald (pc := 130) X r5_115 k130 (dl_at t_X14_columnsFrom 69 rfl) fun g130 => ?_
          refine g_iload (pc := 131) X (i := 9) (q := 7) (x := x9_43) rfl (dl_at t_X14_columnsFrom 70 rfl) ?_
          refine g_icmpgt (pc := 133) X g130 r9_43 (off := 9) (tgt := 142) rfl (dl_at t_X14_columnsFrom 71 rfl) (fun _ => ?_) (fun _ => ?_)
          · exact g_at fun Q hQ => hQ r5_115
          refine r_iincN (pc := 136) X (i := 5) (q := 5) (n := 1) (x := x5_115) (b := 4) (w := iv x4_115) (rest := [(0, rv D a0), (1, iv a1), (2, iv a2), (3, iv v11), (6, jv x6_86), (9, iv x9_43)]) rfl r5_115 (r32_c rfl) (Nat.le_of_ble_eq_true rfl) [4, 0, 1, 2, 3, 6, 7] rfl (by decide) rfl rfl (dl_at t_X14_columnsFrom 72 rfl) fun x5_136 r5_136 => ?_
          refine g_goto (pc := 139) X (off := (-24)) (tgt := 115) rfl (dl_at t_X14_columnsFrom 73 rfl) ?_
          refine g_ls (ls2 := [(0, rv D a0), (1, iv a1), (2, iv a2), (3, iv v11), (4, iv x4_115), (5, iv x5_136), (6, jv x6_86), (9, iv x9_43)]) [2, 3, 4, 5, 1, 0, 6, 7] rfl ?_
          exact g_at fun Q hQ => hQ r5_136
        · rintro x5_142 r5_142
          try dsimp only [sE]
          refine g_lload (pc := 142) X (i := 6) (q := 6) (x := x6_86) rfl (dl_at t_X14_columnsFrom 74 rfl) ?_
          refine g_aload_n (pc := 144) X (j := 0) (i := 0) (q := 0) (x := a0) rfl rfl (dl_at t_X14_columnsFrom 75 rfl) ?_
          refine r_getr (pc := 145) X fX14_3 k46 q1245 (dl_at t_X14_columnsFrom 76 rfl) ?_
          refine g_gd fun k148 => ?_
          refine r_getiN (pc := 148) X fX3_24 k148 (nw_in q567 rfl) (dl_at t_X14_columnsFrom 77 rfl) fun g148 => ?_
          refine g_i2l (pc := 151) X g148 (dl_at t_X14_columnsFrom 78 rfl) ?_
          refine g_lcmp (pc := 152) X r6_86 (r64_of g148) (dl_at t_X14_columnsFrom 79 rfl) ?_
          refine g_join (γ := Int × Hp) (fun q => (q.1 = 0 ∨ q.1 = 1) ∧ Ext h_43 q.2) 178 (fun q => [(0, rv D a0), (1, iv a1), (2, iv a2), (3, iv v11), (4, iv x4_115), (5, iv x5_142), (6, jv x6_86), (9, iv x9_43)]) (fun q => [iv q.1]) (fun q => q.2) (fun q => m_X14_columnsFrom_j178 x4_115 x5_142 x6_86 x9_43 q.1 q.2) ?_ ?_
          · rintro ⟨s0_178, h_178⟩ ⟨rs0_178, E_178⟩
            try dsimp only
            unfold m_X14_columnsFrom_j178
            refine g_istore (pc := 178) X (i := 8) (x := s0_178) (rest := [(0, rv D a0), (1, iv a1), (2, iv a2), (3, iv v11), (4, iv x4_115), (5, iv x5_142), (6, jv x6_86), (9, iv x9_43)]) (Nat.le_of_ble_eq_true rfl) [0, 1, 2, 3, 4, 5, 6, 7] rfl rfl (dl_at t_X14_columnsFrom 93 rfl) ?_
            refine r_iincN (pc := 180) X (i := 9) (q := 8) (n := 1) (x := x9_43) (b := 8) (w := iv s0_178) (rest := [(0, rv D a0), (1, iv a1), (2, iv a2), (3, iv v11), (4, iv x4_115), (5, iv x5_142), (6, jv x6_86)]) rfl r9_43 (r32_c rfl) (Nat.le_of_ble_eq_true rfl) [0, 1, 2, 3, 4, 5, 6, 7] rfl (by decide) rfl rfl (dl_at t_X14_columnsFrom 94 rfl) fun x9_180 r9_180 => ?_
            refine g_goto (pc := 183) X (off := (-140)) (tgt := 43) rfl (dl_at t_X14_columnsFrom 95 rfl) ?_
            refine g_ls (ls2 := [(0, rv D a0), (1, iv a1), (2, iv a2), (3, iv v11), (4, iv x4_115), (5, iv x5_142), (6, jv x6_86), (8, iv s0_178), (9, iv x9_180)]) [2, 3, 4, 5, 6, 7, 8, 1, 0] rfl ?_
            exact g_at fun Q hQ => hQ ⟨r4_115, r5_142, r6_86, rs0_178, r9_180, (E_43.trans E_178)⟩
          intro J178
          refine g_join (γ := Hp) (fun q => Ext h_43 q) 177 (fun q => [(0, rv D a0), (1, iv a1), (2, iv a2), (3, iv v11), (4, iv x4_115), (5, iv x5_142), (6, jv x6_86), (9, iv x9_43)]) (fun q => []) (fun q => q) (fun q => m_X14_columnsFrom_j177 x4_115 x5_142 x6_86 x9_43 q) ?_ ?_
          · rintro h_177 E_177
            try dsimp only
            unfold m_X14_columnsFrom_j177
            refine g_iconst (pc := 177) X (n := 0) (dl_at t_X14_columnsFrom 92 rfl) ?_
            exact J178 (0, h_177) ⟨(Or.inl rfl), E_177⟩
          intro J177
          refine g_ifgt (pc := 153) X (r32_lcmp _ _) (off := 24) (tgt := 177) rfl (dl_at t_X14_columnsFrom 80 rfl) (fun _ => ?_) (fun _ => ?_)
          · exact J177 h_43 (Ext.refl _)
          refine g_aload_n (pc := 156) X (j := 0) (i := 0) (q := 0) (x := a0) rfl rfl (dl_at t_X14_columnsFrom 81 rfl) ?_
          refine g_iload_n (pc := 157) X (j := 1) (i := 1) (q := 1) (x := a1) rfl rfl (dl_at t_X14_columnsFrom 82 rfl) ?_
          refine g_iload (pc := 158) X (i := 9) (q := 7) (x := x9_43) rfl (dl_at t_X14_columnsFrom 83 rfl) ?_
          refine g_lload (pc := 160) X (i := 6) (q := 6) (x := x6_86) rfl (dl_at t_X14_columnsFrom 84 rfl) ?_
          refine g_iload_n (pc := 162) X (j := 3) (i := 3) (q := 3) (x := v11) rfl rfl (dl_at t_X14_columnsFrom 85 rfl) ?_
          refine g_iload (pc := 163) X (i := 4) (q := 4) (x := x4_115) rfl (dl_at t_X14_columnsFrom 86 rfl) ?_
          refine g_iload (pc := 165) X (i := 5) (q := 5) (x := x5_142) rfl (dl_at t_X14_columnsFrom 87 rfl) ?_
          refine r_callTz (pc := 167) X (fun _ hv => s_X14_column k46 r1 r9_43 r6_86 g11 r4_115 r5_142 hv) cw_code q3000 q368 (in_Vk X (As := [iv a1, iv x9_43, jv x6_86, iv v11, iv x4_115, iv x5_142]) kX14 k46 (Or.inl q2997) q2999 qs203 cw_code q3000 ⟨by decide, by decide⟩ rfl (dl_at t_X14_columnsFrom 88 rfl)) (dl_at t_X14_columnsFrom 88 rfl) (cat24 (st := []) (Nat.le_of_ble_eq_true rfl)) (Nat.le_of_ble_eq_true rfl) (Nat.le_of_ble_eq_true rfl) (fun v167 h167 g167 E167 => ?_) (fun _ _ ha _ => gt_at fun Q hQ => gt_out (Q := Q) X rfl ha (hno _) _ Q rfl hQ)
          refine g_ifeq (pc := 170) X (r32_z g167) (off := 7) (tgt := 177) rfl (dl_at t_X14_columnsFrom 89 rfl) (fun _ => ?_) (fun _ => ?_)
          · exact J177 h167 E167
          refine g_iconst (pc := 173) X (n := 1) (dl_at t_X14_columnsFrom 90 rfl) ?_
          refine g_goto (pc := 174) X (off := 4) (tgt := 178) rfl (dl_at t_X14_columnsFrom 91 rfl) ?_
          exact J178 (1, h167) ⟨(Or.inr rfl), E167⟩
    intro J83
    refine g_icmple (pc := 69) X r9_43 r2 (off := 13) (tgt := 82) rfl (dl_at t_X14_columnsFrom 39 rfl) (fun _ => ?_) (fun _ => ?_)
    · refine g_iconst (pc := 82) X (n := 0) (dl_at t_X14_columnsFrom 45 rfl) ?_
      refine g_ls (ls2 := [(0, rv D a0), (1, iv a1), (2, iv a2), (3, iv v11), (4, iv x4_43), (5, iv x5_43), (9, iv x9_43)]) [0, 1, 2, 3, 4, 5, 8] rfl ?_
      exact J83 ((h_43 (h_43 a0 14) x9_43), 0) ⟨g65, (r32_c rfl)⟩
    refine g_aload_n (pc := 72) X (j := 0) (i := 0) (q := 0) (x := a0) rfl rfl (dl_at t_X14_columnsFrom 40 rfl) ?_
    refine r_getr (pc := 73) X fX14_15 k46 q1265 (dl_at t_X14_columnsFrom 41 rfl) ?_
    refine g_iload (pc := 76) X (i := 9) (q := 8) (x := x9_43) rfl (dl_at t_X14_columnsFrom 42 rfl) ?_
    refine g_gd fun k78 => ?_
    refine g_iald (pc := 78) X r9_43 k78 (dl_at t_X14_columnsFrom 43 rfl) fun g78 => ?_
    refine g_goto (pc := 79) X (off := 4) (tgt := 83) rfl (dl_at t_X14_columnsFrom 44 rfl) ?_
    refine g_ls (ls2 := [(0, rv D a0), (1, iv a1), (2, iv a2), (3, iv v11), (4, iv x4_43), (5, iv x5_43), (9, iv x9_43)]) [0, 1, 2, 3, 4, 5, 8] rfl ?_
    exact J83 ((h_43 (h_43 a0 14) x9_43), (h_43 (h_43 a0 15) x9_43)) ⟨g65, g78⟩
def k_X14_addColumn : List (Nat × Instr × Nat) := [(0, .aload_n 0, 1), (1, .getfield 217, 3), (4, .sipush 1500, 3), (7, .if_icmp .ge 7, 3), (10, .iconst 1, 1), (11, .goto 4, 3), (14, .iconst 0, 1), (15, .invokestatic 296, 3), (18, .aload_n 0, 1), (19, .getfield 130, 3), (22, .aload_n 0, 1), (23, .getfield 217, 3), (26, .iload_n 1, 1), (27, .iastore, 1), (28, .aload_n 0, 1), (29, .getfield 133, 3), (32, .aload_n 0, 1), (33, .getfield 217, 3), (36, .iload_n 2, 1), (37, .iastore, 1), (38, .aload_n 0, 1), (39, .getfield 136, 3), (42, .aload_n 0, 1), (43, .getfield 217, 3), (46, .iload_n 3, 1), (47, .iastore, 1), (48, .aload_n 0, 1), (49, .getfield 139, 3), (52, .aload_n 0, 1), (53, .getfield 217, 3), (56, .iload 4, 2), (58, .iastore, 1), (59, .aload_n 0, 1), (60, .getfield 142, 3), (63, .aload_n 0, 1), (64, .getfield 217, 3), (67, .iload 5, 2), (69, .iastore, 1), (70, .aload_n 0, 1), (71, .getfield 145, 3), (74, .aload_n 0, 1), (75, .getfield 217, 3), (78, .iload 6, 2), (80, .iastore, 1), (81, .aload_n 0, 1), (82, .dup, 1), (83, .getfield 217, 3), (86, .iconst 1, 1), (87, .iadd, 1), (88, .putfield 217, 3), (91, .return_, 1)]
theorem t_X14_addColumn : ∀ q ∈ k_X14_addColumn, decode cX14_addColumn q.1 = .ok q.2 := dl_all (by decide +kernel)
noncomputable def m_X14_addColumn_j15 (a0 a1 a2 a3 a4 a5 a6 s0_15 : Int) (h : Hp) : Option ((Int × Int) × Hp) :=
  bT (m_X1_room s0_15 h) (fun _ h15 =>
  gd (h15 (h15 a0 59) (-2) % 16 = 1 ∧ (0 : Int) ≤ (h15 a0 58) ∧ (h15 a0 58) < h15 (h15 a0 59) (-1)) (pt h15 (h15 a0 59) (h15 a0 58) a1 fun h27 =>
  gd (h27 (h27 a0 60) (-2) % 16 = 1 ∧ (0 : Int) ≤ (h27 a0 58) ∧ (h27 a0 58) < h27 (h27 a0 60) (-1)) (pt h27 (h27 a0 60) (h27 a0 58) a2 fun h37 =>
  gd (h37 (h37 a0 61) (-2) % 16 = 1 ∧ (0 : Int) ≤ (h37 a0 58) ∧ (h37 a0 58) < h37 (h37 a0 61) (-1)) (pt h37 (h37 a0 61) (h37 a0 58) a3 fun h47 =>
  gd (h47 (h47 a0 62) (-2) % 16 = 1 ∧ (0 : Int) ≤ (h47 a0 58) ∧ (h47 a0 58) < h47 (h47 a0 62) (-1)) (pt h47 (h47 a0 62) (h47 a0 58) a4 fun h58 =>
  gd (h58 (h58 a0 63) (-2) % 16 = 1 ∧ (0 : Int) ≤ (h58 a0 58) ∧ (h58 a0 58) < h58 (h58 a0 63) (-1)) (pt h58 (h58 a0 63) (h58 a0 58) a5 fun h69 =>
  gd (h69 (h69 a0 64) (-2) % 16 = 1 ∧ (0 : Int) ≤ (h69 a0 58) ∧ (h69 a0 58) < h69 (h69 a0 64) (-1)) (pt h69 (h69 a0 64) (h69 a0 58) a6 fun h80 =>
  pt h80 a0 58 (w32 ((h80 a0 58) + 1)) fun h88 =>
  some ((0, 0), h88)))))))) (fun a_ h_ => some ((1, a_), h_))
noncomputable def m_X14_addColumn (a0 a1 a2 a3 a4 a5 a6 : Int) (h : Hp) : Option ((Int × Int) × Hp) :=
  if 1500 ≤ (h a0 58) then (m_X14_addColumn_j15 a0 a1 a2 a3 a4 a5 a6 0 h)
  else (m_X14_addColumn_j15 a0 a1 a2 a3 a4 a5 a6 1 h)
theorem s_X14_addColumn {l : Launch} [NoTr l] {D : SD} {a0 a1 a2 a3 a4 a5 a6 : Int} {h : Hp} (hk : h a0 (-2) = 224) (r1 : r32 a1) (r2 : r32 a2) (r3 : r32 a3) (r4 : r32 a4) (r5 : r32 a5) (r6 : r32 a6) {r : (Int × Int) × Hp} (hm : m_X14_addColumn a0 a1 a2 a3 a4 a5 a6 h = some r) : Sim l D yX14_addColumn (Cond.code yX14_addColumn cX14_addColumn 7 (Option.none : Option Jvm.ClassFile.FieldType)) 10 372 [rv D a0, iv a1, iv a2, iv a3, iv a4, iv a5, iv a6] h 0 r := by
  refine Sim.of (fin := fun (v : (Int × Int) × Hp) => v) (lsE := [(0, rv D a0), (1, iv a1), (2, iv a2), (3, iv a3), (4, iv a4), (5, iv a5), (6, iv a6)]) hm rfl cwS_code (la_r (la_i (la_i (la_i (la_i (la_i (la_i la_n))))))) (ll_r (ll_i (ll_i (ll_i (ll_i (ll_i (ll_i ll_n))))))) ?_
  intro p e s m below meth c X hcw hmm hcc hnm hname
  have hno := noh hcw hnm hmm hcc
  unfold m_X14_addColumn
  refine g_aload_n (pc := 0) X (j := 0) (i := 0) (q := 0) (x := a0) rfl rfl (dl_at t_X14_addColumn 0 rfl) ?_
  refine r_geti (pc := 1) X fX14_58 hk q1321 (dl_at t_X14_addColumn 1 rfl) fun g1 => ?_
  refine g_sipush (pc := 4) X (n := 1500) rfl (dl_at t_X14_addColumn 2 rfl) ?_
  refine g_join (γ := Int) (fun q => (q = 0 ∨ q = 1)) 15 (fun q => [(0, rv D a0), (1, iv a1), (2, iv a2), (3, iv a3), (4, iv a4), (5, iv a5), (6, iv a6)]) (fun q => [iv q]) (fun q => h) (fun q => m_X14_addColumn_j15 a0 a1 a2 a3 a4 a5 a6 q h) ?_ ?_
  · rintro s0_15 rs0_15
    try dsimp only
    unfold m_X14_addColumn_j15
    refine r_callTv (pc := 15) X (fun _ hv => s_X1_room rs0_15 hv) cw_code q1653 q355 (in_Sc X (As := [iv s0_15]) (Or.inr ⟨_, nw_in q2522 rfl⟩) q1652 q355 q1653 ⟨by decide, by decide⟩ rfl (dl_at t_X14_addColumn 7 rfl)) (dl_at t_X14_addColumn 7 rfl) (cat24 (st := []) (Nat.le_of_ble_eq_true rfl)) (Nat.le_of_ble_eq_true rfl) (Nat.le_of_ble_eq_true rfl) (fun v15 h15 E15 => ?_) (fun _ _ ha _ => gt_at fun Q hQ => gt_out (Q := Q) X rfl ha (hno _) _ Q rfl hQ)
    refine g_aload_n (pc := 18) X (j := 0) (i := 0) (q := 0) (x := a0) rfl rfl (dl_at t_X14_addColumn 8 rfl) ?_
    have k19 := kx E15 (by decide) hk
    refine r_getr (pc := 19) X fX14_59 k19 q1323 (dl_at t_X14_addColumn 9 rfl) ?_
    refine g_aload_n (pc := 22) X (j := 0) (i := 0) (q := 0) (x := a0) rfl rfl (dl_at t_X14_addColumn 10 rfl) ?_
    refine r_geti (pc := 23) X fX14_58 k19 q1321 (dl_at t_X14_addColumn 11 rfl) fun g23 => ?_
    refine g_iload_n (pc := 26) X (j := 1) (i := 1) (q := 1) (x := a1) rfl rfl (dl_at t_X14_addColumn 12 rfl) ?_
    refine g_gd fun k27 => ?_
    refine r_iast (pc := 27) X g23 r1 k27 (dl_at t_X14_addColumn 13 rfl) (fun h27 E27 => ?_)
    refine g_aload_n (pc := 28) X (j := 0) (i := 0) (q := 0) (x := a0) rfl rfl (dl_at t_X14_addColumn 14 rfl) ?_
    have k29 := kx E27 (by decide) k19
    refine r_getr (pc := 29) X fX14_60 k29 q1324 (dl_at t_X14_addColumn 15 rfl) ?_
    refine g_aload_n (pc := 32) X (j := 0) (i := 0) (q := 0) (x := a0) rfl rfl (dl_at t_X14_addColumn 16 rfl) ?_
    refine r_geti (pc := 33) X fX14_58 k29 q1321 (dl_at t_X14_addColumn 17 rfl) fun g33 => ?_
    refine g_iload_n (pc := 36) X (j := 2) (i := 2) (q := 2) (x := a2) rfl rfl (dl_at t_X14_addColumn 18 rfl) ?_
    refine g_gd fun k37 => ?_
    refine r_iast (pc := 37) X g33 r2 k37 (dl_at t_X14_addColumn 19 rfl) (fun h37 E37 => ?_)
    refine g_aload_n (pc := 38) X (j := 0) (i := 0) (q := 0) (x := a0) rfl rfl (dl_at t_X14_addColumn 20 rfl) ?_
    have k39 := kx E37 (by decide) k29
    refine r_getr (pc := 39) X fX14_61 k39 q1325 (dl_at t_X14_addColumn 21 rfl) ?_
    refine g_aload_n (pc := 42) X (j := 0) (i := 0) (q := 0) (x := a0) rfl rfl (dl_at t_X14_addColumn 22 rfl) ?_
    refine r_geti (pc := 43) X fX14_58 k39 q1321 (dl_at t_X14_addColumn 23 rfl) fun g43 => ?_
    refine g_iload_n (pc := 46) X (j := 3) (i := 3) (q := 3) (x := a3) rfl rfl (dl_at t_X14_addColumn 24 rfl) ?_
    refine g_gd fun k47 => ?_
    refine r_iast (pc := 47) X g43 r3 k47 (dl_at t_X14_addColumn 25 rfl) (fun h47 E47 => ?_)
    refine g_aload_n (pc := 48) X (j := 0) (i := 0) (q := 0) (x := a0) rfl rfl (dl_at t_X14_addColumn 26 rfl) ?_
    have k49 := kx E47 (by decide) k39
    refine r_getr (pc := 49) X fX14_62 k49 q1326 (dl_at t_X14_addColumn 27 rfl) ?_
    refine g_aload_n (pc := 52) X (j := 0) (i := 0) (q := 0) (x := a0) rfl rfl (dl_at t_X14_addColumn 28 rfl) ?_
    refine r_geti (pc := 53) X fX14_58 k49 q1321 (dl_at t_X14_addColumn 29 rfl) fun g53 => ?_
    refine g_iload (pc := 56) X (i := 4) (q := 4) (x := a4) rfl (dl_at t_X14_addColumn 30 rfl) ?_
    refine g_gd fun k58 => ?_
    refine r_iast (pc := 58) X g53 r4 k58 (dl_at t_X14_addColumn 31 rfl) (fun h58 E58 => ?_)
    refine g_aload_n (pc := 59) X (j := 0) (i := 0) (q := 0) (x := a0) rfl rfl (dl_at t_X14_addColumn 32 rfl) ?_
    have k60 := kx E58 (by decide) k49
    refine r_getr (pc := 60) X fX14_63 k60 q1328 (dl_at t_X14_addColumn 33 rfl) ?_
    refine g_aload_n (pc := 63) X (j := 0) (i := 0) (q := 0) (x := a0) rfl rfl (dl_at t_X14_addColumn 34 rfl) ?_
    refine r_geti (pc := 64) X fX14_58 k60 q1321 (dl_at t_X14_addColumn 35 rfl) fun g64 => ?_
    refine g_iload (pc := 67) X (i := 5) (q := 5) (x := a5) rfl (dl_at t_X14_addColumn 36 rfl) ?_
    refine g_gd fun k69 => ?_
    refine r_iast (pc := 69) X g64 r5 k69 (dl_at t_X14_addColumn 37 rfl) (fun h69 E69 => ?_)
    refine g_aload_n (pc := 70) X (j := 0) (i := 0) (q := 0) (x := a0) rfl rfl (dl_at t_X14_addColumn 38 rfl) ?_
    have k71 := kx E69 (by decide) k60
    refine r_getr (pc := 71) X fX14_64 k71 q1329 (dl_at t_X14_addColumn 39 rfl) ?_
    refine g_aload_n (pc := 74) X (j := 0) (i := 0) (q := 0) (x := a0) rfl rfl (dl_at t_X14_addColumn 40 rfl) ?_
    refine r_geti (pc := 75) X fX14_58 k71 q1321 (dl_at t_X14_addColumn 41 rfl) fun g75 => ?_
    refine g_iload (pc := 78) X (i := 6) (q := 6) (x := a6) rfl (dl_at t_X14_addColumn 42 rfl) ?_
    refine g_gd fun k80 => ?_
    refine r_iast (pc := 80) X g75 r6 k80 (dl_at t_X14_addColumn 43 rfl) (fun h80 E80 => ?_)
    refine g_aload_n (pc := 81) X (j := 0) (i := 0) (q := 0) (x := a0) rfl rfl (dl_at t_X14_addColumn 44 rfl) ?_
    refine g_dup (pc := 82) X rv_cat (dl_at t_X14_addColumn 45 rfl) ?_
    have k83 := kx E80 (by decide) k71
    refine r_geti (pc := 83) X fX14_58 k83 q1321 (dl_at t_X14_addColumn 46 rfl) fun g83 => ?_
    refine g_iconst (pc := 86) X (n := 1) (dl_at t_X14_addColumn 47 rfl) ?_
    refine g_iadd (pc := 87) X g83 (r32_c rfl) (dl_at t_X14_addColumn 48 rfl) ?_
    refine r_puti (pc := 88) X fX14_58 k83 q1321 rfl (dl_at t_X14_addColumn 49 rfl) (r32_w _) (fun h88 E88 => ?_)
    exact g_vret (pc := 91) X (v := 0) rfl rfl (dl_at t_X14_addColumn 50 rfl)
  intro J15
  refine g_icmpge (pc := 7) X g1 (r32_c rfl) (off := 7) (tgt := 14) rfl (dl_at t_X14_addColumn 3 rfl) (fun _ => ?_) (fun _ => ?_)
  · refine g_iconst (pc := 14) X (n := 0) (dl_at t_X14_addColumn 6 rfl) ?_
    exact J15 0 (Or.inl rfl)
  refine g_iconst (pc := 10) X (n := 1) (dl_at t_X14_addColumn 4 rfl) ?_
  refine g_goto (pc := 11) X (off := 4) (tgt := 15) rfl (dl_at t_X14_addColumn 5 rfl) ?_
  exact J15 1 (Or.inr rfl)
def k_X14_layRest : List (Nat × Instr × Nat) := [(0, .iload_n 1, 1), (1, .istore_n 3, 1), (2, .iload_n 2, 1), (3, .istore 4, 2), (5, .iload_n 3, 1), (6, .aload_n 0, 1), (7, .getfield 220, 3), (10, .if_icmp .lt 12, 3), (13, .iload 4, 2), (15, .aload_n 0, 1), (16, .getfield 211, 3), (19, .if_icmp .ge 202, 3), (22, .iload_n 3, 1), (23, .istore 5, 2), (25, .lconst 0, 1), (26, .lstore 6, 2), (28, .iload_n 3, 1), (29, .aload_n 0, 1), (30, .getfield 220, 3), (33, .if_icmp .ge 31, 3), (36, .iinc 5 1, 3), (39, .aload_n 0, 1), (40, .getfield 168, 3), (43, .getfield 667, 3), (46, .i2l, 1), (47, .aload_n 0, 1), (48, .getfield 123, 3), (51, .iload 5, 2), (53, .laload, 1), (54, .ladd, 1), (55, .aload_n 0, 1), (56, .getfield 123, 3), (59, .iload_n 3, 1), (60, .laload, 1), (61, .lsub, 1), (62, .lstore 6, 2), (64, .iload 5, 2), (66, .iload_n 3, 1), (67, .if_icmp .le 72, 3), (70, .iload 5, 2), (72, .aload_n 0, 1), (73, .getfield 220, 3), (76, .if_icmp .ge 63, 3), (79, .lload 6, 2), (81, .aload_n 0, 1), (82, .getfield 123, 3), (85, .iload 5, 2), (87, .iconst 1, 1), (88, .iadd, 1), (89, .laload, 1), (90, .ladd, 1), (91, .aload_n 0, 1), (92, .getfield 123, 3), (95, .iload 5, 2), (97, .laload, 1), (98, .lsub, 1), (99, .aload_n 0, 1), (100, .getfield 168, 3), (103, .getfield 662, 3), (106, .i2l, 1), (107, .lcmp, 1), (108, .ifCond .gt 31, 3), (111, .lload 6, 2), (113, .aload_n 0, 1), (114, .getfield 123, 3), (117, .iload 5, 2), (119, .iconst 1, 1), (120, .iadd, 1), (121, .laload, 1), (122, .aload_n 0, 1), (123, .getfield 123, 3), (126, .iload 5, 2), (128, .laload, 1), (129, .lsub, 1), (130, .ladd, 1), (131, .lstore 6, 2), (133, .iinc 5 1, 3), (136, .goto (-72), 3), (139, .iload 4, 2), (141, .istore 8, 2), (143, .iload 8, 2), (145, .aload_n 0, 1), (146, .getfield 211, 3), (149, .if_icmp .ge 43, 3), (152, .lload 6, 2), (154, .aload_n 0, 1), (155, .iload 8, 2), (157, .invokevirtual 673, 3), (160, .i2l, 1), (161, .ladd, 1), (162, .aload_n 0, 1), (163, .getfield 168, 3), (166, .getfield 662, 3), (169, .i2l, 1), (170, .lcmp, 1), (171, .ifCond .gt 21, 3), (174, .lload 6, 2), (176, .aload_n 0, 1), (177, .iload 8, 2), (179, .invokevirtual 673, 3), (182, .i2l, 1), (183, .ladd, 1), (184, .lstore 6, 2), (186, .iinc 8 1, 3), (189, .goto (-46), 3), (192, .aload_n 0, 1), (193, .aload_n 0, 1), (194, .getfield 196, 3), (197, .aload_n 0, 1), (198, .getfield 196, 3), (201, .iload_n 3, 1), (202, .iload 5, 2), (204, .iload 4, 2), (206, .iload 8, 2), (208, .invokevirtual 735, 3), (211, .iload 5, 2), (213, .istore_n 3, 1), (214, .iload 8, 2), (216, .istore 4, 2), (218, .goto (-213), 3), (221, .return_, 1)]
theorem t_X14_layRest : ∀ q ∈ k_X14_layRest, decode cX14_layRest q.1 = .ok q.2 := dl_all (by decide +kernel)
noncomputable def m_X14_layRest_l64 (a0 x3_5 x5_64_1 x6_64_1 : Int) (h_5 : Hp) : Option ((Int × Int) ⊕ ((Int × Int))) :=
  if x5_64_1 ≤ x3_5 then (some (.inr (x5_64_1, x6_64_1)))
  else (if (h_5 a0 57) ≤ x5_64_1 then (some (.inr (x5_64_1, x6_64_1)))
  else (gd (h_5 (h_5 a0 55) (-2) % 16 = 4 ∧ (0 : Int) ≤ (w32 (x5_64_1 + 1)) ∧ (w32 (x5_64_1 + 1)) < h_5 (h_5 a0 55) (-1)) (gd (h_5 (h_5 a0 55) (-2) % 16 = 4 ∧ (0 : Int) ≤ x5_64_1 ∧ x5_64_1 < h_5 (h_5 a0 55) (-1)) (gd (h_5 (h_5 a0 3) (-2) = 48) (if 0 < (lcmp_ (w64 ((w64 (x6_64_1 + (h_5 (h_5 a0 55) (w32 (x5_64_1 + 1))))) - (h_5 (h_5 a0 55) x5_64_1))) (h_5 (h_5 a0 3) 24)) then (some (.inr (x5_64_1, x6_64_1)))
  else (lt_ (w64 (x6_64_1 + (w64 ((h_5 (h_5 a0 55) (w32 (x5_64_1 + 1))) - (h_5 (h_5 a0 55) x5_64_1))))) fun x6_131 =>
  lt_ (w32 (x5_64_1 + 1)) fun x5_133 =>
  some (.inl (x5_133, x6_131))))))))
noncomputable def m_X14_layRest_l143 (a0 x6_143 x8_143 : Int) (h_5 : Hp) : Option ((Int × Int) ⊕ ((Int))) :=
  if (h_5 a0 39) ≤ x8_143 then (some (.inr x8_143))
  else ((m_X14_floatHeight a0 x8_143 h_5).bind fun v157 =>
  gd (h_5 (h_5 a0 3) (-2) = 48) (if 0 < (lcmp_ (w64 (x6_143 + v157)) (h_5 (h_5 a0 3) 24)) then (some (.inr x8_143))
  else ((m_X14_floatHeight a0 x8_143 h_5).bind fun v179 =>
  lt_ (w64 (x6_143 + v179)) fun x6_184 =>
  lt_ (w32 (x8_143 + 1)) fun x8_186 =>
  some (.inl (x6_184, x8_186)))))
noncomputable def m_X14_layRest_j64 (x3_5 x4_5 a0 x5_64 x6_64 : Int) (h_5 : Hp) : Option ((Int × Int × Hp) ⊕ (((Int × Int) × Hp))) :=
  (lp (fun (q : Int × Int) => m_X14_layRest_l64 a0 x3_5 q.1 q.2 h_5) (x5_64, x6_64)).bind (fun (y139 : Int × Int) => (lp (fun (q : Int × Int) => m_X14_layRest_l143 a0 q.1 q.2 h_5) (y139.2, x4_5)).bind (fun (y192 : Int) => bT (m_X14_addColumn a0 (h_5 a0 18) (h_5 a0 18) x3_5 y139.1 x4_5 y192 h_5) (fun _ h208 =>
  some (.inl (y139.1, y192, h208))) (fun a_ h_ => some (.inr ((1, a_), h_)))))
noncomputable def m_X14_layRest_j22 (a0 x3_5 x4_5 : Int) (h_5 : Hp) : Option ((Int × Int × Hp) ⊕ (((Int × Int) × Hp))) :=
  lt_ 0 fun x6_26 =>
  if (h_5 a0 57) ≤ x3_5 then (m_X14_layRest_j64 x3_5 x4_5 a0 x3_5 x6_26 h_5)
  else (lt_ (w32 (x3_5 + 1)) fun x5_36 =>
  gd (h_5 (h_5 a0 3) (-2) = 48) (gd (h_5 (h_5 a0 55) (-2) % 16 = 4 ∧ (0 : Int) ≤ x5_36 ∧ x5_36 < h_5 (h_5 a0 55) (-1)) (gd (h_5 (h_5 a0 55) (-2) % 16 = 4 ∧ (0 : Int) ≤ x3_5 ∧ x3_5 < h_5 (h_5 a0 55) (-1)) (lt_ (w64 ((w64 ((h_5 (h_5 a0 3) 27) + (h_5 (h_5 a0 55) x5_36))) - (h_5 (h_5 a0 55) x3_5))) fun x6_62 =>
  m_X14_layRest_j64 x3_5 x4_5 a0 x5_36 x6_62 h_5))))
noncomputable def m_X14_layRest_l5 (a0 x3_5 x4_5 : Int) (h_5 : Hp) : Option ((Int × Int × Hp) ⊕ (((Int × Int) × Hp))) :=
  if x3_5 < (h_5 a0 57) then (m_X14_layRest_j22 a0 x3_5 x4_5 h_5)
  else (if (h_5 a0 39) ≤ x4_5 then (some (.inr ((0, 0), h_5)))
  else (m_X14_layRest_j22 a0 x3_5 x4_5 h_5))
noncomputable def m_X14_layRest (a0 a1 a2 : Int) (h : Hp) : Option ((Int × Int) × Hp) :=
  (lp (fun (q : Int × Int × Hp) => m_X14_layRest_l5 a0 q.1 q.2.1 q.2.2) (a1, a2, h)).bind (fun (x : (Int × Int) × Hp) => some x)
theorem s_X14_layRest {l : Launch} [NoTr l] {D : SD} {a0 a1 a2 : Int} {h : Hp} (hk : h a0 (-2) = 224) (r1 : r32 a1) (r2 : r32 a2) {r : (Int × Int) × Hp} (hm : m_X14_layRest a0 a1 a2 h = some r) : Sim l D yX14_layRest (Cond.code yX14_layRest cX14_layRest 9 (Option.none : Option Jvm.ClassFile.FieldType)) 11 414 [rv D a0, iv a1, iv a2] h 0 r := by
  refine Sim.of (fin := fun (v : (Int × Int) × Hp) => v) (lsE := [(0, rv D a0), (1, iv a1), (2, iv a2)]) hm rfl cwS_code (la_r (la_i (la_i la_n))) (ll_r (ll_i (ll_i ll_n))) ?_
  intro p e s m below meth c X hcw hmm hcc hnm hname
  have hno := noh hcw hnm hmm hcc
  unfold m_X14_layRest
  refine g_iload_n (pc := 0) X (j := 1) (i := 1) (q := 1) (x := a1) rfl rfl (dl_at t_X14_layRest 0 rfl) ?_
  refine g_istore_nN (pc := 1) X (j := 3) (i := 3) (x := a1) (b := 2) (w := iv a2) (rest := [(0, rv D a0)]) rfl (Nat.le_of_ble_eq_true rfl) [2, 0] rfl (by decide) rfl rfl (dl_at t_X14_layRest 1 rfl) ?_
  refine g_iload_n (pc := 2) X (j := 2) (i := 2) (q := 1) (x := a2) rfl rfl (dl_at t_X14_layRest 2 rfl) ?_
  refine g_istoreN (pc := 3) X (i := 4) (x := a2) (b := 3) (w := iv a1) (rest := [(0, rv D a0)]) (Nat.le_of_ble_eq_true rfl) [0, 2] rfl (by decide) rfl rfl (dl_at t_X14_layRest 3 rfl) ?_
  refine g_ls (ls2 := [(0, rv D a0), (3, iv a1), (4, iv a2)]) [2, 1, 0] rfl ?_
  refine g_loop0F (fun (q : Int × Int × Hp) => [(0, rv D a0), (3, iv q.1), (4, iv q.2.1)]) (fun (q : Int × Int × Hp) => q.2.2) (fun (q : Int × Int × Hp) => r32 q.1 ∧ r32 q.2.1 ∧ Ext h q.2.2) (a1, a2, h) ⟨r1, r2, (Ext.refl _)⟩ ?_ (fun _ => rfl)
  · rintro ⟨x3_5, x4_5, h_5⟩ ⟨r3_5, r4_5, E_5⟩
    try dsimp only
    unfold m_X14_layRest_l5
    refine g_iload_n (pc := 5) X (j := 3) (i := 3) (q := 1) (x := x3_5) rfl rfl (dl_at t_X14_layRest 4 rfl) ?_
    refine g_aload_n (pc := 6) X (j := 0) (i := 0) (q := 0) (x := a0) rfl rfl (dl_at t_X14_layRest 5 rfl) ?_
    have k7 := kx E_5 (by decide) hk
    refine r_geti (pc := 7) X fX14_57 k7 q1320 (dl_at t_X14_layRest 6 rfl) fun g7 => ?_
    refine g_join (γ := Unit) (fun q => True) 22 (fun q => [(0, rv D a0), (3, iv x3_5), (4, iv x4_5)]) (fun q => []) (fun q => h_5) (fun q => m_X14_layRest_j22 a0 x3_5 x4_5 h_5) ?_ ?_
    · rintro _ _
      try dsimp only
      unfold m_X14_layRest_j22
      refine g_iload_n (pc := 22) X (j := 3) (i := 3) (q := 1) (x := x3_5) rfl rfl (dl_at t_X14_layRest 12 rfl) ?_
      refine g_istoreN (pc := 23) X (i := 5) (x := x3_5) (b := 4) (w := iv x4_5) (rest := [(0, rv D a0), (3, iv x3_5)]) (Nat.le_of_ble_eq_true rfl) [2, 0, 1] rfl (by decide) rfl rfl (dl_at t_X14_layRest 13 rfl) ?_
      refine g_lconst0 (pc := 25) X (dl_at t_X14_layRest 14 rfl) ?_
      refine g_ltl (r64_c rfl) fun x6_26 r6_26 => ?_
      refine g_lstoreN (pc := 26) X (i := 6) (x := x6_26) (b := 5) (w := iv x3_5) (rest := [(4, iv x4_5), (0, rv D a0), (3, iv x3_5)]) (Nat.le_of_ble_eq_true rfl) [0, 1, 2, 3] rfl (by decide) (by decide) rfl rfl (dl_at t_X14_layRest 15 rfl) ?_
      refine g_iload_n (pc := 28) X (j := 3) (i := 3) (q := 4) (x := x3_5) rfl rfl (dl_at t_X14_layRest 16 rfl) ?_
      refine g_aload_n (pc := 29) X (j := 0) (i := 0) (q := 3) (x := a0) rfl rfl (dl_at t_X14_layRest 17 rfl) ?_
      refine r_geti (pc := 30) X fX14_57 k7 q1320 (dl_at t_X14_layRest 18 rfl) fun g30 => ?_
      refine g_join (γ := Int × Int) (fun q => r32 q.1 ∧ r64 q.2) 64 (fun q => [(0, rv D a0), (3, iv x3_5), (4, iv x4_5), (5, iv q.1), (6, jv q.2)]) (fun q => []) (fun q => h_5) (fun q => m_X14_layRest_j64 x3_5 x4_5 a0 q.1 q.2 h_5) ?_ ?_
      · rintro ⟨x5_64, x6_64⟩ ⟨r5_64, r6_64⟩
        try dsimp only
        unfold m_X14_layRest_j64
        refine g_loop1 (fun (q : Int × Int) => [(0, rv D a0), (3, iv x3_5), (4, iv x4_5), (5, iv q.1), (6, jv q.2)]) (fun (q : Int × Int) => h_5) (fun (q : Int × Int) => r32 q.1 ∧ r64 q.2) 139 (fun (y139 : Int × Int) => [(0, rv D a0), (3, iv x3_5), (4, iv x4_5), (5, iv y139.1), (6, jv y139.2)]) (fun (y139 : Int × Int) => h_5) (fun (y139 : Int × Int) => r32 y139.1 ∧ r64 y139.2) (x5_64, x6_64) ⟨r5_64, r6_64⟩ ?_ ?_
        · rintro ⟨x5_64_1, x6_64_1⟩ ⟨r5_64_1, r6_64_1⟩
          try dsimp only
          unfold m_X14_layRest_l64
          refine g_iload (pc := 64) X (i := 5) (q := 3) (x := x5_64_1) rfl (dl_at t_X14_layRest 36 rfl) ?_
          refine g_iload_n (pc := 66) X (j := 3) (i := 3) (q := 1) (x := x3_5) rfl rfl (dl_at t_X14_layRest 37 rfl) ?_
          refine g_icmple (pc := 67) X r5_64_1 r3_5 (off := 72) (tgt := 139) rfl (dl_at t_X14_layRest 38 rfl) (fun _ => ?_) (fun _ => ?_)
          · exact g_at fun Q hQ => hQ ⟨r5_64_1, r6_64_1⟩
          refine g_iload (pc := 70) X (i := 5) (q := 3) (x := x5_64_1) rfl (dl_at t_X14_layRest 39 rfl) ?_
          refine g_aload_n (pc := 72) X (j := 0) (i := 0) (q := 0) (x := a0) rfl rfl (dl_at t_X14_layRest 40 rfl) ?_
          refine r_geti (pc := 73) X fX14_57 k7 q1320 (dl_at t_X14_layRest 41 rfl) fun g73 => ?_
          refine g_icmpge (pc := 76) X r5_64_1 g73 (off := 63) (tgt := 139) rfl (dl_at t_X14_layRest 42 rfl) (fun _ => ?_) (fun _ => ?_)
          · exact g_at fun Q hQ => hQ ⟨r5_64_1, r6_64_1⟩
          refine g_lload (pc := 79) X (i := 6) (q := 4) (x := x6_64_1) rfl (dl_at t_X14_layRest 43 rfl) ?_
          refine g_aload_n (pc := 81) X (j := 0) (i := 0) (q := 0) (x := a0) rfl rfl (dl_at t_X14_layRest 44 rfl) ?_
          refine r_getr (pc := 82) X fX14_55 k7 q1318 (dl_at t_X14_layRest 45 rfl) ?_
          refine g_iload (pc := 85) X (i := 5) (q := 3) (x := x5_64_1) rfl (dl_at t_X14_layRest 46 rfl) ?_
          refine g_iconst (pc := 87) X (n := 1) (dl_at t_X14_layRest 47 rfl) ?_
          refine g_iadd (pc := 88) X r5_64_1 (r32_c rfl) (dl_at t_X14_layRest 48 rfl) ?_
          refine g_gd fun k89 => ?_
          refine g_lald (pc := 89) X (r32_w _) k89 (dl_at t_X14_layRest 49 rfl) fun g89 => ?_
          refine g_ladd (pc := 90) X r6_64_1 g89 (dl_at t_X14_layRest 50 rfl) ?_
          refine g_aload_n (pc := 91) X (j := 0) (i := 0) (q := 0) (x := a0) rfl rfl (dl_at t_X14_layRest 51 rfl) ?_
          refine r_getr (pc := 92) X fX14_55 k7 q1318 (dl_at t_X14_layRest 52 rfl) ?_
          refine g_iload (pc := 95) X (i := 5) (q := 3) (x := x5_64_1) rfl (dl_at t_X14_layRest 53 rfl) ?_
          refine g_gd fun k97 => ?_
          refine g_lald (pc := 97) X r5_64_1 k97 (dl_at t_X14_layRest 54 rfl) fun g97 => ?_
          refine g_lsub (pc := 98) X (r64_w _) g97 (dl_at t_X14_layRest 55 rfl) ?_
          refine g_aload_n (pc := 99) X (j := 0) (i := 0) (q := 0) (x := a0) rfl rfl (dl_at t_X14_layRest 56 rfl) ?_
          refine r_getr (pc := 100) X fX14_3 k7 q1245 (dl_at t_X14_layRest 57 rfl) ?_
          refine g_gd fun k103 => ?_
          refine r_getiN (pc := 103) X fX3_24 k103 (nw_in q567 rfl) (dl_at t_X14_layRest 58 rfl) fun g103 => ?_
          refine g_i2l (pc := 106) X g103 (dl_at t_X14_layRest 59 rfl) ?_
          refine g_lcmp (pc := 107) X (r64_w _) (r64_of g103) (dl_at t_X14_layRest 60 rfl) ?_
          refine g_ifgt (pc := 108) X (r32_lcmp _ _) (off := 31) (tgt := 139) rfl (dl_at t_X14_layRest 61 rfl) (fun _ => ?_) (fun _ => ?_)
          · exact g_at fun Q hQ => hQ ⟨r5_64_1, r6_64_1⟩
          refine g_lload (pc := 111) X (i := 6) (q := 4) (x := x6_64_1) rfl (dl_at t_X14_layRest 62 rfl) ?_
          refine g_aload_n (pc := 113) X (j := 0) (i := 0) (q := 0) (x := a0) rfl rfl (dl_at t_X14_layRest 63 rfl) ?_
          refine r_getr (pc := 114) X fX14_55 k7 q1318 (dl_at t_X14_layRest 64 rfl) ?_
          refine g_iload (pc := 117) X (i := 5) (q := 3) (x := x5_64_1) rfl (dl_at t_X14_layRest 65 rfl) ?_
          refine g_iconst (pc := 119) X (n := 1) (dl_at t_X14_layRest 66 rfl) ?_
          refine g_iadd (pc := 120) X r5_64_1 (r32_c rfl) (dl_at t_X14_layRest 67 rfl) ?_
          refine g_lald (pc := 121) X (r32_w _) k89 (dl_at t_X14_layRest 68 rfl) fun g121 => ?_
          refine g_aload_n (pc := 122) X (j := 0) (i := 0) (q := 0) (x := a0) rfl rfl (dl_at t_X14_layRest 69 rfl) ?_
          refine r_getr (pc := 123) X fX14_55 k7 q1318 (dl_at t_X14_layRest 70 rfl) ?_
          refine g_iload (pc := 126) X (i := 5) (q := 3) (x := x5_64_1) rfl (dl_at t_X14_layRest 71 rfl) ?_
          refine g_lald (pc := 128) X r5_64_1 k97 (dl_at t_X14_layRest 72 rfl) fun g128 => ?_
          refine g_lsub (pc := 129) X g121 g128 (dl_at t_X14_layRest 73 rfl) ?_
          refine g_ladd (pc := 130) X r6_64_1 (r64_w _) (dl_at t_X14_layRest 74 rfl) ?_
          refine g_ltl (r64_w _) fun x6_131 r6_131 => ?_
          refine g_lstoreN (pc := 131) X (i := 6) (x := x6_131) (b := 5) (w := iv x5_64_1) (rest := [(0, rv D a0), (3, iv x3_5), (4, iv x4_5)]) (Nat.le_of_ble_eq_true rfl) [3, 0, 1, 2] rfl (by decide) (by decide) rfl rfl (dl_at t_X14_layRest 75 rfl) ?_
          refine r_iincN (pc := 133) X (i := 5) (q := 1) (n := 1) (x := x5_64_1) (b := 4) (w := iv x4_5) (rest := [(6, jv x6_131), (0, rv D a0), (3, iv x3_5)]) rfl r5_64_1 (r32_c rfl) (Nat.le_of_ble_eq_true rfl) [4, 0, 2, 3] rfl (by decide) rfl rfl (dl_at t_X14_layRest 76 rfl) fun x5_133 r5_133 => ?_
          refine g_goto (pc := 136) X (off := (-72)) (tgt := 64) rfl (dl_at t_X14_layRest 77 rfl) ?_
          refine g_ls (ls2 := [(0, rv D a0), (3, iv x3_5), (4, iv x4_5), (5, iv x5_133), (6, jv x6_131)]) [3, 4, 1, 0, 2] rfl ?_
          exact g_at fun Q hQ => hQ ⟨r5_133, r6_131⟩
        · rintro ⟨x5_139, x6_139⟩ ⟨r5_139, r6_139⟩
          try dsimp only [sE]
          refine g_iload (pc := 139) X (i := 4) (q := 2) (x := x4_5) rfl (dl_at t_X14_layRest 78 rfl) ?_
          refine g_istore (pc := 141) X (i := 8) (x := x4_5) (rest := [(0, rv D a0), (3, iv x3_5), (4, iv x4_5), (5, iv x5_139), (6, jv x6_139)]) (Nat.le_of_ble_eq_true rfl) [0, 1, 2, 3, 4] rfl rfl (dl_at t_X14_layRest 79 rfl) ?_
          refine g_ls (ls2 := [(0, rv D a0), (3, iv x3_5), (4, iv x4_5), (5, iv x5_139), (6, jv x6_139), (8, iv x4_5)]) [1, 2, 3, 4, 5, 0] rfl ?_
          refine g_loop1 (fun (q : Int × Int) => [(0, rv D a0), (3, iv x3_5), (4, iv x4_5), (5, iv x5_139), (6, jv q.1), (8, iv q.2)]) (fun (q : Int × Int) => h_5) (fun (q : Int × Int) => r64 q.1 ∧ r32 q.2) 192 (fun (y192 : Int) => [(0, rv D a0), (3, iv x3_5), (4, iv x4_5), (5, iv x5_139), (8, iv y192)]) (fun (y192 : Int) => h_5) (fun (y192 : Int) => r32 y192) (x6_139, x4_5) ⟨r6_139, r4_5⟩ ?_ ?_
          · rintro ⟨x6_143, x8_143⟩ ⟨r6_143, r8_143⟩
            try dsimp only
            unfold m_X14_layRest_l143
            refine g_iload (pc := 143) X (i := 8) (q := 5) (x := x8_143) rfl (dl_at t_X14_layRest 80 rfl) ?_
            refine g_aload_n (pc := 145) X (j := 0) (i := 0) (q := 0) (x := a0) rfl rfl (dl_at t_X14_layRest 81 rfl) ?_
            refine r_geti (pc := 146) X fX14_39 k7 q1299 (dl_at t_X14_layRest 82 rfl) fun g146 => ?_
            refine g_icmpge (pc := 149) X r8_143 g146 (off := 43) (tgt := 192) rfl (dl_at t_X14_layRest 83 rfl) (fun _ => ?_) (fun _ => ?_)
            · refine g_ls (ls2 := [(0, rv D a0), (3, iv x3_5), (4, iv x4_5), (5, iv x5_139), (8, iv x8_143)]) [0, 1, 2, 3, 5] rfl ?_
              exact g_at fun Q hQ => hQ r8_143
            refine g_lload (pc := 152) X (i := 6) (q := 4) (x := x6_143) rfl (dl_at t_X14_layRest 84 rfl) ?_
            refine g_aload_n (pc := 154) X (j := 0) (i := 0) (q := 0) (x := a0) rfl rfl (dl_at t_X14_layRest 85 rfl) ?_
            refine g_iload (pc := 155) X (i := 8) (q := 5) (x := x8_143) rfl (dl_at t_X14_layRest 86 rfl) ?_
            refine r_callRi (pc := 157) X (fun _ hv => s_X14_floatHeight k7 r8_143 hv) cw_code q3004 q368 (in_Vk X (As := [iv x8_143]) kX14 k7 (Or.inl q3001) q3003 qs204 cw_code q3004 ⟨by decide, by decide⟩ rfl (dl_at t_X14_layRest 87 rfl)) (dl_at t_X14_layRest 87 rfl) (cat24 (st := [jv x6_143]) (Nat.le_of_ble_eq_true rfl)) (Nat.le_of_ble_eq_true rfl) (Nat.le_of_ble_eq_true rfl) fun v157 g157 => ?_
            refine g_i2l (pc := 160) X g157 (dl_at t_X14_layRest 88 rfl) ?_
            refine g_ladd (pc := 161) X r6_143 (r64_of g157) (dl_at t_X14_layRest 89 rfl) ?_
            refine g_aload_n (pc := 162) X (j := 0) (i := 0) (q := 0) (x := a0) rfl rfl (dl_at t_X14_layRest 90 rfl) ?_
            refine r_getr (pc := 163) X fX14_3 k7 q1245 (dl_at t_X14_layRest 91 rfl) ?_
            refine g_gd fun k166 => ?_
            refine r_getiN (pc := 166) X fX3_24 k166 (nw_in q567 rfl) (dl_at t_X14_layRest 92 rfl) fun g166 => ?_
            refine g_i2l (pc := 169) X g166 (dl_at t_X14_layRest 93 rfl) ?_
            refine g_lcmp (pc := 170) X (r64_w _) (r64_of g166) (dl_at t_X14_layRest 94 rfl) ?_
            refine g_ifgt (pc := 171) X (r32_lcmp _ _) (off := 21) (tgt := 192) rfl (dl_at t_X14_layRest 95 rfl) (fun _ => ?_) (fun _ => ?_)
            · refine g_ls (ls2 := [(0, rv D a0), (3, iv x3_5), (4, iv x4_5), (5, iv x5_139), (8, iv x8_143)]) [0, 1, 2, 3, 5] rfl ?_
              exact g_at fun Q hQ => hQ r8_143
            refine g_lload (pc := 174) X (i := 6) (q := 4) (x := x6_143) rfl (dl_at t_X14_layRest 96 rfl) ?_
            refine g_aload_n (pc := 176) X (j := 0) (i := 0) (q := 0) (x := a0) rfl rfl (dl_at t_X14_layRest 97 rfl) ?_
            refine g_iload (pc := 177) X (i := 8) (q := 5) (x := x8_143) rfl (dl_at t_X14_layRest 98 rfl) ?_
            refine r_callRi (pc := 179) X (fun _ hv => s_X14_floatHeight k7 r8_143 hv) cw_code q3004 q368 (in_Vk X (As := [iv x8_143]) kX14 k7 (Or.inl q3001) q3003 qs204 cw_code q3004 ⟨by decide, by decide⟩ rfl (dl_at t_X14_layRest 99 rfl)) (dl_at t_X14_layRest 99 rfl) (cat24 (st := [jv x6_143]) (Nat.le_of_ble_eq_true rfl)) (Nat.le_of_ble_eq_true rfl) (Nat.le_of_ble_eq_true rfl) fun v179 g179 => ?_
            refine g_i2l (pc := 182) X g179 (dl_at t_X14_layRest 100 rfl) ?_
            refine g_ladd (pc := 183) X r6_143 (r64_of g179) (dl_at t_X14_layRest 101 rfl) ?_
            refine g_ltl (r64_w _) fun x6_184 r6_184 => ?_
            refine g_lstoreN (pc := 184) X (i := 6) (x := x6_184) (b := 5) (w := iv x5_139) (rest := [(0, rv D a0), (3, iv x3_5), (4, iv x4_5), (8, iv x8_143)]) (Nat.le_of_ble_eq_true rfl) [3, 0, 1, 2, 5] rfl (by decide) (by decide) rfl rfl (dl_at t_X14_layRest 102 rfl) ?_
            refine r_iinc (pc := 186) X (i := 8) (q := 5) (n := 1) (x := x8_143) (rest := [(6, jv x6_184), (5, iv x5_139), (0, rv D a0), (3, iv x3_5), (4, iv x4_5)]) rfl r8_143 (r32_c rfl) (Nat.le_of_ble_eq_true rfl) [0, 1, 2, 3, 4] rfl rfl (dl_at t_X14_layRest 103 rfl) fun x8_186 r8_186 => ?_
            refine g_goto (pc := 189) X (off := (-46)) (tgt := 143) rfl (dl_at t_X14_layRest 104 rfl) ?_
            refine g_ls (ls2 := [(0, rv D a0), (3, iv x3_5), (4, iv x4_5), (5, iv x5_139), (6, jv x6_184), (8, iv x8_186)]) [3, 4, 5, 2, 1, 0] rfl ?_
            exact g_at fun Q hQ => hQ ⟨r6_184, r8_186⟩
          · rintro x8_192 r8_192
            try dsimp only [sE]
            refine g_aload_n (pc := 192) X (j := 0) (i := 0) (q := 0) (x := a0) rfl rfl (dl_at t_X14_layRest 105 rfl) ?_
            refine g_aload_n (pc := 193) X (j := 0) (i := 0) (q := 0) (x := a0) rfl rfl (dl_at t_X14_layRest 106 rfl) ?_
            refine r_geti (pc := 194) X fX14_18 k7 q1269 (dl_at t_X14_layRest 107 rfl) fun g194 => ?_
            refine g_aload_n (pc := 197) X (j := 0) (i := 0) (q := 0) (x := a0) rfl rfl (dl_at t_X14_layRest 108 rfl) ?_
            refine r_geti (pc := 198) X fX14_18 k7 q1269 (dl_at t_X14_layRest 109 rfl) fun g198 => ?_
            refine g_iload_n (pc := 201) X (j := 3) (i := 3) (q := 1) (x := x3_5) rfl rfl (dl_at t_X14_layRest 110 rfl) ?_
            refine g_iload (pc := 202) X (i := 5) (q := 3) (x := x5_139) rfl (dl_at t_X14_layRest 111 rfl) ?_
            refine g_iload (pc := 204) X (i := 4) (q := 2) (x := x4_5) rfl (dl_at t_X14_layRest 112 rfl) ?_
            refine g_iload (pc := 206) X (i := 8) (q := 4) (x := x8_192) rfl (dl_at t_X14_layRest 113 rfl) ?_
            refine r_callTv (pc := 208) X (fun _ hv => s_X14_addColumn k7 g194 g198 r3_5 r5_139 r4_5 r8_192 hv) cw_code q3027 q368 (in_Vk X (As := [iv (h_5 a0 18), iv (h_5 a0 18), iv x3_5, iv x5_139, iv x4_5, iv x8_192]) kX14 k7 (Or.inl q3024) q3026 qs208 cw_code q3027 ⟨by decide, by decide⟩ rfl (dl_at t_X14_layRest 114 rfl)) (dl_at t_X14_layRest 114 rfl) (cat24 (st := []) (Nat.le_of_ble_eq_true rfl)) (Nat.le_of_ble_eq_true rfl) (Nat.le_of_ble_eq_true rfl) (fun v208 h208 E208 => ?_) (fun _ _ ha _ => gt_at fun Q hQ => gt_out (Q := Q) X rfl ha (hno _) _ Q rfl hQ)
            refine g_iload (pc := 211) X (i := 5) (q := 3) (x := x5_139) rfl (dl_at t_X14_layRest 115 rfl) ?_
            refine g_istore_n (pc := 213) X (j := 3) (i := 3) (x := x5_139) (rest := [(0, rv D a0), (8, iv x8_192)]) rfl (Nat.le_of_ble_eq_true rfl) [0, 4] rfl rfl (dl_at t_X14_layRest 116 rfl) ?_
            refine g_iload (pc := 214) X (i := 8) (q := 2) (x := x8_192) rfl (dl_at t_X14_layRest 117 rfl) ?_
            refine g_istoreN (pc := 216) X (i := 4) (x := x8_192) (b := 3) (w := iv x5_139) (rest := [(0, rv D a0)]) (Nat.le_of_ble_eq_true rfl) [0, 1] rfl (by decide) rfl rfl (dl_at t_X14_layRest 118 rfl) ?_
            refine g_goto (pc := 218) X (off := (-213)) (tgt := 5) rfl (dl_at t_X14_layRest 119 rfl) ?_
            refine g_ls (ls2 := [(0, rv D a0), (3, iv x5_139), (4, iv x8_192)]) [2, 1, 0] rfl ?_
            exact g_at fun Q hQ => hQ ⟨r5_139, r8_192, (E_5.trans E208)⟩
      intro J64
      refine g_icmpge (pc := 33) X r3_5 g30 (off := 31) (tgt := 64) rfl (dl_at t_X14_layRest 19 rfl) (fun _ => ?_) (fun _ => ?_)
      · refine g_ls (ls2 := [(0, rv D a0), (3, iv x3_5), (4, iv x4_5), (5, iv x3_5), (6, jv x6_26)]) [3, 4, 2, 1, 0] rfl ?_
        exact J64 (x3_5, x6_26) ⟨r3_5, r6_26⟩
      refine r_iincN (pc := 36) X (i := 5) (q := 1) (n := 1) (x := x3_5) (b := 4) (w := iv x4_5) (rest := [(0, rv D a0), (3, iv x3_5)]) rfl r3_5 (r32_c rfl) (Nat.le_of_ble_eq_true rfl) [2, 3, 4] rfl (by decide) rfl rfl (dl_at t_X14_layRest 20 rfl) fun x5_36 r5_36 => ?_
      refine g_aload_n (pc := 39) X (j := 0) (i := 0) (q := 2) (x := a0) rfl rfl (dl_at t_X14_layRest 21 rfl) ?_
      refine r_getr (pc := 40) X fX14_3 k7 q1245 (dl_at t_X14_layRest 22 rfl) ?_
      refine g_gd fun k43 => ?_
      refine r_getiN (pc := 43) X fX3_27 k43 (nw_in q573 rfl) (dl_at t_X14_layRest 23 rfl) fun g43 => ?_
      refine g_i2l (pc := 46) X g43 (dl_at t_X14_layRest 24 rfl) ?_
      refine g_aload_n (pc := 47) X (j := 0) (i := 0) (q := 2) (x := a0) rfl rfl (dl_at t_X14_layRest 25 rfl) ?_
      refine r_getr (pc := 48) X fX14_55 k7 q1318 (dl_at t_X14_layRest 26 rfl) ?_
      refine g_iload (pc := 51) X (i := 5) (q := 0) (x := x5_36) rfl (dl_at t_X14_layRest 27 rfl) ?_
      refine g_gd fun k53 => ?_
      refine g_lald (pc := 53) X r5_36 k53 (dl_at t_X14_layRest 28 rfl) fun g53 => ?_
      refine g_ladd (pc := 54) X (r64_of g43) g53 (dl_at t_X14_layRest 29 rfl) ?_
      refine g_aload_n (pc := 55) X (j := 0) (i := 0) (q := 2) (x := a0) rfl rfl (dl_at t_X14_layRest 30 rfl) ?_
      refine r_getr (pc := 56) X fX14_55 k7 q1318 (dl_at t_X14_layRest 31 rfl) ?_
      refine g_iload_n (pc := 59) X (j := 3) (i := 3) (q := 3) (x := x3_5) rfl rfl (dl_at t_X14_layRest 32 rfl) ?_
      refine g_gd fun k60 => ?_
      refine g_lald (pc := 60) X r3_5 k60 (dl_at t_X14_layRest 33 rfl) fun g60 => ?_
      refine g_lsub (pc := 61) X (r64_w _) g60 (dl_at t_X14_layRest 34 rfl) ?_
      refine g_ltl (r64_w _) fun x6_62 r6_62 => ?_
      refine g_lstoreN (pc := 62) X (i := 6) (x := x6_62) (b := 5) (w := iv x5_36) (rest := [(4, iv x4_5), (0, rv D a0), (3, iv x3_5)]) (Nat.le_of_ble_eq_true rfl) [0, 1, 2, 3] rfl (by decide) (by decide) rfl rfl (dl_at t_X14_layRest 35 rfl) ?_
      refine g_ls (ls2 := [(0, rv D a0), (3, iv x3_5), (4, iv x4_5), (5, iv x5_36), (6, jv x6_62)]) [3, 4, 2, 1, 0] rfl ?_
      exact J64 (x5_36, x6_62) ⟨r5_36, r6_62⟩
    intro J22
    refine g_icmplt (pc := 10) X r3_5 g7 (off := 12) (tgt := 22) rfl (dl_at t_X14_layRest 7 rfl) (fun _ => ?_) (fun _ => ?_)
    · exact J22 () trivial
    refine g_iload (pc := 13) X (i := 4) (q := 2) (x := x4_5) rfl (dl_at t_X14_layRest 8 rfl) ?_
    refine g_aload_n (pc := 15) X (j := 0) (i := 0) (q := 0) (x := a0) rfl rfl (dl_at t_X14_layRest 9 rfl) ?_
    refine r_geti (pc := 16) X fX14_39 k7 q1299 (dl_at t_X14_layRest 10 rfl) fun g16 => ?_
    refine g_icmpge (pc := 19) X r4_5 g16 (off := 202) (tgt := 221) rfl (dl_at t_X14_layRest 11 rfl) (fun _ => ?_) (fun _ => ?_)
    · exact g_at fun Q hQ => (g_vret (pc := 221) X (v := 0) rfl rfl (dl_at t_X14_layRest 120 rfl)) _ Q rfl hQ
    exact J22 () trivial
def k_X14_tops : List (Nat × Instr × Nat) := [(0, .lconst 0, 1), (1, .lstore_n 2, 1), (2, .aload_n 0, 1), (3, .getfield 142, 3), (6, .iload_n 1, 1), (7, .iaload, 1), (8, .istore 4, 2), (10, .iload 4, 2), (12, .aload_n 0, 1), (13, .getfield 145, 3), (16, .iload_n 1, 1), (17, .iaload, 1), (18, .if_icmp .ge 19, 3), (21, .lload_n 2, 1), (22, .aload_n 0, 1), (23, .iload 4, 2), (25, .invokevirtual 673, 3), (28, .i2l, 1), (29, .ladd, 1), (30, .lstore_n 2, 1), (31, .iinc 4 1, 3), (34, .goto (-24), 3), (37, .aload_n 0, 1), (38, .getfield 130, 3), (41, .iload_n 1, 1), (42, .iaload, 1), (43, .istore 4, 2), (45, .iload 4, 2), (47, .aload_n 0, 1), (48, .getfield 133, 3), (51, .iload_n 1, 1), (52, .iaload, 1), (53, .if_icmp .ge 59, 3), (56, .iload 4, 2), (58, .aload_n 0, 1), (59, .getfield 130, 3), (62, .iload_n 1, 1), (63, .iaload, 1), (64, .if_icmp .le 14, 3), (67, .lload_n 2, 1), (68, .aload_n 0, 1), (69, .getfield 37, 3), (72, .iload 4, 2), (74, .iaload, 1), (75, .i2l, 1), (76, .ladd, 1), (77, .lstore_n 2, 1), (78, .aload_n 0, 1), (79, .getfield 148, 3), (82, .iload 4, 2), (84, .iload_n 1, 1), (85, .iastore, 1), (86, .aload_n 0, 1), (87, .getfield 151, 3), (90, .iload 4, 2), (92, .lload_n 2, 1), (93, .l2i, 1), (94, .iastore, 1), (95, .lload_n 2, 1), (96, .aload_n 0, 1), (97, .getfield 34, 3), (100, .iload 4, 2), (102, .iaload, 1), (103, .i2l, 1), (104, .ladd, 1), (105, .lstore_n 2, 1), (106, .iinc 4 1, 3), (109, .goto (-64), 3), (112, .return_, 1)]
theorem t_X14_tops : ∀ q ∈ k_X14_tops, decode cX14_tops q.1 = .ok q.2 := dl_all (by decide +kernel)
noncomputable def m_X14_tops_l10 (a0 a1 x2_10 x4_10 : Int) (h : Hp) : Option ((Int × Int) ⊕ ((Int))) :=
  gd (h (h a0 64) (-2) % 16 = 1 ∧ (0 : Int) ≤ a1 ∧ a1 < h (h a0 64) (-1)) (if (h (h a0 64) a1) ≤ x4_10 then (some (.inr x2_10))
  else ((m_X14_floatHeight a0 x4_10 h).bind fun v25 =>
  lt_ (w64 (x2_10 + v25)) fun x2_30 =>
  lt_ (w32 (x4_10 + 1)) fun x4_31 =>
  some (.inl (x2_30, x4_31))))
noncomputable def m_X14_tops_j78 (a0 a1 x4_45 x2_78 : Int) (h_45 : Hp) : Option ((Int × Int × Hp) ⊕ ((Hp))) :=
  gd (h_45 (h_45 a0 65) (-2) % 16 = 1 ∧ (0 : Int) ≤ x4_45 ∧ x4_45 < h_45 (h_45 a0 65) (-1)) (pt h_45 (h_45 a0 65) x4_45 a1 fun h85 =>
  gd (h85 (h85 a0 66) (-2) % 16 = 1 ∧ (0 : Int) ≤ x4_45 ∧ x4_45 < h85 (h85 a0 66) (-1)) (pt h85 (h85 a0 66) x4_45 (w32 x2_78) fun h94 =>
  gd (h94 (h94 a0 14) (-2) % 16 = 1 ∧ (0 : Int) ≤ x4_45 ∧ x4_45 < h94 (h94 a0 14) (-1)) (lt_ (w64 (x2_78 + (h94 (h94 a0 14) x4_45))) fun x2_105 =>
  lt_ (w32 (x4_45 + 1)) fun x4_106 =>
  some (.inl (x2_105, x4_106, h94)))))
noncomputable def m_X14_tops_l45 (a0 a1 x2_45 x4_45 : Int) (h_45 : Hp) : Option ((Int × Int × Hp) ⊕ ((Hp))) :=
  gd (h_45 (h_45 a0 60) (-2) % 16 = 1 ∧ (0 : Int) ≤ a1 ∧ a1 < h_45 (h_45 a0 60) (-1)) (if (h_45 (h_45 a0 60) a1) ≤ x4_45 then (some (.inr h_45))
  else (gd (h_45 (h_45 a0 59) (-2) % 16 = 1 ∧ (0 : Int) ≤ a1 ∧ a1 < h_45 (h_45 a0 59) (-1)) (if x4_45 ≤ (h_45 (h_45 a0 59) a1) then (m_X14_tops_j78 a0 a1 x4_45 x2_45 h_45)
  else (gd (h_45 (h_45 a0 15) (-2) % 16 = 1 ∧ (0 : Int) ≤ x4_45 ∧ x4_45 < h_45 (h_45 a0 15) (-1)) (lt_ (w64 (x2_45 + (h_45 (h_45 a0 15) x4_45))) fun x2_77 =>
  m_X14_tops_j78 a0 a1 x4_45 x2_77 h_45)))))
noncomputable def m_X14_tops (a0 a1 : Int) (h : Hp) : Option (Hp) :=
  lt_ 0 fun x2_1 =>
  gd (h (h a0 63) (-2) % 16 = 1 ∧ (0 : Int) ≤ a1 ∧ a1 < h (h a0 63) (-1)) (lt_ (h (h a0 63) a1) fun x4_8 =>
  (lp (fun (q : Int × Int) => m_X14_tops_l10 a0 a1 q.1 q.2 h) (x2_1, x4_8)).bind (fun (y37 : Int) => gd (h (h a0 59) (-2) % 16 = 1 ∧ (0 : Int) ≤ a1 ∧ a1 < h (h a0 59) (-1)) (lt_ (h (h a0 59) a1) fun x4_43 =>
  (lp (fun (q : Int × Int × Hp) => m_X14_tops_l45 a0 a1 q.1 q.2.1 q.2.2) (y37, x4_43, h)).bind (fun (x : Hp) => some x))))
theorem s_X14_tops {l : Launch} [NoTr l] {D : SD} {a0 a1 : Int} {h : Hp} (hk : h a0 (-2) = 224) (r1 : r32 a1) {r : Hp} (hm : m_X14_tops a0 a1 h = some r) : Sim l D yX14_tops (Cond.code yX14_tops cX14_tops 5 (Option.none : Option Jvm.ClassFile.FieldType)) 4 150 [rv D a0, iv a1] h 0 ((0, 0), r) := by
  refine Sim.of (fin := fun (v : Hp) => ((0, 0), v)) (lsE := [(0, rv D a0), (1, iv a1)]) hm rfl cwS_code (la_r (la_i la_n)) (ll_r (ll_i ll_n)) ?_
  intro p e s m below meth c X hcw hmm hcc hnm hname
  unfold m_X14_tops
  refine g_lconst0 (pc := 0) X (dl_at t_X14_tops 0 rfl) ?_
  refine g_ltl (r64_c rfl) fun x2_1 r2_1 => ?_
  refine g_lstore_nN (pc := 1) X (j := 2) (i := 2) (x := x2_1) (b := 1) (w := iv a1) (rest := [(0, rv D a0)]) rfl (Nat.le_of_ble_eq_true rfl) [1, 0] rfl (by decide) (by decide) rfl rfl (dl_at t_X14_tops 1 rfl) ?_
  refine g_aload_n (pc := 2) X (j := 0) (i := 0) (q := 2) (x := a0) rfl rfl (dl_at t_X14_tops 2 rfl) ?_
  refine r_getr (pc := 3) X fX14_63 hk q1328 (dl_at t_X14_tops 3 rfl) ?_
  refine g_iload_n (pc := 6) X (j := 1) (i := 1) (q := 1) (x := a1) rfl rfl (dl_at t_X14_tops 4 rfl) ?_
  refine g_gd fun k7 => ?_
  refine g_iald (pc := 7) X r1 k7 (dl_at t_X14_tops 5 rfl) fun g7 => ?_
  refine g_lti g7 fun x4_8 r4_8 => ?_
  refine g_istore (pc := 8) X (i := 4) (x := x4_8) (rest := [(2, jv x2_1), (1, iv a1), (0, rv D a0)]) (Nat.le_of_ble_eq_true rfl) [0, 1, 2] rfl rfl (dl_at t_X14_tops 6 rfl) ?_
  refine g_ls (ls2 := [(0, rv D a0), (1, iv a1), (2, jv x2_1), (4, iv x4_8)]) [3, 2, 1, 0] rfl ?_
  refine g_loop1 (fun (q : Int × Int) => [(0, rv D a0), (1, iv a1), (2, jv q.1), (4, iv q.2)]) (fun (q : Int × Int) => h) (fun (q : Int × Int) => r64 q.1 ∧ r32 q.2) 37 (fun (y37 : Int) => [(0, rv D a0), (1, iv a1), (2, jv y37)]) (fun (y37 : Int) => h) (fun (y37 : Int) => r64 y37) (x2_1, x4_8) ⟨r2_1, r4_8⟩ ?_ ?_
  · rintro ⟨x2_10, x4_10⟩ ⟨r2_10, r4_10⟩
    try dsimp only
    unfold m_X14_tops_l10
    refine g_iload (pc := 10) X (i := 4) (q := 3) (x := x4_10) rfl (dl_at t_X14_tops 7 rfl) ?_
    refine g_aload_n (pc := 12) X (j := 0) (i := 0) (q := 0) (x := a0) rfl rfl (dl_at t_X14_tops 8 rfl) ?_
    refine r_getr (pc := 13) X fX14_64 hk q1329 (dl_at t_X14_tops 9 rfl) ?_
    refine g_iload_n (pc := 16) X (j := 1) (i := 1) (q := 1) (x := a1) rfl rfl (dl_at t_X14_tops 10 rfl) ?_
    refine g_gd fun k17 => ?_
    refine g_iald (pc := 17) X r1 k17 (dl_at t_X14_tops 11 rfl) fun g17 => ?_
    refine g_icmpge (pc := 18) X r4_10 g17 (off := 19) (tgt := 37) rfl (dl_at t_X14_tops 12 rfl) (fun _ => ?_) (fun _ => ?_)
    · refine g_ls (ls2 := [(0, rv D a0), (1, iv a1), (2, jv x2_10)]) [0, 1, 2] rfl ?_
      exact g_at fun Q hQ => hQ r2_10
    refine g_lload_n (pc := 21) X (j := 2) (i := 2) (q := 2) (x := x2_10) rfl rfl (dl_at t_X14_tops 13 rfl) ?_
    refine g_aload_n (pc := 22) X (j := 0) (i := 0) (q := 0) (x := a0) rfl rfl (dl_at t_X14_tops 14 rfl) ?_
    refine g_iload (pc := 23) X (i := 4) (q := 3) (x := x4_10) rfl (dl_at t_X14_tops 15 rfl) ?_
    refine r_callRi (pc := 25) X (fun _ hv => s_X14_floatHeight hk r4_10 hv) cw_code q3004 q368 (in_Vk X (As := [iv x4_10]) kX14 hk (Or.inl q3001) q3003 qs204 cw_code q3004 ⟨by decide, by decide⟩ rfl (dl_at t_X14_tops 16 rfl)) (dl_at t_X14_tops 16 rfl) (cat24 (st := [jv x2_10]) (Nat.le_of_ble_eq_true rfl)) (Nat.le_of_ble_eq_true rfl) (Nat.le_of_ble_eq_true rfl) fun v25 g25 => ?_
    refine g_i2l (pc := 28) X g25 (dl_at t_X14_tops 17 rfl) ?_
    refine g_ladd (pc := 29) X r2_10 (r64_of g25) (dl_at t_X14_tops 18 rfl) ?_
    refine g_ltl (r64_w _) fun x2_30 r2_30 => ?_
    refine g_lstore_nN (pc := 30) X (j := 2) (i := 2) (x := x2_30) (b := 1) (w := iv a1) (rest := [(0, rv D a0), (4, iv x4_10)]) rfl (Nat.le_of_ble_eq_true rfl) [1, 0, 3] rfl (by decide) (by decide) rfl rfl (dl_at t_X14_tops 19 rfl) ?_
    refine r_iinc (pc := 31) X (i := 4) (q := 3) (n := 1) (x := x4_10) (rest := [(2, jv x2_30), (1, iv a1), (0, rv D a0)]) rfl r4_10 (r32_c rfl) (Nat.le_of_ble_eq_true rfl) [0, 1, 2] rfl rfl (dl_at t_X14_tops 20 rfl) fun x4_31 r4_31 => ?_
    refine g_goto (pc := 34) X (off := (-24)) (tgt := 10) rfl (dl_at t_X14_tops 21 rfl) ?_
    refine g_ls (ls2 := [(0, rv D a0), (1, iv a1), (2, jv x2_30), (4, iv x4_31)]) [3, 2, 1, 0] rfl ?_
    exact g_at fun Q hQ => hQ ⟨r2_30, r4_31⟩
  · rintro x2_37 r2_37
    try dsimp only [sE]
    refine g_aload_n (pc := 37) X (j := 0) (i := 0) (q := 0) (x := a0) rfl rfl (dl_at t_X14_tops 22 rfl) ?_
    refine r_getr (pc := 38) X fX14_59 hk q1323 (dl_at t_X14_tops 23 rfl) ?_
    refine g_iload_n (pc := 41) X (j := 1) (i := 1) (q := 1) (x := a1) rfl rfl (dl_at t_X14_tops 24 rfl) ?_
    refine g_gd fun k42 => ?_
    refine g_iald (pc := 42) X r1 k42 (dl_at t_X14_tops 25 rfl) fun g42 => ?_
    refine g_lti g42 fun x4_43 r4_43 => ?_
    refine g_istore (pc := 43) X (i := 4) (x := x4_43) (rest := [(0, rv D a0), (1, iv a1), (2, jv x2_37)]) (Nat.le_of_ble_eq_true rfl) [0, 1, 2] rfl rfl (dl_at t_X14_tops 26 rfl) ?_
    refine g_ls (ls2 := [(0, rv D a0), (1, iv a1), (2, jv x2_37), (4, iv x4_43)]) [1, 2, 3, 0] rfl ?_
    refine g_loop0F (fun (q : Int × Int × Hp) => [(0, rv D a0), (1, iv a1), (2, jv q.1), (4, iv q.2.1)]) (fun (q : Int × Int × Hp) => q.2.2) (fun (q : Int × Int × Hp) => r64 q.1 ∧ r32 q.2.1 ∧ Ext h q.2.2) (x2_37, x4_43, h) ⟨r2_37, r4_43, (Ext.refl _)⟩ ?_ (fun _ => rfl)
    · rintro ⟨x2_45, x4_45, h_45⟩ ⟨r2_45, r4_45, E_45⟩
      try dsimp only
      unfold m_X14_tops_l45
      refine g_iload (pc := 45) X (i := 4) (q := 3) (x := x4_45) rfl (dl_at t_X14_tops 27 rfl) ?_
      refine g_aload_n (pc := 47) X (j := 0) (i := 0) (q := 0) (x := a0) rfl rfl (dl_at t_X14_tops 28 rfl) ?_
      have k48 := kx E_45 (by decide) hk
      refine r_getr (pc := 48) X fX14_60 k48 q1324 (dl_at t_X14_tops 29 rfl) ?_
      refine g_iload_n (pc := 51) X (j := 1) (i := 1) (q := 1) (x := a1) rfl rfl (dl_at t_X14_tops 30 rfl) ?_
      refine g_gd fun k52 => ?_
      refine g_iald (pc := 52) X r1 k52 (dl_at t_X14_tops 31 rfl) fun g52 => ?_
      refine g_icmpge (pc := 53) X r4_45 g52 (off := 59) (tgt := 112) rfl (dl_at t_X14_tops 32 rfl) (fun _ => ?_) (fun _ => ?_)
      · exact g_at fun Q hQ => (g_vret (pc := 112) X (v := 0) rfl rfl (dl_at t_X14_tops 68 rfl)) _ Q rfl hQ
      refine g_iload (pc := 56) X (i := 4) (q := 3) (x := x4_45) rfl (dl_at t_X14_tops 33 rfl) ?_
      refine g_aload_n (pc := 58) X (j := 0) (i := 0) (q := 0) (x := a0) rfl rfl (dl_at t_X14_tops 34 rfl) ?_
      refine r_getr (pc := 59) X fX14_59 k48 q1323 (dl_at t_X14_tops 35 rfl) ?_
      refine g_iload_n (pc := 62) X (j := 1) (i := 1) (q := 1) (x := a1) rfl rfl (dl_at t_X14_tops 36 rfl) ?_
      refine g_gd fun k63 => ?_
      refine g_iald (pc := 63) X r1 k63 (dl_at t_X14_tops 37 rfl) fun g63 => ?_
      refine g_join (γ := Int) (fun q => r64 q) 78 (fun q => [(0, rv D a0), (1, iv a1), (2, jv q), (4, iv x4_45)]) (fun q => []) (fun q => h_45) (fun q => m_X14_tops_j78 a0 a1 x4_45 q h_45) ?_ ?_
      · rintro x2_78 r2_78
        try dsimp only
        unfold m_X14_tops_j78
        refine g_aload_n (pc := 78) X (j := 0) (i := 0) (q := 0) (x := a0) rfl rfl (dl_at t_X14_tops 47 rfl) ?_
        refine r_getr (pc := 79) X fX14_65 k48 q1330 (dl_at t_X14_tops 48 rfl) ?_
        refine g_iload (pc := 82) X (i := 4) (q := 3) (x := x4_45) rfl (dl_at t_X14_tops 49 rfl) ?_
        refine g_iload_n (pc := 84) X (j := 1) (i := 1) (q := 1) (x := a1) rfl rfl (dl_at t_X14_tops 50 rfl) ?_
        refine g_gd fun k85 => ?_
        refine r_iast (pc := 85) X r4_45 r1 k85 (dl_at t_X14_tops 51 rfl) (fun h85 E85 => ?_)
        refine g_aload_n (pc := 86) X (j := 0) (i := 0) (q := 0) (x := a0) rfl rfl (dl_at t_X14_tops 52 rfl) ?_
        have k87 := kx E85 (by decide) k48
        refine r_getr (pc := 87) X fX14_66 k87 q1332 (dl_at t_X14_tops 53 rfl) ?_
        refine g_iload (pc := 90) X (i := 4) (q := 3) (x := x4_45) rfl (dl_at t_X14_tops 54 rfl) ?_
        refine g_lload_n (pc := 92) X (j := 2) (i := 2) (q := 2) (x := x2_78) rfl rfl (dl_at t_X14_tops 55 rfl) ?_
        refine g_l2i (pc := 93) X r2_78 (dl_at t_X14_tops 56 rfl) ?_
        refine g_gd fun k94 => ?_
        refine r_iast (pc := 94) X r4_45 (r32_w _) k94 (dl_at t_X14_tops 57 rfl) (fun h94 E94 => ?_)
        refine g_lload_n (pc := 95) X (j := 2) (i := 2) (q := 2) (x := x2_78) rfl rfl (dl_at t_X14_tops 58 rfl) ?_
        refine g_aload_n (pc := 96) X (j := 0) (i := 0) (q := 0) (x := a0) rfl rfl (dl_at t_X14_tops 59 rfl) ?_
        have k97 := kx E94 (by decide) k87
        refine r_getr (pc := 97) X fX14_14 k97 q1264 (dl_at t_X14_tops 60 rfl) ?_
        refine g_iload (pc := 100) X (i := 4) (q := 3) (x := x4_45) rfl (dl_at t_X14_tops 61 rfl) ?_
        refine g_gd fun k102 => ?_
        refine g_iald (pc := 102) X r4_45 k102 (dl_at t_X14_tops 62 rfl) fun g102 => ?_
        refine g_i2l (pc := 103) X g102 (dl_at t_X14_tops 63 rfl) ?_
        refine g_ladd (pc := 104) X r2_78 (r64_of g102) (dl_at t_X14_tops 64 rfl) ?_
        refine g_ltl (r64_w _) fun x2_105 r2_105 => ?_
        refine g_lstore_nN (pc := 105) X (j := 2) (i := 2) (x := x2_105) (b := 1) (w := iv a1) (rest := [(0, rv D a0), (4, iv x4_45)]) rfl (Nat.le_of_ble_eq_true rfl) [1, 0, 3] rfl (by decide) (by decide) rfl rfl (dl_at t_X14_tops 65 rfl) ?_
        refine r_iinc (pc := 106) X (i := 4) (q := 3) (n := 1) (x := x4_45) (rest := [(2, jv x2_105), (1, iv a1), (0, rv D a0)]) rfl r4_45 (r32_c rfl) (Nat.le_of_ble_eq_true rfl) [0, 1, 2] rfl rfl (dl_at t_X14_tops 66 rfl) fun x4_106 r4_106 => ?_
        refine g_goto (pc := 109) X (off := (-64)) (tgt := 45) rfl (dl_at t_X14_tops 67 rfl) ?_
        refine g_ls (ls2 := [(0, rv D a0), (1, iv a1), (2, jv x2_105), (4, iv x4_106)]) [3, 2, 1, 0] rfl ?_
        exact g_at fun Q hQ => hQ ⟨r2_105, r4_106, (E_45.trans (E85.trans E94))⟩
      intro J78
      refine g_icmple (pc := 64) X r4_45 g63 (off := 14) (tgt := 78) rfl (dl_at t_X14_tops 38 rfl) (fun _ => ?_) (fun _ => ?_)
      · exact J78 x2_45 r2_45
      refine g_lload_n (pc := 67) X (j := 2) (i := 2) (q := 2) (x := x2_45) rfl rfl (dl_at t_X14_tops 39 rfl) ?_
      refine g_aload_n (pc := 68) X (j := 0) (i := 0) (q := 0) (x := a0) rfl rfl (dl_at t_X14_tops 40 rfl) ?_
      refine r_getr (pc := 69) X fX14_15 k48 q1265 (dl_at t_X14_tops 41 rfl) ?_
      refine g_iload (pc := 72) X (i := 4) (q := 3) (x := x4_45) rfl (dl_at t_X14_tops 42 rfl) ?_
      refine g_gd fun k74 => ?_
      refine g_iald (pc := 74) X r4_45 k74 (dl_at t_X14_tops 43 rfl) fun g74 => ?_
      refine g_i2l (pc := 75) X g74 (dl_at t_X14_tops 44 rfl) ?_
      refine g_ladd (pc := 76) X r2_45 (r64_of g74) (dl_at t_X14_tops 45 rfl) ?_
      refine g_ltl (r64_w _) fun x2_77 r2_77 => ?_
      refine g_lstore_nN (pc := 77) X (j := 2) (i := 2) (x := x2_77) (b := 1) (w := iv a1) (rest := [(0, rv D a0), (4, iv x4_45)]) rfl (Nat.le_of_ble_eq_true rfl) [1, 0, 3] rfl (by decide) (by decide) rfl rfl (dl_at t_X14_tops 46 rfl) ?_
      refine g_ls (ls2 := [(0, rv D a0), (1, iv a1), (2, jv x2_77), (4, iv x4_45)]) [2, 1, 0, 3] rfl ?_
      exact J78 x2_77 r2_77
def k_X14_number : List (Nat × Instr × Nat) := [(0, .iconst 0, 1), (1, .istore_n 1, 1), (2, .iconst 0, 1), (3, .istore_n 2, 1), (4, .iload_n 2, 1), (5, .aload_n 0, 1), (6, .getfield 196, 3), (9, .if_icmp .ge 105, 3), (12, .aload_n 0, 1), (13, .getfield 168, 3), (16, .getfield 748, 3), (19, .iconst 1, 1), (20, .if_icmp .ne 24, 3), (23, .iload_n 2, 1), (24, .ifCond .le 20, 3), (27, .aload_n 0, 1), (28, .iload_n 2, 1), (29, .invokevirtual 234, 3), (32, .aload_n 0, 1), (33, .iload_n 2, 1), (34, .iconst 1, 1), (35, .isub, 1), (36, .invokevirtual 234, 3), (39, .if_icmp .eq 5, 3), (42, .iconst 0, 1), (43, .istore_n 1, 1), (44, .aload_n 0, 1), (45, .getfield 168, 3), (48, .getfield 748, 3), (51, .ifCond .le 33, 3), (54, .aload_n 0, 1), (55, .getfield 27, 3), (58, .iload_n 2, 1), (59, .iaload, 1), (60, .ifCond .lt 24, 3), (63, .aload_n 0, 1), (64, .getfield 24, 3), (67, .aload_n 0, 1), (68, .getfield 27, 3), (71, .iload_n 2, 1), (72, .iaload, 1), (73, .aaload, 1), (74, .getfield 354, 3), (77, .ifCond .eq 7, 3), (80, .iconst 1, 1), (81, .goto 4, 3), (84, .iconst 0, 1), (85, .istore_n 3, 1), (86, .iload_n 3, 1), (87, .ifCond .eq 6, 3), (90, .iinc 1 1, 3), (93, .aload_n 0, 1), (94, .getfield 44, 3), (97, .iload_n 2, 1), (98, .iload_n 3, 1), (99, .ifCond .eq 7, 3), (102, .iload_n 1, 1), (103, .goto 4, 3), (106, .iconst 0, 1), (107, .iastore, 1), (108, .iinc 2 1, 3), (111, .goto (-107), 3), (114, .return_, 1)]
theorem t_X14_number : ∀ q ∈ k_X14_number, decode cX14_number q.1 = .ok q.2 := dl_all (by decide +kernel)
noncomputable def m_X14_number_j107 (x1_93 x2_4 s0_107 s2_107 : Int) (h_4 : Hp) : Option ((Int × Int × Hp) ⊕ ((Hp))) :=
  gd (h_4 s0_107 (-2) % 16 = 1 ∧ (0 : Int) ≤ x2_4 ∧ x2_4 < h_4 s0_107 (-1)) (pt h_4 s0_107 x2_4 s2_107 fun h107 =>
  lt_ (w32 (x2_4 + 1)) fun x2_108 =>
  some (.inl (x1_93, x2_108, h107)))
noncomputable def m_X14_number_j93 (s0_85 x2_4 a0 x1_93 : Int) (h_4 : Hp) : Option ((Int × Int × Hp) ⊕ ((Hp))) :=
  if s0_85 = 0 then (m_X14_number_j107 x1_93 x2_4 (h_4 a0 17) 0 h_4)
  else (m_X14_number_j107 x1_93 x2_4 (h_4 a0 17) x1_93 h_4)
noncomputable def m_X14_number_j85 (a0 x1_44 x2_4 s0_85 : Int) (h_4 : Hp) : Option ((Int × Int × Hp) ⊕ ((Hp))) :=
  if s0_85 = 0 then (m_X14_number_j93 s0_85 x2_4 a0 x1_44 h_4)
  else (lt_ (w32 (x1_44 + 1)) fun x1_90 =>
  m_X14_number_j93 s0_85 x2_4 a0 x1_90 h_4)
noncomputable def m_X14_number_j84 (a0 x1_44 x2_4 : Int) (h_4 : Hp) : Option ((Int × Int × Hp) ⊕ ((Hp))) :=
  m_X14_number_j85 a0 x1_44 x2_4 0 h_4
noncomputable def m_X14_number_j44 (a0 x2_4 x1_44 : Int) (h_4 : Hp) : Option ((Int × Int × Hp) ⊕ ((Hp))) :=
  if (h_4 (h_4 a0 3) 28) ≤ 0 then (m_X14_number_j84 a0 x1_44 x2_4 h_4)
  else (gd (h_4 (h_4 a0 12) (-2) % 16 = 1 ∧ (0 : Int) ≤ x2_4 ∧ x2_4 < h_4 (h_4 a0 12) (-1)) (if (h_4 (h_4 a0 12) x2_4) < 0 then (m_X14_number_j84 a0 x1_44 x2_4 h_4)
  else (gd (h_4 (h_4 a0 10) (-2) % 16 = 9 ∧ (0 : Int) ≤ (h_4 (h_4 a0 12) x2_4) ∧ (h_4 (h_4 a0 12) x2_4) < h_4 (h_4 a0 10) (-1)) (gd (h_4 (h_4 (h_4 a0 10) (h_4 (h_4 a0 12) x2_4)) (-2) = 288) (if (h_4 (h_4 (h_4 a0 10) (h_4 (h_4 a0 12) x2_4)) 13) = 0 then (m_X14_number_j84 a0 x1_44 x2_4 h_4)
  else (m_X14_number_j85 a0 x1_44 x2_4 1 h_4))))))
noncomputable def m_X14_number_l4 (a0 x1_4 x2_4 : Int) (h_4 : Hp) : Option ((Int × Int × Hp) ⊕ ((Hp))) :=
  if (h_4 a0 18) ≤ x2_4 then (some (.inr h_4))
  else (gd (h_4 (h_4 a0 3) (-2) = 48) (if (h_4 (h_4 a0 3) 28) ≠ 1 then (m_X14_number_j44 a0 x2_4 x1_4 h_4)
  else (if x2_4 ≤ 0 then (m_X14_number_j44 a0 x2_4 x1_4 h_4)
  else ((m_X14_pageAt a0 x2_4 h_4).bind fun v29 =>
  (m_X14_pageAt a0 (w32 (x2_4 - 1)) h_4).bind fun v36 =>
  if v29 = v36 then (m_X14_number_j44 a0 x2_4 x1_4 h_4)
  else (lt_ 0 fun x1_43 =>
  m_X14_number_j44 a0 x2_4 x1_43 h_4)))))
noncomputable def m_X14_number (a0 : Int) (h : Hp) : Option (Hp) :=
  lt_ 0 fun x1_1 =>
  lt_ 0 fun x2_3 =>
  (lp (fun (q : Int × Int × Hp) => m_X14_number_l4 a0 q.1 q.2.1 q.2.2) (x1_1, x2_3, h)).bind (fun (x : Hp) => some x)
theorem s_X14_number {l : Launch} [NoTr l] {D : SD} {a0 : Int} {h : Hp} (hk : h a0 (-2) = 224) {r : Hp} (hm : m_X14_number a0 h = some r) : Sim l D yX14_number (Cond.code yX14_number cX14_number 4 (Option.none : Option Jvm.ClassFile.FieldType)) 1 37 [rv D a0] h 0 ((0, 0), r) := by
  refine Sim.of (fin := fun (v : Hp) => ((0, 0), v)) (lsE := [(0, rv D a0)]) hm rfl cwS_code (la_r la_n) (ll_r ll_n) ?_
  intro p e s m below meth c X hcw hmm hcc hnm hname
  unfold m_X14_number
  refine g_iconst (pc := 0) X (n := 0) (dl_at t_X14_number 0 rfl) ?_
  refine g_ltz (Or.inl rfl) fun x1_1 r1_1 => ?_
  refine g_istore_nN (pc := 1) X (j := 1) (i := 1) (x := x1_1) (b := 0) (w := rv D a0) (rest := []) rfl (Nat.le_of_ble_eq_true rfl) [0] rfl (by decide) rv_cat rfl (dl_at t_X14_number 1 rfl) ?_
  refine g_iconst (pc := 2) X (n := 0) (dl_at t_X14_number 2 rfl) ?_
  refine g_ltz (Or.inl rfl) fun x2_3 r2_3 => ?_
  refine g_istore_nN (pc := 3) X (j := 2) (i := 2) (x := x2_3) (b := 1) (w := iv x1_1) (rest := [(0, rv D a0)]) rfl (Nat.le_of_ble_eq_true rfl) [0, 1] rfl (by decide) rfl rfl (dl_at t_X14_number 3 rfl) ?_
  refine g_ls (ls2 := [(0, rv D a0), (1, iv x1_1), (2, iv x2_3)]) [2, 1, 0] rfl ?_
  refine g_loop0F (fun (q : Int × Int × Hp) => [(0, rv D a0), (1, iv q.1), (2, iv q.2.1)]) (fun (q : Int × Int × Hp) => q.2.2) (fun (q : Int × Int × Hp) => r32 q.1 ∧ r32 q.2.1 ∧ Ext h q.2.2) (x1_1, x2_3, h) ⟨(r32_z r1_1), (r32_z r2_3), (Ext.refl _)⟩ ?_ (fun _ => rfl)
  · rintro ⟨x1_4, x2_4, h_4⟩ ⟨r1_4, r2_4, E_4⟩
    try dsimp only
    unfold m_X14_number_l4
    refine g_iload_n (pc := 4) X (j := 2) (i := 2) (q := 2) (x := x2_4) rfl rfl (dl_at t_X14_number 4 rfl) ?_
    refine g_aload_n (pc := 5) X (j := 0) (i := 0) (q := 0) (x := a0) rfl rfl (dl_at t_X14_number 5 rfl) ?_
    have k6 := kx E_4 (by decide) hk
    refine r_geti (pc := 6) X fX14_18 k6 q1269 (dl_at t_X14_number 6 rfl) fun g6 => ?_
    refine g_icmpge (pc := 9) X r2_4 g6 (off := 105) (tgt := 114) rfl (dl_at t_X14_number 7 rfl) (fun _ => ?_) (fun _ => ?_)
    · exact g_at fun Q hQ => (g_vret (pc := 114) X (v := 0) rfl rfl (dl_at t_X14_number 62 rfl)) _ Q rfl hQ
    refine g_aload_n (pc := 12) X (j := 0) (i := 0) (q := 0) (x := a0) rfl rfl (dl_at t_X14_number 8 rfl) ?_
    refine r_getr (pc := 13) X fX14_3 k6 q1245 (dl_at t_X14_number 9 rfl) ?_
    refine g_gd fun k16 => ?_
    refine r_getiN (pc := 16) X fX3_28 k16 (nw_in q575 rfl) (dl_at t_X14_number 10 rfl) fun g16 => ?_
    refine g_iconst (pc := 19) X (n := 1) (dl_at t_X14_number 11 rfl) ?_
    refine g_join (γ := Int) (fun q => r32 q) 44 (fun q => [(0, rv D a0), (1, iv q), (2, iv x2_4)]) (fun q => []) (fun q => h_4) (fun q => m_X14_number_j44 a0 x2_4 q h_4) ?_ ?_
    · rintro x1_44 r1_44
      try dsimp only
      unfold m_X14_number_j44
      refine g_aload_n (pc := 44) X (j := 0) (i := 0) (q := 0) (x := a0) rfl rfl (dl_at t_X14_number 26 rfl) ?_
      refine r_getr (pc := 45) X fX14_3 k6 q1245 (dl_at t_X14_number 27 rfl) ?_
      refine r_getiN (pc := 48) X fX3_28 k16 (nw_in q575 rfl) (dl_at t_X14_number 28 rfl) fun g48 => ?_
      refine g_join (γ := Int) (fun q => (q = 0 ∨ q = 1)) 85 (fun q => [(0, rv D a0), (1, iv x1_44), (2, iv x2_4)]) (fun q => [iv q]) (fun q => h_4) (fun q => m_X14_number_j85 a0 x1_44 x2_4 q h_4) ?_ ?_
      · rintro s0_85 rs0_85
        try dsimp only
        unfold m_X14_number_j85
        refine g_istore_nN (pc := 85) X (j := 3) (i := 3) (x := s0_85) (b := 2) (w := iv x2_4) (rest := [(0, rv D a0), (1, iv x1_44)]) rfl (Nat.le_of_ble_eq_true rfl) [2, 0, 1] rfl (by decide) rfl rfl (dl_at t_X14_number 47 rfl) ?_
        refine g_iload_n (pc := 86) X (j := 3) (i := 3) (q := 0) (x := s0_85) rfl rfl (dl_at t_X14_number 48 rfl) ?_
        refine g_join (γ := Int) (fun q => r32 q) 93 (fun q => [(0, rv D a0), (1, iv q), (2, iv x2_4), (3, iv s0_85)]) (fun q => []) (fun q => h_4) (fun q => m_X14_number_j93 s0_85 x2_4 a0 q h_4) ?_ ?_
        · rintro x1_93 r1_93
          try dsimp only
          unfold m_X14_number_j93
          refine g_aload_n (pc := 93) X (j := 0) (i := 0) (q := 0) (x := a0) rfl rfl (dl_at t_X14_number 51 rfl) ?_
          refine r_getr (pc := 94) X fX14_17 k6 q1267 (dl_at t_X14_number 52 rfl) ?_
          refine g_iload_n (pc := 97) X (j := 2) (i := 2) (q := 2) (x := x2_4) rfl rfl (dl_at t_X14_number 53 rfl) ?_
          refine g_iload_n (pc := 98) X (j := 3) (i := 3) (q := 3) (x := s0_85) rfl rfl (dl_at t_X14_number 54 rfl) ?_
          refine g_join (γ := Int × Int) (fun q => r32 q.2) 107 (fun q => [(0, rv D a0), (1, iv x1_93), (2, iv x2_4)]) (fun q => [iv q.2, iv x2_4, rv D q.1]) (fun q => h_4) (fun q => m_X14_number_j107 x1_93 x2_4 q.1 q.2 h_4) ?_ ?_
          · rintro ⟨s0_107, s2_107⟩ rs2_107
            try dsimp only
            unfold m_X14_number_j107
            refine g_gd fun k107 => ?_
            refine r_iast (pc := 107) X r2_4 rs2_107 k107 (dl_at t_X14_number 59 rfl) (fun h107 E107 => ?_)
            refine r_iincN (pc := 108) X (i := 2) (q := 2) (n := 1) (x := x2_4) (b := 1) (w := iv x1_93) (rest := [(0, rv D a0)]) rfl r2_4 (r32_c rfl) (Nat.le_of_ble_eq_true rfl) [1, 0] rfl (by decide) rfl rfl (dl_at t_X14_number 60 rfl) fun x2_108 r2_108 => ?_
            refine g_goto (pc := 111) X (off := (-107)) (tgt := 4) rfl (dl_at t_X14_number 61 rfl) ?_
            refine g_ls (ls2 := [(0, rv D a0), (1, iv x1_93), (2, iv x2_108)]) [2, 1, 0] rfl ?_
            exact g_at fun Q hQ => hQ ⟨r1_93, r2_108, (E_4.trans E107)⟩
          intro J107
          refine g_ifeq (pc := 99) X (r32_z rs0_85) (off := 7) (tgt := 106) rfl (dl_at t_X14_number 55 rfl) (fun _ => ?_) (fun _ => ?_)
          · refine g_iconst (pc := 106) X (n := 0) (dl_at t_X14_number 58 rfl) ?_
            refine g_ls (ls2 := [(0, rv D a0), (1, iv x1_93), (2, iv x2_4)]) [0, 1, 2] rfl ?_
            exact J107 ((h_4 a0 17), 0) (r32_c rfl)
          refine g_iload_n (pc := 102) X (j := 1) (i := 1) (q := 1) (x := x1_93) rfl rfl (dl_at t_X14_number 56 rfl) ?_
          refine g_goto (pc := 103) X (off := 4) (tgt := 107) rfl (dl_at t_X14_number 57 rfl) ?_
          refine g_ls (ls2 := [(0, rv D a0), (1, iv x1_93), (2, iv x2_4)]) [0, 1, 2] rfl ?_
          exact J107 ((h_4 a0 17), x1_93) r1_93
        intro J93
        refine g_ifeq (pc := 87) X (r32_z rs0_85) (off := 6) (tgt := 93) rfl (dl_at t_X14_number 49 rfl) (fun _ => ?_) (fun _ => ?_)
        · refine g_ls (ls2 := [(0, rv D a0), (1, iv x1_44), (2, iv x2_4), (3, iv s0_85)]) [2, 3, 1, 0] rfl ?_
          exact J93 x1_44 r1_44
        refine r_iincN (pc := 90) X (i := 1) (q := 3) (n := 1) (x := x1_44) (b := 0) (w := rv D a0) (rest := [(3, iv s0_85), (2, iv x2_4)]) rfl r1_44 (r32_c rfl) (Nat.le_of_ble_eq_true rfl) [2, 0, 1] rfl (by decide) rv_cat rfl (dl_at t_X14_number 50 rfl) fun x1_90 r1_90 => ?_
        refine g_ls (ls2 := [(0, rv D a0), (1, iv x1_90), (2, iv x2_4), (3, iv s0_85)]) [1, 0, 3, 2] rfl ?_
        exact J93 x1_90 r1_90
      intro J85
      refine g_join (γ := Unit) (fun q => True) 84 (fun q => [(0, rv D a0), (1, iv x1_44), (2, iv x2_4)]) (fun q => []) (fun q => h_4) (fun q => m_X14_number_j84 a0 x1_44 x2_4 h_4) ?_ ?_
      · rintro _ _
        try dsimp only
        unfold m_X14_number_j84
        refine g_iconst (pc := 84) X (n := 0) (dl_at t_X14_number 46 rfl) ?_
        exact J85 0 (Or.inl rfl)
      intro J84
      refine g_ifle (pc := 51) X g48 (off := 33) (tgt := 84) rfl (dl_at t_X14_number 29 rfl) (fun _ => ?_) (fun _ => ?_)
      · exact J84 () trivial
      refine g_aload_n (pc := 54) X (j := 0) (i := 0) (q := 0) (x := a0) rfl rfl (dl_at t_X14_number 30 rfl) ?_
      refine r_getr (pc := 55) X fX14_12 k6 q1260 (dl_at t_X14_number 31 rfl) ?_
      refine g_iload_n (pc := 58) X (j := 2) (i := 2) (q := 2) (x := x2_4) rfl rfl (dl_at t_X14_number 32 rfl) ?_
      refine g_gd fun k59 => ?_
      refine g_iald (pc := 59) X r2_4 k59 (dl_at t_X14_number 33 rfl) fun g59 => ?_
      refine g_iflt (pc := 60) X g59 (off := 24) (tgt := 84) rfl (dl_at t_X14_number 34 rfl) (fun _ => ?_) (fun _ => ?_)
      · exact J84 () trivial
      refine g_aload_n (pc := 63) X (j := 0) (i := 0) (q := 0) (x := a0) rfl rfl (dl_at t_X14_number 35 rfl) ?_
      refine r_getr (pc := 64) X fX14_10 k6 q1256 (dl_at t_X14_number 36 rfl) ?_
      refine g_aload_n (pc := 67) X (j := 0) (i := 0) (q := 0) (x := a0) rfl rfl (dl_at t_X14_number 37 rfl) ?_
      refine r_getr (pc := 68) X fX14_12 k6 q1260 (dl_at t_X14_number 38 rfl) ?_
      refine g_iload_n (pc := 71) X (j := 2) (i := 2) (q := 2) (x := x2_4) rfl rfl (dl_at t_X14_number 39 rfl) ?_
      refine g_iald (pc := 72) X r2_4 k59 (dl_at t_X14_number 40 rfl) fun g72 => ?_
      refine g_gd fun k73 => ?_
      refine g_aald (pc := 73) X 9 (Nat.le_of_ble_eq_true rfl) (Nat.le_of_ble_eq_true rfl) g72 rfl k73 (dl_at t_X14_number 41 rfl) ?_
      refine g_gd fun k74 => ?_
      refine r_getzN (pc := 74) X fX28_13 k74 (nw_in q2554 rfl) (dl_at t_X14_number 42 rfl) fun g74 => ?_
      refine g_ifeq (pc := 77) X (r32_z g74) (off := 7) (tgt := 84) rfl (dl_at t_X14_number 43 rfl) (fun _ => ?_) (fun _ => ?_)
      · exact J84 () trivial
      refine g_iconst (pc := 80) X (n := 1) (dl_at t_X14_number 44 rfl) ?_
      refine g_goto (pc := 81) X (off := 4) (tgt := 85) rfl (dl_at t_X14_number 45 rfl) ?_
      exact J85 1 (Or.inr rfl)
    intro J44
    refine g_icmpne (pc := 20) X g16 (r32_c rfl) (off := 24) (tgt := 44) rfl (dl_at t_X14_number 12 rfl) (fun _ => ?_) (fun _ => ?_)
    · exact J44 x1_4 r1_4
    refine g_iload_n (pc := 23) X (j := 2) (i := 2) (q := 2) (x := x2_4) rfl rfl (dl_at t_X14_number 13 rfl) ?_
    refine g_ifle (pc := 24) X r2_4 (off := 20) (tgt := 44) rfl (dl_at t_X14_number 14 rfl) (fun _ => ?_) (fun _ => ?_)
    · exact J44 x1_4 r1_4
    refine g_aload_n (pc := 27) X (j := 0) (i := 0) (q := 0) (x := a0) rfl rfl (dl_at t_X14_number 15 rfl) ?_
    refine g_iload_n (pc := 28) X (j := 2) (i := 2) (q := 2) (x := x2_4) rfl rfl (dl_at t_X14_number 16 rfl) ?_
    refine r_callRi (pc := 29) X (fun _ hv => s_X14_pageAt k6 r2_4 hv) cw_code q2373 q368 (in_Vk X (As := [iv x2_4]) kX14 k6 (Or.inl q2370) q2372 qs92 cw_code q2373 ⟨by decide, by decide⟩ rfl (dl_at t_X14_number 17 rfl)) (dl_at t_X14_number 17 rfl) (cat24 (st := []) (Nat.le_of_ble_eq_true rfl)) (Nat.le_of_ble_eq_true rfl) (Nat.le_of_ble_eq_true rfl) fun v29 g29 => ?_
    refine g_aload_n (pc := 32) X (j := 0) (i := 0) (q := 0) (x := a0) rfl rfl (dl_at t_X14_number 18 rfl) ?_
    refine g_iload_n (pc := 33) X (j := 2) (i := 2) (q := 2) (x := x2_4) rfl rfl (dl_at t_X14_number 19 rfl) ?_
    refine g_iconst (pc := 34) X (n := 1) (dl_at t_X14_number 20 rfl) ?_
    refine g_isub (pc := 35) X r2_4 (r32_c rfl) (dl_at t_X14_number 21 rfl) ?_
    refine r_callRi (pc := 36) X (fun _ hv => s_X14_pageAt k6 (r32_w _) hv) cw_code q2373 q368 (in_Vk X (As := [iv (w32 (x2_4 - 1))]) kX14 k6 (Or.inl q2370) q2372 qs92 cw_code q2373 ⟨by decide, by decide⟩ rfl (dl_at t_X14_number 22 rfl)) (dl_at t_X14_number 22 rfl) (cat24 (st := [iv v29]) (Nat.le_of_ble_eq_true rfl)) (Nat.le_of_ble_eq_true rfl) (Nat.le_of_ble_eq_true rfl) fun v36 g36 => ?_
    refine g_icmpeq (pc := 39) X g29 g36 (off := 5) (tgt := 44) rfl (dl_at t_X14_number 23 rfl) (fun _ => ?_) (fun _ => ?_)
    · exact J44 x1_4 r1_4
    refine g_iconst (pc := 42) X (n := 0) (dl_at t_X14_number 24 rfl) ?_
    refine g_ltz (Or.inl rfl) fun x1_43 r1_43 => ?_
    refine g_istore_nN (pc := 43) X (j := 1) (i := 1) (x := x1_43) (b := 0) (w := rv D a0) (rest := [(2, iv x2_4)]) rfl (Nat.le_of_ble_eq_true rfl) [0, 2] rfl (by decide) rv_cat rfl (dl_at t_X14_number 25 rfl) ?_
    refine g_ls (ls2 := [(0, rv D a0), (1, iv x1_43), (2, iv x2_4)]) [1, 0, 2] rfl ?_
    exact J44 x1_43 (r32_z r1_43)
def k_X14_lay : List (Nat × Instr × Nat) := [(0, .iconst 0, 1), (1, .istore_n 2, 1), (2, .iload_n 1, 1), (3, .istore_n 3, 1), (4, .aload_n 0, 1), (5, .getfield 154, 3), (8, .getfield 699, 3), (11, .iload_n 3, 1), (12, .iaload, 1), (13, .ifCond .lt 19, 3), (16, .iinc 2 1, 3), (19, .aload_n 0, 1), (20, .getfield 154, 3), (23, .getfield 699, 3), (26, .iload_n 3, 1), (27, .iaload, 1), (28, .istore_n 3, 1), (29, .goto (-25), 3), (32, .iload_n 2, 1), (33, .sipush 1500, 3), (36, .if_icmp .gt 7, 3), (39, .iconst 1, 1), (40, .goto 4, 3), (43, .iconst 0, 1), (44, .invokestatic 296, 3), (47, .iload_n 2, 1), (48, .istore_n 3, 1), (49, .iload_n 1, 1), (50, .istore 4, 2), (52, .iload 4, 2), (54, .ifCond .lt 32, 3), (57, .aload_n 0, 1), (58, .getfield 154, 3), (61, .getfield 733, 3), (64, .iload_n 3, 1), (65, .iload 4, 2), (67, .iastore, 1), (68, .iinc 3 (-1), 3), (71, .aload_n 0, 1), (72, .getfield 154, 3), (75, .getfield 699, 3), (78, .iload 4, 2), (80, .iaload, 1), (81, .istore 4, 2), (83, .goto (-31), 3), (86, .iconst 0, 1), (87, .istore 4, 2), (89, .iload 4, 2), (91, .iload_n 2, 1), (92, .if_icmp .ge 99, 3), (95, .aload_n 0, 1), (96, .getfield 154, 3), (99, .getfield 733, 3), (102, .iload 4, 2), (104, .iaload, 1), (105, .istore 5, 2), (107, .aload_n 0, 1), (108, .getfield 154, 3), (111, .getfield 733, 3), (114, .iload 4, 2), (116, .iconst 1, 1), (117, .iadd, 1), (118, .iaload, 1), (119, .istore 6, 2), (121, .aload_n 0, 1), (122, .aload_n 0, 1), (123, .getfield 154, 3), (126, .getfield 708, 3), (129, .iload 5, 2), (131, .iaload, 1), (132, .aload_n 0, 1), (133, .getfield 154, 3), (136, .getfield 708, 3), (139, .iload 6, 2), (141, .iaload, 1), (142, .aload_n 0, 1), (143, .getfield 154, 3), (146, .getfield 664, 3), (149, .iload 5, 2), (151, .iaload, 1), (152, .aload_n 0, 1), (153, .getfield 154, 3), (156, .getfield 664, 3), (159, .iload 6, 2), (161, .iaload, 1), (162, .aload_n 0, 1), (163, .getfield 154, 3), (166, .getfield 670, 3), (169, .iload 5, 2), (171, .iaload, 1), (172, .aload_n 0, 1), (173, .getfield 154, 3), (176, .getfield 670, 3), (179, .iload 6, 2), (181, .iaload, 1), (182, .invokevirtual 735, 3), (185, .iinc 4 1, 3), (188, .goto (-99), 3), (191, .aload_n 0, 1), (192, .aload_n 0, 1), (193, .getfield 154, 3), (196, .getfield 664, 3), (199, .iload_n 1, 1), (200, .iaload, 1), (201, .aload_n 0, 1), (202, .getfield 154, 3), (205, .getfield 670, 3), (208, .iload_n 1, 1), (209, .iaload, 1), (210, .invokevirtual 739, 3), (213, .iconst 0, 1), (214, .istore 4, 2), (216, .iload 4, 2), (218, .aload_n 0, 1), (219, .getfield 217, 3), (222, .if_icmp .ge 15, 3), (225, .aload_n 0, 1), (226, .iload 4, 2), (228, .invokevirtual 742, 3), (231, .iinc 4 1, 3), (234, .goto (-18), 3), (237, .aload_n 0, 1), (238, .invokevirtual 745, 3), (241, .return_, 1)]
theorem t_X14_lay : ∀ q ∈ k_X14_lay, decode cX14_lay q.1 = .ok q.2 := dl_all (by decide +kernel)
noncomputable def m_X14_lay_l4 (a0 x2_4 x3_4 : Int) (h : Hp) : Option ((Int × Int) ⊕ ((Int))) :=
  gd (h (h a0 0) (-2) = 160) (gd (h (h (h a0 0) 14) (-2) % 16 = 1 ∧ (0 : Int) ≤ x3_4 ∧ x3_4 < h (h (h a0 0) 14) (-1)) (if (h (h (h a0 0) 14) x3_4) < 0 then (some (.inr x2_4))
  else (lt_ (w32 (x2_4 + 1)) fun x2_16 =>
  lt_ (h (h (h a0 0) 14) x3_4) fun x3_28 =>
  some (.inl (x2_16, x3_28)))))
noncomputable def m_X14_lay_l52 (a0 x3_52 x4_52 : Int) (h_52 : Hp) : Option ((Int × Int × Hp) ⊕ ((Hp))) :=
  if x4_52 < 0 then (some (.inr h_52))
  else (gd (h_52 (h_52 a0 0) (-2) = 160) (gd (h_52 (h_52 (h_52 a0 0) 17) (-2) % 16 = 1 ∧ (0 : Int) ≤ x3_52 ∧ x3_52 < h_52 (h_52 (h_52 a0 0) 17) (-1)) (pt h_52 (h_52 (h_52 a0 0) 17) x3_52 x4_52 fun h67 =>
  lt_ (w32 (x3_52 + (-1))) fun x3_68 =>
  gd (h67 (h67 a0 0) (-2) = 160) (gd (h67 (h67 (h67 a0 0) 14) (-2) % 16 = 1 ∧ (0 : Int) ≤ x4_52 ∧ x4_52 < h67 (h67 (h67 a0 0) 14) (-1)) (lt_ (h67 (h67 (h67 a0 0) 14) x4_52) fun x4_81 =>
  some (.inl (x3_68, x4_81, h67)))))))
noncomputable def m_X14_lay_l89 (a0 x2_32 x4_89 : Int) (h_89 : Hp) : Option ((Int × Hp) ⊕ ((Hp) ⊕ (((Int × Int) × Hp)))) :=
  if x2_32 ≤ x4_89 then (some (.inr (.inl h_89)))
  else (gd (h_89 (h_89 a0 0) (-2) = 160) (gd (h_89 (h_89 (h_89 a0 0) 17) (-2) % 16 = 1 ∧ (0 : Int) ≤ x4_89 ∧ x4_89 < h_89 (h_89 (h_89 a0 0) 17) (-1)) (lt_ (h_89 (h_89 (h_89 a0 0) 17) x4_89) fun x5_105 =>
  gd (h_89 (h_89 (h_89 a0 0) 17) (-2) % 16 = 1 ∧ (0 : Int) ≤ (w32 (x4_89 + 1)) ∧ (w32 (x4_89 + 1)) < h_89 (h_89 (h_89 a0 0) 17) (-1)) (lt_ (h_89 (h_89 (h_89 a0 0) 17) (w32 (x4_89 + 1))) fun x6_119 =>
  gd (h_89 (h_89 (h_89 a0 0) 10) (-2) % 16 = 1 ∧ (0 : Int) ≤ x5_105 ∧ x5_105 < h_89 (h_89 (h_89 a0 0) 10) (-1)) (gd (h_89 (h_89 (h_89 a0 0) 10) (-2) % 16 = 1 ∧ (0 : Int) ≤ x6_119 ∧ x6_119 < h_89 (h_89 (h_89 a0 0) 10) (-1)) (gd (h_89 (h_89 (h_89 a0 0) 11) (-2) % 16 = 1 ∧ (0 : Int) ≤ x5_105 ∧ x5_105 < h_89 (h_89 (h_89 a0 0) 11) (-1)) (gd (h_89 (h_89 (h_89 a0 0) 11) (-2) % 16 = 1 ∧ (0 : Int) ≤ x6_119 ∧ x6_119 < h_89 (h_89 (h_89 a0 0) 11) (-1)) (gd (h_89 (h_89 (h_89 a0 0) 12) (-2) % 16 = 1 ∧ (0 : Int) ≤ x5_105 ∧ x5_105 < h_89 (h_89 (h_89 a0 0) 12) (-1)) (gd (h_89 (h_89 (h_89 a0 0) 12) (-2) % 16 = 1 ∧ (0 : Int) ≤ x6_119 ∧ x6_119 < h_89 (h_89 (h_89 a0 0) 12) (-1)) (bT (m_X14_addColumn a0 (h_89 (h_89 (h_89 a0 0) 10) x5_105) (h_89 (h_89 (h_89 a0 0) 10) x6_119) (h_89 (h_89 (h_89 a0 0) 11) x5_105) (h_89 (h_89 (h_89 a0 0) 11) x6_119) (h_89 (h_89 (h_89 a0 0) 12) x5_105) (h_89 (h_89 (h_89 a0 0) 12) x6_119) h_89) (fun _ h182 =>
  lt_ (w32 (x4_89 + 1)) fun x4_185 =>
  some (.inl (x4_185, h182))) (fun a_ h_ => some (.inr (.inr ((1, a_), h_))))))))))))))
noncomputable def m_X14_lay_l216 (a0 x4_216 : Int) (h_216 : Hp) : Option ((Int × Hp) ⊕ (((Int × Int) × Hp))) :=
  if (h_216 a0 58) ≤ x4_216 then ((m_X14_number a0 h_216).bind fun h238 =>
  some (.inr ((0, 0), h238)))
  else ((m_X14_tops a0 x4_216 h_216).bind fun h228 =>
  lt_ (w32 (x4_216 + 1)) fun x4_231 =>
  some (.inl (x4_231, h228)))
noncomputable def m_X14_lay_j44 (a0 a1 x2_32 s0_44 : Int) (h : Hp) : Option ((Int × Int) × Hp) :=
  bT (m_X1_room s0_44 h) (fun _ h44 =>
  (lp (fun (q : Int × Int × Hp) => m_X14_lay_l52 a0 q.1 q.2.1 q.2.2) (x2_32, a1, h44)).bind (fun (y86 : Hp) => lt_ 0 fun x4_87 =>
  (lp (fun (q : Int × Hp) => m_X14_lay_l89 a0 x2_32 q.1 q.2) (x4_87, y86)).bind (sE (fun (y191 : Hp) => gd (y191 (y191 a0 0) (-2) = 160) (gd (y191 (y191 (y191 a0 0) 11) (-2) % 16 = 1 ∧ (0 : Int) ≤ a1 ∧ a1 < y191 (y191 (y191 a0 0) 11) (-1)) (gd (y191 (y191 (y191 a0 0) 12) (-2) % 16 = 1 ∧ (0 : Int) ≤ a1 ∧ a1 < y191 (y191 (y191 a0 0) 12) (-1)) (bT (m_X14_layRest a0 (y191 (y191 (y191 a0 0) 11) a1) (y191 (y191 (y191 a0 0) 12) a1) y191) (fun _ h210 =>
  lt_ 0 fun x4_214 =>
  (lp (fun (q : Int × Hp) => m_X14_lay_l216 a0 q.1 q.2) (x4_214, h210)).bind (fun (x : (Int × Int) × Hp) => some x)) (fun a_ h_ => some ((1, a_), h_)))))) (fun (x : (Int × Int) × Hp) => some x)))) (fun a_ h_ => some ((1, a_), h_))
noncomputable def m_X14_lay (a0 a1 : Int) (h : Hp) : Option ((Int × Int) × Hp) :=
  lt_ 0 fun x2_1 =>
  (lp (fun (q : Int × Int) => m_X14_lay_l4 a0 q.1 q.2 h) (x2_1, a1)).bind (fun (y32 : Int) => if 1500 < y32 then (m_X14_lay_j44 a0 a1 y32 0 h)
  else (m_X14_lay_j44 a0 a1 y32 1 h))
theorem s_X14_lay {l : Launch} [NoTr l] {D : SD} {a0 a1 : Int} {h : Hp} (hk : h a0 (-2) = 224) (r1 : r32 a1) {r : (Int × Int) × Hp} (hm : m_X14_lay a0 a1 h = some r) : Sim l D yX14_lay (Cond.code yX14_lay cX14_lay 7 (Option.none : Option Jvm.ClassFile.FieldType)) 12 458 [rv D a0, iv a1] h 0 r := by
  refine Sim.of (fin := fun (v : (Int × Int) × Hp) => v) (lsE := [(0, rv D a0), (1, iv a1)]) hm rfl cwS_code (la_r (la_i la_n)) (ll_r (ll_i ll_n)) ?_
  intro p e s m below meth c X hcw hmm hcc hnm hname
  have hno := noh hcw hnm hmm hcc
  unfold m_X14_lay
  refine g_iconst (pc := 0) X (n := 0) (dl_at t_X14_lay 0 rfl) ?_
  refine g_ltz (Or.inl rfl) fun x2_1 r2_1 => ?_
  refine g_istore_nN (pc := 1) X (j := 2) (i := 2) (x := x2_1) (b := 1) (w := iv a1) (rest := [(0, rv D a0)]) rfl (Nat.le_of_ble_eq_true rfl) [1, 0] rfl (by decide) rfl rfl (dl_at t_X14_lay 1 rfl) ?_
  refine g_iload_n (pc := 2) X (j := 1) (i := 1) (q := 1) (x := a1) rfl rfl (dl_at t_X14_lay 2 rfl) ?_
  refine g_istore_nN (pc := 3) X (j := 3) (i := 3) (x := a1) (b := 2) (w := iv x2_1) (rest := [(1, iv a1), (0, rv D a0)]) rfl (Nat.le_of_ble_eq_true rfl) [0, 1, 2] rfl (by decide) rfl rfl (dl_at t_X14_lay 3 rfl) ?_
  refine g_ls (ls2 := [(0, rv D a0), (1, iv a1), (2, iv x2_1), (3, iv a1)]) [3, 2, 1, 0] rfl ?_
  refine g_loop1 (fun (q : Int × Int) => [(0, rv D a0), (1, iv a1), (2, iv q.1), (3, iv q.2)]) (fun (q : Int × Int) => h) (fun (q : Int × Int) => r32 q.1 ∧ r32 q.2) 32 (fun (y32 : Int) => [(0, rv D a0), (1, iv a1), (2, iv y32)]) (fun (y32 : Int) => h) (fun (y32 : Int) => r32 y32) (x2_1, a1) ⟨(r32_z r2_1), r1⟩ ?_ ?_
  · rintro ⟨x2_4, x3_4⟩ ⟨r2_4, r3_4⟩
    try dsimp only
    unfold m_X14_lay_l4
    refine g_aload_n (pc := 4) X (j := 0) (i := 0) (q := 0) (x := a0) rfl rfl (dl_at t_X14_lay 4 rfl) ?_
    refine r_getr (pc := 5) X fX14_0 hk q1241 (dl_at t_X14_lay 5 rfl) ?_
    refine g_gd fun k8 => ?_
    refine r_getrN (pc := 8) X fX10_14 k8 (nw_in q1066 rfl) (dl_at t_X14_lay 6 rfl) ?_
    refine g_iload_n (pc := 11) X (j := 3) (i := 3) (q := 3) (x := x3_4) rfl rfl (dl_at t_X14_lay 7 rfl) ?_
    refine g_gd fun k12 => ?_
    refine g_iald (pc := 12) X r3_4 k12 (dl_at t_X14_lay 8 rfl) fun g12 => ?_
    refine g_iflt (pc := 13) X g12 (off := 19) (tgt := 32) rfl (dl_at t_X14_lay 9 rfl) (fun _ => ?_) (fun _ => ?_)
    · refine g_ls (ls2 := [(0, rv D a0), (1, iv a1), (2, iv x2_4)]) [0, 1, 2] rfl ?_
      exact g_at fun Q hQ => hQ r2_4
    refine r_iincN (pc := 16) X (i := 2) (q := 2) (n := 1) (x := x2_4) (b := 1) (w := iv a1) (rest := [(0, rv D a0), (3, iv x3_4)]) rfl r2_4 (r32_c rfl) (Nat.le_of_ble_eq_true rfl) [1, 0, 3] rfl (by decide) rfl rfl (dl_at t_X14_lay 10 rfl) fun x2_16 r2_16 => ?_
    refine g_aload_n (pc := 19) X (j := 0) (i := 0) (q := 2) (x := a0) rfl rfl (dl_at t_X14_lay 11 rfl) ?_
    refine r_getr (pc := 20) X fX14_0 hk q1241 (dl_at t_X14_lay 12 rfl) ?_
    refine r_getrN (pc := 23) X fX10_14 k8 (nw_in q1066 rfl) (dl_at t_X14_lay 13 rfl) ?_
    refine g_iload_n (pc := 26) X (j := 3) (i := 3) (q := 3) (x := x3_4) rfl rfl (dl_at t_X14_lay 14 rfl) ?_
    refine g_iald (pc := 27) X r3_4 k12 (dl_at t_X14_lay 15 rfl) fun g27 => ?_
    refine g_lti g27 fun x3_28 r3_28 => ?_
    refine g_istore_nN (pc := 28) X (j := 3) (i := 3) (x := x3_28) (b := 2) (w := iv x2_16) (rest := [(1, iv a1), (0, rv D a0)]) rfl (Nat.le_of_ble_eq_true rfl) [0, 1, 2] rfl (by decide) rfl rfl (dl_at t_X14_lay 16 rfl) ?_
    refine g_goto (pc := 29) X (off := (-25)) (tgt := 4) rfl (dl_at t_X14_lay 17 rfl) ?_
    refine g_ls (ls2 := [(0, rv D a0), (1, iv a1), (2, iv x2_16), (3, iv x3_28)]) [3, 2, 1, 0] rfl ?_
    exact g_at fun Q hQ => hQ ⟨r2_16, r3_28⟩
  · rintro x2_32 r2_32
    try dsimp only [sE]
    refine g_iload_n (pc := 32) X (j := 2) (i := 2) (q := 2) (x := x2_32) rfl rfl (dl_at t_X14_lay 18 rfl) ?_
    refine g_sipush (pc := 33) X (n := 1500) rfl (dl_at t_X14_lay 19 rfl) ?_
    refine g_join (γ := Int) (fun q => (q = 0 ∨ q = 1)) 44 (fun q => [(0, rv D a0), (1, iv a1), (2, iv x2_32)]) (fun q => [iv q]) (fun q => h) (fun q => m_X14_lay_j44 a0 a1 x2_32 q h) ?_ ?_
    · rintro s0_44 rs0_44
      try dsimp only
      unfold m_X14_lay_j44
      refine r_callTv (pc := 44) X (fun _ hv => s_X1_room rs0_44 hv) cw_code q1653 q355 (in_Sc X (As := [iv s0_44]) (Or.inr ⟨_, nw_in q2522 rfl⟩) q1652 q355 q1653 ⟨by decide, by decide⟩ rfl (dl_at t_X14_lay 24 rfl)) (dl_at t_X14_lay 24 rfl) (cat24 (st := []) (Nat.le_of_ble_eq_true rfl)) (Nat.le_of_ble_eq_true rfl) (Nat.le_of_ble_eq_true rfl) (fun v44 h44 E44 => ?_) (fun _ _ ha _ => gt_at fun Q hQ => gt_out (Q := Q) X rfl ha (hno _) _ Q rfl hQ)
      refine g_iload_n (pc := 47) X (j := 2) (i := 2) (q := 2) (x := x2_32) rfl rfl (dl_at t_X14_lay 25 rfl) ?_
      refine g_istore_nN (pc := 48) X (j := 3) (i := 3) (x := x2_32) (b := 2) (w := iv x2_32) (rest := [(0, rv D a0), (1, iv a1)]) rfl (Nat.le_of_ble_eq_true rfl) [2, 0, 1] rfl (by decide) rfl rfl (dl_at t_X14_lay 26 rfl) ?_
      refine g_iload_n (pc := 49) X (j := 1) (i := 1) (q := 3) (x := a1) rfl rfl (dl_at t_X14_lay 27 rfl) ?_
      refine g_istoreN (pc := 50) X (i := 4) (x := a1) (b := 3) (w := iv x2_32) (rest := [(2, iv x2_32), (0, rv D a0), (1, iv a1)]) (Nat.le_of_ble_eq_true rfl) [0, 1, 2, 3] rfl (by decide) rfl rfl (dl_at t_X14_lay 28 rfl) ?_
      refine g_ls (ls2 := [(0, rv D a0), (1, iv a1), (2, iv x2_32), (3, iv x2_32), (4, iv a1)]) [3, 4, 2, 1, 0] rfl ?_
      refine g_loop1 (fun (q : Int × Int × Hp) => [(0, rv D a0), (1, iv a1), (2, iv x2_32), (3, iv q.1), (4, iv q.2.1)]) (fun (q : Int × Int × Hp) => q.2.2) (fun (q : Int × Int × Hp) => r32 q.1 ∧ r32 q.2.1 ∧ Ext h44 q.2.2) 86 (fun (y86 : Hp) => [(0, rv D a0), (1, iv a1), (2, iv x2_32)]) (fun (y86 : Hp) => y86) (fun (y86 : Hp) => Ext h44 y86) (x2_32, a1, h44) ⟨r2_32, r1, (Ext.refl _)⟩ ?_ ?_
      · rintro ⟨x3_52, x4_52, h_52⟩ ⟨r3_52, r4_52, E_52⟩
        try dsimp only
        unfold m_X14_lay_l52
        refine g_iload (pc := 52) X (i := 4) (q := 4) (x := x4_52) rfl (dl_at t_X14_lay 29 rfl) ?_
        refine g_iflt (pc := 54) X r4_52 (off := 32) (tgt := 86) rfl (dl_at t_X14_lay 30 rfl) (fun _ => ?_) (fun _ => ?_)
        · refine g_ls (ls2 := [(0, rv D a0), (1, iv a1), (2, iv x2_32)]) [0, 1, 2] rfl ?_
          exact g_at fun Q hQ => hQ E_52
        refine g_aload_n (pc := 57) X (j := 0) (i := 0) (q := 0) (x := a0) rfl rfl (dl_at t_X14_lay 31 rfl) ?_
        have k58 := kx (E44.trans E_52) (by decide) hk
        refine r_getr (pc := 58) X fX14_0 k58 q1241 (dl_at t_X14_lay 32 rfl) ?_
        refine g_gd fun k61 => ?_
        refine r_getrN (pc := 61) X fX10_17 k61 (nw_in q1072 rfl) (dl_at t_X14_lay 33 rfl) ?_
        refine g_iload_n (pc := 64) X (j := 3) (i := 3) (q := 3) (x := x3_52) rfl rfl (dl_at t_X14_lay 34 rfl) ?_
        refine g_iload (pc := 65) X (i := 4) (q := 4) (x := x4_52) rfl (dl_at t_X14_lay 35 rfl) ?_
        refine g_gd fun k67 => ?_
        refine r_iast (pc := 67) X r3_52 r4_52 k67 (dl_at t_X14_lay 36 rfl) (fun h67 E67 => ?_)
        refine r_iincN (pc := 68) X (i := 3) (q := 3) (n := (-1)) (x := x3_52) (b := 2) (w := iv x2_32) (rest := [(0, rv D a0), (1, iv a1), (4, iv x4_52)]) rfl r3_52 (r32_c rfl) (Nat.le_of_ble_eq_true rfl) [2, 0, 1, 4] rfl (by decide) rfl rfl (dl_at t_X14_lay 37 rfl) fun x3_68 r3_68 => ?_
        refine g_aload_n (pc := 71) X (j := 0) (i := 0) (q := 2) (x := a0) rfl rfl (dl_at t_X14_lay 38 rfl) ?_
        have k72 := kx E67 (by decide) k58
        refine r_getr (pc := 72) X fX14_0 k72 q1241 (dl_at t_X14_lay 39 rfl) ?_
        refine g_gd fun k75 => ?_
        refine r_getrN (pc := 75) X fX10_14 k75 (nw_in q1066 rfl) (dl_at t_X14_lay 40 rfl) ?_
        refine g_iload (pc := 78) X (i := 4) (q := 4) (x := x4_52) rfl (dl_at t_X14_lay 41 rfl) ?_
        refine g_gd fun k80 => ?_
        refine g_iald (pc := 80) X r4_52 k80 (dl_at t_X14_lay 42 rfl) fun g80 => ?_
        refine g_lti g80 fun x4_81 r4_81 => ?_
        refine g_istoreN (pc := 81) X (i := 4) (x := x4_81) (b := 3) (w := iv x3_68) (rest := [(2, iv x2_32), (0, rv D a0), (1, iv a1)]) (Nat.le_of_ble_eq_true rfl) [0, 1, 2, 3] rfl (by decide) rfl rfl (dl_at t_X14_lay 43 rfl) ?_
        refine g_goto (pc := 83) X (off := (-31)) (tgt := 52) rfl (dl_at t_X14_lay 44 rfl) ?_
        refine g_ls (ls2 := [(0, rv D a0), (1, iv a1), (2, iv x2_32), (3, iv x3_68), (4, iv x4_81)]) [3, 4, 2, 1, 0] rfl ?_
        exact g_at fun Q hQ => hQ ⟨r3_68, r4_81, (E_52.trans E67)⟩
      · rintro h_86 E_86
        try dsimp only [sE]
        refine g_iconst (pc := 86) X (n := 0) (dl_at t_X14_lay 45 rfl) ?_
        refine g_ltz (Or.inl rfl) fun x4_87 r4_87 => ?_
        refine g_istore (pc := 87) X (i := 4) (x := x4_87) (rest := [(0, rv D a0), (1, iv a1), (2, iv x2_32)]) (Nat.le_of_ble_eq_true rfl) [0, 1, 2] rfl rfl (dl_at t_X14_lay 46 rfl) ?_
        refine g_ls (ls2 := [(0, rv D a0), (1, iv a1), (2, iv x2_32), (4, iv x4_87)]) [1, 2, 3, 0] rfl ?_
        refine g_loop1F (fun (q : Int × Hp) => [(0, rv D a0), (1, iv a1), (2, iv x2_32), (4, iv q.1)]) (fun (q : Int × Hp) => q.2) (fun (q : Int × Hp) => r32 q.1 ∧ Ext h_86 q.2) 191 (fun (y191 : Hp) => [(0, rv D a0), (1, iv a1)]) (fun (y191 : Hp) => y191) (fun (y191 : Hp) => Ext h_86 y191) (x4_87, h_86) ⟨(r32_z r4_87), (Ext.refl _)⟩ ?_ ?_ (fun _ => rfl)
        · rintro ⟨x4_89, h_89⟩ ⟨r4_89, E_89⟩
          try dsimp only
          unfold m_X14_lay_l89
          refine g_iload (pc := 89) X (i := 4) (q := 3) (x := x4_89) rfl (dl_at t_X14_lay 47 rfl) ?_
          refine g_iload_n (pc := 91) X (j := 2) (i := 2) (q := 2) (x := x2_32) rfl rfl (dl_at t_X14_lay 48 rfl) ?_
          refine g_icmpge (pc := 92) X r4_89 r2_32 (off := 99) (tgt := 191) rfl (dl_at t_X14_lay 49 rfl) (fun _ => ?_) (fun _ => ?_)
          · refine g_ls (ls2 := [(0, rv D a0), (1, iv a1)]) [0, 1] rfl ?_
            exact g_at fun Q hQ => hQ E_89
          refine g_aload_n (pc := 95) X (j := 0) (i := 0) (q := 0) (x := a0) rfl rfl (dl_at t_X14_lay 50 rfl) ?_
          have k96 := kx (E44.trans (E_86.trans E_89)) (by decide) hk
          refine r_getr (pc := 96) X fX14_0 k96 q1241 (dl_at t_X14_lay 51 rfl) ?_
          refine g_gd fun k99 => ?_
          refine r_getrN (pc := 99) X fX10_17 k99 (nw_in q1072 rfl) (dl_at t_X14_lay 52 rfl) ?_
          refine g_iload (pc := 102) X (i := 4) (q := 3) (x := x4_89) rfl (dl_at t_X14_lay 53 rfl) ?_
          refine g_gd fun k104 => ?_
          refine g_iald (pc := 104) X r4_89 k104 (dl_at t_X14_lay 54 rfl) fun g104 => ?_
          refine g_lti g104 fun x5_105 r5_105 => ?_
          refine g_istoreN (pc := 105) X (i := 5) (x := x5_105) (b := 4) (w := iv x4_89) (rest := [(0, rv D a0), (1, iv a1), (2, iv x2_32)]) (Nat.le_of_ble_eq_true rfl) [3, 0, 1, 2] rfl (by decide) rfl rfl (dl_at t_X14_lay 55 rfl) ?_
          refine g_aload_n (pc := 107) X (j := 0) (i := 0) (q := 2) (x := a0) rfl rfl (dl_at t_X14_lay 56 rfl) ?_
          refine r_getr (pc := 108) X fX14_0 k96 q1241 (dl_at t_X14_lay 57 rfl) ?_
          refine r_getrN (pc := 111) X fX10_17 k99 (nw_in q1072 rfl) (dl_at t_X14_lay 58 rfl) ?_
          refine g_iload (pc := 114) X (i := 4) (q := 1) (x := x4_89) rfl (dl_at t_X14_lay 59 rfl) ?_
          refine g_iconst (pc := 116) X (n := 1) (dl_at t_X14_lay 60 rfl) ?_
          refine g_iadd (pc := 117) X r4_89 (r32_c rfl) (dl_at t_X14_lay 61 rfl) ?_
          refine g_gd fun k118 => ?_
          refine g_iald (pc := 118) X (r32_w _) k118 (dl_at t_X14_lay 62 rfl) fun g118 => ?_
          refine g_lti g118 fun x6_119 r6_119 => ?_
          refine g_istoreN (pc := 119) X (i := 6) (x := x6_119) (b := 5) (w := iv x5_105) (rest := [(4, iv x4_89), (0, rv D a0), (1, iv a1), (2, iv x2_32)]) (Nat.le_of_ble_eq_true rfl) [0, 1, 2, 3, 4] rfl (by decide) rfl rfl (dl_at t_X14_lay 63 rfl) ?_
          refine g_aload_n (pc := 121) X (j := 0) (i := 0) (q := 3) (x := a0) rfl rfl (dl_at t_X14_lay 64 rfl) ?_
          refine g_aload_n (pc := 122) X (j := 0) (i := 0) (q := 3) (x := a0) rfl rfl (dl_at t_X14_lay 65 rfl) ?_
          refine r_getr (pc := 123) X fX14_0 k96 q1241 (dl_at t_X14_lay 66 rfl) ?_
          refine r_getrN (pc := 126) X fX10_10 k99 (nw_in q1058 rfl) (dl_at t_X14_lay 67 rfl) ?_
          refine g_iload (pc := 129) X (i := 5) (q := 1) (x := x5_105) rfl (dl_at t_X14_lay 68 rfl) ?_
          refine g_gd fun k131 => ?_
          refine g_iald (pc := 131) X r5_105 k131 (dl_at t_X14_lay 69 rfl) fun g131 => ?_
          refine g_aload_n (pc := 132) X (j := 0) (i := 0) (q := 3) (x := a0) rfl rfl (dl_at t_X14_lay 70 rfl) ?_
          refine r_getr (pc := 133) X fX14_0 k96 q1241 (dl_at t_X14_lay 71 rfl) ?_
          refine r_getrN (pc := 136) X fX10_10 k99 (nw_in q1058 rfl) (dl_at t_X14_lay 72 rfl) ?_
          refine g_iload (pc := 139) X (i := 6) (q := 0) (x := x6_119) rfl (dl_at t_X14_lay 73 rfl) ?_
          refine g_gd fun k141 => ?_
          refine g_iald (pc := 141) X r6_119 k141 (dl_at t_X14_lay 74 rfl) fun g141 => ?_
          refine g_aload_n (pc := 142) X (j := 0) (i := 0) (q := 3) (x := a0) rfl rfl (dl_at t_X14_lay 75 rfl) ?_
          refine r_getr (pc := 143) X fX14_0 k96 q1241 (dl_at t_X14_lay 76 rfl) ?_
          refine r_getrN (pc := 146) X fX10_11 k99 (nw_in q1060 rfl) (dl_at t_X14_lay 77 rfl) ?_
          refine g_iload (pc := 149) X (i := 5) (q := 1) (x := x5_105) rfl (dl_at t_X14_lay 78 rfl) ?_
          refine g_gd fun k151 => ?_
          refine g_iald (pc := 151) X r5_105 k151 (dl_at t_X14_lay 79 rfl) fun g151 => ?_
          refine g_aload_n (pc := 152) X (j := 0) (i := 0) (q := 3) (x := a0) rfl rfl (dl_at t_X14_lay 80 rfl) ?_
          refine r_getr (pc := 153) X fX14_0 k96 q1241 (dl_at t_X14_lay 81 rfl) ?_
          refine r_getrN (pc := 156) X fX10_11 k99 (nw_in q1060 rfl) (dl_at t_X14_lay 82 rfl) ?_
          refine g_iload (pc := 159) X (i := 6) (q := 0) (x := x6_119) rfl (dl_at t_X14_lay 83 rfl) ?_
          refine g_gd fun k161 => ?_
          refine g_iald (pc := 161) X r6_119 k161 (dl_at t_X14_lay 84 rfl) fun g161 => ?_
          refine g_aload_n (pc := 162) X (j := 0) (i := 0) (q := 3) (x := a0) rfl rfl (dl_at t_X14_lay 85 rfl) ?_
          refine r_getr (pc := 163) X fX14_0 k96 q1241 (dl_at t_X14_lay 86 rfl) ?_
          refine r_getrN (pc := 166) X fX10_12 k99 (nw_in q1062 rfl) (dl_at t_X14_lay 87 rfl) ?_
          refine g_iload (pc := 169) X (i := 5) (q := 1) (x := x5_105) rfl (dl_at t_X14_lay 88 rfl) ?_
          refine g_gd fun k171 => ?_
          refine g_iald (pc := 171) X r5_105 k171 (dl_at t_X14_lay 89 rfl) fun g171 => ?_
          refine g_aload_n (pc := 172) X (j := 0) (i := 0) (q := 3) (x := a0) rfl rfl (dl_at t_X14_lay 90 rfl) ?_
          refine r_getr (pc := 173) X fX14_0 k96 q1241 (dl_at t_X14_lay 91 rfl) ?_
          refine r_getrN (pc := 176) X fX10_12 k99 (nw_in q1062 rfl) (dl_at t_X14_lay 92 rfl) ?_
          refine g_iload (pc := 179) X (i := 6) (q := 0) (x := x6_119) rfl (dl_at t_X14_lay 93 rfl) ?_
          refine g_gd fun k181 => ?_
          refine g_iald (pc := 181) X r6_119 k181 (dl_at t_X14_lay 94 rfl) fun g181 => ?_
          refine r_callTv (pc := 182) X (fun _ hv => s_X14_addColumn k96 g131 g141 g151 g161 g171 g181 hv) cw_code q3027 q368 (in_Vk X (As := [iv (h_89 (h_89 (h_89 a0 0) 10) x5_105), iv (h_89 (h_89 (h_89 a0 0) 10) x6_119), iv (h_89 (h_89 (h_89 a0 0) 11) x5_105), iv (h_89 (h_89 (h_89 a0 0) 11) x6_119), iv (h_89 (h_89 (h_89 a0 0) 12) x5_105), iv (h_89 (h_89 (h_89 a0 0) 12) x6_119)]) kX14 k96 (Or.inl q3024) q3026 qs208 cw_code q3027 ⟨by decide, by decide⟩ rfl (dl_at t_X14_lay 95 rfl)) (dl_at t_X14_lay 95 rfl) (cat24 (st := []) (Nat.le_of_ble_eq_true rfl)) (Nat.le_of_ble_eq_true rfl) (Nat.le_of_ble_eq_true rfl) (fun v182 h182 E182 => ?_) (fun _ _ ha _ => gt_at fun Q hQ => gt_out (Q := Q) X rfl ha (hno _) _ Q rfl hQ)
          refine r_iinc (pc := 185) X (i := 4) (q := 2) (n := 1) (x := x4_89) (rest := [(0, rv D a0), (1, iv a1), (2, iv x2_32)]) rfl r4_89 (r32_c rfl) (Nat.le_of_ble_eq_true rfl) [3, 4, 5] rfl rfl (dl_at t_X14_lay 96 rfl) fun x4_185 r4_185 => ?_
          refine g_goto (pc := 188) X (off := (-99)) (tgt := 89) rfl (dl_at t_X14_lay 97 rfl) ?_
          refine g_ls (ls2 := [(0, rv D a0), (1, iv a1), (2, iv x2_32), (4, iv x4_185)]) [1, 2, 3, 0] rfl ?_
          exact g_at fun Q hQ => hQ ⟨r4_185, (E_89.trans E182)⟩
        · rintro h_191 E_191
          try dsimp only [sE]
          refine g_aload_n (pc := 191) X (j := 0) (i := 0) (q := 0) (x := a0) rfl rfl (dl_at t_X14_lay 98 rfl) ?_
          refine g_aload_n (pc := 192) X (j := 0) (i := 0) (q := 0) (x := a0) rfl rfl (dl_at t_X14_lay 99 rfl) ?_
          have k193 := kx (E44.trans (E_86.trans E_191)) (by decide) hk
          refine r_getr (pc := 193) X fX14_0 k193 q1241 (dl_at t_X14_lay 100 rfl) ?_
          refine g_gd fun k196 => ?_
          refine r_getrN (pc := 196) X fX10_11 k196 (nw_in q1060 rfl) (dl_at t_X14_lay 101 rfl) ?_
          refine g_iload_n (pc := 199) X (j := 1) (i := 1) (q := 1) (x := a1) rfl rfl (dl_at t_X14_lay 102 rfl) ?_
          refine g_gd fun k200 => ?_
          refine g_iald (pc := 200) X r1 k200 (dl_at t_X14_lay 103 rfl) fun g200 => ?_
          refine g_aload_n (pc := 201) X (j := 0) (i := 0) (q := 0) (x := a0) rfl rfl (dl_at t_X14_lay 104 rfl) ?_
          refine r_getr (pc := 202) X fX14_0 k193 q1241 (dl_at t_X14_lay 105 rfl) ?_
          refine r_getrN (pc := 205) X fX10_12 k196 (nw_in q1062 rfl) (dl_at t_X14_lay 106 rfl) ?_
          refine g_iload_n (pc := 208) X (j := 1) (i := 1) (q := 1) (x := a1) rfl rfl (dl_at t_X14_lay 107 rfl) ?_
          refine g_gd fun k209 => ?_
          refine g_iald (pc := 209) X r1 k209 (dl_at t_X14_lay 108 rfl) fun g209 => ?_
          refine r_callTv (pc := 210) X (fun _ hv => s_X14_layRest k193 g200 g209 hv) cw_code q3031 q368 (in_Vk X (As := [iv (h_191 (h_191 (h_191 a0 0) 11) a1), iv (h_191 (h_191 (h_191 a0 0) 12) a1)]) kX14 k193 (Or.inl q3028) q3030 qs209 cw_code q3031 ⟨by decide, by decide⟩ rfl (dl_at t_X14_lay 109 rfl)) (dl_at t_X14_lay 109 rfl) (cat24 (st := []) (Nat.le_of_ble_eq_true rfl)) (Nat.le_of_ble_eq_true rfl) (Nat.le_of_ble_eq_true rfl) (fun v210 h210 E210 => ?_) (fun _ _ ha _ => gt_at fun Q hQ => gt_out (Q := Q) X rfl ha (hno _) _ Q rfl hQ)
          refine g_iconst (pc := 213) X (n := 0) (dl_at t_X14_lay 110 rfl) ?_
          refine g_ltz (Or.inl rfl) fun x4_214 r4_214 => ?_
          refine g_istore (pc := 214) X (i := 4) (x := x4_214) (rest := [(0, rv D a0)]) (Nat.le_of_ble_eq_true rfl) [0] rfl rfl (dl_at t_X14_lay 111 rfl) ?_
          refine g_ls (ls2 := [(0, rv D a0), (4, iv x4_214)]) [1, 0] rfl ?_
          refine g_loop0F (fun (q : Int × Hp) => [(0, rv D a0), (4, iv q.1)]) (fun (q : Int × Hp) => q.2) (fun (q : Int × Hp) => r32 q.1 ∧ Ext h210 q.2) (x4_214, h210) ⟨(r32_z r4_214), (Ext.refl _)⟩ ?_ (fun _ => rfl)
          · rintro ⟨x4_216, h_216⟩ ⟨r4_216, E_216⟩
            try dsimp only
            unfold m_X14_lay_l216
            refine g_iload (pc := 216) X (i := 4) (q := 1) (x := x4_216) rfl (dl_at t_X14_lay 112 rfl) ?_
            refine g_aload_n (pc := 218) X (j := 0) (i := 0) (q := 0) (x := a0) rfl rfl (dl_at t_X14_lay 113 rfl) ?_
            have k219 := kx (E210.trans E_216) (by decide) k193
            refine r_geti (pc := 219) X fX14_58 k219 q1321 (dl_at t_X14_lay 114 rfl) fun g219 => ?_
            refine g_icmpge (pc := 222) X r4_216 g219 (off := 15) (tgt := 237) rfl (dl_at t_X14_lay 115 rfl) (fun _ => ?_) (fun _ => ?_)
            · refine g_aload_n (pc := 237) X (j := 0) (i := 0) (q := 0) (x := a0) rfl rfl (dl_at t_X14_lay 121 rfl) ?_
              refine r_callV (pc := 238) X (fun _ hv => s_X14_number k219 hv) cw_code q3039 q368 (in_Vk X (As := []) kX14 k219 (Or.inl q3036) q3038 qs211 cw_code q3039 ⟨by decide, by decide⟩ rfl (dl_at t_X14_lay 122 rfl)) (dl_at t_X14_lay 122 rfl) (cat24 (st := []) (Nat.le_of_ble_eq_true rfl)) (Nat.le_of_ble_eq_true rfl) (Nat.le_of_ble_eq_true rfl) fun h238 E238 => ?_
              exact g_at fun Q hQ => (g_vret (pc := 241) X (v := 0) rfl rfl (dl_at t_X14_lay 123 rfl)) _ Q rfl hQ
            refine g_aload_n (pc := 225) X (j := 0) (i := 0) (q := 0) (x := a0) rfl rfl (dl_at t_X14_lay 116 rfl) ?_
            refine g_iload (pc := 226) X (i := 4) (q := 1) (x := x4_216) rfl (dl_at t_X14_lay 117 rfl) ?_
            refine r_callV (pc := 228) X (fun _ hv => s_X14_tops k219 r4_216 hv) cw_code q3035 q368 (in_Vk X (As := [iv x4_216]) kX14 k219 (Or.inl q3032) q3034 qs210 cw_code q3035 ⟨by decide, by decide⟩ rfl (dl_at t_X14_lay 118 rfl)) (dl_at t_X14_lay 118 rfl) (cat24 (st := []) (Nat.le_of_ble_eq_true rfl)) (Nat.le_of_ble_eq_true rfl) (Nat.le_of_ble_eq_true rfl) fun h228 E228 => ?_
            refine r_iinc (pc := 231) X (i := 4) (q := 1) (n := 1) (x := x4_216) (rest := [(0, rv D a0)]) rfl r4_216 (r32_c rfl) (Nat.le_of_ble_eq_true rfl) [0] rfl rfl (dl_at t_X14_lay 119 rfl) fun x4_231 r4_231 => ?_
            refine g_goto (pc := 234) X (off := (-18)) (tgt := 216) rfl (dl_at t_X14_lay 120 rfl) ?_
            refine g_ls (ls2 := [(0, rv D a0), (4, iv x4_231)]) [1, 0] rfl ?_
            exact g_at fun Q hQ => hQ ⟨r4_231, (E_216.trans E228)⟩
    intro J44
    refine g_icmpgt (pc := 36) X r2_32 (r32_c rfl) (off := 7) (tgt := 43) rfl (dl_at t_X14_lay 20 rfl) (fun _ => ?_) (fun _ => ?_)
    · refine g_iconst (pc := 43) X (n := 0) (dl_at t_X14_lay 23 rfl) ?_
      exact J44 0 (Or.inl rfl)
    refine g_iconst (pc := 39) X (n := 1) (dl_at t_X14_lay 21 rfl) ?_
    refine g_goto (pc := 40) X (off := 4) (tgt := 44) rfl (dl_at t_X14_lay 22 rfl) ?_
    exact J44 1 (Or.inr rfl)
def k_X14_breakColumns : List (Nat × Instr × Nat) := [(0, .aload_n 0, 1), (1, .invokevirtual 710, 3), (4, .aload_n 0, 1), (5, .getfield 196, 3), (8, .ifCond .ne 4, 3), (11, .return_, 1), (12, .iconst 0, 1), (13, .istore_n 1, 1), (14, .iload_n 1, 1), (15, .aload_n 0, 1), (16, .getfield 196, 3), (19, .if_icmp .gt 19, 3), (22, .aload_n 0, 1), (23, .getfield 154, 3), (26, .getfield 693, 3), (29, .iload_n 1, 1), (30, .iconst (-1), 1), (31, .iastore, 1), (32, .iinc 1 1, 3), (35, .goto (-21), 3), (38, .aload_n 0, 1), (39, .getfield 154, 3), (42, .iconst 0, 1), (43, .putfield 713, 3), (46, .aload_n 0, 1), (47, .iconst 0, 1), (48, .iconst 0, 1), (49, .iconst 0, 1), (50, .lconst 0, 1), (51, .iconst (-1), 1), (52, .invokevirtual 686, 3), (55, .iconst 0, 1), (56, .istore_n 1, 1), (57, .iload_n 1, 1), (58, .aload_n 0, 1), (59, .getfield 196, 3), (62, .if_icmp .ge 42, 3), (65, .aload_n 0, 1), (66, .getfield 154, 3), (69, .getfield 693, 3), (72, .iload_n 1, 1), (73, .iaload, 1), (74, .istore_n 2, 1), (75, .iload_n 2, 1), (76, .ifCond .lt 22, 3), (79, .aload_n 0, 1), (80, .iload_n 2, 1), (81, .iload_n 1, 1), (82, .invokevirtual 716, 3), (85, .aload_n 0, 1), (86, .getfield 154, 3), (89, .getfield 696, 3), (92, .iload_n 2, 1), (93, .iaload, 1), (94, .istore_n 2, 1), (95, .goto (-20), 3), (98, .iinc 1 1, 3), (101, .goto (-44), 3), (104, .iconst (-1), 1), (105, .istore_n 1, 1), (106, .aload_n 0, 1), (107, .getfield 154, 3), (110, .getfield 693, 3), (113, .aload_n 0, 1), (114, .getfield 196, 3), (117, .iaload, 1), (118, .istore_n 2, 1), (119, .iload_n 2, 1), (120, .ifCond .lt 91, 3), (123, .iload_n 1, 1), (124, .ifCond .lt 72, 3), (127, .aload_n 0, 1), (128, .getfield 154, 3), (131, .getfield 683, 3), (134, .iload_n 2, 1), (135, .laload, 1), (136, .aload_n 0, 1), (137, .getfield 154, 3), (140, .getfield 683, 3), (143, .iload_n 1, 1), (144, .laload, 1), (145, .lcmp, 1), (146, .ifCond .lt 50, 3), (149, .aload_n 0, 1), (150, .getfield 154, 3), (153, .getfield 683, 3), (156, .iload_n 2, 1), (157, .laload, 1), (158, .aload_n 0, 1), (159, .getfield 154, 3), (162, .getfield 683, 3), (165, .iload_n 1, 1), (166, .laload, 1), (167, .lcmp, 1), (168, .ifCond .ne 30, 3), (171, .aload_n 0, 1), (172, .aload_n 0, 1), (173, .getfield 154, 3), (176, .getfield 699, 3), (179, .iload_n 2, 1), (180, .iaload, 1), (181, .aload_n 0, 1), (182, .getfield 154, 3), (185, .getfield 699, 3), (188, .iload_n 1, 1), (189, .iaload, 1), (190, .invokevirtual 702, 3), (193, .ifCond .eq 5, 3), (196, .iload_n 2, 1), (197, .istore_n 1, 1), (198, .aload_n 0, 1), (199, .getfield 154, 3), (202, .getfield 696, 3), (205, .iload_n 2, 1), (206, .iaload, 1), (207, .istore_n 2, 1), (208, .goto (-89), 3), (211, .iload_n 1, 1), (212, .ifCond .ge 11, 3), (215, .new 719, 3), (218, .dup, 1), (219, .invokespecial 721, 3), (222, .athrow, 1), (223, .aload_n 0, 1), (224, .iload_n 1, 1), (225, .invokevirtual 722, 3), (228, .return_, 1)]
theorem t_X14_breakColumns : ∀ q ∈ k_X14_breakColumns, decode cX14_breakColumns q.1 = .ok q.2 := dl_all (by decide +kernel)
noncomputable def m_X14_breakColumns_l14 (a0 x1_14 : Int) (h_14 : Hp) : Option ((Int × Hp) ⊕ ((Hp))) :=
  if (h_14 a0 18) < x1_14 then (some (.inr h_14))
  else (gd (h_14 (h_14 a0 0) (-2) = 160) (gd (h_14 (h_14 (h_14 a0 0) 16) (-2) % 16 = 1 ∧ (0 : Int) ≤ x1_14 ∧ x1_14 < h_14 (h_14 (h_14 a0 0) 16) (-1)) (pt h_14 (h_14 (h_14 a0 0) 16) x1_14 (-1) fun h31 =>
  lt_ (w32 (x1_14 + 1)) fun x1_32 =>
  some (.inl (x1_32, h31)))))
noncomputable def m_X14_breakColumns_l75 (a0 x1_57 x2_75 : Int) (h_75 : Hp) : Option ((Int × Hp) ⊕ ((Hp) ⊕ (((Int × Hp) ⊕ ((Hp) ⊕ (((Int × Int) × Hp))))))) :=
  if x2_75 < 0 then (some (.inr (.inl h_75)))
  else (bT (m_X14_columnsFrom a0 x2_75 x1_57 h_75) (fun _ h82 =>
  gd (h82 (h82 a0 0) (-2) = 160) (gd (h82 (h82 (h82 a0 0) 15) (-2) % 16 = 1 ∧ (0 : Int) ≤ x2_75 ∧ x2_75 < h82 (h82 (h82 a0 0) 15) (-1)) (lt_ (h82 (h82 (h82 a0 0) 15) x2_75) fun x2_94 =>
  some (.inl (x2_94, h82))))) (fun a_ h_ => some (.inr (.inr (.inr (.inr ((1, a_), h_)))))))
noncomputable def m_X14_breakColumns_l57 (a0 x1_57 : Int) (h_57 : Hp) : Option ((Int × Hp) ⊕ ((Hp) ⊕ (((Int × Int) × Hp)))) :=
  if (h_57 a0 18) ≤ x1_57 then (some (.inr (.inl h_57)))
  else (gd (h_57 (h_57 a0 0) (-2) = 160) (gd (h_57 (h_57 (h_57 a0 0) 16) (-2) % 16 = 1 ∧ (0 : Int) ≤ x1_57 ∧ x1_57 < h_57 (h_57 (h_57 a0 0) 16) (-1)) (lt_ (h_57 (h_57 (h_57 a0 0) 16) x1_57) fun x2_74 =>
  (lp (fun (q : Int × Hp) => m_X14_breakColumns_l75 a0 x1_57 q.1 q.2) (x2_74, h_57)).bind (sE (fun (y98 : Hp) => lt_ (w32 (x1_57 + 1)) fun x1_98 =>
  some (.inl (x1_98, y98))) (fun (x : (Int × Hp) ⊕ ((Hp) ⊕ (((Int × Int) × Hp)))) => some x)))))
noncomputable def m_X14_breakColumns_j198 (a0 x2_119 x1_198 : Int) (h_104 : Hp) : Option ((Int × Int) ⊕ ((Int))) :=
  gd (h_104 (h_104 (h_104 a0 0) 15) (-2) % 16 = 1 ∧ (0 : Int) ≤ x2_119 ∧ x2_119 < h_104 (h_104 (h_104 a0 0) 15) (-1)) (lt_ (h_104 (h_104 (h_104 a0 0) 15) x2_119) fun x2_207 =>
  some (.inl (x1_198, x2_207)))
noncomputable def m_X14_breakColumns_j196 (a0 x2_119 : Int) (h_104 : Hp) : Option ((Int × Int) ⊕ ((Int))) :=
  m_X14_breakColumns_j198 a0 x2_119 x2_119 h_104
noncomputable def m_X14_breakColumns_l119 (a0 x1_119 x2_119 : Int) (h_104 : Hp) : Option ((Int × Int) ⊕ ((Int))) :=
  if x2_119 < 0 then (some (.inr x1_119))
  else (if x1_119 < 0 then (m_X14_breakColumns_j196 a0 x2_119 h_104)
  else (gd (h_104 (h_104 (h_104 a0 0) 13) (-2) % 16 = 4 ∧ (0 : Int) ≤ x2_119 ∧ x2_119 < h_104 (h_104 (h_104 a0 0) 13) (-1)) (gd (h_104 (h_104 (h_104 a0 0) 13) (-2) % 16 = 4 ∧ (0 : Int) ≤ x1_119 ∧ x1_119 < h_104 (h_104 (h_104 a0 0) 13) (-1)) (if (lcmp_ (h_104 (h_104 (h_104 a0 0) 13) x2_119) (h_104 (h_104 (h_104 a0 0) 13) x1_119)) < 0 then (m_X14_breakColumns_j196 a0 x2_119 h_104)
  else (if (lcmp_ (h_104 (h_104 (h_104 a0 0) 13) x2_119) (h_104 (h_104 (h_104 a0 0) 13) x1_119)) ≠ 0 then (m_X14_breakColumns_j198 a0 x2_119 x1_119 h_104)
  else (gd (h_104 (h_104 (h_104 a0 0) 14) (-2) % 16 = 1 ∧ (0 : Int) ≤ x2_119 ∧ x2_119 < h_104 (h_104 (h_104 a0 0) 14) (-1)) (gd (h_104 (h_104 (h_104 a0 0) 14) (-2) % 16 = 1 ∧ (0 : Int) ≤ x1_119 ∧ x1_119 < h_104 (h_104 (h_104 a0 0) 14) (-1)) ((m_X14_begins a0 (h_104 (h_104 (h_104 a0 0) 14) x2_119) (h_104 (h_104 (h_104 a0 0) 14) x1_119) h_104).bind fun v190 =>
  if v190 = 0 then (m_X14_breakColumns_j198 a0 x2_119 x1_119 h_104)
  else (m_X14_breakColumns_j196 a0 x2_119 h_104)))))))))
noncomputable def m_X14_breakColumns (a0 : Int) (h : Hp) : Option ((Int × Int) × Hp) :=
  (m_X14_prepareNotes a0 h).bind fun h1 =>
  if (h1 a0 18) ≠ 0 then (lt_ 0 fun x1_13 =>
  (lp (fun (q : Int × Hp) => m_X14_breakColumns_l14 a0 q.1 q.2) (x1_13, h1)).bind (fun (y38 : Hp) => gd (y38 (y38 a0 0) (-2) = 160) (pt y38 (y38 a0 0) 18 0 fun h43 =>
  bT (m_X14_reach a0 0 0 0 0 (-1) h43) (fun _ h52 =>
  lt_ 0 fun x1_56 =>
  (lp (fun (q : Int × Hp) => m_X14_breakColumns_l57 a0 q.1 q.2) (x1_56, h52)).bind (sE (fun (y104 : Hp) => lt_ (-1) fun x1_105 =>
  gd (y104 (y104 a0 0) (-2) = 160) (gd (y104 (y104 (y104 a0 0) 16) (-2) % 16 = 1 ∧ (0 : Int) ≤ (y104 a0 18) ∧ (y104 a0 18) < y104 (y104 (y104 a0 0) 16) (-1)) (lt_ (y104 (y104 (y104 a0 0) 16) (y104 a0 18)) fun x2_118 =>
  (lp (fun (q : Int × Int) => m_X14_breakColumns_l119 a0 q.1 q.2 y104) (x1_105, x2_118)).bind (fun (y211 : Int) => if 0 ≤ y211 then (bT (m_X14_lay a0 y211 y104) (fun _ h225 =>
  some ((0, 0), h225)) (fun a_ h_ => some ((1, a_), h_)))
  else (al y104 544 6 fun a215 h215 =>
  (x_init0 a215 h215).bind fun h219 =>
  some ((1, a215), h219)))))) (fun (x : (Int × Int) × Hp) => some x))) (fun a_ h_ => some ((1, a_), h_)))))
  else (some ((0, 0), h1))
theorem s_X14_breakColumns {l : Launch} [NoTr l] {D : SD} {a0 : Int} {h : Hp} (hk : h a0 (-2) = 224) {r : (Int × Int) × Hp} (hm : m_X14_breakColumns a0 h = some r) : Sim l D yX14_breakColumns (Cond.code yX14_breakColumns cX14_breakColumns 3 (Option.none : Option Jvm.ClassFile.FieldType)) 14 549 [rv D a0] h 0 r := by
  refine Sim.of (fin := fun (v : (Int × Int) × Hp) => v) (lsE := [(0, rv D a0)]) hm rfl cwS_code (la_r la_n) (ll_r ll_n) ?_
  intro p e s m below meth c X hcw hmm hcc hnm hname
  have hno := noh hcw hnm hmm hcc
  unfold m_X14_breakColumns
  refine g_aload_n (pc := 0) X (j := 0) (i := 0) (q := 0) (x := a0) rfl rfl (dl_at t_X14_breakColumns 0 rfl) ?_
  refine r_callV (pc := 1) X (fun _ hv => s_X14_prepareNotes hk hv) cw_code q2976 q368 (in_Vk X (As := []) kX14 hk (Or.inl q2973) q2975 qs198 cw_code q2976 ⟨by decide, by decide⟩ rfl (dl_at t_X14_breakColumns 1 rfl)) (dl_at t_X14_breakColumns 1 rfl) (cat24 (st := []) (Nat.le_of_ble_eq_true rfl)) (Nat.le_of_ble_eq_true rfl) (Nat.le_of_ble_eq_true rfl) fun h1 E1 => ?_
  refine g_aload_n (pc := 4) X (j := 0) (i := 0) (q := 0) (x := a0) rfl rfl (dl_at t_X14_breakColumns 2 rfl) ?_
  have k5 := kx E1 (by decide) hk
  refine r_geti (pc := 5) X fX14_18 k5 q1269 (dl_at t_X14_breakColumns 3 rfl) fun g5 => ?_
  refine g_ifne (pc := 8) X g5 (off := 4) (tgt := 12) rfl (dl_at t_X14_breakColumns 4 rfl) (fun _ => ?_) (fun _ => ?_)
  · refine g_iconst (pc := 12) X (n := 0) (dl_at t_X14_breakColumns 6 rfl) ?_
    refine g_ltz (Or.inl rfl) fun x1_13 r1_13 => ?_
    refine g_istore_nN (pc := 13) X (j := 1) (i := 1) (x := x1_13) (b := 0) (w := rv D a0) (rest := []) rfl (Nat.le_of_ble_eq_true rfl) [0] rfl (by decide) rv_cat rfl (dl_at t_X14_breakColumns 7 rfl) ?_
    refine g_ls (ls2 := [(0, rv D a0), (1, iv x1_13)]) [1, 0] rfl ?_
    refine g_loop1 (fun (q : Int × Hp) => [(0, rv D a0), (1, iv q.1)]) (fun (q : Int × Hp) => q.2) (fun (q : Int × Hp) => r32 q.1 ∧ Ext h1 q.2) 38 (fun (y38 : Hp) => [(0, rv D a0)]) (fun (y38 : Hp) => y38) (fun (y38 : Hp) => Ext h1 y38) (x1_13, h1) ⟨(r32_z r1_13), (Ext.refl _)⟩ ?_ ?_
    · rintro ⟨x1_14, h_14⟩ ⟨r1_14, E_14⟩
      try dsimp only
      unfold m_X14_breakColumns_l14
      refine g_iload_n (pc := 14) X (j := 1) (i := 1) (q := 1) (x := x1_14) rfl rfl (dl_at t_X14_breakColumns 8 rfl) ?_
      refine g_aload_n (pc := 15) X (j := 0) (i := 0) (q := 0) (x := a0) rfl rfl (dl_at t_X14_breakColumns 9 rfl) ?_
      have k16 := kx E_14 (by decide) k5
      refine r_geti (pc := 16) X fX14_18 k16 q1269 (dl_at t_X14_breakColumns 10 rfl) fun g16 => ?_
      refine g_icmpgt (pc := 19) X r1_14 g16 (off := 19) (tgt := 38) rfl (dl_at t_X14_breakColumns 11 rfl) (fun _ => ?_) (fun _ => ?_)
      · refine g_ls (ls2 := [(0, rv D a0)]) [0] rfl ?_
        exact g_at fun Q hQ => hQ E_14
      refine g_aload_n (pc := 22) X (j := 0) (i := 0) (q := 0) (x := a0) rfl rfl (dl_at t_X14_breakColumns 12 rfl) ?_
      refine r_getr (pc := 23) X fX14_0 k16 q1241 (dl_at t_X14_breakColumns 13 rfl) ?_
      refine g_gd fun k26 => ?_
      refine r_getrN (pc := 26) X fX10_16 k26 (nw_in q1070 rfl) (dl_at t_X14_breakColumns 14 rfl) ?_
      refine g_iload_n (pc := 29) X (j := 1) (i := 1) (q := 1) (x := x1_14) rfl rfl (dl_at t_X14_breakColumns 15 rfl) ?_
      refine g_iconst (pc := 30) X (n := (-1)) (dl_at t_X14_breakColumns 16 rfl) ?_
      refine g_gd fun k31 => ?_
      refine r_iast (pc := 31) X r1_14 (r32_c rfl) k31 (dl_at t_X14_breakColumns 17 rfl) (fun h31 E31 => ?_)
      refine r_iincN (pc := 32) X (i := 1) (q := 1) (n := 1) (x := x1_14) (b := 0) (w := rv D a0) (rest := []) rfl r1_14 (r32_c rfl) (Nat.le_of_ble_eq_true rfl) [0] rfl (by decide) rv_cat rfl (dl_at t_X14_breakColumns 18 rfl) fun x1_32 r1_32 => ?_
      refine g_goto (pc := 35) X (off := (-21)) (tgt := 14) rfl (dl_at t_X14_breakColumns 19 rfl) ?_
      refine g_ls (ls2 := [(0, rv D a0), (1, iv x1_32)]) [1, 0] rfl ?_
      exact g_at fun Q hQ => hQ ⟨r1_32, (E_14.trans E31)⟩
    · rintro h_38 E_38
      try dsimp only [sE]
      refine g_aload_n (pc := 38) X (j := 0) (i := 0) (q := 0) (x := a0) rfl rfl (dl_at t_X14_breakColumns 20 rfl) ?_
      have k39 := kx E_38 (by decide) k5
      refine r_getr (pc := 39) X fX14_0 k39 q1241 (dl_at t_X14_breakColumns 21 rfl) ?_
      refine g_iconst (pc := 42) X (n := 0) (dl_at t_X14_breakColumns 22 rfl) ?_
      refine g_gd fun k43 => ?_
      refine r_putiN (pc := 43) X fX10_18 k43 (nw_in q1074 rfl) rfl (dl_at t_X14_breakColumns 23 rfl) (r32_c rfl) (fun h43 E43 => ?_)
      refine g_aload_n (pc := 46) X (j := 0) (i := 0) (q := 0) (x := a0) rfl rfl (dl_at t_X14_breakColumns 24 rfl) ?_
      refine g_iconst (pc := 47) X (n := 0) (dl_at t_X14_breakColumns 25 rfl) ?_
      refine g_iconst (pc := 48) X (n := 0) (dl_at t_X14_breakColumns 26 rfl) ?_
      refine g_iconst (pc := 49) X (n := 0) (dl_at t_X14_breakColumns 27 rfl) ?_
      refine g_lconst0 (pc := 50) X (dl_at t_X14_breakColumns 28 rfl) ?_
      refine g_iconst (pc := 51) X (n := (-1)) (dl_at t_X14_breakColumns 29 rfl) ?_
      have k52 := kx E43 (by decide) k39
      refine r_callTv (pc := 52) X (fun _ hv => s_X14_reach k52 (r32_c rfl) (r32_c rfl) (r32_c rfl) (r64_c rfl) (r32_c rfl) hv) cw_code q2980 q368 (in_Vk X (As := [iv 0, iv 0, iv 0, jv 0, iv (-1)]) kX14 k52 (Or.inl q2977) q2979 qs199 cw_code q2980 ⟨by decide, by decide⟩ rfl (dl_at t_X14_breakColumns 30 rfl)) (dl_at t_X14_breakColumns 30 rfl) (cat24 (st := []) (Nat.le_of_ble_eq_true rfl)) (Nat.le_of_ble_eq_true rfl) (Nat.le_of_ble_eq_true rfl) (fun v52 h52 E52 => ?_) (fun _ _ ha _ => gt_at fun Q hQ => gt_out (Q := Q) X rfl ha (hno _) _ Q rfl hQ)
      refine g_iconst (pc := 55) X (n := 0) (dl_at t_X14_breakColumns 31 rfl) ?_
      refine g_ltz (Or.inl rfl) fun x1_56 r1_56 => ?_
      refine g_istore_nN (pc := 56) X (j := 1) (i := 1) (x := x1_56) (b := 0) (w := rv D a0) (rest := []) rfl (Nat.le_of_ble_eq_true rfl) [0] rfl (by decide) rv_cat rfl (dl_at t_X14_breakColumns 32 rfl) ?_
      refine g_ls (ls2 := [(0, rv D a0), (1, iv x1_56)]) [1, 0] rfl ?_
      refine g_loop1F (fun (q : Int × Hp) => [(0, rv D a0), (1, iv q.1)]) (fun (q : Int × Hp) => q.2) (fun (q : Int × Hp) => r32 q.1 ∧ Ext h52 q.2) 104 (fun (y104 : Hp) => [(0, rv D a0)]) (fun (y104 : Hp) => y104) (fun (y104 : Hp) => Ext h52 y104) (x1_56, h52) ⟨(r32_z r1_56), (Ext.refl _)⟩ ?_ ?_ (fun _ => rfl)
      · rintro ⟨x1_57, h_57⟩ ⟨r1_57, E_57⟩
        try dsimp only
        unfold m_X14_breakColumns_l57
        refine g_iload_n (pc := 57) X (j := 1) (i := 1) (q := 1) (x := x1_57) rfl rfl (dl_at t_X14_breakColumns 33 rfl) ?_
        refine g_aload_n (pc := 58) X (j := 0) (i := 0) (q := 0) (x := a0) rfl rfl (dl_at t_X14_breakColumns 34 rfl) ?_
        have k59 := kx (E52.trans E_57) (by decide) k52
        refine r_geti (pc := 59) X fX14_18 k59 q1269 (dl_at t_X14_breakColumns 35 rfl) fun g59 => ?_
        refine g_icmpge (pc := 62) X r1_57 g59 (off := 42) (tgt := 104) rfl (dl_at t_X14_breakColumns 36 rfl) (fun _ => ?_) (fun _ => ?_)
        · refine g_ls (ls2 := [(0, rv D a0)]) [0] rfl ?_
          exact g_at fun Q hQ => hQ E_57
        refine g_aload_n (pc := 65) X (j := 0) (i := 0) (q := 0) (x := a0) rfl rfl (dl_at t_X14_breakColumns 37 rfl) ?_
        refine r_getr (pc := 66) X fX14_0 k59 q1241 (dl_at t_X14_breakColumns 38 rfl) ?_
        refine g_gd fun k69 => ?_
        refine r_getrN (pc := 69) X fX10_16 k69 (nw_in q1070 rfl) (dl_at t_X14_breakColumns 39 rfl) ?_
        refine g_iload_n (pc := 72) X (j := 1) (i := 1) (q := 1) (x := x1_57) rfl rfl (dl_at t_X14_breakColumns 40 rfl) ?_
        refine g_gd fun k73 => ?_
        refine g_iald (pc := 73) X r1_57 k73 (dl_at t_X14_breakColumns 41 rfl) fun g73 => ?_
        refine g_lti g73 fun x2_74 r2_74 => ?_
        refine g_istore_nN (pc := 74) X (j := 2) (i := 2) (x := x2_74) (b := 1) (w := iv x1_57) (rest := [(0, rv D a0)]) rfl (Nat.le_of_ble_eq_true rfl) [1, 0] rfl (by decide) rfl rfl (dl_at t_X14_breakColumns 42 rfl) ?_
        refine g_ls (ls2 := [(0, rv D a0), (1, iv x1_57), (2, iv x2_74)]) [2, 1, 0] rfl ?_
        refine g_loop1F (fun (q : Int × Hp) => [(0, rv D a0), (1, iv x1_57), (2, iv q.1)]) (fun (q : Int × Hp) => q.2) (fun (q : Int × Hp) => r32 q.1 ∧ Ext h_57 q.2) 98 (fun (y98 : Hp) => [(0, rv D a0), (1, iv x1_57)]) (fun (y98 : Hp) => y98) (fun (y98 : Hp) => Ext h_57 y98) (x2_74, h_57) ⟨r2_74, (Ext.refl _)⟩ ?_ ?_ (fun _ => rfl)
        · rintro ⟨x2_75, h_75⟩ ⟨r2_75, E_75⟩
          try dsimp only
          unfold m_X14_breakColumns_l75
          refine g_iload_n (pc := 75) X (j := 2) (i := 2) (q := 2) (x := x2_75) rfl rfl (dl_at t_X14_breakColumns 43 rfl) ?_
          refine g_iflt (pc := 76) X r2_75 (off := 22) (tgt := 98) rfl (dl_at t_X14_breakColumns 44 rfl) (fun _ => ?_) (fun _ => ?_)
          · refine g_ls (ls2 := [(0, rv D a0), (1, iv x1_57)]) [0, 1] rfl ?_
            exact g_at fun Q hQ => hQ E_75
          refine g_aload_n (pc := 79) X (j := 0) (i := 0) (q := 0) (x := a0) rfl rfl (dl_at t_X14_breakColumns 45 rfl) ?_
          refine g_iload_n (pc := 80) X (j := 2) (i := 2) (q := 2) (x := x2_75) rfl rfl (dl_at t_X14_breakColumns 46 rfl) ?_
          refine g_iload_n (pc := 81) X (j := 1) (i := 1) (q := 1) (x := x1_57) rfl rfl (dl_at t_X14_breakColumns 47 rfl) ?_
          have k82 := kx E_75 (by decide) k59
          refine r_callTv (pc := 82) X (fun _ hv => s_X14_columnsFrom k82 r2_75 r1_57 hv) cw_code q2993 q368 (in_Vk X (As := [iv x2_75, iv x1_57]) kX14 k82 (Or.inl q2990) q2992 qs202 cw_code q2993 ⟨by decide, by decide⟩ rfl (dl_at t_X14_breakColumns 48 rfl)) (dl_at t_X14_breakColumns 48 rfl) (cat24 (st := []) (Nat.le_of_ble_eq_true rfl)) (Nat.le_of_ble_eq_true rfl) (Nat.le_of_ble_eq_true rfl) (fun v82 h82 E82 => ?_) (fun _ _ ha _ => gt_at fun Q hQ => gt_out (Q := Q) X rfl ha (hno _) _ Q rfl hQ)
          refine g_aload_n (pc := 85) X (j := 0) (i := 0) (q := 0) (x := a0) rfl rfl (dl_at t_X14_breakColumns 49 rfl) ?_
          have k86 := kx E82 (by decide) k82
          refine r_getr (pc := 86) X fX14_0 k86 q1241 (dl_at t_X14_breakColumns 50 rfl) ?_
          refine g_gd fun k89 => ?_
          refine r_getrN (pc := 89) X fX10_15 k89 (nw_in q1068 rfl) (dl_at t_X14_breakColumns 51 rfl) ?_
          refine g_iload_n (pc := 92) X (j := 2) (i := 2) (q := 2) (x := x2_75) rfl rfl (dl_at t_X14_breakColumns 52 rfl) ?_
          refine g_gd fun k93 => ?_
          refine g_iald (pc := 93) X r2_75 k93 (dl_at t_X14_breakColumns 53 rfl) fun g93 => ?_
          refine g_lti g93 fun x2_94 r2_94 => ?_
          refine g_istore_nN (pc := 94) X (j := 2) (i := 2) (x := x2_94) (b := 1) (w := iv x1_57) (rest := [(0, rv D a0)]) rfl (Nat.le_of_ble_eq_true rfl) [1, 0] rfl (by decide) rfl rfl (dl_at t_X14_breakColumns 54 rfl) ?_
          refine g_goto (pc := 95) X (off := (-20)) (tgt := 75) rfl (dl_at t_X14_breakColumns 55 rfl) ?_
          refine g_ls (ls2 := [(0, rv D a0), (1, iv x1_57), (2, iv x2_94)]) [2, 1, 0] rfl ?_
          exact g_at fun Q hQ => hQ ⟨r2_94, (E_75.trans E82)⟩
        · rintro h_98 E_98
          try dsimp only [sE]
          refine r_iincN (pc := 98) X (i := 1) (q := 1) (n := 1) (x := x1_57) (b := 0) (w := rv D a0) (rest := []) rfl r1_57 (r32_c rfl) (Nat.le_of_ble_eq_true rfl) [0] rfl (by decide) rv_cat rfl (dl_at t_X14_breakColumns 56 rfl) fun x1_98 r1_98 => ?_
          refine g_goto (pc := 101) X (off := (-44)) (tgt := 57) rfl (dl_at t_X14_breakColumns 57 rfl) ?_
          refine g_ls (ls2 := [(0, rv D a0), (1, iv x1_98)]) [1, 0] rfl ?_
          exact g_at fun Q hQ => hQ ⟨r1_98, (E_57.trans E_98)⟩
      · rintro h_104 E_104
        try dsimp only [sE]
        refine g_iconst (pc := 104) X (n := (-1)) (dl_at t_X14_breakColumns 58 rfl) ?_
        refine g_lti (r32_c rfl) fun x1_105 r1_105 => ?_
        refine g_istore_nN (pc := 105) X (j := 1) (i := 1) (x := x1_105) (b := 0) (w := rv D a0) (rest := []) rfl (Nat.le_of_ble_eq_true rfl) [0] rfl (by decide) rv_cat rfl (dl_at t_X14_breakColumns 59 rfl) ?_
        refine g_aload_n (pc := 106) X (j := 0) (i := 0) (q := 1) (x := a0) rfl rfl (dl_at t_X14_breakColumns 60 rfl) ?_
        have k107 := kx (E52.trans E_104) (by decide) k52
        refine r_getr (pc := 107) X fX14_0 k107 q1241 (dl_at t_X14_breakColumns 61 rfl) ?_
        refine g_gd fun k110 => ?_
        refine r_getrN (pc := 110) X fX10_16 k110 (nw_in q1070 rfl) (dl_at t_X14_breakColumns 62 rfl) ?_
        refine g_aload_n (pc := 113) X (j := 0) (i := 0) (q := 1) (x := a0) rfl rfl (dl_at t_X14_breakColumns 63 rfl) ?_
        refine r_geti (pc := 114) X fX14_18 k107 q1269 (dl_at t_X14_breakColumns 64 rfl) fun g114 => ?_
        refine g_gd fun k117 => ?_
        refine g_iald (pc := 117) X g114 k117 (dl_at t_X14_breakColumns 65 rfl) fun g117 => ?_
        refine g_lti g117 fun x2_118 r2_118 => ?_
        refine g_istore_nN (pc := 118) X (j := 2) (i := 2) (x := x2_118) (b := 1) (w := iv x1_105) (rest := [(0, rv D a0)]) rfl (Nat.le_of_ble_eq_true rfl) [0, 1] rfl (by decide) rfl rfl (dl_at t_X14_breakColumns 66 rfl) ?_
        refine g_ls (ls2 := [(0, rv D a0), (1, iv x1_105), (2, iv x2_118)]) [2, 1, 0] rfl ?_
        refine g_loop1 (fun (q : Int × Int) => [(0, rv D a0), (1, iv q.1), (2, iv q.2)]) (fun (q : Int × Int) => h_104) (fun (q : Int × Int) => r32 q.1 ∧ r32 q.2) 211 (fun (y211 : Int) => [(0, rv D a0), (1, iv y211)]) (fun (y211 : Int) => h_104) (fun (y211 : Int) => r32 y211) (x1_105, x2_118) ⟨r1_105, r2_118⟩ ?_ ?_
        · rintro ⟨x1_119, x2_119⟩ ⟨r1_119, r2_119⟩
          try dsimp only
          unfold m_X14_breakColumns_l119
          refine g_iload_n (pc := 119) X (j := 2) (i := 2) (q := 2) (x := x2_119) rfl rfl (dl_at t_X14_breakColumns 67 rfl) ?_
          refine g_iflt (pc := 120) X r2_119 (off := 91) (tgt := 211) rfl (dl_at t_X14_breakColumns 68 rfl) (fun _ => ?_) (fun _ => ?_)
          · refine g_ls (ls2 := [(0, rv D a0), (1, iv x1_119)]) [0, 1] rfl ?_
            exact g_at fun Q hQ => hQ r1_119
          refine g_iload_n (pc := 123) X (j := 1) (i := 1) (q := 1) (x := x1_119) rfl rfl (dl_at t_X14_breakColumns 69 rfl) ?_
          refine g_join (γ := Int) (fun q => r32 q) 198 (fun q => [(0, rv D a0), (1, iv q), (2, iv x2_119)]) (fun q => []) (fun q => h_104) (fun q => m_X14_breakColumns_j198 a0 x2_119 q h_104) ?_ ?_
          · rintro x1_198 r1_198
            try dsimp only
            unfold m_X14_breakColumns_j198
            refine g_aload_n (pc := 198) X (j := 0) (i := 0) (q := 0) (x := a0) rfl rfl (dl_at t_X14_breakColumns 110 rfl) ?_
            refine r_getr (pc := 199) X fX14_0 k107 q1241 (dl_at t_X14_breakColumns 111 rfl) ?_
            refine r_getrN (pc := 202) X fX10_15 k110 (nw_in q1068 rfl) (dl_at t_X14_breakColumns 112 rfl) ?_
            refine g_iload_n (pc := 205) X (j := 2) (i := 2) (q := 2) (x := x2_119) rfl rfl (dl_at t_X14_breakColumns 113 rfl) ?_
            refine g_gd fun k206 => ?_
            refine g_iald (pc := 206) X r2_119 k206 (dl_at t_X14_breakColumns 114 rfl) fun g206 => ?_
            refine g_lti g206 fun x2_207 r2_207 => ?_
            refine g_istore_nN (pc := 207) X (j := 2) (i := 2) (x := x2_207) (b := 1) (w := iv x1_198) (rest := [(0, rv D a0)]) rfl (Nat.le_of_ble_eq_true rfl) [1, 0] rfl (by decide) rfl rfl (dl_at t_X14_breakColumns 115 rfl) ?_
            refine g_goto (pc := 208) X (off := (-89)) (tgt := 119) rfl (dl_at t_X14_breakColumns 116 rfl) ?_
            refine g_ls (ls2 := [(0, rv D a0), (1, iv x1_198), (2, iv x2_207)]) [2, 1, 0] rfl ?_
            exact g_at fun Q hQ => hQ ⟨r1_198, r2_207⟩
          intro J198
          refine g_join (γ := Unit) (fun q => True) 196 (fun q => [(0, rv D a0), (2, iv x2_119)]) (fun q => []) (fun q => h_104) (fun q => m_X14_breakColumns_j196 a0 x2_119 h_104) ?_ ?_
          · rintro _ _
            try dsimp only
            unfold m_X14_breakColumns_j196
            refine g_iload_n (pc := 196) X (j := 2) (i := 2) (q := 1) (x := x2_119) rfl rfl (dl_at t_X14_breakColumns 108 rfl) ?_
            refine g_istore_nN (pc := 197) X (j := 1) (i := 1) (x := x2_119) (b := 0) (w := rv D a0) (rest := [(2, iv x2_119)]) rfl (Nat.le_of_ble_eq_true rfl) [0, 1] rfl (by decide) rv_cat rfl (dl_at t_X14_breakColumns 109 rfl) ?_
            refine g_ls (ls2 := [(0, rv D a0), (1, iv x2_119), (2, iv x2_119)]) [1, 0, 2] rfl ?_
            exact J198 x2_119 r2_119
          intro J196
          refine g_iflt (pc := 124) X r1_119 (off := 72) (tgt := 196) rfl (dl_at t_X14_breakColumns 70 rfl) (fun _ => ?_) (fun _ => ?_)
          · refine g_ls (ls2 := [(0, rv D a0), (2, iv x2_119)]) [0, 2] rfl ?_
            exact J196 () trivial
          refine g_aload_n (pc := 127) X (j := 0) (i := 0) (q := 0) (x := a0) rfl rfl (dl_at t_X14_breakColumns 71 rfl) ?_
          refine r_getr (pc := 128) X fX14_0 k107 q1241 (dl_at t_X14_breakColumns 72 rfl) ?_
          refine r_getrN (pc := 131) X fX10_13 k110 (nw_in q1064 rfl) (dl_at t_X14_breakColumns 73 rfl) ?_
          refine g_iload_n (pc := 134) X (j := 2) (i := 2) (q := 2) (x := x2_119) rfl rfl (dl_at t_X14_breakColumns 74 rfl) ?_
          refine g_gd fun k135 => ?_
          refine g_lald (pc := 135) X r2_119 k135 (dl_at t_X14_breakColumns 75 rfl) fun g135 => ?_
          refine g_aload_n (pc := 136) X (j := 0) (i := 0) (q := 0) (x := a0) rfl rfl (dl_at t_X14_breakColumns 76 rfl) ?_
          refine r_getr (pc := 137) X fX14_0 k107 q1241 (dl_at t_X14_breakColumns 77 rfl) ?_
          refine r_getrN (pc := 140) X fX10_13 k110 (nw_in q1064 rfl) (dl_at t_X14_breakColumns 78 rfl) ?_
          refine g_iload_n (pc := 143) X (j := 1) (i := 1) (q := 1) (x := x1_119) rfl rfl (dl_at t_X14_breakColumns 79 rfl) ?_
          refine g_gd fun k144 => ?_
          refine g_lald (pc := 144) X r1_119 k144 (dl_at t_X14_breakColumns 80 rfl) fun g144 => ?_
          refine g_lcmp (pc := 145) X g135 g144 (dl_at t_X14_breakColumns 81 rfl) ?_
          refine g_iflt (pc := 146) X (r32_lcmp _ _) (off := 50) (tgt := 196) rfl (dl_at t_X14_breakColumns 82 rfl) (fun _ => ?_) (fun _ => ?_)
          · refine g_ls (ls2 := [(0, rv D a0), (2, iv x2_119)]) [0, 2] rfl ?_
            exact J196 () trivial
          refine g_aload_n (pc := 149) X (j := 0) (i := 0) (q := 0) (x := a0) rfl rfl (dl_at t_X14_breakColumns 83 rfl) ?_
          refine r_getr (pc := 150) X fX14_0 k107 q1241 (dl_at t_X14_breakColumns 84 rfl) ?_
          refine r_getrN (pc := 153) X fX10_13 k110 (nw_in q1064 rfl) (dl_at t_X14_breakColumns 85 rfl) ?_
          refine g_iload_n (pc := 156) X (j := 2) (i := 2) (q := 2) (x := x2_119) rfl rfl (dl_at t_X14_breakColumns 86 rfl) ?_
          refine g_lald (pc := 157) X r2_119 k135 (dl_at t_X14_breakColumns 87 rfl) fun g157 => ?_
          refine g_aload_n (pc := 158) X (j := 0) (i := 0) (q := 0) (x := a0) rfl rfl (dl_at t_X14_breakColumns 88 rfl) ?_
          refine r_getr (pc := 159) X fX14_0 k107 q1241 (dl_at t_X14_breakColumns 89 rfl) ?_
          refine r_getrN (pc := 162) X fX10_13 k110 (nw_in q1064 rfl) (dl_at t_X14_breakColumns 90 rfl) ?_
          refine g_iload_n (pc := 165) X (j := 1) (i := 1) (q := 1) (x := x1_119) rfl rfl (dl_at t_X14_breakColumns 91 rfl) ?_
          refine g_lald (pc := 166) X r1_119 k144 (dl_at t_X14_breakColumns 92 rfl) fun g166 => ?_
          refine g_lcmp (pc := 167) X g157 g166 (dl_at t_X14_breakColumns 93 rfl) ?_
          refine g_ifne (pc := 168) X (r32_lcmp _ _) (off := 30) (tgt := 198) rfl (dl_at t_X14_breakColumns 94 rfl) (fun _ => ?_) (fun _ => ?_)
          · exact J198 x1_119 r1_119
          refine g_aload_n (pc := 171) X (j := 0) (i := 0) (q := 0) (x := a0) rfl rfl (dl_at t_X14_breakColumns 95 rfl) ?_
          refine g_aload_n (pc := 172) X (j := 0) (i := 0) (q := 0) (x := a0) rfl rfl (dl_at t_X14_breakColumns 96 rfl) ?_
          refine r_getr (pc := 173) X fX14_0 k107 q1241 (dl_at t_X14_breakColumns 97 rfl) ?_
          refine r_getrN (pc := 176) X fX10_14 k110 (nw_in q1066 rfl) (dl_at t_X14_breakColumns 98 rfl) ?_
          refine g_iload_n (pc := 179) X (j := 2) (i := 2) (q := 2) (x := x2_119) rfl rfl (dl_at t_X14_breakColumns 99 rfl) ?_
          refine g_gd fun k180 => ?_
          refine g_iald (pc := 180) X r2_119 k180 (dl_at t_X14_breakColumns 100 rfl) fun g180 => ?_
          refine g_aload_n (pc := 181) X (j := 0) (i := 0) (q := 0) (x := a0) rfl rfl (dl_at t_X14_breakColumns 101 rfl) ?_
          refine r_getr (pc := 182) X fX14_0 k107 q1241 (dl_at t_X14_breakColumns 102 rfl) ?_
          refine r_getrN (pc := 185) X fX10_14 k110 (nw_in q1066 rfl) (dl_at t_X14_breakColumns 103 rfl) ?_
          refine g_iload_n (pc := 188) X (j := 1) (i := 1) (q := 1) (x := x1_119) rfl rfl (dl_at t_X14_breakColumns 104 rfl) ?_
          refine g_gd fun k189 => ?_
          refine g_iald (pc := 189) X r1_119 k189 (dl_at t_X14_breakColumns 105 rfl) fun g189 => ?_
          refine r_callRz (pc := 190) X (fun _ hv => s_X14_begins k107 g180 g189 hv) cw_code q2984 q368 (in_Vk X (As := [iv (h_104 (h_104 (h_104 a0 0) 14) x2_119), iv (h_104 (h_104 (h_104 a0 0) 14) x1_119)]) kX14 k107 (Or.inl q2981) q2983 qs200 cw_code q2984 ⟨by decide, by decide⟩ rfl (dl_at t_X14_breakColumns 106 rfl)) (dl_at t_X14_breakColumns 106 rfl) (cat24 (st := []) (Nat.le_of_ble_eq_true rfl)) (Nat.le_of_ble_eq_true rfl) (Nat.le_of_ble_eq_true rfl) fun v190 g190 => ?_
          refine g_ifeq (pc := 193) X (r32_z g190) (off := 5) (tgt := 198) rfl (dl_at t_X14_breakColumns 107 rfl) (fun _ => ?_) (fun _ => ?_)
          · exact J198 x1_119 r1_119
          refine g_ls (ls2 := [(0, rv D a0), (2, iv x2_119)]) [0, 2] rfl ?_
          exact J196 () trivial
        · rintro x1_211 r1_211
          try dsimp only [sE]
          refine g_iload_n (pc := 211) X (j := 1) (i := 1) (q := 1) (x := x1_211) rfl rfl (dl_at t_X14_breakColumns 117 rfl) ?_
          refine g_ifge (pc := 212) X r1_211 (off := 11) (tgt := 223) rfl (dl_at t_X14_breakColumns 118 rfl) (fun _ => ?_) (fun _ => ?_)
          · refine g_aload_n (pc := 223) X (j := 0) (i := 0) (q := 0) (x := a0) rfl rfl (dl_at t_X14_breakColumns 123 rfl) ?_
            refine g_iload_n (pc := 224) X (j := 1) (i := 1) (q := 1) (x := x1_211) rfl rfl (dl_at t_X14_breakColumns 124 rfl) ?_
            refine r_callTv (pc := 225) X (fun _ hv => s_X14_lay k107 r1_211 hv) cw_code q3023 q368 (in_Vk X (As := [iv x1_211]) kX14 k107 (Or.inl q3020) q3022 qs207 cw_code q3023 ⟨by decide, by decide⟩ rfl (dl_at t_X14_breakColumns 125 rfl)) (dl_at t_X14_breakColumns 125 rfl) (cat24 (st := []) (Nat.le_of_ble_eq_true rfl)) (Nat.le_of_ble_eq_true rfl) (Nat.le_of_ble_eq_true rfl) (fun v225 h225 E225 => ?_) (fun _ _ ha _ => gt_at fun Q hQ => gt_out (Q := Q) X rfl ha (hno _) _ Q rfl hQ)
            exact g_vret (pc := 228) X (v := 0) rfl rfl (dl_at t_X14_breakColumns 126 rfl)
          refine r_new (pc := 215) X kJ12 q3015 (dl_at t_X14_breakColumns 119 rfl) fun a215 h215 p215 k215 E215 => ?_
          refine g_dup (pc := 218) X rv_cat (dl_at t_X14_breakColumns 120 rfl) ?_
          refine r_callV (pc := 219) X (fun _ hv => sx_ArithmeticException_init__V k215 hv) cw_code q3018 q395 (in_I X (As := []) (Int.ne_of_gt p215) rfl (Or.inl q3016) q3017 q3018 ⟨by decide, by decide⟩ rfl (dl_at t_X14_breakColumns 121 rfl)) (dl_at t_X14_breakColumns 121 rfl) (cat24 (st := [rv D a215]) (Nat.le_of_ble_eq_true rfl)) (Nat.le_of_ble_eq_true rfl) (Nat.le_of_ble_eq_true rfl) fun h219 E219 => ?_
          refine g_athrow (pc := 222) X (Int.ne_of_gt p215) (dl_at t_X14_breakColumns 122 rfl) ?_
          exact gt_at fun Q hQ => gt_out (Q := Q) X rfl p215 (hno _) _ Q rfl hQ
  exact g_vret (pc := 11) X (v := 0) rfl rfl (dl_at t_X14_breakColumns 5 rfl)
def k_X14_wavers : List (Nat × Instr × Nat) := [(0, .aload_n 0, 1), (1, .getfield 114, 3), (4, .iload_n 1, 1), (5, .iaload, 1), (6, .istore_n 2, 1), (7, .aload_n 0, 1), (8, .getfield 117, 3), (11, .iload_n 1, 1), (12, .iaload, 1), (40, .aload_n 0, 1), (41, .iload_n 2, 1), (42, .invokevirtual 224, 3), (45, .aload_n 0, 1), (46, .getfield 95, 3), (49, .iload_n 2, 1), (50, .iaload, 1), (51, .if_icmp .eq 7, 3), (54, .iconst 1, 1), (55, .goto 4, 3), (58, .iconst 0, 1), (59, .ireturn, 1), (60, .aload_n 0, 1), (61, .aload_n 0, 1), (62, .getfield 74, 3), (65, .iload_n 2, 1), (66, .iaload, 1), (67, .invokevirtual 228, 3), (70, .aload_n 0, 1), (71, .getfield 98, 3), (74, .iload_n 2, 1), (75, .iaload, 1), (76, .if_icmp .eq 7, 3), (79, .iconst 1, 1), (80, .goto 4, 3), (83, .iconst 0, 1), (84, .ireturn, 1), (85, .aload_n 0, 1), (86, .aload_n 0, 1), (87, .getfield 74, 3), (90, .iload_n 2, 1), (91, .iaload, 1), (92, .invokevirtual 228, 3), (95, .aload_n 0, 1), (96, .getfield 98, 3), (99, .iload_n 2, 1), (100, .iaload, 1), (101, .if_icmp .ne 17, 3), (104, .aload_n 0, 1), (105, .iload_n 2, 1), (106, .invokevirtual 231, 3), (109, .aload_n 0, 1), (110, .getfield 101, 3), (113, .iload_n 2, 1), (114, .iaload, 1), (115, .if_icmp .eq 7, 3), (118, .iconst 1, 1), (119, .goto 4, 3), (122, .iconst 0, 1), (123, .ireturn, 1), (124, .iconst 0, 1), (125, .istore_n 3, 1), (126, .iload_n 3, 1), (127, .aload_n 0, 1), (128, .getfield 107, 3), (131, .getfield 577, 3), (134, .if_icmp .ge 41, 3), (137, .aload_n 0, 1), (138, .aload_n 0, 1), (139, .getfield 107, 3), (142, .getfield 580, 3), (145, .iload_n 3, 1), (146, .iaload, 1), (147, .invokevirtual 224, 3), (150, .aload_n 0, 1), (151, .getfield 95, 3), (154, .aload_n 0, 1), (155, .getfield 107, 3), (158, .getfield 580, 3), (161, .iload_n 3, 1), (162, .iaload, 1), (163, .iaload, 1), (164, .if_icmp .eq 5, 3), (167, .iconst 1, 1), (168, .ireturn, 1), (169, .iinc 3 1, 3), (172, .goto (-46), 3), (175, .iconst 0, 1), (176, .ireturn, 1)]
theorem t_X14_wavers : ∀ q ∈ k_X14_wavers, decode cX14_wavers q.1 = .ok q.2 := dl_all (by decide +kernel)
theorem dS_X14_wavers_13 : decode cX14_wavers 13 = .ok (.tableswitch 111 0 2 #[27, 47, 72], 27) := by decide +kernel
noncomputable def m_X14_wavers_l126 (a0 x3_126 : Int) (h : Hp) : Option ((Int) ⊕ ((Int))) :=
  gd (h (h a0 43) (-2) = 256) (if (h (h a0 43) 3) ≤ x3_126 then (some (.inr 0))
  else (gd (h (h (h a0 43) 1) (-2) % 16 = 1 ∧ (0 : Int) ≤ x3_126 ∧ x3_126 < h (h (h a0 43) 1) (-1)) ((m_X14_pageOf a0 (h (h (h a0 43) 1) x3_126) h).bind fun v147 =>
  gd (h (h a0 40) (-2) % 16 = 1 ∧ (0 : Int) ≤ (h (h (h a0 43) 1) x3_126) ∧ (h (h (h a0 43) 1) x3_126) < h (h a0 40) (-1)) (if v147 = (h (h a0 40) (h (h (h a0 43) 1) x3_126)) then (lt_ (w32 (x3_126 + 1)) fun x3_169 =>
  some (.inl x3_169))
  else (some (.inr 1))))))
noncomputable def m_X14_wavers (a0 a1 : Int) (h : Hp) : Option (Int) :=
  gd (h (h a0 51) (-2) % 16 = 1 ∧ (0 : Int) ≤ a1 ∧ a1 < h (h a0 51) (-1)) (lt_ (h (h a0 51) a1) fun x2_6 =>
  gd (h (h a0 52) (-2) % 16 = 1 ∧ (0 : Int) ≤ a1 ∧ a1 < h (h a0 52) (-1)) (if (h (h a0 52) a1) = 0 then ((m_X14_pageOf a0 x2_6 h).bind fun v42 =>
  gd (h (h a0 40) (-2) % 16 = 1 ∧ (0 : Int) ≤ x2_6 ∧ x2_6 < h (h a0 40) (-1)) (if v42 = (h (h a0 40) x2_6) then (some 0)
  else (some 1)))
  else (if (h (h a0 52) a1) = 1 then (gd (h (h a0 31) (-2) % 16 = 1 ∧ (0 : Int) ≤ x2_6 ∧ x2_6 < h (h a0 31) (-1)) ((m_X14_numberAt a0 (h (h a0 31) x2_6) h).bind fun v67 =>
  gd (h (h a0 41) (-2) % 16 = 1 ∧ (0 : Int) ≤ x2_6 ∧ x2_6 < h (h a0 41) (-1)) (if v67 = (h (h a0 41) x2_6) then (some 0)
  else (some 1))))
  else (if (h (h a0 52) a1) = 2 then (gd (h (h a0 31) (-2) % 16 = 1 ∧ (0 : Int) ≤ x2_6 ∧ x2_6 < h (h a0 31) (-1)) ((m_X14_numberAt a0 (h (h a0 31) x2_6) h).bind fun v92 =>
  gd (h (h a0 41) (-2) % 16 = 1 ∧ (0 : Int) ≤ x2_6 ∧ x2_6 < h (h a0 41) (-1)) (if v92 ≠ (h (h a0 41) x2_6) then (some 1)
  else ((m_X14_lastNumber a0 x2_6 h).bind fun v106 =>
  gd (h (h a0 42) (-2) % 16 = 1 ∧ (0 : Int) ≤ x2_6 ∧ x2_6 < h (h a0 42) (-1)) (if v106 = (h (h a0 42) x2_6) then (some 0)
  else (some 1))))))
  else (lt_ 0 fun x3_125 =>
  (lp (fun (q : Int) => m_X14_wavers_l126 a0 q h) x3_125).bind (fun (x : Int) => some x))))))
theorem s_X14_wavers {l : Launch} [NoTr l] {D : SD} {a0 a1 : Int} {h : Hp} (hk : h a0 (-2) = 224) (r1 : r32 a1) {r : Int} (hm : m_X14_wavers a0 a1 h = some r) : Sim l D yX14_wavers (Cond.code yX14_wavers cX14_wavers 4 (Option.some Jvm.ClassFile.FieldType.boolean)) 2 74 [rv D a0, iv a1] h 3 ((0, r), h) := by
  refine Sim.of (fin := fun (v : Int) => ((0, v), h)) (lsE := [(0, rv D a0), (1, iv a1)]) hm rfl cwS_code (la_r (la_i la_n)) (ll_r (ll_i ll_n)) ?_
  intro p e s m below meth c X hcw hmm hcc hnm hname
  unfold m_X14_wavers
  refine g_aload_n (pc := 0) X (j := 0) (i := 0) (q := 0) (x := a0) rfl rfl (dl_at t_X14_wavers 0 rfl) ?_
  refine r_getr (pc := 1) X fX14_51 hk q1313 (dl_at t_X14_wavers 1 rfl) ?_
  refine g_iload_n (pc := 4) X (j := 1) (i := 1) (q := 1) (x := a1) rfl rfl (dl_at t_X14_wavers 2 rfl) ?_
  refine g_gd fun k5 => ?_
  refine g_iald (pc := 5) X r1 k5 (dl_at t_X14_wavers 3 rfl) fun g5 => ?_
  refine g_lti g5 fun x2_6 r2_6 => ?_
  refine g_istore_nN (pc := 6) X (j := 2) (i := 2) (x := x2_6) (b := 1) (w := iv a1) (rest := [(0, rv D a0)]) rfl (Nat.le_of_ble_eq_true rfl) [1, 0] rfl (by decide) rfl rfl (dl_at t_X14_wavers 4 rfl) ?_
  refine g_aload_n (pc := 7) X (j := 0) (i := 0) (q := 2) (x := a0) rfl rfl (dl_at t_X14_wavers 5 rfl) ?_
  refine r_getr (pc := 8) X fX14_52 hk q1314 (dl_at t_X14_wavers 6 rfl) ?_
  refine g_iload_n (pc := 11) X (j := 1) (i := 1) (q := 1) (x := a1) rfl rfl (dl_at t_X14_wavers 7 rfl) ?_
  refine g_gd fun k12 => ?_
  refine g_iald (pc := 12) X r1 k12 (dl_at t_X14_wavers 8 rfl) fun g12 => ?_
  refine g_case (fun w13 => ?_) (fun nw13 => ?_)
  · refine g_tabIn (pc := 13) X (off := 27) (tgt := 40) g12 w13 (by decide) (by decide) rfl rfl dS_X14_wavers_13 ?_
    refine g_aload_n (pc := 40) X (j := 0) (i := 0) (q := 2) (x := a0) rfl rfl (dl_at t_X14_wavers 9 rfl) ?_
    refine g_iload_n (pc := 41) X (j := 2) (i := 2) (q := 0) (x := x2_6) rfl rfl (dl_at t_X14_wavers 10 rfl) ?_
    refine r_callRi (pc := 42) X (fun _ hv => s_X14_pageOf hk r2_6 hv) cw_code q2369 q368 (in_Vk X (As := [iv x2_6]) kX14 hk (Or.inl q2366) q2368 qs91 cw_code q2369 ⟨by decide, by decide⟩ rfl (dl_at t_X14_wavers 11 rfl)) (dl_at t_X14_wavers 11 rfl) (cat24 (st := []) (Nat.le_of_ble_eq_true rfl)) (Nat.le_of_ble_eq_true rfl) (Nat.le_of_ble_eq_true rfl) fun v42 g42 => ?_
    refine g_aload_n (pc := 45) X (j := 0) (i := 0) (q := 2) (x := a0) rfl rfl (dl_at t_X14_wavers 12 rfl) ?_
    refine r_getr (pc := 46) X fX14_40 hk q1301 (dl_at t_X14_wavers 13 rfl) ?_
    refine g_iload_n (pc := 49) X (j := 2) (i := 2) (q := 0) (x := x2_6) rfl rfl (dl_at t_X14_wavers 14 rfl) ?_
    refine g_gd fun k50 => ?_
    refine g_iald (pc := 50) X r2_6 k50 (dl_at t_X14_wavers 15 rfl) fun g50 => ?_
    refine g_icmpeq (pc := 51) X g42 g50 (off := 7) (tgt := 58) rfl (dl_at t_X14_wavers 16 rfl) (fun _ => ?_) (fun _ => ?_)
    · refine g_iconst (pc := 58) X (n := 0) (dl_at t_X14_wavers 19 rfl) ?_
      exact g_zret (pc := 59) X (Or.inl rfl) rfl rfl (dl_at t_X14_wavers 20 rfl)
    refine g_iconst (pc := 54) X (n := 1) (dl_at t_X14_wavers 17 rfl) ?_
    refine g_goto (pc := 55) X (off := 4) (tgt := 59) rfl (dl_at t_X14_wavers 18 rfl) ?_
    exact g_zret (pc := 59) X (Or.inr rfl) rfl rfl (dl_at t_X14_wavers 20 rfl)
  refine g_case (fun w13_1 => ?_) (fun nw13_1 => ?_)
  · refine g_tabIn (pc := 13) X (off := 47) (tgt := 60) g12 w13_1 (by decide) (by decide) rfl rfl dS_X14_wavers_13 ?_
    refine g_aload_n (pc := 60) X (j := 0) (i := 0) (q := 2) (x := a0) rfl rfl (dl_at t_X14_wavers 21 rfl) ?_
    refine g_aload_n (pc := 61) X (j := 0) (i := 0) (q := 2) (x := a0) rfl rfl (dl_at t_X14_wavers 22 rfl) ?_
    refine r_getr (pc := 62) X fX14_31 hk q1284 (dl_at t_X14_wavers 23 rfl) ?_
    refine g_iload_n (pc := 65) X (j := 2) (i := 2) (q := 0) (x := x2_6) rfl rfl (dl_at t_X14_wavers 24 rfl) ?_
    refine g_gd fun k66 => ?_
    refine g_iald (pc := 66) X r2_6 k66 (dl_at t_X14_wavers 25 rfl) fun g66 => ?_
    refine r_callRi (pc := 67) X (fun _ hv => s_X14_numberAt hk g66 hv) cw_code q2377 q368 (in_Vk X (As := [iv (h (h a0 31) x2_6)]) kX14 hk (Or.inl q2374) q2376 qs93 cw_code q2377 ⟨by decide, by decide⟩ rfl (dl_at t_X14_wavers 26 rfl)) (dl_at t_X14_wavers 26 rfl) (cat24 (st := []) (Nat.le_of_ble_eq_true rfl)) (Nat.le_of_ble_eq_true rfl) (Nat.le_of_ble_eq_true rfl) fun v67 g67 => ?_
    refine g_aload_n (pc := 70) X (j := 0) (i := 0) (q := 2) (x := a0) rfl rfl (dl_at t_X14_wavers 27 rfl) ?_
    refine r_getr (pc := 71) X fX14_41 hk q1302 (dl_at t_X14_wavers 28 rfl) ?_
    refine g_iload_n (pc := 74) X (j := 2) (i := 2) (q := 0) (x := x2_6) rfl rfl (dl_at t_X14_wavers 29 rfl) ?_
    refine g_gd fun k75 => ?_
    refine g_iald (pc := 75) X r2_6 k75 (dl_at t_X14_wavers 30 rfl) fun g75 => ?_
    refine g_icmpeq (pc := 76) X g67 g75 (off := 7) (tgt := 83) rfl (dl_at t_X14_wavers 31 rfl) (fun _ => ?_) (fun _ => ?_)
    · refine g_iconst (pc := 83) X (n := 0) (dl_at t_X14_wavers 34 rfl) ?_
      exact g_zret (pc := 84) X (Or.inl rfl) rfl rfl (dl_at t_X14_wavers 35 rfl)
    refine g_iconst (pc := 79) X (n := 1) (dl_at t_X14_wavers 32 rfl) ?_
    refine g_goto (pc := 80) X (off := 4) (tgt := 84) rfl (dl_at t_X14_wavers 33 rfl) ?_
    exact g_zret (pc := 84) X (Or.inr rfl) rfl rfl (dl_at t_X14_wavers 35 rfl)
  refine g_case (fun w13_2 => ?_) (fun nw13_2 => ?_)
  · refine g_tabIn (pc := 13) X (off := 72) (tgt := 85) g12 w13_2 (by decide) (by decide) rfl rfl dS_X14_wavers_13 ?_
    refine g_aload_n (pc := 85) X (j := 0) (i := 0) (q := 2) (x := a0) rfl rfl (dl_at t_X14_wavers 36 rfl) ?_
    refine g_aload_n (pc := 86) X (j := 0) (i := 0) (q := 2) (x := a0) rfl rfl (dl_at t_X14_wavers 37 rfl) ?_
    refine r_getr (pc := 87) X fX14_31 hk q1284 (dl_at t_X14_wavers 38 rfl) ?_
    refine g_iload_n (pc := 90) X (j := 2) (i := 2) (q := 0) (x := x2_6) rfl rfl (dl_at t_X14_wavers 39 rfl) ?_
    refine g_gd fun k91 => ?_
    refine g_iald (pc := 91) X r2_6 k91 (dl_at t_X14_wavers 40 rfl) fun g91 => ?_
    refine r_callRi (pc := 92) X (fun _ hv => s_X14_numberAt hk g91 hv) cw_code q2377 q368 (in_Vk X (As := [iv (h (h a0 31) x2_6)]) kX14 hk (Or.inl q2374) q2376 qs93 cw_code q2377 ⟨by decide, by decide⟩ rfl (dl_at t_X14_wavers 41 rfl)) (dl_at t_X14_wavers 41 rfl) (cat24 (st := []) (Nat.le_of_ble_eq_true rfl)) (Nat.le_of_ble_eq_true rfl) (Nat.le_of_ble_eq_true rfl) fun v92 g92 => ?_
    refine g_aload_n (pc := 95) X (j := 0) (i := 0) (q := 2) (x := a0) rfl rfl (dl_at t_X14_wavers 42 rfl) ?_
    refine r_getr (pc := 96) X fX14_41 hk q1302 (dl_at t_X14_wavers 43 rfl) ?_
    refine g_iload_n (pc := 99) X (j := 2) (i := 2) (q := 0) (x := x2_6) rfl rfl (dl_at t_X14_wavers 44 rfl) ?_
    refine g_gd fun k100 => ?_
    refine g_iald (pc := 100) X r2_6 k100 (dl_at t_X14_wavers 45 rfl) fun g100 => ?_
    refine g_icmpne (pc := 101) X g92 g100 (off := 17) (tgt := 118) rfl (dl_at t_X14_wavers 46 rfl) (fun _ => ?_) (fun _ => ?_)
    · refine g_iconst (pc := 118) X (n := 1) (dl_at t_X14_wavers 55 rfl) ?_
      refine g_goto (pc := 119) X (off := 4) (tgt := 123) rfl (dl_at t_X14_wavers 56 rfl) ?_
      exact g_zret (pc := 123) X (Or.inr rfl) rfl rfl (dl_at t_X14_wavers 58 rfl)
    refine g_aload_n (pc := 104) X (j := 0) (i := 0) (q := 2) (x := a0) rfl rfl (dl_at t_X14_wavers 47 rfl) ?_
    refine g_iload_n (pc := 105) X (j := 2) (i := 2) (q := 0) (x := x2_6) rfl rfl (dl_at t_X14_wavers 48 rfl) ?_
    refine r_callRi (pc := 106) X (fun _ hv => s_X14_lastNumber hk r2_6 hv) cw_code q2381 q368 (in_Vk X (As := [iv x2_6]) kX14 hk (Or.inl q2378) q2380 qs94 cw_code q2381 ⟨by decide, by decide⟩ rfl (dl_at t_X14_wavers 49 rfl)) (dl_at t_X14_wavers 49 rfl) (cat24 (st := []) (Nat.le_of_ble_eq_true rfl)) (Nat.le_of_ble_eq_true rfl) (Nat.le_of_ble_eq_true rfl) fun v106 g106 => ?_
    refine g_aload_n (pc := 109) X (j := 0) (i := 0) (q := 2) (x := a0) rfl rfl (dl_at t_X14_wavers 50 rfl) ?_
    refine r_getr (pc := 110) X fX14_42 hk q1303 (dl_at t_X14_wavers 51 rfl) ?_
    refine g_iload_n (pc := 113) X (j := 2) (i := 2) (q := 0) (x := x2_6) rfl rfl (dl_at t_X14_wavers 52 rfl) ?_
    refine g_gd fun k114 => ?_
    refine g_iald (pc := 114) X r2_6 k114 (dl_at t_X14_wavers 53 rfl) fun g114 => ?_
    refine g_icmpeq (pc := 115) X g106 g114 (off := 7) (tgt := 122) rfl (dl_at t_X14_wavers 54 rfl) (fun _ => ?_) (fun _ => ?_)
    · refine g_iconst (pc := 122) X (n := 0) (dl_at t_X14_wavers 57 rfl) ?_
      exact g_zret (pc := 123) X (Or.inl rfl) rfl rfl (dl_at t_X14_wavers 58 rfl)
    refine g_iconst (pc := 118) X (n := 1) (dl_at t_X14_wavers 55 rfl) ?_
    refine g_goto (pc := 119) X (off := 4) (tgt := 123) rfl (dl_at t_X14_wavers 56 rfl) ?_
    exact g_zret (pc := 123) X (Or.inr rfl) rfl rfl (dl_at t_X14_wavers 58 rfl)
  have w13_3 : ¬ (h (h a0 52) a1) ∈ ([0, 1, 2] : List Int) := by simp only [List.mem_cons, List.not_mem_nil, or_false, not_or] at *; simp only [*, not_false_eq_true, and_self]
  refine g_tabElse (pc := 13) X (tgt := 124) [0, 1, 2] g12 w13_3 rfl rfl dS_X14_wavers_13 ?_
  refine g_iconst (pc := 124) X (n := 0) (dl_at t_X14_wavers 59 rfl) ?_
  refine g_ltz (Or.inl rfl) fun x3_125 r3_125 => ?_
  refine g_istore_n (pc := 125) X (j := 3) (i := 3) (x := x3_125) (rest := [(0, rv D a0)]) rfl (Nat.le_of_ble_eq_true rfl) [2] rfl rfl (dl_at t_X14_wavers 60 rfl) ?_
  refine g_ls (ls2 := [(0, rv D a0), (3, iv x3_125)]) [1, 0] rfl ?_
  refine g_loop0F (fun (q : Int) => [(0, rv D a0), (3, iv q)]) (fun (q : Int) => h) (fun (q : Int) => r32 q) x3_125 (r32_z r3_125) ?_ (fun _ => rfl)
  · rintro x3_126 r3_126
    try dsimp only
    unfold m_X14_wavers_l126
    refine g_iload_n (pc := 126) X (j := 3) (i := 3) (q := 1) (x := x3_126) rfl rfl (dl_at t_X14_wavers 61 rfl) ?_
    refine g_aload_n (pc := 127) X (j := 0) (i := 0) (q := 0) (x := a0) rfl rfl (dl_at t_X14_wavers 62 rfl) ?_
    refine r_getr (pc := 128) X fX14_43 hk q1304 (dl_at t_X14_wavers 63 rfl) ?_
    refine g_gd fun k131 => ?_
    refine r_getiN (pc := 131) X fX16_3 k131 (nw_in q1211 rfl) (dl_at t_X14_wavers 64 rfl) fun g131 => ?_
    refine g_icmpge (pc := 134) X r3_126 g131 (off := 41) (tgt := 175) rfl (dl_at t_X14_wavers 65 rfl) (fun _ => ?_) (fun _ => ?_)
    · refine g_iconst (pc := 175) X (n := 0) (dl_at t_X14_wavers 86 rfl) ?_
      exact g_at fun Q hQ => (g_zret (pc := 176) X (Or.inl rfl) rfl rfl (dl_at t_X14_wavers 87 rfl)) _ Q rfl hQ
    refine g_aload_n (pc := 137) X (j := 0) (i := 0) (q := 0) (x := a0) rfl rfl (dl_at t_X14_wavers 66 rfl) ?_
    refine g_aload_n (pc := 138) X (j := 0) (i := 0) (q := 0) (x := a0) rfl rfl (dl_at t_X14_wavers 67 rfl) ?_
    refine r_getr (pc := 139) X fX14_43 hk q1304 (dl_at t_X14_wavers 68 rfl) ?_
    refine r_getrN (pc := 142) X fX16_1 k131 (nw_in q1208 rfl) (dl_at t_X14_wavers 69 rfl) ?_
    refine g_iload_n (pc := 145) X (j := 3) (i := 3) (q := 1) (x := x3_126) rfl rfl (dl_at t_X14_wavers 70 rfl) ?_
    refine g_gd fun k146 => ?_
    refine g_iald (pc := 146) X r3_126 k146 (dl_at t_X14_wavers 71 rfl) fun g146 => ?_
    refine r_callRi (pc := 147) X (fun _ hv => s_X14_pageOf hk g146 hv) cw_code q2369 q368 (in_Vk X (As := [iv (h (h (h a0 43) 1) x3_126)]) kX14 hk (Or.inl q2366) q2368 qs91 cw_code q2369 ⟨by decide, by decide⟩ rfl (dl_at t_X14_wavers 72 rfl)) (dl_at t_X14_wavers 72 rfl) (cat24 (st := []) (Nat.le_of_ble_eq_true rfl)) (Nat.le_of_ble_eq_true rfl) (Nat.le_of_ble_eq_true rfl) fun v147 g147 => ?_
    refine g_aload_n (pc := 150) X (j := 0) (i := 0) (q := 0) (x := a0) rfl rfl (dl_at t_X14_wavers 73 rfl) ?_
    refine r_getr (pc := 151) X fX14_40 hk q1301 (dl_at t_X14_wavers 74 rfl) ?_
    refine g_aload_n (pc := 154) X (j := 0) (i := 0) (q := 0) (x := a0) rfl rfl (dl_at t_X14_wavers 75 rfl) ?_
    refine r_getr (pc := 155) X fX14_43 hk q1304 (dl_at t_X14_wavers 76 rfl) ?_
    refine r_getrN (pc := 158) X fX16_1 k131 (nw_in q1208 rfl) (dl_at t_X14_wavers 77 rfl) ?_
    refine g_iload_n (pc := 161) X (j := 3) (i := 3) (q := 1) (x := x3_126) rfl rfl (dl_at t_X14_wavers 78 rfl) ?_
    refine g_iald (pc := 162) X r3_126 k146 (dl_at t_X14_wavers 79 rfl) fun g162 => ?_
    refine g_gd fun k163 => ?_
    refine g_iald (pc := 163) X g162 k163 (dl_at t_X14_wavers 80 rfl) fun g163 => ?_
    refine g_icmpeq (pc := 164) X g147 g163 (off := 5) (tgt := 169) rfl (dl_at t_X14_wavers 81 rfl) (fun _ => ?_) (fun _ => ?_)
    · refine r_iinc (pc := 169) X (i := 3) (q := 1) (n := 1) (x := x3_126) (rest := [(0, rv D a0)]) rfl r3_126 (r32_c rfl) (Nat.le_of_ble_eq_true rfl) [0] rfl rfl (dl_at t_X14_wavers 84 rfl) fun x3_169 r3_169 => ?_
      refine g_goto (pc := 172) X (off := (-46)) (tgt := 126) rfl (dl_at t_X14_wavers 85 rfl) ?_
      refine g_ls (ls2 := [(0, rv D a0), (3, iv x3_169)]) [1, 0] rfl ?_
      exact g_at fun Q hQ => hQ r3_169
    refine g_iconst (pc := 167) X (n := 1) (dl_at t_X14_wavers 82 rfl) ?_
    exact g_at fun Q hQ => (g_zret (pc := 168) X (Or.inr rfl) rfl rfl (dl_at t_X14_wavers 83 rfl)) _ Q rfl hQ
def k_X14_isSettled : List (Nat × Instr × Nat) := [(0, .iconst 0, 1), (1, .istore_n 1, 1), (2, .iload_n 1, 1), (3, .aload_n 0, 1), (4, .getfield 214, 3), (7, .if_icmp .ge 19, 3), (10, .aload_n 0, 1), (11, .iload_n 1, 1), (12, .invokevirtual 583, 3), (15, .ifCond .eq 5, 3), (18, .iconst 0, 1), (19, .ireturn, 1), (20, .iinc 1 1, 3), (23, .goto (-21), 3), (26, .iconst 1, 1), (27, .ireturn, 1)]
theorem t_X14_isSettled : ∀ q ∈ k_X14_isSettled, decode cX14_isSettled q.1 = .ok q.2 := dl_all (by decide +kernel)
noncomputable def m_X14_isSettled_l2 (a0 x1_2 : Int) (h : Hp) : Option ((Int) ⊕ ((Int))) :=
  if (h a0 53) ≤ x1_2 then (some (.inr 1))
  else ((m_X14_wavers a0 x1_2 h).bind fun v12 =>
  if v12 = 0 then (lt_ (w32 (x1_2 + 1)) fun x1_20 =>
  some (.inl x1_20))
  else (some (.inr 0)))
noncomputable def m_X14_isSettled (a0 : Int) (h : Hp) : Option (Int) :=
  lt_ 0 fun x1_1 =>
  (lp (fun (q : Int) => m_X14_isSettled_l2 a0 q h) x1_1).bind (fun (x : Int) => some x)
theorem s_X14_isSettled {l : Launch} [NoTr l] {D : SD} {a0 : Int} {h : Hp} (hk : h a0 (-2) = 224) {r : Int} (hm : m_X14_isSettled a0 h = some r) : Sim l D yX14_isSettled (Cond.code yX14_isSettled cX14_isSettled 2 (Option.some Jvm.ClassFile.FieldType.boolean)) 3 113 [rv D a0] h 3 ((0, r), h) := by
  refine Sim.of (fin := fun (v : Int) => ((0, v), h)) (lsE := [(0, rv D a0)]) hm rfl cwS_code (la_r la_n) (ll_r ll_n) ?_
  intro p e s m below meth c X hcw hmm hcc hnm hname
  unfold m_X14_isSettled
  refine g_iconst (pc := 0) X (n := 0) (dl_at t_X14_isSettled 0 rfl) ?_
  refine g_ltz (Or.inl rfl) fun x1_1 r1_1 => ?_
  refine g_istore_nN (pc := 1) X (j := 1) (i := 1) (x := x1_1) (b := 0) (w := rv D a0) (rest := []) rfl (Nat.le_of_ble_eq_true rfl) [0] rfl (by decide) rv_cat rfl (dl_at t_X14_isSettled 1 rfl) ?_
  refine g_ls (ls2 := [(0, rv D a0), (1, iv x1_1)]) [1, 0] rfl ?_
  refine g_loop0F (fun (q : Int) => [(0, rv D a0), (1, iv q)]) (fun (q : Int) => h) (fun (q : Int) => r32 q) x1_1 (r32_z r1_1) ?_ (fun _ => rfl)
  · rintro x1_2 r1_2
    try dsimp only
    unfold m_X14_isSettled_l2
    refine g_iload_n (pc := 2) X (j := 1) (i := 1) (q := 1) (x := x1_2) rfl rfl (dl_at t_X14_isSettled 2 rfl) ?_
    refine g_aload_n (pc := 3) X (j := 0) (i := 0) (q := 0) (x := a0) rfl rfl (dl_at t_X14_isSettled 3 rfl) ?_
    refine r_geti (pc := 4) X fX14_53 hk q1315 (dl_at t_X14_isSettled 4 rfl) fun g4 => ?_
    refine g_icmpge (pc := 7) X r1_2 g4 (off := 19) (tgt := 26) rfl (dl_at t_X14_isSettled 5 rfl) (fun _ => ?_) (fun _ => ?_)
    · refine g_iconst (pc := 26) X (n := 1) (dl_at t_X14_isSettled 14 rfl) ?_
      exact g_at fun Q hQ => (g_zret (pc := 27) X (Or.inr rfl) rfl rfl (dl_at t_X14_isSettled 15 rfl)) _ Q rfl hQ
    refine g_aload_n (pc := 10) X (j := 0) (i := 0) (q := 0) (x := a0) rfl rfl (dl_at t_X14_isSettled 6 rfl) ?_
    refine g_iload_n (pc := 11) X (j := 1) (i := 1) (q := 1) (x := x1_2) rfl rfl (dl_at t_X14_isSettled 7 rfl) ?_
    refine r_callRz (pc := 12) X (fun _ hv => s_X14_wavers hk r1_2 hv) cw_code q3047 q368 (in_Vk X (As := [iv x1_2]) kX14 hk (Or.inl q3044) q3046 qs213 cw_code q3047 ⟨by decide, by decide⟩ rfl (dl_at t_X14_isSettled 8 rfl)) (dl_at t_X14_isSettled 8 rfl) (cat24 (st := []) (Nat.le_of_ble_eq_true rfl)) (Nat.le_of_ble_eq_true rfl) (Nat.le_of_ble_eq_true rfl) fun v12 g12 => ?_
    refine g_ifeq (pc := 15) X (r32_z g12) (off := 5) (tgt := 20) rfl (dl_at t_X14_isSettled 9 rfl) (fun _ => ?_) (fun _ => ?_)
    · refine r_iincN (pc := 20) X (i := 1) (q := 1) (n := 1) (x := x1_2) (b := 0) (w := rv D a0) (rest := []) rfl r1_2 (r32_c rfl) (Nat.le_of_ble_eq_true rfl) [0] rfl (by decide) rv_cat rfl (dl_at t_X14_isSettled 12 rfl) fun x1_20 r1_20 => ?_
      refine g_goto (pc := 23) X (off := (-21)) (tgt := 2) rfl (dl_at t_X14_isSettled 13 rfl) ?_
      refine g_ls (ls2 := [(0, rv D a0), (1, iv x1_20)]) [1, 0] rfl ?_
      exact g_at fun Q hQ => hQ r1_20
    refine g_iconst (pc := 18) X (n := 0) (dl_at t_X14_isSettled 10 rfl) ?_
    exact g_at fun Q hQ => (g_zret (pc := 19) X (Or.inl rfl) rfl rfl (dl_at t_X14_isSettled 11 rfl)) _ Q rfl hQ
def k_X17_fresh : List (Nat × Instr × Nat) := [(0, .iconst 0, 1), (1, .istore_n 2, 1), (2, .iconst 0, 1), (3, .istore_n 3, 1), (4, .iload_n 3, 1), (5, .aload_n 1, 1), (6, .getfield 22, 3), (9, .if_icmp .ge 25, 3), (12, .aload_n 0, 1), (13, .aload_n 1, 1), (14, .getfield 28, 3), (17, .iload_n 3, 1), (18, .aaload, 1), (19, .invokevirtual 52, 3), (22, .ifnonnull 6, 3), (25, .iinc 2 1, 3), (28, .iinc 3 1, 3), (31, .goto (-27), 3), (34, .iload_n 2, 1), (35, .ireturn, 1)]
theorem t_X17_fresh : ∀ q ∈ k_X17_fresh, decode cX17_fresh q.1 = .ok q.2 := dl_all (by decide +kernel)
noncomputable def m_X17_fresh_j28 (x3_4 x2_28 : Int) : Option ((Int × Int) ⊕ ((Int))) :=
  lt_ (w32 (x3_4 + 1)) fun x3_28 =>
  some (.inl (x2_28, x3_28))
noncomputable def m_X17_fresh_l4 (a0 a1 x2_4 x3_4 : Int) (h : Hp) : Option ((Int × Int) ⊕ ((Int))) :=
  gd (h a1 (-2) = 224) (if (h a1 9) ≤ x3_4 then (some (.inr x2_4))
  else (gd (h (h a1 8) (-2) % 16 = 9 ∧ (0 : Int) ≤ x3_4 ∧ x3_4 < h (h a1 8) (-1)) ((m_X17_find a0 (h (h a1 8) x3_4) h).bind fun v19 =>
  if v19 ≠ 0 then (m_X17_fresh_j28 x3_4 x2_4)
  else (lt_ (w32 (x2_4 + 1)) fun x2_25 =>
  m_X17_fresh_j28 x3_4 x2_25))))
noncomputable def m_X17_fresh (a0 a1 : Int) (h : Hp) : Option (Int) :=
  lt_ 0 fun x2_1 =>
  lt_ 0 fun x3_3 =>
  (lp (fun (q : Int × Int) => m_X17_fresh_l4 a0 a1 q.1 q.2 h) (x2_1, x3_3)).bind (fun (x : Int) => some x)
theorem s_X17_fresh {l : Launch} [NoTr l] {D : SD} {a0 a1 : Int} {h : Hp} (hk : h a0 (-2) = 272) {r : Int} (hm : m_X17_fresh a0 a1 h = some r) : Sim l D yX17_fresh (Cond.code yX17_fresh cX17_fresh 4 (Option.some Jvm.ClassFile.FieldType.int)) 3 113 [rv D a0, rv D a1] h 1 ((0, r), h) := by
  refine Sim.of (fin := fun (v : Int) => ((0, v), h)) (lsE := [(0, rv D a0), (1, rv D a1)]) hm rfl cwS_code (la_r (la_r la_n)) (ll_r (ll_r ll_n)) ?_
  intro p e s m below meth c X hcw hmm hcc hnm hname
  unfold m_X17_fresh
  refine g_iconst (pc := 0) X (n := 0) (dl_at t_X17_fresh 0 rfl) ?_
  refine g_ltz (Or.inl rfl) fun x2_1 r2_1 => ?_
  refine g_istore_nN (pc := 1) X (j := 2) (i := 2) (x := x2_1) (b := 1) (w := rv D a1) (rest := [(0, rv D a0)]) rfl (Nat.le_of_ble_eq_true rfl) [1, 0] rfl (by decide) rv_cat rfl (dl_at t_X17_fresh 1 rfl) ?_
  refine g_iconst (pc := 2) X (n := 0) (dl_at t_X17_fresh 2 rfl) ?_
  refine g_ltz (Or.inl rfl) fun x3_3 r3_3 => ?_
  refine g_istore_nN (pc := 3) X (j := 3) (i := 3) (x := x3_3) (b := 2) (w := iv x2_1) (rest := [(1, rv D a1), (0, rv D a0)]) rfl (Nat.le_of_ble_eq_true rfl) [0, 1, 2] rfl (by decide) rfl rfl (dl_at t_X17_fresh 3 rfl) ?_
  refine g_ls (ls2 := [(0, rv D a0), (1, rv D a1), (2, iv x2_1), (3, iv x3_3)]) [3, 2, 1, 0] rfl ?_
  refine g_loop0F (fun (q : Int × Int) => [(0, rv D a0), (1, rv D a1), (2, iv q.1), (3, iv q.2)]) (fun (q : Int × Int) => h) (fun (q : Int × Int) => r32 q.1 ∧ r32 q.2) (x2_1, x3_3) ⟨(r32_z r2_1), (r32_z r3_3)⟩ ?_ (fun _ => rfl)
  · rintro ⟨x2_4, x3_4⟩ ⟨r2_4, r3_4⟩
    try dsimp only
    unfold m_X17_fresh_l4
    refine g_iload_n (pc := 4) X (j := 3) (i := 3) (q := 3) (x := x3_4) rfl rfl (dl_at t_X17_fresh 4 rfl) ?_
    refine g_aload_n (pc := 5) X (j := 1) (i := 1) (q := 1) (x := a1) rfl rfl (dl_at t_X17_fresh 5 rfl) ?_
    refine g_gd fun k6 => ?_
    refine r_getiN (pc := 6) X fX14_9 k6 (nw_in q1254 rfl) (dl_at t_X17_fresh 6 rfl) fun g6 => ?_
    refine g_icmpge (pc := 9) X r3_4 g6 (off := 25) (tgt := 34) rfl (dl_at t_X17_fresh 7 rfl) (fun _ => ?_) (fun _ => ?_)
    · refine g_iload_n (pc := 34) X (j := 2) (i := 2) (q := 2) (x := x2_4) rfl rfl (dl_at t_X17_fresh 18 rfl) ?_
      exact g_at fun Q hQ => (g_iret (pc := 35) X r2_4 rfl rfl (dl_at t_X17_fresh 19 rfl)) _ Q rfl hQ
    refine g_aload_n (pc := 12) X (j := 0) (i := 0) (q := 0) (x := a0) rfl rfl (dl_at t_X17_fresh 8 rfl) ?_
    refine g_aload_n (pc := 13) X (j := 1) (i := 1) (q := 1) (x := a1) rfl rfl (dl_at t_X17_fresh 9 rfl) ?_
    refine r_getrN (pc := 14) X fX14_8 k6 (nw_in q1253 rfl) (dl_at t_X17_fresh 10 rfl) ?_
    refine g_iload_n (pc := 17) X (j := 3) (i := 3) (q := 3) (x := x3_4) rfl rfl (dl_at t_X17_fresh 11 rfl) ?_
    refine g_gd fun k18 => ?_
    refine g_aald (pc := 18) X 9 (Nat.le_of_ble_eq_true rfl) (Nat.le_of_ble_eq_true rfl) r3_4 rfl k18 (dl_at t_X17_fresh 12 rfl) ?_
    refine r_callRr (pc := 19) X (fun _ hv => s_X17_find hk hv) cw_code q2854 q371 (in_Vk X (As := [rv D (h (h a1 8) x3_4)]) kX17 hk (Or.inl q2851) q2853 qs172 cw_code q2854 ⟨by decide, by decide⟩ rfl (dl_at t_X17_fresh 13 rfl)) (dl_at t_X17_fresh 13 rfl) (cat24 (st := []) (Nat.le_of_ble_eq_true rfl)) (Nat.le_of_ble_eq_true rfl) (Nat.le_of_ble_eq_true rfl) fun v19 => ?_
    refine g_join (γ := Int) (fun q => r32 q) 28 (fun q => [(0, rv D a0), (1, rv D a1), (2, iv q), (3, iv x3_4)]) (fun q => []) (fun q => h) (fun q => m_X17_fresh_j28 x3_4 q) ?_ ?_
    · rintro x2_28 r2_28
      try dsimp only
      unfold m_X17_fresh_j28
      refine r_iincN (pc := 28) X (i := 3) (q := 3) (n := 1) (x := x3_4) (b := 2) (w := iv x2_28) (rest := [(0, rv D a0), (1, rv D a1)]) rfl r3_4 (r32_c rfl) (Nat.le_of_ble_eq_true rfl) [2, 0, 1] rfl (by decide) rfl rfl (dl_at t_X17_fresh 16 rfl) fun x3_28 r3_28 => ?_
      refine g_goto (pc := 31) X (off := (-27)) (tgt := 4) rfl (dl_at t_X17_fresh 17 rfl) ?_
      refine g_ls (ls2 := [(0, rv D a0), (1, rv D a1), (2, iv x2_28), (3, iv x3_28)]) [2, 3, 1, 0] rfl ?_
      exact g_at fun Q hQ => hQ ⟨r2_28, r3_28⟩
    intro J28
    refine g_ifnonnull (pc := 22) X (off := 6) (tgt := 28) rfl (dl_at t_X17_fresh 14 rfl) (fun _ => ?_) (fun _ => ?_)
    · exact J28 x2_4 r2_4
    refine r_iincN (pc := 25) X (i := 2) (q := 2) (n := 1) (x := x2_4) (b := 1) (w := rv D a1) (rest := [(0, rv D a0), (3, iv x3_4)]) rfl r2_4 (r32_c rfl) (Nat.le_of_ble_eq_true rfl) [1, 0, 3] rfl (by decide) rv_cat rfl (dl_at t_X17_fresh 15 rfl) fun x2_25 r2_25 => ?_
    refine g_ls (ls2 := [(0, rv D a0), (1, rv D a1), (2, iv x2_25), (3, iv x3_4)]) [2, 1, 0, 3] rfl ?_
    exact J28 x2_25 r2_25
def k_X1_set : List (Nat × Instr × Nat) := [(0, .iload_n 1, 1), (1, .iconst 1, 1), (2, .if_icmp .lt 13, 3), (5, .iload_n 1, 1), (6, .bipush 9, 2), (8, .if_icmp .gt 7, 3), (11, .iconst 1, 1), (12, .goto 4, 3), (15, .iconst 0, 1), (16, .invokestatic 134, 3), (19, .aload_n 0, 1), (20, .getfield 182, 3), (23, .ifnull 7, 3), (26, .iconst 1, 1), (27, .goto 4, 3), (30, .iconst 0, 1), (31, .invokestatic 212, 3), (34, .aconst_null, 1), (35, .astore_n 2, 1), (36, .iconst 0, 1), (37, .istore_n 3, 1), (38, .iconst 0, 1), (39, .istore 4, 2), (41, .iload_n 3, 1), (42, .iload_n 1, 1), (43, .if_icmp .ge 68, 3), (46, .iload 4, 2), (48, .ifCond .ne 63, 3), (51, .aload_n 0, 1), (52, .aload_n 2, 1), (53, .invokevirtual 224, 3), (56, .astore 5, 2), (58, .aload 5, 2), (60, .aload_n 0, 1), (61, .invokevirtual 228, 3), (64, .aload_n 0, 1), (65, .getfield 63, 3), (68, .aload_n 0, 1), (69, .getfield 73, 3), (72, .aload_n 2, 1), (73, .invokevirtual 231, 3), (76, .aload 5, 2), (78, .invokevirtual 234, 3), (81, .aload 5, 2), (83, .aload_n 0, 1), (84, .getfield 103, 3), (87, .invokevirtual 237, 3), (90, .aload 5, 2), (92, .invokevirtual 241, 3), (95, .aload 5, 2), (97, .invokevirtual 244, 3), (100, .istore 4, 2), (102, .aload 5, 2), (104, .astore_n 2, 1), (105, .iinc 3 1, 3), (108, .goto (-67), 3), (111, .aload_n 0, 1), (112, .getfield 103, 3), (115, .aload_n 0, 1), (116, .getfield 169, 3), (119, .invokevirtual 248, 3), (122, .aload_n 0, 1), (123, .aload_n 0, 1), (124, .getfield 103, 3), (127, .aload_n 2, 1), (128, .invokevirtual 251, 3), (131, .putfield 255, 3), (134, .aload_n 0, 1), (135, .aload_n 2, 1), (136, .putfield 169, 3), (139, .iload 4, 2), (141, .ifCond .eq 7, 3), (144, .iload_n 3, 1), (145, .goto 5, 3), (148, .iload_n 3, 1), (149, .ineg, 1), (150, .ireturn, 1)]
theorem t_X1_set : ∀ q ∈ k_X1_set, decode cX1_set q.1 = .ok q.2 := dl_all (by decide +kernel)
noncomputable def m_X1_set_l41 (a0 a1 x2_41 x3_41 x4_41 : Int) (h_41 : Hp) : Option ((Int × Int × Int × Hp) ⊕ ((Int × Int × Int × Hp) ⊕ (((Int × Int) × Hp)))) :=
  if a1 ≤ x3_41 then (some (.inr (.inl (x2_41, x3_41, x4_41, h_41))))
  else (if x4_41 ≠ 0 then (some (.inr (.inl (x2_41, x3_41, x4_41, h_41))))
  else ((m_X1_freeBook a0 x2_41 h_41).bind fun v53 =>
  bW (m_X1_tree a0 h_41) fun v61 h61 =>
  gd (h61 v53 (-2) = 224) ((m_X14_begin v53 v61 (h61 a0 7) (h61 a0 9) x2_41 h61).bind fun h73 =>
  bT (m_X14_gather v53 h73) (fun _ h78 =>
  bT (m_X14_set v53 (h78 a0 17) h78) (fun _ h87 =>
  bT (m_X14_breakColumns v53 h87) (fun _ h92 =>
  (m_X14_isSettled v53 h92).bind fun v97 =>
  lt_ (w32 (x3_41 + 1)) fun x3_105 =>
  some (.inl (v53, x3_105, v97, h92))) (fun a_ h_ => some (.inr (.inr ((1, a_), h_))))) (fun a_ h_ => some (.inr (.inr ((1, a_), h_))))) (fun a_ h_ => some (.inr (.inr ((1, a_), h_)))))))
noncomputable def m_X1_set_j31 (a0 a1 s0_31 : Int) (h16 : Hp) : Option ((Int × Int) × Hp) :=
  bT (m_X1_state s0_31 h16) (fun _ h31 =>
  lt_ 0 fun x2_35 =>
  lt_ 0 fun x3_37 =>
  lt_ 0 fun x4_39 =>
  (lp (fun (q : Int × Int × Int × Hp) => m_X1_set_l41 a0 a1 q.1 q.2.1 q.2.2.1 q.2.2.2) (x2_35, x3_37, x4_39, h31)).bind (sE (fun (y111 : Int × Int × Int × Hp) => gd (y111.2.2.2 (y111.2.2.2 a0 17) (-2) = 272) ((m_X17_begin (y111.2.2.2 a0 17) (y111.2.2.2 a0 18) y111.2.2.2).bind fun h119 =>
  gd (h119 (h119 a0 17) (-2) = 272) ((m_X17_fresh (h119 a0 17) y111.1 h119).bind fun v128 =>
  pt h119 a0 19 v128 fun h131 =>
  pt h131 a0 18 y111.1 fun h136 =>
  if y111.2.2.1 = 0 then (some ((0, (w32 (-y111.2.1))), h136))
  else (some ((0, y111.2.1), h136))))) (fun (x : (Int × Int) × Hp) => some x))) (fun a_ h_ => some ((1, a_), h_))
noncomputable def m_X1_set_j16 (a0 a1 s0_16 : Int) (h : Hp) : Option ((Int × Int) × Hp) :=
  bT (m_X1_good s0_16 h) (fun _ h16 =>
  if (h16 a0 11) = 0 then (m_X1_set_j31 a0 a1 0 h16)
  else (m_X1_set_j31 a0 a1 1 h16)) (fun a_ h_ => some ((1, a_), h_))
noncomputable def m_X1_set_j15 (a0 a1 : Int) (h : Hp) : Option ((Int × Int) × Hp) :=
  m_X1_set_j16 a0 a1 0 h
noncomputable def m_X1_set (a0 a1 : Int) (h : Hp) : Option ((Int × Int) × Hp) :=
  if a1 < 1 then (m_X1_set_j15 a0 a1 h)
  else (if 9 < a1 then (m_X1_set_j15 a0 a1 h)
  else (m_X1_set_j16 a0 a1 1 h))
theorem s_X1_set {l : Launch} [NoTr l] {D : SD} {a0 a1 : Int} {h : Hp} (hk : h a0 (-2) = 16) (r1 : r32 a1) {r : (Int × Int) × Hp} (hm : m_X1_set a0 a1 h = some r) : Sim l D yX1_set (Cond.code yX1_set cX1_set 6 (Option.some Jvm.ClassFile.FieldType.int)) 72 2944 [rv D a0, iv a1] h 1 r := by
  refine Sim.of (fin := fun (v : (Int × Int) × Hp) => v) (lsE := [(0, rv D a0), (1, iv a1)]) hm rfl cwS_code (la_r (la_i la_n)) (ll_r (ll_i ll_n)) ?_
  intro p e s m below meth c X hcw hmm hcc hnm hname
  have hno := noh hcw hnm hmm hcc
  unfold m_X1_set
  refine g_iload_n (pc := 0) X (j := 1) (i := 1) (q := 1) (x := a1) rfl rfl (dl_at t_X1_set 0 rfl) ?_
  refine g_iconst (pc := 1) X (n := 1) (dl_at t_X1_set 1 rfl) ?_
  refine g_join (γ := Int) (fun q => (q = 0 ∨ q = 1)) 16 (fun q => [(0, rv D a0), (1, iv a1)]) (fun q => [iv q]) (fun q => h) (fun q => m_X1_set_j16 a0 a1 q h) ?_ ?_
  · rintro s0_16 rs0_16
    try dsimp only
    unfold m_X1_set_j16
    refine r_callTv (pc := 16) X (fun _ hv => s_X1_good rs0_16 hv) cw_code q1689 q355 (in_Sc X (As := [iv s0_16]) (Or.inl q1687) q1688 q355 q1689 ⟨by decide, by decide⟩ rfl (dl_at t_X1_set 9 rfl)) (dl_at t_X1_set 9 rfl) (cat24 (st := []) (Nat.le_of_ble_eq_true rfl)) (Nat.le_of_ble_eq_true rfl) (Nat.le_of_ble_eq_true rfl) (fun v16 h16 E16 => ?_) (fun _ _ ha _ => gt_at fun Q hQ => gt_out (Q := Q) X rfl ha (hno _) _ Q rfl hQ)
    refine g_aload_n (pc := 19) X (j := 0) (i := 0) (q := 0) (x := a0) rfl rfl (dl_at t_X1_set 10 rfl) ?_
    have k20 := kx E16 (by decide) hk
    refine r_getr (pc := 20) X fX1_11 k20 q1499 (dl_at t_X1_set 11 rfl) ?_
    refine g_join (γ := Int) (fun q => (q = 0 ∨ q = 1)) 31 (fun q => [(0, rv D a0), (1, iv a1)]) (fun q => [iv q]) (fun q => h16) (fun q => m_X1_set_j31 a0 a1 q h16) ?_ ?_
    · rintro s0_31 rs0_31
      try dsimp only
      unfold m_X1_set_j31
      refine r_callTv (pc := 31) X (fun _ hv => s_X1_state rs0_31 hv) cw_code q2244 q355 (in_Sc X (As := [iv s0_31]) (Or.inl q2242) q2243 q355 q2244 ⟨by decide, by decide⟩ rfl (dl_at t_X1_set 16 rfl)) (dl_at t_X1_set 16 rfl) (cat24 (st := []) (Nat.le_of_ble_eq_true rfl)) (Nat.le_of_ble_eq_true rfl) (Nat.le_of_ble_eq_true rfl) (fun v31 h31 E31 => ?_) (fun _ _ ha _ => gt_at fun Q hQ => gt_out (Q := Q) X rfl ha (hno _) _ Q rfl hQ)
      refine g_null (pc := 34) X (dl_at t_X1_set 17 rfl) ?_
      refine g_ltr fun x2_35 => ?_
      refine g_astore_nN (pc := 35) X (j := 2) (i := 2) (x := x2_35) (b := 1) (w := iv a1) (rest := [(0, rv D a0)]) rfl (Nat.le_of_ble_eq_true rfl) [1, 0] rfl (by decide) rfl rfl (dl_at t_X1_set 18 rfl) ?_
      refine g_iconst (pc := 36) X (n := 0) (dl_at t_X1_set 19 rfl) ?_
      refine g_ltz (Or.inl rfl) fun x3_37 r3_37 => ?_
      refine g_istore_nN (pc := 37) X (j := 3) (i := 3) (x := x3_37) (b := 2) (w := rv D x2_35) (rest := [(1, iv a1), (0, rv D a0)]) rfl (Nat.le_of_ble_eq_true rfl) [0, 1, 2] rfl (by decide) rv_cat rfl (dl_at t_X1_set 20 rfl) ?_
      refine g_iconst (pc := 38) X (n := 0) (dl_at t_X1_set 21 rfl) ?_
      refine g_ltz (Or.inl rfl) fun x4_39 r4_39 => ?_
      refine g_istoreN (pc := 39) X (i := 4) (x := x4_39) (b := 3) (w := iv x3_37) (rest := [(2, rv D x2_35), (1, iv a1), (0, rv D a0)]) (Nat.le_of_ble_eq_true rfl) [0, 1, 2, 3] rfl (by decide) rfl rfl (dl_at t_X1_set 22 rfl) ?_
      refine g_ls (ls2 := [(0, rv D a0), (1, iv a1), (2, rv D x2_35), (3, iv x3_37), (4, iv x4_39)]) [4, 3, 2, 1, 0] rfl ?_
      refine g_loop1F (fun (q : Int × Int × Int × Hp) => [(0, rv D a0), (1, iv a1), (2, rv D q.1), (3, iv q.2.1), (4, iv q.2.2.1)]) (fun (q : Int × Int × Int × Hp) => q.2.2.2) (fun (q : Int × Int × Int × Hp) => r32 q.2.1 ∧ (q.2.2.1 = 0 ∨ q.2.2.1 = 1) ∧ Ext h31 q.2.2.2) 111 (fun (y111 : Int × Int × Int × Hp) => [(0, rv D a0), (2, rv D y111.1), (3, iv y111.2.1), (4, iv y111.2.2.1)]) (fun (y111 : Int × Int × Int × Hp) => y111.2.2.2) (fun (y111 : Int × Int × Int × Hp) => r32 y111.2.1 ∧ (y111.2.2.1 = 0 ∨ y111.2.2.1 = 1) ∧ Ext h31 y111.2.2.2) (x2_35, x3_37, x4_39, h31) ⟨(r32_z r3_37), r4_39, (Ext.refl _)⟩ ?_ ?_ (fun _ => rfl)
      · rintro ⟨x2_41, x3_41, x4_41, h_41⟩ ⟨r3_41, r4_41, E_41⟩
        try dsimp only
        unfold m_X1_set_l41
        refine g_iload_n (pc := 41) X (j := 3) (i := 3) (q := 3) (x := x3_41) rfl rfl (dl_at t_X1_set 23 rfl) ?_
        refine g_iload_n (pc := 42) X (j := 1) (i := 1) (q := 1) (x := a1) rfl rfl (dl_at t_X1_set 24 rfl) ?_
        refine g_icmpge (pc := 43) X r3_41 r1 (off := 68) (tgt := 111) rfl (dl_at t_X1_set 25 rfl) (fun _ => ?_) (fun _ => ?_)
        · refine g_ls (ls2 := [(0, rv D a0), (2, rv D x2_41), (3, iv x3_41), (4, iv x4_41)]) [0, 2, 3, 4] rfl ?_
          exact g_at fun Q hQ => hQ ⟨r3_41, r4_41, E_41⟩
        refine g_iload (pc := 46) X (i := 4) (q := 4) (x := x4_41) rfl (dl_at t_X1_set 26 rfl) ?_
        refine g_ifne (pc := 48) X (r32_z r4_41) (off := 63) (tgt := 111) rfl (dl_at t_X1_set 27 rfl) (fun _ => ?_) (fun _ => ?_)
        · refine g_ls (ls2 := [(0, rv D a0), (2, rv D x2_41), (3, iv x3_41), (4, iv x4_41)]) [0, 2, 3, 4] rfl ?_
          exact g_at fun Q hQ => hQ ⟨r3_41, r4_41, E_41⟩
        refine g_aload_n (pc := 51) X (j := 0) (i := 0) (q := 0) (x := a0) rfl rfl (dl_at t_X1_set 28 rfl) ?_
        refine g_aload_n (pc := 52) X (j := 2) (i := 2) (q := 2) (x := x2_41) rfl rfl (dl_at t_X1_set 29 rfl) ?_
        have k53 := kx (E31.trans E_41) (by decide) k20
        refine r_callRr (pc := 53) X (fun _ hv => s_X1_freeBook k53 hv) cw_code q2284 q355 (in_Vk X (As := [rv D x2_41]) kX1 k53 (Or.inl q2281) q2283 qs73 cw_code q2284 ⟨by decide, by decide⟩ rfl (dl_at t_X1_set 30 rfl)) (dl_at t_X1_set 30 rfl) (cat24 (st := []) (Nat.le_of_ble_eq_true rfl)) (Nat.le_of_ble_eq_true rfl) (Nat.le_of_ble_eq_true rfl) fun v53 => ?_
        refine g_astore (pc := 56) X (i := 5) (x := v53) (rest := [(0, rv D a0), (1, iv a1), (2, rv D x2_41), (3, iv x3_41)]) (Nat.le_of_ble_eq_true rfl) [0, 1, 2, 3] rfl rfl (dl_at t_X1_set 31 rfl) ?_
        refine g_aload (pc := 58) X (i := 5) (q := 0) (x := v53) rfl (dl_at t_X1_set 32 rfl) ?_
        refine g_aload_n (pc := 60) X (j := 0) (i := 0) (q := 1) (x := a0) rfl rfl (dl_at t_X1_set 33 rfl) ?_
        refine r_callWr (pc := 61) X (fun _ hv => s_X1_tree k53 hv) cw_code q2288 q355 (in_Vk X (As := []) kX1 k53 (Or.inl q2285) q2287 qs74 cw_code q2288 ⟨by decide, by decide⟩ rfl (dl_at t_X1_set 34 rfl)) (dl_at t_X1_set 34 rfl) (cat24 (st := [rv D v53]) (Nat.le_of_ble_eq_true rfl)) (Nat.le_of_ble_eq_true rfl) (Nat.le_of_ble_eq_true rfl) fun v61 h61 E61 => ?_
        refine g_aload_n (pc := 64) X (j := 0) (i := 0) (q := 1) (x := a0) rfl rfl (dl_at t_X1_set 35 rfl) ?_
        have k65 := kx E61 (by decide) k53
        refine r_getr (pc := 65) X fX1_7 k65 q1495 (dl_at t_X1_set 36 rfl) ?_
        refine g_aload_n (pc := 68) X (j := 0) (i := 0) (q := 1) (x := a0) rfl rfl (dl_at t_X1_set 37 rfl) ?_
        refine r_getr (pc := 69) X fX1_9 k65 q1497 (dl_at t_X1_set 38 rfl) ?_
        refine g_aload_n (pc := 72) X (j := 2) (i := 2) (q := 3) (x := x2_41) rfl rfl (dl_at t_X1_set 39 rfl) ?_
        refine g_gd fun k73 => ?_
        refine r_callV (pc := 73) X (fun _ hv => s_X14_begin k73 hv) cw_code q2361 q368 (in_Vk X (As := [rv D v61, rv D (h61 a0 7), rv D (h61 a0 9), rv D x2_41]) kX14 k73 (Or.inr ⟨_, nw_in q2358 rfl⟩) q2360 qs89 cw_code q2361 ⟨by decide, by decide⟩ rfl (dl_at t_X1_set 40 rfl)) (dl_at t_X1_set 40 rfl) (cat24 (st := []) (Nat.le_of_ble_eq_true rfl)) (Nat.le_of_ble_eq_true rfl) (Nat.le_of_ble_eq_true rfl) fun h73 E73 => ?_
        refine g_aload (pc := 76) X (i := 5) (q := 0) (x := v53) rfl (dl_at t_X1_set 41 rfl) ?_
        have k78 := kx E73 (by decide) k73
        refine r_callTv (pc := 78) X (fun _ hv => s_X14_gather k78 hv) cw_code q2385 q368 (in_Vk X (As := []) kX14 k78 (Or.inr ⟨_, nw_in q2382 rfl⟩) q2384 qs95 cw_code q2385 ⟨by decide, by decide⟩ rfl (dl_at t_X1_set 42 rfl)) (dl_at t_X1_set 42 rfl) (cat24 (st := []) (Nat.le_of_ble_eq_true rfl)) (Nat.le_of_ble_eq_true rfl) (Nat.le_of_ble_eq_true rfl) (fun v78 h78 E78 => ?_) (fun _ _ ha _ => gt_at fun Q hQ => gt_out (Q := Q) X rfl ha (hno _) _ Q rfl hQ)
        refine g_aload (pc := 81) X (i := 5) (q := 0) (x := v53) rfl (dl_at t_X1_set 43 rfl) ?_
        refine g_aload_n (pc := 83) X (j := 0) (i := 0) (q := 1) (x := a0) rfl rfl (dl_at t_X1_set 44 rfl) ?_
        have k84 := kx (E73.trans E78) (by decide) k65
        refine r_getr (pc := 84) X fX1_17 k84 q1505 (dl_at t_X1_set 45 rfl) ?_
        have k87 := kx E78 (by decide) k78
        refine r_callTv (pc := 87) X (fun _ hv => s_X14_set k87 hv) cw_code q2838 q368 (in_Vk X (As := [rv D (h78 a0 17)]) kX14 k87 (Or.inr ⟨_, nw_in q2835 rfl⟩) q2837 qs169 cw_code q2838 ⟨by decide, by decide⟩ rfl (dl_at t_X1_set 46 rfl)) (dl_at t_X1_set 46 rfl) (cat24 (st := []) (Nat.le_of_ble_eq_true rfl)) (Nat.le_of_ble_eq_true rfl) (Nat.le_of_ble_eq_true rfl) (fun v87 h87 E87 => ?_) (fun _ _ ha _ => gt_at fun Q hQ => gt_out (Q := Q) X rfl ha (hno _) _ Q rfl hQ)
        refine g_aload (pc := 90) X (i := 5) (q := 0) (x := v53) rfl (dl_at t_X1_set 47 rfl) ?_
        have k92 := kx E87 (by decide) k87
        refine r_callTv (pc := 92) X (fun _ hv => s_X14_breakColumns k92 hv) cw_code q2972 q368 (in_Vk X (As := []) kX14 k92 (Or.inr ⟨_, nw_in q2969 rfl⟩) q2971 qs197 cw_code q2972 ⟨by decide, by decide⟩ rfl (dl_at t_X1_set 48 rfl)) (dl_at t_X1_set 48 rfl) (cat24 (st := []) (Nat.le_of_ble_eq_true rfl)) (Nat.le_of_ble_eq_true rfl) (Nat.le_of_ble_eq_true rfl) (fun v92 h92 E92 => ?_) (fun _ _ ha _ => gt_at fun Q hQ => gt_out (Q := Q) X rfl ha (hno _) _ Q rfl hQ)
        refine g_aload (pc := 95) X (i := 5) (q := 0) (x := v53) rfl (dl_at t_X1_set 49 rfl) ?_
        have k97 := kx E92 (by decide) k92
        refine r_callRz (pc := 97) X (fun _ hv => s_X14_isSettled k97 hv) cw_code q3043 q368 (in_Vk X (As := []) kX14 k97 (Or.inr ⟨_, nw_in q3040 rfl⟩) q3042 qs212 cw_code q3043 ⟨by decide, by decide⟩ rfl (dl_at t_X1_set 50 rfl)) (dl_at t_X1_set 50 rfl) (cat24 (st := []) (Nat.le_of_ble_eq_true rfl)) (Nat.le_of_ble_eq_true rfl) (Nat.le_of_ble_eq_true rfl) fun v97 g97 => ?_
        refine g_istoreN (pc := 100) X (i := 4) (x := v97) (b := 3) (w := iv x3_41) (rest := [(5, rv D v53), (0, rv D a0), (1, iv a1)]) (Nat.le_of_ble_eq_true rfl) [4, 0, 1, 2] rfl (by decide) rfl rfl (dl_at t_X1_set 51 rfl) ?_
        refine g_aload (pc := 102) X (i := 5) (q := 2) (x := v53) rfl (dl_at t_X1_set 52 rfl) ?_
        refine g_astore_nN (pc := 104) X (j := 2) (i := 2) (x := v53) (b := 1) (w := iv a1) (rest := [(4, iv v97), (3, iv x3_41), (0, rv D a0)]) rfl (Nat.le_of_ble_eq_true rfl) [4, 0, 1, 3] rfl (by decide) rfl rfl (dl_at t_X1_set 53 rfl) ?_
        refine r_iincN (pc := 105) X (i := 3) (q := 3) (n := 1) (x := x3_41) (b := 2) (w := rv D v53) (rest := [(1, iv a1), (4, iv v97), (0, rv D a0)]) rfl r3_41 (r32_c rfl) (Nat.le_of_ble_eq_true rfl) [0, 1, 2, 4] rfl (by decide) rv_cat rfl (dl_at t_X1_set 54 rfl) fun x3_105 r3_105 => ?_
        refine g_goto (pc := 108) X (off := (-67)) (tgt := 41) rfl (dl_at t_X1_set 55 rfl) ?_
        refine g_ls (ls2 := [(0, rv D a0), (1, iv a1), (2, rv D v53), (3, iv x3_105), (4, iv v97)]) [4, 2, 1, 0, 3] rfl ?_
        exact g_at fun Q hQ => hQ ⟨r3_105, g97, (E_41.trans (E61.trans (E73.trans (E78.trans (E87.trans E92)))))⟩
      · rintro ⟨x2_111, x3_111, x4_111, h_111⟩ ⟨r3_111, r4_111, E_111⟩
        try dsimp only [sE]
        refine g_aload_n (pc := 111) X (j := 0) (i := 0) (q := 0) (x := a0) rfl rfl (dl_at t_X1_set 56 rfl) ?_
        have k112 := kx (E31.trans E_111) (by decide) k20
        refine r_getr (pc := 112) X fX1_17 k112 q1505 (dl_at t_X1_set 57 rfl) ?_
        refine g_aload_n (pc := 115) X (j := 0) (i := 0) (q := 0) (x := a0) rfl rfl (dl_at t_X1_set 58 rfl) ?_
        refine r_getr (pc := 116) X fX1_18 k112 q1506 (dl_at t_X1_set 59 rfl) ?_
        refine g_gd fun k119 => ?_
        refine r_callV (pc := 119) X (fun _ hv => s_X17_begin k119 hv) cw_code q2842 q371 (in_Vk X (As := [rv D (h_111 a0 18)]) kX17 k119 (Or.inr ⟨_, nw_in q3048 rfl⟩) q2841 qs170 cw_code q2842 ⟨by decide, by decide⟩ rfl (dl_at t_X1_set 60 rfl)) (dl_at t_X1_set 60 rfl) (cat24 (st := []) (Nat.le_of_ble_eq_true rfl)) (Nat.le_of_ble_eq_true rfl) (Nat.le_of_ble_eq_true rfl) fun h119 E119 => ?_
        refine g_aload_n (pc := 122) X (j := 0) (i := 0) (q := 0) (x := a0) rfl rfl (dl_at t_X1_set 61 rfl) ?_
        refine g_aload_n (pc := 123) X (j := 0) (i := 0) (q := 0) (x := a0) rfl rfl (dl_at t_X1_set 62 rfl) ?_
        have k124 := kx E119 (by decide) k112
        refine r_getr (pc := 124) X fX1_17 k124 q1505 (dl_at t_X1_set 63 rfl) ?_
        refine g_aload_n (pc := 127) X (j := 2) (i := 2) (q := 1) (x := x2_111) rfl rfl (dl_at t_X1_set 64 rfl) ?_
        refine g_gd fun k128 => ?_
        refine r_callRi (pc := 128) X (fun _ hv => s_X17_fresh k128 hv) cw_code q3052 q371 (in_Vk X (As := [rv D x2_111]) kX17 k128 (Or.inr ⟨_, nw_in q3049 rfl⟩) q3051 qs214 cw_code q3052 ⟨by decide, by decide⟩ rfl (dl_at t_X1_set 65 rfl)) (dl_at t_X1_set 65 rfl) (cat24 (st := [rv D a0]) (Nat.le_of_ble_eq_true rfl)) (Nat.le_of_ble_eq_true rfl) (Nat.le_of_ble_eq_true rfl) fun v128 g128 => ?_
        refine r_puti (pc := 131) X fX1_19 k124 q1507 rfl (dl_at t_X1_set 66 rfl) g128 (fun h131 E131 => ?_)
        refine g_aload_n (pc := 134) X (j := 0) (i := 0) (q := 0) (x := a0) rfl rfl (dl_at t_X1_set 67 rfl) ?_
        refine g_aload_n (pc := 135) X (j := 2) (i := 2) (q := 1) (x := x2_111) rfl rfl (dl_at t_X1_set 68 rfl) ?_
        have k136 := kx E131 (by decide) k124
        refine r_putr (pc := 136) X fX1_18 k136 q1506 rfl (dl_at t_X1_set 69 rfl)  (fun h136 E136 => ?_)
        refine g_iload (pc := 139) X (i := 4) (q := 3) (x := x4_111) rfl (dl_at t_X1_set 70 rfl) ?_
        refine g_ifeq (pc := 141) X (r32_z r4_111) (off := 7) (tgt := 148) rfl (dl_at t_X1_set 71 rfl) (fun _ => ?_) (fun _ => ?_)
        · refine g_iload_n (pc := 148) X (j := 3) (i := 3) (q := 2) (x := x3_111) rfl rfl (dl_at t_X1_set 74 rfl) ?_
          refine g_ineg (pc := 149) X r3_111 (dl_at t_X1_set 75 rfl) ?_
          exact g_iret (pc := 150) X (r32_w _) rfl rfl (dl_at t_X1_set 76 rfl)
        refine g_iload_n (pc := 144) X (j := 3) (i := 3) (q := 2) (x := x3_111) rfl rfl (dl_at t_X1_set 72 rfl) ?_
        refine g_goto (pc := 145) X (off := 5) (tgt := 150) rfl (dl_at t_X1_set 73 rfl) ?_
        exact g_iret (pc := 150) X r3_111 rfl rfl (dl_at t_X1_set 76 rfl)
    intro J31
    refine g_ifnull (pc := 23) X (off := 7) (tgt := 30) rfl (dl_at t_X1_set 12 rfl) (fun _ => ?_) (fun _ => ?_)
    · refine g_iconst (pc := 30) X (n := 0) (dl_at t_X1_set 15 rfl) ?_
      exact J31 0 (Or.inl rfl)
    refine g_iconst (pc := 26) X (n := 1) (dl_at t_X1_set 13 rfl) ?_
    refine g_goto (pc := 27) X (off := 4) (tgt := 31) rfl (dl_at t_X1_set 14 rfl) ?_
    exact J31 1 (Or.inr rfl)
  intro J16
  refine g_join (γ := Unit) (fun q => True) 15 (fun q => [(0, rv D a0), (1, iv a1)]) (fun q => []) (fun q => h) (fun q => m_X1_set_j15 a0 a1 h) ?_ ?_
  · rintro _ _
    try dsimp only
    unfold m_X1_set_j15
    refine g_iconst (pc := 15) X (n := 0) (dl_at t_X1_set 8 rfl) ?_
    exact J16 0 (Or.inl rfl)
  intro J15
  refine g_icmplt (pc := 2) X r1 (r32_c rfl) (off := 13) (tgt := 15) rfl (dl_at t_X1_set 2 rfl) (fun _ => ?_) (fun _ => ?_)
  · exact J15 () trivial
  refine g_iload_n (pc := 5) X (j := 1) (i := 1) (q := 1) (x := a1) rfl rfl (dl_at t_X1_set 3 rfl) ?_
  refine g_bipush (pc := 6) X (n := 9) rfl (dl_at t_X1_set 4 rfl) ?_
  refine g_icmpgt (pc := 8) X r1 (r32_c rfl) (off := 7) (tgt := 15) rfl (dl_at t_X1_set 5 rfl) (fun _ => ?_) (fun _ => ?_)
  · exact J15 () trivial
  refine g_iconst (pc := 11) X (n := 1) (dl_at t_X1_set 6 rfl) ?_
  refine g_goto (pc := 12) X (off := 4) (tgt := 16) rfl (dl_at t_X1_set 7 rfl) ?_
  exact J16 1 (Or.inr rfl)
def k_X0_set : List (Nat × Instr × Nat) := [(0, .aload_n 2, 1), (1, .iconst 0, 1), (2, .aload_n 0, 1), (3, .iload_n 1, 1), (4, .invokevirtual 42, 3), (7, .i2l, 1), (8, .lastore, 1), (9, .goto 15, 3), (12, .astore_n 3, 1), (13, .iconst 1, 1), (14, .ireturn, 1), (15, .astore_n 3, 1), (16, .iconst 2, 1), (17, .ireturn, 1), (18, .astore_n 3, 1), (19, .iconst 3, 1), (20, .ireturn, 1), (21, .astore_n 3, 1), (22, .iconst 4, 1), (23, .ireturn, 1), (24, .iconst 0, 1), (25, .ireturn, 1)]
theorem t_X0_set : ∀ q ∈ k_X0_set, decode cX0_set q.1 = .ok q.2 := dl_all (by decide +kernel)
noncomputable def m_X0_set (a0 a1 a2 : Int) (h : Hp) : Option (Int × Hp) :=
  gd (h a0 (-2) = 16) (bT (m_X1_set a0 a1 h) (fun v4 h4_1 =>
  gd (h4_1 a2 (-2) % 16 = 4 ∧ (0 : Int) ≤ 0 ∧ 0 < h4_1 a2 (-1)) (pt h4_1 a2 0 v4 fun h8 =>
  some (0, h8))) (fun a4 h4 => if h4 a4 (-2) = 480 then (some (3, h4))
  else (if h4 a4 (-2) = 496 then (some (1, h4))
  else (if h4 a4 (-2) = 528 then (some (2, h4))
  else (if h4 a4 (-2) = 544 then (some (4, h4))
  else (none))))))
theorem s_X0_set {l : Launch} [NoTr l] {D : SD} {a0 a1 a2 : Int} {h : Hp} (r1 : r32 a1) {r : Int × Hp} (hm : m_X0_set a0 a1 a2 h = some r) : Sim l D yX0_set (Cond.codeWith yX0_set cX0_set 4 (Option.some Jvm.ClassFile.FieldType.int) [((0 : Nat), (9 : Nat), (12 : Nat), (19 : Nat)), ((0 : Nat), (9 : Nat), (15 : Nat), (40 : Nat)), ((0 : Nat), (9 : Nat), (18 : Nat), (13 : Nat)), ((0 : Nat), (9 : Nat), (21 : Nat), (45 : Nat))]) 73 2985 [rv D a0, iv a1, rv D a2] h 1 ((0, r.1), r.2) := by
  refine Sim.of (fin := fun (v : Int × Hp) => ((0, v.1), v.2)) (lsE := [(0, rv D a0), (1, iv a1), (2, rv D a2)]) hm rfl cwS_with (la_r (la_i (la_r la_n))) (ll_r (ll_i (ll_r ll_n))) ?_
  intro p e s m below meth c X hcw hmm hcc hnm hname
  have htb := tabW hcw hnm hmm hcc
  unfold m_X0_set
  refine g_aload_n (pc := 0) X (j := 2) (i := 2) (q := 2) (x := a2) rfl rfl (dl_at t_X0_set 0 rfl) ?_
  refine g_iconst (pc := 1) X (n := 0) (dl_at t_X0_set 1 rfl) ?_
  refine g_aload_n (pc := 2) X (j := 0) (i := 0) (q := 0) (x := a0) rfl rfl (dl_at t_X0_set 2 rfl) ?_
  refine g_iload_n (pc := 3) X (j := 1) (i := 1) (q := 1) (x := a1) rfl rfl (dl_at t_X0_set 3 rfl) ?_
  refine g_gd fun k4 => ?_
  refine r_callTi (pc := 4) X (fun _ hv => s_X1_set k4 r1 hv) cw_code q2280 q355 (in_Vk X (As := [iv a1]) kX1 k4 (Or.inl q2277) q2278 q2279 cw_code q2280 ⟨by decide, by decide⟩ rfl (dl_at t_X0_set 4 rfl)) (dl_at t_X0_set 4 rfl) (cat24 (st := [iv 0, rv D a2]) (Nat.le_of_ble_eq_true rfl)) (Nat.le_of_ble_eq_true rfl) (Nat.le_of_ble_eq_true rfl) (fun v4 h4_1 g4 E4_1 => ?_) (fun a4 h4 p4 E4 => ?_)
  · refine g_i2l (pc := 7) X g4 (dl_at t_X0_set 5 rfl) ?_
    refine g_gd fun k8 => ?_
    refine r_last (pc := 8) X (r32_c rfl) (r64_of g4) k8 (dl_at t_X0_set 6 rfl) (fun h8 E8 => ?_)
    refine g_goto (pc := 9) X (off := 15) (tgt := 24) rfl (dl_at t_X0_set 7 rfl) ?_
    refine g_iconst (pc := 24) X (n := 0) (dl_at t_X0_set 20 rfl) ?_
    exact g_iret (pc := 25) X (r32_c rfl) rfl rfl (dl_at t_X0_set 21 rfl)
  refine gt_case (fun k4_1 => ?_) (fun _ => ?_)
  · refine gt_catch (pc := 4) X kJ3 k4_1 [((0, 9, 12, 19), "java/lang/IllegalArgumentException", false), ((0, 9, 15, 40), "java/lang/IllegalStateException", false), ((0, 9, 18, 13), "java/lang/IndexOutOfBoundsException", true), ((0, 9, 21, 45), "java/lang/ArithmeticException", false)] (hp := 18) rfl (by decide +kernel) (List.forall_mem_cons.mpr ⟨⟨q1682, by decide⟩, (List.forall_mem_cons.mpr ⟨⟨q2237, by decide⟩, (List.forall_mem_cons.mpr ⟨⟨q1565, by decide⟩, (List.forall_mem_cons.mpr ⟨⟨q2263, by decide⟩, fun _ h => absurd h List.not_mem_nil⟩)⟩)⟩)⟩) htb ?_
    refine g_astore_n (pc := 18) X (j := 3) (i := 3) (x := a4) (rest := []) rfl (Nat.le_of_ble_eq_true rfl) [] rfl rfl (dl_at t_X0_set 14 rfl) ?_
    refine g_iconst (pc := 19) X (n := 3) (dl_at t_X0_set 15 rfl) ?_
    exact g_iret (pc := 20) X (r32_c rfl) rfl rfl (dl_at t_X0_set 16 rfl)
  refine gt_case (fun k4_2 => ?_) (fun _ => ?_)
  · refine gt_catch (pc := 4) X kJ6 k4_2 [((0, 9, 12, 19), "java/lang/IllegalArgumentException", true), ((0, 9, 15, 40), "java/lang/IllegalStateException", false), ((0, 9, 18, 13), "java/lang/IndexOutOfBoundsException", false), ((0, 9, 21, 45), "java/lang/ArithmeticException", false)] (hp := 12) rfl (by decide +kernel) (List.forall_mem_cons.mpr ⟨⟨q1682, by decide⟩, (List.forall_mem_cons.mpr ⟨⟨q2237, by decide⟩, (List.forall_mem_cons.mpr ⟨⟨q1565, by decide⟩, (List.forall_mem_cons.mpr ⟨⟨q2263, by decide⟩, fun _ h => absurd h List.not_mem_nil⟩)⟩)⟩)⟩) htb ?_
    refine g_astore_n (pc := 12) X (j := 3) (i := 3) (x := a4) (rest := []) rfl (Nat.le_of_ble_eq_true rfl) [] rfl rfl (dl_at t_X0_set 8 rfl) ?_
    refine g_iconst (pc := 13) X (n := 1) (dl_at t_X0_set 9 rfl) ?_
    exact g_iret (pc := 14) X (r32_c rfl) rfl rfl (dl_at t_X0_set 10 rfl)
  refine gt_case (fun k4_3 => ?_) (fun _ => ?_)
  · refine gt_catch (pc := 4) X kJ11 k4_3 [((0, 9, 12, 19), "java/lang/IllegalArgumentException", false), ((0, 9, 15, 40), "java/lang/IllegalStateException", true), ((0, 9, 18, 13), "java/lang/IndexOutOfBoundsException", false), ((0, 9, 21, 45), "java/lang/ArithmeticException", false)] (hp := 15) rfl (by decide +kernel) (List.forall_mem_cons.mpr ⟨⟨q1682, by decide⟩, (List.forall_mem_cons.mpr ⟨⟨q2237, by decide⟩, (List.forall_mem_cons.mpr ⟨⟨q1565, by decide⟩, (List.forall_mem_cons.mpr ⟨⟨q2263, by decide⟩, fun _ h => absurd h List.not_mem_nil⟩)⟩)⟩)⟩) htb ?_
    refine g_astore_n (pc := 15) X (j := 3) (i := 3) (x := a4) (rest := []) rfl (Nat.le_of_ble_eq_true rfl) [] rfl rfl (dl_at t_X0_set 11 rfl) ?_
    refine g_iconst (pc := 16) X (n := 2) (dl_at t_X0_set 12 rfl) ?_
    exact g_iret (pc := 17) X (r32_c rfl) rfl rfl (dl_at t_X0_set 13 rfl)
  refine gt_case (fun k4_4 => ?_) (fun _ => ?_)
  · refine gt_catch (pc := 4) X kJ12 k4_4 [((0, 9, 12, 19), "java/lang/IllegalArgumentException", false), ((0, 9, 15, 40), "java/lang/IllegalStateException", false), ((0, 9, 18, 13), "java/lang/IndexOutOfBoundsException", false), ((0, 9, 21, 45), "java/lang/ArithmeticException", true)] (hp := 21) rfl (by decide +kernel) (List.forall_mem_cons.mpr ⟨⟨q1682, by decide⟩, (List.forall_mem_cons.mpr ⟨⟨q2237, by decide⟩, (List.forall_mem_cons.mpr ⟨⟨q1565, by decide⟩, (List.forall_mem_cons.mpr ⟨⟨q2263, by decide⟩, fun _ h => absurd h List.not_mem_nil⟩)⟩)⟩)⟩) htb ?_
    refine g_astore_n (pc := 21) X (j := 3) (i := 3) (x := a4) (rest := []) rfl (Nat.le_of_ble_eq_true rfl) [] rfl rfl (dl_at t_X0_set 17 rfl) ?_
    refine g_iconst (pc := 22) X (n := 4) (dl_at t_X0_set 18 rfl) ?_
    exact g_iret (pc := 23) X (r32_c rfl) rfl rfl (dl_at t_X0_set 19 rfl)
  exact gt_none
def k_X1_told : List (Nat × Instr × Nat) := [(0, .aload_n 0, 1), (1, .iload_n 1, 1), (2, .iload_n 2, 1), (3, .invokevirtual 295, 3), (6, .istore_n 3, 1), (7, .iload_n 2, 1), (8, .bipush 17, 2), (10, .if_icmp .ne 15, 3), (13, .iload_n 3, 1), (14, .ifCond .ge 7, 3), (17, .iconst 0, 1), (18, .goto 8, 3), (21, .iconst 1, 1), (22, .goto 4, 3), (25, .iload_n 3, 1), (26, .ireturn, 1)]
theorem t_X1_told : ∀ q ∈ k_X1_told, decode cX1_told q.1 = .ok q.2 := dl_all (by decide +kernel)
noncomputable def m_X1_told (a0 a1 a2 : Int) (h : Hp) : Option (Int) :=
  gd (h a0 (-2) = 112) ((m_X7_property a0 a1 a2 h).bind fun v3 =>
  if a2 ≠ 17 then (some v3)
  else (if 0 ≤ v3 then (some 1)
  else (some 0)))
theorem s_X1_told {l : Launch} [NoTr l] {D : SD} {a0 a1 a2 : Int} {h : Hp} (r1 : r32 a1) (r2 : r32 a2) {r : Int} (hm : m_X1_told a0 a1 a2 h = some r) : Sim l D yX1_told (Cond.code yX1_told cX1_told 4 (Option.some Jvm.ClassFile.FieldType.int)) 2 74 [rv D a0, iv a1, iv a2] h 1 ((0, r), h) := by
  refine Sim.of (fin := fun (v : Int) => ((0, v), h)) (lsE := [(0, rv D a0), (1, iv a1), (2, iv a2)]) hm rfl cwS_code (la_r (la_i (la_i la_n))) (ll_r (ll_i (ll_i ll_n))) ?_
  intro p e s m below meth c X hcw hmm hcc hnm hname
  unfold m_X1_told
  refine g_aload_n (pc := 0) X (j := 0) (i := 0) (q := 0) (x := a0) rfl rfl (dl_at t_X1_told 0 rfl) ?_
  refine g_iload_n (pc := 1) X (j := 1) (i := 1) (q := 1) (x := a1) rfl rfl (dl_at t_X1_told 1 rfl) ?_
  refine g_iload_n (pc := 2) X (j := 2) (i := 2) (q := 2) (x := a2) rfl rfl (dl_at t_X1_told 2 rfl) ?_
  refine g_gd fun k3 => ?_
  refine r_callRi (pc := 3) X (fun _ hv => s_X7_property k3 r1 r2 hv) cw_code q2332 q361 (in_Vk X (As := [iv a1, iv a2]) kX7 k3 (Or.inr ⟨_, nw_in q3064 rfl⟩) q2331 qs84 cw_code q2332 ⟨by decide, by decide⟩ rfl (dl_at t_X1_told 3 rfl)) (dl_at t_X1_told 3 rfl) (cat24 (st := []) (Nat.le_of_ble_eq_true rfl)) (Nat.le_of_ble_eq_true rfl) (Nat.le_of_ble_eq_true rfl) fun v3 g3 => ?_
  refine g_istore_nN (pc := 6) X (j := 3) (i := 3) (x := v3) (b := 2) (w := iv a2) (rest := []) rfl (Nat.le_of_ble_eq_true rfl) [2] rfl (by decide) rfl rfl (dl_at t_X1_told 4 rfl) ?_
  refine g_iload_n (pc := 7) X (j := 2) (i := 2) (q := 1) (x := a2) rfl rfl (dl_at t_X1_told 5 rfl) ?_
  refine g_bipush (pc := 8) X (n := 17) rfl (dl_at t_X1_told 6 rfl) ?_
  refine g_icmpne (pc := 10) X r2 (r32_c rfl) (off := 15) (tgt := 25) rfl (dl_at t_X1_told 7 rfl) (fun _ => ?_) (fun _ => ?_)
  · refine g_iload_n (pc := 25) X (j := 3) (i := 3) (q := 0) (x := v3) rfl rfl (dl_at t_X1_told 14 rfl) ?_
    exact g_iret (pc := 26) X g3 rfl rfl (dl_at t_X1_told 15 rfl)
  refine g_iload_n (pc := 13) X (j := 3) (i := 3) (q := 0) (x := v3) rfl rfl (dl_at t_X1_told 8 rfl) ?_
  refine g_ifge (pc := 14) X g3 (off := 7) (tgt := 21) rfl (dl_at t_X1_told 9 rfl) (fun _ => ?_) (fun _ => ?_)
  · refine g_iconst (pc := 21) X (n := 1) (dl_at t_X1_told 12 rfl) ?_
    refine g_goto (pc := 22) X (off := 4) (tgt := 26) rfl (dl_at t_X1_told 13 rfl) ?_
    exact g_iret (pc := 26) X (r32_c rfl) rfl rfl (dl_at t_X1_told 15 rfl)
  refine g_iconst (pc := 17) X (n := 0) (dl_at t_X1_told 10 rfl) ?_
  refine g_goto (pc := 18) X (off := 8) (tgt := 26) rfl (dl_at t_X1_told 11 rfl) ?_
  exact g_iret (pc := 26) X (r32_c rfl) rfl rfl (dl_at t_X1_told 15 rfl)
def k_X1_element : List (Nat × Instr × Nat) := [(0, .iload_n 2, 1), (1, .ifCond .lt 9, 3), (4, .iload_n 2, 1), (5, .bipush 7, 2), (7, .if_icmp .le 15, 3), (10, .iload_n 2, 1), (11, .bipush 20, 2), (13, .if_icmp .lt 13, 3), (16, .iload_n 2, 1), (17, .bipush 42, 2), (19, .if_icmp .ge 7, 3), (22, .iconst 1, 1), (23, .goto 4, 3), (26, .iconst 0, 1), (27, .invokestatic 134, 3), (30, .iload_n 1, 1), (31, .ifCond .lt 25, 3), (34, .aload_n 0, 1), (35, .getfield 182, 3), (38, .ifnull 14, 3), (41, .iload_n 1, 1), (42, .aload_n 0, 1), (43, .getfield 182, 3), (46, .getfield 189, 3), (49, .if_icmp .ge 7, 3), (52, .iconst 1, 1), (53, .goto 4, 3), (56, .iconst 0, 1), (57, .invokestatic 134, 3), (60, .aload_n 0, 1), (61, .getfield 182, 3), (64, .ifnull 7, 3), (67, .iconst 1, 1), (68, .goto 4, 3), (71, .iconst 0, 1), (72, .invokestatic 212, 3), (75, .aload_n 0, 1), (76, .invokevirtual 228, 3), (79, .astore_n 3, 1), (80, .iload_n 2, 1), (128, .aload_n 0, 1), (129, .getfield 182, 3), (132, .getfield 257, 3), (135, .iload_n 1, 1), (136, .iaload, 1), (137, .ireturn, 1), (138, .aload_n 0, 1), (139, .getfield 182, 3), (142, .getfield 260, 3), (145, .iload_n 1, 1), (146, .iaload, 1), (147, .ireturn, 1), (148, .aload_n 0, 1), (149, .getfield 182, 3), (152, .getfield 263, 3), (155, .iload_n 1, 1), (156, .iaload, 1), (157, .ireturn, 1), (158, .iload_n 1, 1), (159, .iconst 1, 1), (160, .iadd, 1), (161, .aload_n 0, 1), (162, .getfield 182, 3), (165, .getfield 189, 3), (168, .if_icmp .ge 17, 3), (171, .aload_n 0, 1), (172, .getfield 182, 3), (175, .getfield 266, 3), (178, .iload_n 1, 1), (179, .iconst 1, 1), (180, .iadd, 1), (181, .iaload, 1), (182, .goto 10, 3), (185, .aload_n 0, 1), (186, .getfield 182, 3), (189, .getfield 269, 3), (192, .aload_n 0, 1), (193, .getfield 182, 3), (196, .getfield 266, 3), (199, .iload_n 1, 1), (200, .iaload, 1), (201, .isub, 1), (202, .ireturn, 1), (203, .aload_n 3, 1), (204, .getfield 272, 3), (207, .iload_n 1, 1), (208, .baload, 1), (209, .ifCond .eq 7, 3), (212, .iconst 1, 1), (213, .goto 4, 3), (216, .iconst 0, 1), (217, .ireturn, 1), (218, .aload_n 3, 1), (219, .getfield 276, 3), (222, .iload_n 1, 1), (223, .iaload, 1), (224, .ireturn, 1), (225, .aload_n 0, 1), (226, .getfield 87, 3), (229, .getfield 279, 3), (232, .iconst 0, 1), (233, .putfield 282, 3), (236, .aload_n 3, 1), (237, .iload_n 1, 1), (238, .aload_n 0, 1), (239, .getfield 87, 3), (242, .getfield 279, 3), (245, .invokevirtual 285, 3), (248, .aload_n 0, 1), (249, .getfield 87, 3), (252, .getfield 279, 3), (255, .getfield 282, 3), (258, .ireturn, 1), (259, .aload_n 3, 1), (260, .getfield 289, 3), (263, .iload_n 1, 1), (264, .baload, 1), (265, .ifCond .eq 7, 3), (268, .iconst 1, 1), (269, .goto 4, 3), (272, .iconst 0, 1), (273, .ireturn, 1), (274, .aload_n 3, 1), (275, .iload_n 1, 1), (276, .iload_n 2, 1), (277, .bipush 20, 2), (279, .isub, 1), (280, .invokestatic 292, 3), (283, .ireturn, 1)]
theorem t_X1_element : ∀ q ∈ k_X1_element, decode cX1_element q.1 = .ok q.2 := dl_all (by decide +kernel)
theorem dS_X1_element_81 : decode cX1_element 81 = .ok (.tableswitch 193 0 7 #[47, 57, 67, 77, 122, 137, 144, 178], 47) := by decide +kernel
noncomputable def m_X1_element_j72 (a0 a1 a2 s0_72 : Int) (h57 : Hp) : Option ((Int × Int) × Hp) :=
  bT (m_X1_state s0_72 h57) (fun _ h72 =>
  bW (m_X1_tree a0 h72) fun v76 h76 =>
  if a2 = 0 then (gd (h76 (h76 a0 11) (-2) = 96) (gd (h76 (h76 (h76 a0 11) 6) (-2) % 16 = 1 ∧ (0 : Int) ≤ a1 ∧ a1 < h76 (h76 (h76 a0 11) 6) (-1)) (some ((0, (h76 (h76 (h76 a0 11) 6) a1)), h76))))
  else (if a2 = 1 then (gd (h76 (h76 a0 11) (-2) = 96) (gd (h76 (h76 (h76 a0 11) 7) (-2) % 16 = 1 ∧ (0 : Int) ≤ a1 ∧ a1 < h76 (h76 (h76 a0 11) 7) (-1)) (some ((0, (h76 (h76 (h76 a0 11) 7) a1)), h76))))
  else (if a2 = 2 then (gd (h76 (h76 a0 11) (-2) = 96) (gd (h76 (h76 (h76 a0 11) 8) (-2) % 16 = 1 ∧ (0 : Int) ≤ a1 ∧ a1 < h76 (h76 (h76 a0 11) 8) (-1)) (some ((0, (h76 (h76 (h76 a0 11) 8) a1)), h76))))
  else (if a2 = 3 then (gd (h76 (h76 a0 11) (-2) = 96) (if (h76 (h76 a0 11) 4) ≤ (w32 (a1 + 1)) then (gd (h76 (h76 (h76 a0 11) 14) (-2) % 16 = 1 ∧ (0 : Int) ≤ a1 ∧ a1 < h76 (h76 (h76 a0 11) 14) (-1)) (some ((0, (w32 ((h76 (h76 a0 11) 18) - (h76 (h76 (h76 a0 11) 14) a1)))), h76)))
  else (gd (h76 (h76 (h76 a0 11) 14) (-2) % 16 = 1 ∧ (0 : Int) ≤ (w32 (a1 + 1)) ∧ (w32 (a1 + 1)) < h76 (h76 (h76 a0 11) 14) (-1)) (gd (h76 (h76 (h76 a0 11) 14) (-2) % 16 = 1 ∧ (0 : Int) ≤ a1 ∧ a1 < h76 (h76 (h76 a0 11) 14) (-1)) (some ((0, (w32 ((h76 (h76 (h76 a0 11) 14) (w32 (a1 + 1))) - (h76 (h76 (h76 a0 11) 14) a1)))), h76))))))
  else (if a2 = 4 then (gd (h76 v76 (-2) = 112) (gd (h76 (h76 v76 6) (-2) % 16 = 3 ∧ (0 : Int) ≤ a1 ∧ a1 < h76 (h76 v76 6) (-1)) (if (h76 (h76 v76 6) a1) = 0 then (some ((0, 0), h76))
  else (some ((0, 1), h76)))))
  else (if a2 = 5 then (gd (h76 v76 (-2) = 112) (gd (h76 (h76 v76 9) (-2) % 16 = 1 ∧ (0 : Int) ≤ a1 ∧ a1 < h76 (h76 v76 9) (-1)) (some ((0, (h76 (h76 v76 9) a1)), h76))))
  else (if a2 = 6 then (gd (h76 (h76 a0 15) (-2) = 160) (gd (h76 (h76 (h76 a0 15) 4) (-2) = 80) (pt h76 (h76 (h76 a0 15) 4) 1 0 fun h233 =>
  gd (h233 (h233 a0 15) (-2) = 160) (gd (h233 v76 (-2) = 112) (bT (m_X7_title v76 a1 (h233 (h233 a0 15) 4) h233) (fun _ h245 =>
  gd (h245 (h245 a0 15) (-2) = 160) (gd (h245 (h245 (h245 a0 15) 4) (-2) = 80) (some ((0, (h245 (h245 (h245 a0 15) 4) 1)), h245)))) (fun a_ h_ => some ((1, a_), h_)))))))
  else (if a2 = 7 then (gd (h76 v76 (-2) = 112) (gd (h76 (h76 v76 7) (-2) % 16 = 3 ∧ (0 : Int) ≤ a1 ∧ a1 < h76 (h76 v76 7) (-1)) (if (h76 (h76 v76 7) a1) = 0 then (some ((0, 0), h76))
  else (some ((0, 1), h76)))))
  else ((m_X1_told v76 a1 (w32 (a2 - 20)) h76).bind fun v280 =>
  some ((0, v280), h76)))))))))) (fun a_ h_ => some ((1, a_), h_))
noncomputable def m_X1_element_j57 (a0 a1 a2 s0_57 : Int) (h27 : Hp) : Option ((Int × Int) × Hp) :=
  bT (m_X1_good s0_57 h27) (fun _ h57 =>
  if (h57 a0 11) = 0 then (m_X1_element_j72 a0 a1 a2 0 h57)
  else (m_X1_element_j72 a0 a1 a2 1 h57)) (fun a_ h_ => some ((1, a_), h_))
noncomputable def m_X1_element_j56 (a0 a1 a2 : Int) (h27 : Hp) : Option ((Int × Int) × Hp) :=
  m_X1_element_j57 a0 a1 a2 0 h27
noncomputable def m_X1_element_j52 (a0 a1 a2 : Int) (h27 : Hp) : Option ((Int × Int) × Hp) :=
  m_X1_element_j57 a0 a1 a2 1 h27
noncomputable def m_X1_element_j27 (a0 a1 a2 s0_27 : Int) (h : Hp) : Option ((Int × Int) × Hp) :=
  bT (m_X1_good s0_27 h) (fun _ h27 =>
  if a1 < 0 then (m_X1_element_j56 a0 a1 a2 h27)
  else (if (h27 a0 11) = 0 then (m_X1_element_j52 a0 a1 a2 h27)
  else (gd (h27 (h27 a0 11) (-2) = 96) (if (h27 (h27 a0 11) 4) ≤ a1 then (m_X1_element_j56 a0 a1 a2 h27)
  else (m_X1_element_j52 a0 a1 a2 h27))))) (fun a_ h_ => some ((1, a_), h_))
noncomputable def m_X1_element_j22 (a0 a1 a2 : Int) (h : Hp) : Option ((Int × Int) × Hp) :=
  m_X1_element_j27 a0 a1 a2 1 h
noncomputable def m_X1_element_j26 (a0 a1 a2 : Int) (h : Hp) : Option ((Int × Int) × Hp) :=
  m_X1_element_j27 a0 a1 a2 0 h
noncomputable def m_X1_element_j10 (a0 a1 a2 : Int) (h : Hp) : Option ((Int × Int) × Hp) :=
  if a2 < 20 then (m_X1_element_j26 a0 a1 a2 h)
  else (if 42 ≤ a2 then (m_X1_element_j26 a0 a1 a2 h)
  else (m_X1_element_j22 a0 a1 a2 h))
noncomputable def m_X1_element (a0 a1 a2 : Int) (h : Hp) : Option ((Int × Int) × Hp) :=
  if a2 < 0 then (m_X1_element_j10 a0 a1 a2 h)
  else (if a2 ≤ 7 then (m_X1_element_j22 a0 a1 a2 h)
  else (m_X1_element_j10 a0 a1 a2 h))
theorem s_X1_element {l : Launch} [NoTr l] {D : SD} {a0 a1 a2 : Int} {h : Hp} (hk : h a0 (-2) = 16) (r1 : r32 a1) (r2 : r32 a2) {r : (Int × Int) × Hp} (hm : m_X1_element a0 a1 a2 h = some r) : Sim l D yX1_element (Cond.code yX1_element cX1_element 4 (Option.some Jvm.ClassFile.FieldType.int)) 72 2944 [rv D a0, iv a1, iv a2] h 1 r := by
  refine Sim.of (fin := fun (v : (Int × Int) × Hp) => v) (lsE := [(0, rv D a0), (1, iv a1), (2, iv a2)]) hm rfl cwS_code (la_r (la_i (la_i la_n))) (ll_r (ll_i (ll_i ll_n))) ?_
  intro p e s m below meth c X hcw hmm hcc hnm hname
  have hno := noh hcw hnm hmm hcc
  unfold m_X1_element
  refine g_iload_n (pc := 0) X (j := 2) (i := 2) (q := 2) (x := a2) rfl rfl (dl_at t_X1_element 0 rfl) ?_
  refine g_join (γ := Int) (fun q => (q = 0 ∨ q = 1)) 27 (fun q => [(0, rv D a0), (1, iv a1), (2, iv a2)]) (fun q => [iv q]) (fun q => h) (fun q => m_X1_element_j27 a0 a1 a2 q h) ?_ ?_
  · rintro s0_27 rs0_27
    try dsimp only
    unfold m_X1_element_j27
    refine r_callTv (pc := 27) X (fun _ hv => s_X1_good rs0_27 hv) cw_code q1689 q355 (in_Sc X (As := [iv s0_27]) (Or.inl q1687) q1688 q355 q1689 ⟨by decide, by decide⟩ rfl (dl_at t_X1_element 14 rfl)) (dl_at t_X1_element 14 rfl) (cat24 (st := []) (Nat.le_of_ble_eq_true rfl)) (Nat.le_of_ble_eq_true rfl) (Nat.le_of_ble_eq_true rfl) (fun v27 h27 E27 => ?_) (fun _ _ ha _ => gt_at fun Q hQ => gt_out (Q := Q) X rfl ha (hno _) _ Q rfl hQ)
    refine g_iload_n (pc := 30) X (j := 1) (i := 1) (q := 1) (x := a1) rfl rfl (dl_at t_X1_element 15 rfl) ?_
    refine g_join (γ := Int) (fun q => (q = 0 ∨ q = 1)) 57 (fun q => [(0, rv D a0), (1, iv a1), (2, iv a2)]) (fun q => [iv q]) (fun q => h27) (fun q => m_X1_element_j57 a0 a1 a2 q h27) ?_ ?_
    · rintro s0_57 rs0_57
      try dsimp only
      unfold m_X1_element_j57
      refine r_callTv (pc := 57) X (fun _ hv => s_X1_good rs0_57 hv) cw_code q1689 q355 (in_Sc X (As := [iv s0_57]) (Or.inl q1687) q1688 q355 q1689 ⟨by decide, by decide⟩ rfl (dl_at t_X1_element 28 rfl)) (dl_at t_X1_element 28 rfl) (cat24 (st := []) (Nat.le_of_ble_eq_true rfl)) (Nat.le_of_ble_eq_true rfl) (Nat.le_of_ble_eq_true rfl) (fun v57 h57 E57 => ?_) (fun _ _ ha _ => gt_at fun Q hQ => gt_out (Q := Q) X rfl ha (hno _) _ Q rfl hQ)
      refine g_aload_n (pc := 60) X (j := 0) (i := 0) (q := 0) (x := a0) rfl rfl (dl_at t_X1_element 29 rfl) ?_
      have k61 := kx (E27.trans E57) (by decide) hk
      refine r_getr (pc := 61) X fX1_11 k61 q1499 (dl_at t_X1_element 30 rfl) ?_
      refine g_join (γ := Int) (fun q => (q = 0 ∨ q = 1)) 72 (fun q => [(0, rv D a0), (1, iv a1), (2, iv a2)]) (fun q => [iv q]) (fun q => h57) (fun q => m_X1_element_j72 a0 a1 a2 q h57) ?_ ?_
      · rintro s0_72 rs0_72
        try dsimp only
        unfold m_X1_element_j72
        refine r_callTv (pc := 72) X (fun _ hv => s_X1_state rs0_72 hv) cw_code q2244 q355 (in_Sc X (As := [iv s0_72]) (Or.inl q2242) q2243 q355 q2244 ⟨by decide, by decide⟩ rfl (dl_at t_X1_element 35 rfl)) (dl_at t_X1_element 35 rfl) (cat24 (st := []) (Nat.le_of_ble_eq_true rfl)) (Nat.le_of_ble_eq_true rfl) (Nat.le_of_ble_eq_true rfl) (fun v72 h72 E72 => ?_) (fun _ _ ha _ => gt_at fun Q hQ => gt_out (Q := Q) X rfl ha (hno _) _ Q rfl hQ)
        refine g_aload_n (pc := 75) X (j := 0) (i := 0) (q := 0) (x := a0) rfl rfl (dl_at t_X1_element 36 rfl) ?_
        have k76 := kx E72 (by decide) k61
        refine r_callWr (pc := 76) X (fun _ hv => s_X1_tree k76 hv) cw_code q2288 q355 (in_Vk X (As := []) kX1 k76 (Or.inl q2285) q2287 qs74 cw_code q2288 ⟨by decide, by decide⟩ rfl (dl_at t_X1_element 37 rfl)) (dl_at t_X1_element 37 rfl) (cat24 (st := []) (Nat.le_of_ble_eq_true rfl)) (Nat.le_of_ble_eq_true rfl) (Nat.le_of_ble_eq_true rfl) fun v76 h76 E76 => ?_
        refine g_astore_nN (pc := 79) X (j := 3) (i := 3) (x := v76) (b := 2) (w := iv a2) (rest := [(0, rv D a0), (1, iv a1)]) rfl (Nat.le_of_ble_eq_true rfl) [2, 0, 1] rfl (by decide) rfl rfl (dl_at t_X1_element 38 rfl) ?_
        refine g_iload_n (pc := 80) X (j := 2) (i := 2) (q := 1) (x := a2) rfl rfl (dl_at t_X1_element 39 rfl) ?_
        refine g_case (fun w81 => ?_) (fun nw81 => ?_)
        · refine g_tabIn (pc := 81) X (off := 47) (tgt := 128) r2 w81 (by decide) (by decide) rfl rfl dS_X1_element_81 ?_
          refine g_aload_n (pc := 128) X (j := 0) (i := 0) (q := 2) (x := a0) rfl rfl (dl_at t_X1_element 40 rfl) ?_
          have k129 := kx E76 (by decide) k76
          refine r_getr (pc := 129) X fX1_11 k129 q1499 (dl_at t_X1_element 41 rfl) ?_
          refine g_gd fun k132 => ?_
          refine r_getrN (pc := 132) X fX6_6 k132 (nw_in q662 rfl) (dl_at t_X1_element 42 rfl) ?_
          refine g_iload_n (pc := 135) X (j := 1) (i := 1) (q := 3) (x := a1) rfl rfl (dl_at t_X1_element 43 rfl) ?_
          refine g_gd fun k136 => ?_
          refine g_iald (pc := 136) X r1 k136 (dl_at t_X1_element 44 rfl) fun g136 => ?_
          exact g_iret (pc := 137) X g136 rfl rfl (dl_at t_X1_element 45 rfl)
        refine g_case (fun w81_1 => ?_) (fun nw81_1 => ?_)
        · refine g_tabIn (pc := 81) X (off := 57) (tgt := 138) r2 w81_1 (by decide) (by decide) rfl rfl dS_X1_element_81 ?_
          refine g_aload_n (pc := 138) X (j := 0) (i := 0) (q := 2) (x := a0) rfl rfl (dl_at t_X1_element 46 rfl) ?_
          have k139 := kx E76 (by decide) k76
          refine r_getr (pc := 139) X fX1_11 k139 q1499 (dl_at t_X1_element 47 rfl) ?_
          refine g_gd fun k142 => ?_
          refine r_getrN (pc := 142) X fX6_7 k142 (nw_in q664 rfl) (dl_at t_X1_element 48 rfl) ?_
          refine g_iload_n (pc := 145) X (j := 1) (i := 1) (q := 3) (x := a1) rfl rfl (dl_at t_X1_element 49 rfl) ?_
          refine g_gd fun k146 => ?_
          refine g_iald (pc := 146) X r1 k146 (dl_at t_X1_element 50 rfl) fun g146 => ?_
          exact g_iret (pc := 147) X g146 rfl rfl (dl_at t_X1_element 51 rfl)
        refine g_case (fun w81_2 => ?_) (fun nw81_2 => ?_)
        · refine g_tabIn (pc := 81) X (off := 67) (tgt := 148) r2 w81_2 (by decide) (by decide) rfl rfl dS_X1_element_81 ?_
          refine g_aload_n (pc := 148) X (j := 0) (i := 0) (q := 2) (x := a0) rfl rfl (dl_at t_X1_element 52 rfl) ?_
          have k149 := kx E76 (by decide) k76
          refine r_getr (pc := 149) X fX1_11 k149 q1499 (dl_at t_X1_element 53 rfl) ?_
          refine g_gd fun k152 => ?_
          refine r_getrN (pc := 152) X fX6_8 k152 (nw_in q666 rfl) (dl_at t_X1_element 54 rfl) ?_
          refine g_iload_n (pc := 155) X (j := 1) (i := 1) (q := 3) (x := a1) rfl rfl (dl_at t_X1_element 55 rfl) ?_
          refine g_gd fun k156 => ?_
          refine g_iald (pc := 156) X r1 k156 (dl_at t_X1_element 56 rfl) fun g156 => ?_
          exact g_iret (pc := 157) X g156 rfl rfl (dl_at t_X1_element 57 rfl)
        refine g_case (fun w81_3 => ?_) (fun nw81_3 => ?_)
        · refine g_tabIn (pc := 81) X (off := 77) (tgt := 158) r2 w81_3 (by decide) (by decide) rfl rfl dS_X1_element_81 ?_
          refine g_iload_n (pc := 158) X (j := 1) (i := 1) (q := 3) (x := a1) rfl rfl (dl_at t_X1_element 58 rfl) ?_
          refine g_iconst (pc := 159) X (n := 1) (dl_at t_X1_element 59 rfl) ?_
          refine g_iadd (pc := 160) X r1 (r32_c rfl) (dl_at t_X1_element 60 rfl) ?_
          refine g_aload_n (pc := 161) X (j := 0) (i := 0) (q := 2) (x := a0) rfl rfl (dl_at t_X1_element 61 rfl) ?_
          have k162 := kx E76 (by decide) k76
          refine r_getr (pc := 162) X fX1_11 k162 q1499 (dl_at t_X1_element 62 rfl) ?_
          refine g_gd fun k165 => ?_
          refine r_getiN (pc := 165) X fX6_4 k165 (nw_in q656 rfl) (dl_at t_X1_element 63 rfl) fun g165 => ?_
          refine g_icmpge (pc := 168) X (r32_w _) g165 (off := 17) (tgt := 185) rfl (dl_at t_X1_element 64 rfl) (fun _ => ?_) (fun _ => ?_)
          · refine g_aload_n (pc := 185) X (j := 0) (i := 0) (q := 2) (x := a0) rfl rfl (dl_at t_X1_element 73 rfl) ?_
            refine r_getr (pc := 186) X fX1_11 k162 q1499 (dl_at t_X1_element 74 rfl) ?_
            refine r_getiN (pc := 189) X fX6_18 k165 (nw_in q686 rfl) (dl_at t_X1_element 75 rfl) fun g189 => ?_
            refine g_aload_n (pc := 192) X (j := 0) (i := 0) (q := 2) (x := a0) rfl rfl (dl_at t_X1_element 76 rfl) ?_
            refine r_getr (pc := 193) X fX1_11 k162 q1499 (dl_at t_X1_element 77 rfl) ?_
            refine r_getrN (pc := 196) X fX6_14 k165 (nw_in q677 rfl) (dl_at t_X1_element 78 rfl) ?_
            refine g_iload_n (pc := 199) X (j := 1) (i := 1) (q := 3) (x := a1) rfl rfl (dl_at t_X1_element 79 rfl) ?_
            refine g_gd fun k200 => ?_
            refine g_iald (pc := 200) X r1 k200 (dl_at t_X1_element 80 rfl) fun g200 => ?_
            refine g_isub (pc := 201) X g189 g200 (dl_at t_X1_element 81 rfl) ?_
            exact g_iret (pc := 202) X (r32_w _) rfl rfl (dl_at t_X1_element 82 rfl)
          refine g_aload_n (pc := 171) X (j := 0) (i := 0) (q := 2) (x := a0) rfl rfl (dl_at t_X1_element 65 rfl) ?_
          refine r_getr (pc := 172) X fX1_11 k162 q1499 (dl_at t_X1_element 66 rfl) ?_
          refine r_getrN (pc := 175) X fX6_14 k165 (nw_in q677 rfl) (dl_at t_X1_element 67 rfl) ?_
          refine g_iload_n (pc := 178) X (j := 1) (i := 1) (q := 3) (x := a1) rfl rfl (dl_at t_X1_element 68 rfl) ?_
          refine g_iconst (pc := 179) X (n := 1) (dl_at t_X1_element 69 rfl) ?_
          refine g_iadd (pc := 180) X r1 (r32_c rfl) (dl_at t_X1_element 70 rfl) ?_
          refine g_gd fun k181 => ?_
          refine g_iald (pc := 181) X (r32_w _) k181 (dl_at t_X1_element 71 rfl) fun g181 => ?_
          refine g_goto (pc := 182) X (off := 10) (tgt := 192) rfl (dl_at t_X1_element 72 rfl) ?_
          refine g_aload_n (pc := 192) X (j := 0) (i := 0) (q := 2) (x := a0) rfl rfl (dl_at t_X1_element 76 rfl) ?_
          refine r_getr (pc := 193) X fX1_11 k162 q1499 (dl_at t_X1_element 77 rfl) ?_
          refine r_getrN (pc := 196) X fX6_14 k165 (nw_in q677 rfl) (dl_at t_X1_element 78 rfl) ?_
          refine g_iload_n (pc := 199) X (j := 1) (i := 1) (q := 3) (x := a1) rfl rfl (dl_at t_X1_element 79 rfl) ?_
          refine g_gd fun k200_1 => ?_
          refine g_iald (pc := 200) X r1 k200_1 (dl_at t_X1_element 80 rfl) fun g200_1 => ?_
          refine g_isub (pc := 201) X g181 g200_1 (dl_at t_X1_element 81 rfl) ?_
          exact g_iret (pc := 202) X (r32_w _) rfl rfl (dl_at t_X1_element 82 rfl)
        refine g_case (fun w81_4 => ?_) (fun nw81_4 => ?_)
        · refine g_tabIn (pc := 81) X (off := 122) (tgt := 203) r2 w81_4 (by decide) (by decide) rfl rfl dS_X1_element_81 ?_
          refine g_aload_n (pc := 203) X (j := 3) (i := 3) (q := 0) (x := v76) rfl rfl (dl_at t_X1_element 83 rfl) ?_
          refine g_gd fun k204 => ?_
          refine r_getrN (pc := 204) X fX7_6 k204 (nw_in q791 rfl) (dl_at t_X1_element 84 rfl) ?_
          refine g_iload_n (pc := 207) X (j := 1) (i := 1) (q := 3) (x := a1) rfl rfl (dl_at t_X1_element 85 rfl) ?_
          refine g_gd fun k208 => ?_
          refine g_zald (pc := 208) X r1 k208 (dl_at t_X1_element 86 rfl) fun g208 => ?_
          refine g_ifeq (pc := 209) X (r32_z g208) (off := 7) (tgt := 216) rfl (dl_at t_X1_element 87 rfl) (fun _ => ?_) (fun _ => ?_)
          · refine g_iconst (pc := 216) X (n := 0) (dl_at t_X1_element 90 rfl) ?_
            exact g_iret (pc := 217) X (r32_c rfl) rfl rfl (dl_at t_X1_element 91 rfl)
          refine g_iconst (pc := 212) X (n := 1) (dl_at t_X1_element 88 rfl) ?_
          refine g_goto (pc := 213) X (off := 4) (tgt := 217) rfl (dl_at t_X1_element 89 rfl) ?_
          exact g_iret (pc := 217) X (r32_c rfl) rfl rfl (dl_at t_X1_element 91 rfl)
        refine g_case (fun w81_5 => ?_) (fun nw81_5 => ?_)
        · refine g_tabIn (pc := 81) X (off := 137) (tgt := 218) r2 w81_5 (by decide) (by decide) rfl rfl dS_X1_element_81 ?_
          refine g_aload_n (pc := 218) X (j := 3) (i := 3) (q := 0) (x := v76) rfl rfl (dl_at t_X1_element 92 rfl) ?_
          refine g_gd fun k219 => ?_
          refine r_getrN (pc := 219) X fX7_9 k219 (nw_in q800 rfl) (dl_at t_X1_element 93 rfl) ?_
          refine g_iload_n (pc := 222) X (j := 1) (i := 1) (q := 3) (x := a1) rfl rfl (dl_at t_X1_element 94 rfl) ?_
          refine g_gd fun k223 => ?_
          refine g_iald (pc := 223) X r1 k223 (dl_at t_X1_element 95 rfl) fun g223 => ?_
          exact g_iret (pc := 224) X g223 rfl rfl (dl_at t_X1_element 96 rfl)
        refine g_case (fun w81_6 => ?_) (fun nw81_6 => ?_)
        · refine g_tabIn (pc := 81) X (off := 144) (tgt := 225) r2 w81_6 (by decide) (by decide) rfl rfl dS_X1_element_81 ?_
          refine g_aload_n (pc := 225) X (j := 0) (i := 0) (q := 2) (x := a0) rfl rfl (dl_at t_X1_element 97 rfl) ?_
          have k226 := kx E76 (by decide) k76
          refine r_getr (pc := 226) X fX1_15 k226 q1503 (dl_at t_X1_element 98 rfl) ?_
          refine g_gd fun k229 => ?_
          refine r_getrN (pc := 229) X fX10_4 k229 (nw_in q1046 rfl) (dl_at t_X1_element 99 rfl) ?_
          refine g_iconst (pc := 232) X (n := 0) (dl_at t_X1_element 100 rfl) ?_
          refine g_gd fun k233 => ?_
          refine r_putiN (pc := 233) X fX5_1 k233 (nw_in q509 rfl) rfl (dl_at t_X1_element 101 rfl) (r32_c rfl) (fun h233 E233 => ?_)
          refine g_aload_n (pc := 236) X (j := 3) (i := 3) (q := 0) (x := v76) rfl rfl (dl_at t_X1_element 102 rfl) ?_
          refine g_iload_n (pc := 237) X (j := 1) (i := 1) (q := 3) (x := a1) rfl rfl (dl_at t_X1_element 103 rfl) ?_
          refine g_aload_n (pc := 238) X (j := 0) (i := 0) (q := 2) (x := a0) rfl rfl (dl_at t_X1_element 104 rfl) ?_
          have k239 := kx E233 (by decide) k226
          refine r_getr (pc := 239) X fX1_15 k239 q1503 (dl_at t_X1_element 105 rfl) ?_
          refine g_gd fun k242 => ?_
          refine r_getrN (pc := 242) X fX10_4 k242 (nw_in q1046 rfl) (dl_at t_X1_element 106 rfl) ?_
          refine g_gd fun k245 => ?_
          refine r_callTv (pc := 245) X (fun _ hv => s_X7_title k245 r1 hv) cw_code q2404 q361 (in_Vk X (As := [iv a1, rv D (h233 (h233 a0 15) 4)]) kX7 k245 (Or.inr ⟨_, nw_in q3060 rfl⟩) q2403 qs99 cw_code q2404 ⟨by decide, by decide⟩ rfl (dl_at t_X1_element 107 rfl)) (dl_at t_X1_element 107 rfl) (cat24 (st := []) (Nat.le_of_ble_eq_true rfl)) (Nat.le_of_ble_eq_true rfl) (Nat.le_of_ble_eq_true rfl) (fun v245 h245 E245 => ?_) (fun _ _ ha _ => gt_at fun Q hQ => gt_out (Q := Q) X rfl ha (hno _) _ Q rfl hQ)
          refine g_aload_n (pc := 248) X (j := 0) (i := 0) (q := 2) (x := a0) rfl rfl (dl_at t_X1_element 108 rfl) ?_
          have k249 := kx E245 (by decide) k239
          refine r_getr (pc := 249) X fX1_15 k249 q1503 (dl_at t_X1_element 109 rfl) ?_
          refine g_gd fun k252 => ?_
          refine r_getrN (pc := 252) X fX10_4 k252 (nw_in q1046 rfl) (dl_at t_X1_element 110 rfl) ?_
          refine g_gd fun k255 => ?_
          refine r_getiN (pc := 255) X fX5_1 k255 (nw_in q509 rfl) (dl_at t_X1_element 111 rfl) fun g255 => ?_
          exact g_iret (pc := 258) X g255 rfl rfl (dl_at t_X1_element 112 rfl)
        refine g_case (fun w81_7 => ?_) (fun nw81_7 => ?_)
        · refine g_tabIn (pc := 81) X (off := 178) (tgt := 259) r2 w81_7 (by decide) (by decide) rfl rfl dS_X1_element_81 ?_
          refine g_aload_n (pc := 259) X (j := 3) (i := 3) (q := 0) (x := v76) rfl rfl (dl_at t_X1_element 113 rfl) ?_
          refine g_gd fun k260 => ?_
          refine r_getrN (pc := 260) X fX7_7 k260 (nw_in q795 rfl) (dl_at t_X1_element 114 rfl) ?_
          refine g_iload_n (pc := 263) X (j := 1) (i := 1) (q := 3) (x := a1) rfl rfl (dl_at t_X1_element 115 rfl) ?_
          refine g_gd fun k264 => ?_
          refine g_zald (pc := 264) X r1 k264 (dl_at t_X1_element 116 rfl) fun g264 => ?_
          refine g_ifeq (pc := 265) X (r32_z g264) (off := 7) (tgt := 272) rfl (dl_at t_X1_element 117 rfl) (fun _ => ?_) (fun _ => ?_)
          · refine g_iconst (pc := 272) X (n := 0) (dl_at t_X1_element 120 rfl) ?_
            exact g_iret (pc := 273) X (r32_c rfl) rfl rfl (dl_at t_X1_element 121 rfl)
          refine g_iconst (pc := 268) X (n := 1) (dl_at t_X1_element 118 rfl) ?_
          refine g_goto (pc := 269) X (off := 4) (tgt := 273) rfl (dl_at t_X1_element 119 rfl) ?_
          exact g_iret (pc := 273) X (r32_c rfl) rfl rfl (dl_at t_X1_element 121 rfl)
        have w81_8 : ¬ a2 ∈ ([0, 1, 2, 3, 4, 5, 6, 7] : List Int) := by simp only [List.mem_cons, List.not_mem_nil, or_false, not_or] at *; simp only [*, not_false_eq_true, and_self]
        refine g_tabElse (pc := 81) X (tgt := 274) [0, 1, 2, 3, 4, 5, 6, 7] r2 w81_8 rfl rfl dS_X1_element_81 ?_
        refine g_aload_n (pc := 274) X (j := 3) (i := 3) (q := 0) (x := v76) rfl rfl (dl_at t_X1_element 122 rfl) ?_
        refine g_iload_n (pc := 275) X (j := 1) (i := 1) (q := 3) (x := a1) rfl rfl (dl_at t_X1_element 123 rfl) ?_
        refine g_iload_n (pc := 276) X (j := 2) (i := 2) (q := 1) (x := a2) rfl rfl (dl_at t_X1_element 124 rfl) ?_
        refine g_bipush (pc := 277) X (n := 20) rfl (dl_at t_X1_element 125 rfl) ?_
        refine g_isub (pc := 279) X r2 (r32_c rfl) (dl_at t_X1_element 126 rfl) ?_
        refine r_callRi (pc := 280) X (fun _ hv => s_X1_told r1 (r32_w _) hv) cw_code q3063 q355 (in_Sc X (As := [rv D v76, iv a1, iv (w32 (a2 - 20))]) (Or.inl q3061) q3062 q355 q3063 ⟨by decide, by decide⟩ rfl (dl_at t_X1_element 127 rfl)) (dl_at t_X1_element 127 rfl) (cat24 (st := []) (Nat.le_of_ble_eq_true rfl)) (Nat.le_of_ble_eq_true rfl) (Nat.le_of_ble_eq_true rfl) fun v280 g280 => ?_
        exact g_iret (pc := 283) X g280 rfl rfl (dl_at t_X1_element 128 rfl)
      intro J72
      refine g_ifnull (pc := 64) X (off := 7) (tgt := 71) rfl (dl_at t_X1_element 31 rfl) (fun _ => ?_) (fun _ => ?_)
      · refine g_iconst (pc := 71) X (n := 0) (dl_at t_X1_element 34 rfl) ?_
        exact J72 0 (Or.inl rfl)
      refine g_iconst (pc := 67) X (n := 1) (dl_at t_X1_element 32 rfl) ?_
      refine g_goto (pc := 68) X (off := 4) (tgt := 72) rfl (dl_at t_X1_element 33 rfl) ?_
      exact J72 1 (Or.inr rfl)
    intro J57
    refine g_join (γ := Unit) (fun q => True) 56 (fun q => [(0, rv D a0), (1, iv a1), (2, iv a2)]) (fun q => []) (fun q => h27) (fun q => m_X1_element_j56 a0 a1 a2 h27) ?_ ?_
    · rintro _ _
      try dsimp only
      unfold m_X1_element_j56
      refine g_iconst (pc := 56) X (n := 0) (dl_at t_X1_element 27 rfl) ?_
      exact J57 0 (Or.inl rfl)
    intro J56
    refine g_iflt (pc := 31) X r1 (off := 25) (tgt := 56) rfl (dl_at t_X1_element 16 rfl) (fun _ => ?_) (fun _ => ?_)
    · exact J56 () trivial
    refine g_aload_n (pc := 34) X (j := 0) (i := 0) (q := 0) (x := a0) rfl rfl (dl_at t_X1_element 17 rfl) ?_
    have k35 := kx E27 (by decide) hk
    refine r_getr (pc := 35) X fX1_11 k35 q1499 (dl_at t_X1_element 18 rfl) ?_
    refine g_join (γ := Unit) (fun q => True) 52 (fun q => [(0, rv D a0), (1, iv a1), (2, iv a2)]) (fun q => []) (fun q => h27) (fun q => m_X1_element_j52 a0 a1 a2 h27) ?_ ?_
    · rintro _ _
      try dsimp only
      unfold m_X1_element_j52
      refine g_iconst (pc := 52) X (n := 1) (dl_at t_X1_element 25 rfl) ?_
      refine g_goto (pc := 53) X (off := 4) (tgt := 57) rfl (dl_at t_X1_element 26 rfl) ?_
      exact J57 1 (Or.inr rfl)
    intro J52
    refine g_ifnull (pc := 38) X (off := 14) (tgt := 52) rfl (dl_at t_X1_element 19 rfl) (fun _ => ?_) (fun _ => ?_)
    · exact J52 () trivial
    refine g_iload_n (pc := 41) X (j := 1) (i := 1) (q := 1) (x := a1) rfl rfl (dl_at t_X1_element 20 rfl) ?_
    refine g_aload_n (pc := 42) X (j := 0) (i := 0) (q := 0) (x := a0) rfl rfl (dl_at t_X1_element 21 rfl) ?_
    refine r_getr (pc := 43) X fX1_11 k35 q1499 (dl_at t_X1_element 22 rfl) ?_
    refine g_gd fun k46 => ?_
    refine r_getiN (pc := 46) X fX6_4 k46 (nw_in q656 rfl) (dl_at t_X1_element 23 rfl) fun g46 => ?_
    refine g_icmpge (pc := 49) X r1 g46 (off := 7) (tgt := 56) rfl (dl_at t_X1_element 24 rfl) (fun _ => ?_) (fun _ => ?_)
    · exact J56 () trivial
    exact J52 () trivial
  intro J27
  refine g_join (γ := Unit) (fun q => True) 22 (fun q => [(0, rv D a0), (1, iv a1), (2, iv a2)]) (fun q => []) (fun q => h) (fun q => m_X1_element_j22 a0 a1 a2 h) ?_ ?_
  · rintro _ _
    try dsimp only
    unfold m_X1_element_j22
    refine g_iconst (pc := 22) X (n := 1) (dl_at t_X1_element 11 rfl) ?_
    refine g_goto (pc := 23) X (off := 4) (tgt := 27) rfl (dl_at t_X1_element 12 rfl) ?_
    exact J27 1 (Or.inr rfl)
  intro J22
  refine g_join (γ := Unit) (fun q => True) 10 (fun q => [(0, rv D a0), (1, iv a1), (2, iv a2)]) (fun q => []) (fun q => h) (fun q => m_X1_element_j10 a0 a1 a2 h) ?_ ?_
  · rintro _ _
    try dsimp only
    unfold m_X1_element_j10
    refine g_iload_n (pc := 10) X (j := 2) (i := 2) (q := 2) (x := a2) rfl rfl (dl_at t_X1_element 5 rfl) ?_
    refine g_bipush (pc := 11) X (n := 20) rfl (dl_at t_X1_element 6 rfl) ?_
    refine g_join (γ := Unit) (fun q => True) 26 (fun q => [(0, rv D a0), (1, iv a1), (2, iv a2)]) (fun q => []) (fun q => h) (fun q => m_X1_element_j26 a0 a1 a2 h) ?_ ?_
    · rintro _ _
      try dsimp only
      unfold m_X1_element_j26
      refine g_iconst (pc := 26) X (n := 0) (dl_at t_X1_element 13 rfl) ?_
      exact J27 0 (Or.inl rfl)
    intro J26
    refine g_icmplt (pc := 13) X r2 (r32_c rfl) (off := 13) (tgt := 26) rfl (dl_at t_X1_element 7 rfl) (fun _ => ?_) (fun _ => ?_)
    · exact J26 () trivial
    refine g_iload_n (pc := 16) X (j := 2) (i := 2) (q := 2) (x := a2) rfl rfl (dl_at t_X1_element 8 rfl) ?_
    refine g_bipush (pc := 17) X (n := 42) rfl (dl_at t_X1_element 9 rfl) ?_
    refine g_icmpge (pc := 19) X r2 (r32_c rfl) (off := 7) (tgt := 26) rfl (dl_at t_X1_element 10 rfl) (fun _ => ?_) (fun _ => ?_)
    · exact J26 () trivial
    exact J22 () trivial
  intro J10
  refine g_iflt (pc := 1) X r2 (off := 9) (tgt := 10) rfl (dl_at t_X1_element 1 rfl) (fun _ => ?_) (fun _ => ?_)
  · exact J10 () trivial
  refine g_iload_n (pc := 4) X (j := 2) (i := 2) (q := 2) (x := a2) rfl rfl (dl_at t_X1_element 2 rfl) ?_
  refine g_bipush (pc := 5) X (n := 7) rfl (dl_at t_X1_element 3 rfl) ?_
  refine g_icmple (pc := 7) X r2 (r32_c rfl) (off := 15) (tgt := 22) rfl (dl_at t_X1_element 4 rfl) (fun _ => ?_) (fun _ => ?_)
  · exact J22 () trivial
  exact J10 () trivial
def k_X0_element : List (Nat × Instr × Nat) := [(0, .aload_n 3, 1), (1, .iconst 0, 1), (2, .aload_n 0, 1), (3, .iload_n 1, 1), (4, .iload_n 2, 1), (5, .invokevirtual 47, 3), (8, .i2l, 1), (9, .lastore, 1), (10, .goto 11, 3), (13, .astore 4, 2), (15, .iconst 1, 1), (16, .ireturn, 1), (17, .astore 4, 2), (19, .iconst 2, 1), (20, .ireturn, 1), (21, .iconst 0, 1), (22, .ireturn, 1)]
theorem t_X0_element : ∀ q ∈ k_X0_element, decode cX0_element q.1 = .ok q.2 := dl_all (by decide +kernel)
noncomputable def m_X0_element (a0 a1 a2 a3 : Int) (h : Hp) : Option (Int × Hp) :=
  gd (h a0 (-2) = 16) (bT (m_X1_element a0 a1 a2 h) (fun v5 h5_1 =>
  gd (h5_1 a3 (-2) % 16 = 4 ∧ (0 : Int) ≤ 0 ∧ 0 < h5_1 a3 (-1)) (pt h5_1 a3 0 v5 fun h9 =>
  some (0, h9))) (fun a5 h5 => if h5 a5 (-2) = 496 then (some (1, h5))
  else (if h5 a5 (-2) = 528 then (some (2, h5))
  else (none))))
theorem s_X0_element {l : Launch} [NoTr l] {D : SD} {a0 a1 a2 a3 : Int} {h : Hp} (r1 : r32 a1) (r2 : r32 a2) {r : Int × Hp} (hm : m_X0_element a0 a1 a2 a3 h = some r) : Sim l D yX0_element (Cond.codeWith yX0_element cX0_element 5 (Option.some Jvm.ClassFile.FieldType.int) [((0 : Nat), (10 : Nat), (13 : Nat), (19 : Nat)), ((0 : Nat), (10 : Nat), (17 : Nat), (40 : Nat))]) 73 2983 [rv D a0, iv a1, iv a2, rv D a3] h 1 ((0, r.1), r.2) := by
  refine Sim.of (fin := fun (v : Int × Hp) => ((0, v.1), v.2)) (lsE := [(0, rv D a0), (1, iv a1), (2, iv a2), (3, rv D a3)]) hm rfl cwS_with (la_r (la_i (la_i (la_r la_n)))) (ll_r (ll_i (ll_i (ll_r ll_n)))) ?_
  intro p e s m below meth c X hcw hmm hcc hnm hname
  have htb := tabW hcw hnm hmm hcc
  unfold m_X0_element
  refine g_aload_n (pc := 0) X (j := 3) (i := 3) (q := 3) (x := a3) rfl rfl (dl_at t_X0_element 0 rfl) ?_
  refine g_iconst (pc := 1) X (n := 0) (dl_at t_X0_element 1 rfl) ?_
  refine g_aload_n (pc := 2) X (j := 0) (i := 0) (q := 0) (x := a0) rfl rfl (dl_at t_X0_element 2 rfl) ?_
  refine g_iload_n (pc := 3) X (j := 1) (i := 1) (q := 1) (x := a1) rfl rfl (dl_at t_X0_element 3 rfl) ?_
  refine g_iload_n (pc := 4) X (j := 2) (i := 2) (q := 2) (x := a2) rfl rfl (dl_at t_X0_element 4 rfl) ?_
  refine g_gd fun k5 => ?_
  refine r_callTi (pc := 5) X (fun _ hv => s_X1_element k5 r1 r2 hv) cw_code q3059 q355 (in_Vk X (As := [iv a1, iv a2]) kX1 k5 (Or.inl q3056) q3057 q3058 cw_code q3059 ⟨by decide, by decide⟩ rfl (dl_at t_X0_element 5 rfl)) (dl_at t_X0_element 5 rfl) (cat24 (st := [iv 0, rv D a3]) (Nat.le_of_ble_eq_true rfl)) (Nat.le_of_ble_eq_true rfl) (Nat.le_of_ble_eq_true rfl) (fun v5 h5_1 g5 E5_1 => ?_) (fun a5 h5 p5 E5 => ?_)
  · refine g_i2l (pc := 8) X g5 (dl_at t_X0_element 6 rfl) ?_
    refine g_gd fun k9 => ?_
    refine r_last (pc := 9) X (r32_c rfl) (r64_of g5) k9 (dl_at t_X0_element 7 rfl) (fun h9 E9 => ?_)
    refine g_goto (pc := 10) X (off := 11) (tgt := 21) rfl (dl_at t_X0_element 8 rfl) ?_
    refine g_iconst (pc := 21) X (n := 0) (dl_at t_X0_element 15 rfl) ?_
    exact g_iret (pc := 22) X (r32_c rfl) rfl rfl (dl_at t_X0_element 16 rfl)
  refine gt_case (fun k5_1 => ?_) (fun _ => ?_)
  · refine gt_catch (pc := 5) X kJ6 k5_1 [((0, 10, 13, 19), "java/lang/IllegalArgumentException", true), ((0, 10, 17, 40), "java/lang/IllegalStateException", false)] (hp := 13) rfl (by decide +kernel) (List.forall_mem_cons.mpr ⟨⟨q1682, by decide⟩, (List.forall_mem_cons.mpr ⟨⟨q2237, by decide⟩, fun _ h => absurd h List.not_mem_nil⟩)⟩) htb ?_
    refine g_astore (pc := 13) X (i := 4) (x := a5) (rest := []) (Nat.le_of_ble_eq_true rfl) [] rfl rfl (dl_at t_X0_element 9 rfl) ?_
    refine g_iconst (pc := 15) X (n := 1) (dl_at t_X0_element 10 rfl) ?_
    exact g_iret (pc := 16) X (r32_c rfl) rfl rfl (dl_at t_X0_element 11 rfl)
  refine gt_case (fun k5_2 => ?_) (fun _ => ?_)
  · refine gt_catch (pc := 5) X kJ11 k5_2 [((0, 10, 13, 19), "java/lang/IllegalArgumentException", false), ((0, 10, 17, 40), "java/lang/IllegalStateException", true)] (hp := 17) rfl (by decide +kernel) (List.forall_mem_cons.mpr ⟨⟨q1682, by decide⟩, (List.forall_mem_cons.mpr ⟨⟨q2237, by decide⟩, fun _ h => absurd h List.not_mem_nil⟩)⟩) htb ?_
    refine g_astore (pc := 17) X (i := 4) (x := a5) (rest := []) (Nat.le_of_ble_eq_true rfl) [] rfl rfl (dl_at t_X0_element 12 rfl) ?_
    refine g_iconst (pc := 19) X (n := 2) (dl_at t_X0_element 13 rfl) ?_
    exact g_iret (pc := 20) X (r32_c rfl) rfl rfl (dl_at t_X0_element 14 rfl)
  exact gt_none
def k_X14_pages : List (Nat × Instr × Nat) := [(0, .aload_n 0, 1), (1, .getfield 217, 3), (4, .aload_n 0, 1), (5, .getfield 168, 3), (8, .getfield 747, 3), (11, .iadd, 1), (12, .iconst 1, 1), (13, .isub, 1), (14, .aload_n 0, 1), (15, .getfield 168, 3), (18, .getfield 747, 3), (21, .idiv, 1), (22, .ireturn, 1)]
theorem t_X14_pages : ∀ q ∈ k_X14_pages, decode cX14_pages q.1 = .ok q.2 := dl_all (by decide +kernel)
noncomputable def m_X14_pages (a0 : Int) (h : Hp) : Option (Int) :=
  gd (h (h a0 3) (-2) = 48) (gd ((h (h a0 3) 25) ≠ 0) (some (w32 (Int.tdiv (w32 ((w32 ((h a0 58) + (h (h a0 3) 25))) - 1)) (h (h a0 3) 25)))))
theorem s_X14_pages {l : Launch} [NoTr l] {D : SD} {a0 : Int} {h : Hp} (hk : h a0 (-2) = 224) {r : Int} (hm : m_X14_pages a0 h = some r) : Sim l D yX14_pages (Cond.code yX14_pages cX14_pages 1 (Option.some Jvm.ClassFile.FieldType.int)) 0 0 [rv D a0] h 1 ((0, r), h) := by
  refine Sim.of (fin := fun (v : Int) => ((0, v), h)) (lsE := [(0, rv D a0)]) hm rfl cwS_code (la_r la_n) (ll_r ll_n) ?_
  intro p e s m below meth c X hcw hmm hcc hnm hname
  unfold m_X14_pages
  refine g_aload_n (pc := 0) X (j := 0) (i := 0) (q := 0) (x := a0) rfl rfl (dl_at t_X14_pages 0 rfl) ?_
  refine r_geti (pc := 1) X fX14_58 hk q1321 (dl_at t_X14_pages 1 rfl) fun g1 => ?_
  refine g_aload_n (pc := 4) X (j := 0) (i := 0) (q := 0) (x := a0) rfl rfl (dl_at t_X14_pages 2 rfl) ?_
  refine r_getr (pc := 5) X fX14_3 hk q1245 (dl_at t_X14_pages 3 rfl) ?_
  refine g_gd fun k8 => ?_
  refine r_getiN (pc := 8) X fX3_25 k8 (nw_in q569 rfl) (dl_at t_X14_pages 4 rfl) fun g8 => ?_
  refine g_iadd (pc := 11) X g1 g8 (dl_at t_X14_pages 5 rfl) ?_
  refine g_iconst (pc := 12) X (n := 1) (dl_at t_X14_pages 6 rfl) ?_
  refine g_isub (pc := 13) X (r32_w _) (r32_c rfl) (dl_at t_X14_pages 7 rfl) ?_
  refine g_aload_n (pc := 14) X (j := 0) (i := 0) (q := 0) (x := a0) rfl rfl (dl_at t_X14_pages 8 rfl) ?_
  refine r_getr (pc := 15) X fX14_3 hk q1245 (dl_at t_X14_pages 9 rfl) ?_
  refine r_getiN (pc := 18) X fX3_25 k8 (nw_in q569 rfl) (dl_at t_X14_pages 10 rfl) fun g18 => ?_
  refine g_gd fun z21 => ?_
  refine g_idiv (pc := 21) X (r32_w _) g18 z21 (dl_at t_X14_pages 11 rfl) ?_
  exact g_iret (pc := 22) X (r32_w _) rfl rfl (dl_at t_X14_pages 12 rfl)
def k_X14_wavering : List (Nat × Instr × Nat) := [(0, .iload_n 1, 1), (1, .istore_n 2, 1), (2, .iconst 0, 1), (3, .istore_n 3, 1), (4, .iload_n 3, 1), (5, .aload_n 0, 1), (6, .getfield 158, 3), (9, .getfield 223, 3), (12, .if_icmp .ge 85, 3), (15, .iload_n 2, 1), (16, .ifCond .lt 81, 3), (19, .iconst 0, 1), (20, .istore 4, 2), (22, .iconst 0, 1), (23, .istore 5, 2), (25, .iload 5, 2), (27, .aload_n 0, 1), (28, .getfield 214, 3), (31, .if_icmp .ge 41, 3), (34, .iload 4, 2), (36, .ifCond .ne 36, 3), (39, .aload_n 0, 1), (40, .getfield 111, 3), (43, .iload 5, 2), (45, .iaload, 1), (46, .iload_n 3, 1), (47, .if_icmp .ne 16, 3), (50, .aload_n 0, 1), (51, .iload 5, 2), (53, .invokevirtual 583, 3), (56, .ifCond .eq 7, 3), (59, .iconst 1, 1), (60, .goto 4, 3), (63, .iconst 0, 1), (64, .istore 4, 2), (66, .iinc 5 1, 3), (69, .goto (-44), 3), (72, .iload 4, 2), (74, .ifCond .eq 9, 3), (77, .iload_n 2, 1), (78, .ifCond .ne 5, 3), (81, .iload_n 3, 1), (82, .ireturn, 1), (83, .iload 4, 2), (85, .ifCond .eq 6, 3), (88, .iinc 2 (-1), 3), (91, .iinc 3 1, 3), (94, .goto (-90), 3), (97, .iconst (-1), 1), (98, .ireturn, 1)]
theorem t_X14_wavering : ∀ q ∈ k_X14_wavering, decode cX14_wavering q.1 = .ok q.2 := dl_all (by decide +kernel)
noncomputable def m_X14_wavering_j64 (x5_25 s0_64 : Int) : Option ((Int × Int) ⊕ ((Int))) :=
  lt_ (w32 (x5_25 + 1)) fun x5_66 =>
  some (.inl (s0_64, x5_66))
noncomputable def m_X14_wavering_j63 (x5_25 : Int) : Option ((Int × Int) ⊕ ((Int))) :=
  m_X14_wavering_j64 x5_25 0
noncomputable def m_X14_wavering_l25 (a0 x3_4 x4_25 x5_25 : Int) (h : Hp) : Option ((Int × Int) ⊕ ((Int))) :=
  if (h a0 53) ≤ x5_25 then (some (.inr x4_25))
  else (if x4_25 ≠ 0 then (some (.inr x4_25))
  else (gd (h (h a0 50) (-2) % 16 = 1 ∧ (0 : Int) ≤ x5_25 ∧ x5_25 < h (h a0 50) (-1)) (if (h (h a0 50) x5_25) ≠ x3_4 then (m_X14_wavering_j63 x5_25)
  else ((m_X14_wavers a0 x5_25 h).bind fun v53 =>
  if v53 = 0 then (m_X14_wavering_j63 x5_25)
  else (m_X14_wavering_j64 x5_25 1)))))
noncomputable def m_X14_wavering_j91 (x3_4 x2_91 : Int) : Option ((Int × Int) ⊕ ((Int))) :=
  lt_ (w32 (x3_4 + 1)) fun x3_91 =>
  some (.inl (x2_91, x3_91))
noncomputable def m_X14_wavering_j83 (x2_4 x3_4 x4_72 : Int) : Option ((Int × Int) ⊕ ((Int))) :=
  if x4_72 = 0 then (m_X14_wavering_j91 x3_4 x2_4)
  else (lt_ (w32 (x2_4 + (-1))) fun x2_88 =>
  m_X14_wavering_j91 x3_4 x2_88)
noncomputable def m_X14_wavering_l4 (a0 x2_4 x3_4 : Int) (h : Hp) : Option ((Int × Int) ⊕ ((Int))) :=
  gd (h (h a0 2) (-2) = 112) (if (h (h a0 2) 2) ≤ x3_4 then (some (.inr (-1)))
  else (if x2_4 < 0 then (some (.inr (-1)))
  else (lt_ 0 fun x4_20 =>
  lt_ 0 fun x5_23 =>
  (lp (fun (q : Int × Int) => m_X14_wavering_l25 a0 x3_4 q.1 q.2 h) (x4_20, x5_23)).bind (fun (y72 : Int) => if y72 = 0 then (m_X14_wavering_j83 x2_4 x3_4 y72)
  else (if x2_4 ≠ 0 then (m_X14_wavering_j83 x2_4 x3_4 y72)
  else (some (.inr x3_4)))))))
noncomputable def m_X14_wavering (a0 a1 : Int) (h : Hp) : Option (Int) :=
  lt_ 0 fun x3_3 =>
  (lp (fun (q : Int × Int) => m_X14_wavering_l4 a0 q.1 q.2 h) (a1, x3_3)).bind (fun (x : Int) => some x)
theorem s_X14_wavering {l : Launch} [NoTr l] {D : SD} {a0 a1 : Int} {h : Hp} (hk : h a0 (-2) = 224) (r1 : r32 a1) {r : Int} (hm : m_X14_wavering a0 a1 h = some r) : Sim l D yX14_wavering (Cond.code yX14_wavering cX14_wavering 6 (Option.some Jvm.ClassFile.FieldType.int)) 3 113 [rv D a0, iv a1] h 1 ((0, r), h) := by
  refine Sim.of (fin := fun (v : Int) => ((0, v), h)) (lsE := [(0, rv D a0), (1, iv a1)]) hm rfl cwS_code (la_r (la_i la_n)) (ll_r (ll_i ll_n)) ?_
  intro p e s m below meth c X hcw hmm hcc hnm hname
  unfold m_X14_wavering
  refine g_iload_n (pc := 0) X (j := 1) (i := 1) (q := 1) (x := a1) rfl rfl (dl_at t_X14_wavering 0 rfl) ?_
  refine g_istore_n (pc := 1) X (j := 2) (i := 2) (x := a1) (rest := [(0, rv D a0)]) rfl (Nat.le_of_ble_eq_true rfl) [0] rfl rfl (dl_at t_X14_wavering 1 rfl) ?_
  refine g_iconst (pc := 2) X (n := 0) (dl_at t_X14_wavering 2 rfl) ?_
  refine g_ltz (Or.inl rfl) fun x3_3 r3_3 => ?_
  refine g_istore_nN (pc := 3) X (j := 3) (i := 3) (x := x3_3) (b := 2) (w := iv a1) (rest := [(0, rv D a0)]) rfl (Nat.le_of_ble_eq_true rfl) [0, 1] rfl (by decide) rfl rfl (dl_at t_X14_wavering 3 rfl) ?_
  refine g_ls (ls2 := [(0, rv D a0), (2, iv a1), (3, iv x3_3)]) [2, 1, 0] rfl ?_
  refine g_loop0F (fun (q : Int × Int) => [(0, rv D a0), (2, iv q.1), (3, iv q.2)]) (fun (q : Int × Int) => h) (fun (q : Int × Int) => r32 q.1 ∧ r32 q.2) (a1, x3_3) ⟨r1, (r32_z r3_3)⟩ ?_ (fun _ => rfl)
  · rintro ⟨x2_4, x3_4⟩ ⟨r2_4, r3_4⟩
    try dsimp only
    unfold m_X14_wavering_l4
    refine g_iload_n (pc := 4) X (j := 3) (i := 3) (q := 2) (x := x3_4) rfl rfl (dl_at t_X14_wavering 4 rfl) ?_
    refine g_aload_n (pc := 5) X (j := 0) (i := 0) (q := 0) (x := a0) rfl rfl (dl_at t_X14_wavering 5 rfl) ?_
    refine r_getr (pc := 6) X fX14_2 hk q1243 (dl_at t_X14_wavering 6 rfl) ?_
    refine g_gd fun k9 => ?_
    refine r_getiN (pc := 9) X fX7_2 k9 (nw_in q785 rfl) (dl_at t_X14_wavering 7 rfl) fun g9 => ?_
    refine g_icmpge (pc := 12) X r3_4 g9 (off := 85) (tgt := 97) rfl (dl_at t_X14_wavering 8 rfl) (fun _ => ?_) (fun _ => ?_)
    · refine g_iconst (pc := 97) X (n := (-1)) (dl_at t_X14_wavering 48 rfl) ?_
      exact g_at fun Q hQ => (g_iret (pc := 98) X (r32_c rfl) rfl rfl (dl_at t_X14_wavering 49 rfl)) _ Q rfl hQ
    refine g_iload_n (pc := 15) X (j := 2) (i := 2) (q := 1) (x := x2_4) rfl rfl (dl_at t_X14_wavering 9 rfl) ?_
    refine g_iflt (pc := 16) X r2_4 (off := 81) (tgt := 97) rfl (dl_at t_X14_wavering 10 rfl) (fun _ => ?_) (fun _ => ?_)
    · refine g_iconst (pc := 97) X (n := (-1)) (dl_at t_X14_wavering 48 rfl) ?_
      exact g_at fun Q hQ => (g_iret (pc := 98) X (r32_c rfl) rfl rfl (dl_at t_X14_wavering 49 rfl)) _ Q rfl hQ
    refine g_iconst (pc := 19) X (n := 0) (dl_at t_X14_wavering 11 rfl) ?_
    refine g_ltz (Or.inl rfl) fun x4_20 r4_20 => ?_
    refine g_istoreN (pc := 20) X (i := 4) (x := x4_20) (b := 3) (w := iv x3_4) (rest := [(0, rv D a0), (2, iv x2_4)]) (Nat.le_of_ble_eq_true rfl) [2, 0, 1] rfl (by decide) rfl rfl (dl_at t_X14_wavering 12 rfl) ?_
    refine g_iconst (pc := 22) X (n := 0) (dl_at t_X14_wavering 13 rfl) ?_
    refine g_ltz (Or.inl rfl) fun x5_23 r5_23 => ?_
    refine g_istoreN (pc := 23) X (i := 5) (x := x5_23) (b := 4) (w := iv x4_20) (rest := [(3, iv x3_4), (0, rv D a0), (2, iv x2_4)]) (Nat.le_of_ble_eq_true rfl) [0, 1, 2, 3] rfl (by decide) rfl rfl (dl_at t_X14_wavering 14 rfl) ?_
    refine g_ls (ls2 := [(0, rv D a0), (2, iv x2_4), (3, iv x3_4), (4, iv x4_20), (5, iv x5_23)]) [3, 4, 2, 1, 0] rfl ?_
    refine g_loop1 (fun (q : Int × Int) => [(0, rv D a0), (2, iv x2_4), (3, iv x3_4), (4, iv q.1), (5, iv q.2)]) (fun (q : Int × Int) => h) (fun (q : Int × Int) => (q.1 = 0 ∨ q.1 = 1) ∧ r32 q.2) 72 (fun (y72 : Int) => [(0, rv D a0), (2, iv x2_4), (3, iv x3_4), (4, iv y72)]) (fun (y72 : Int) => h) (fun (y72 : Int) => (y72 = 0 ∨ y72 = 1)) (x4_20, x5_23) ⟨r4_20, (r32_z r5_23)⟩ ?_ ?_
    · rintro ⟨x4_25, x5_25⟩ ⟨r4_25, r5_25⟩
      try dsimp only
      unfold m_X14_wavering_l25
      refine g_iload (pc := 25) X (i := 5) (q := 4) (x := x5_25) rfl (dl_at t_X14_wavering 15 rfl) ?_
      refine g_aload_n (pc := 27) X (j := 0) (i := 0) (q := 0) (x := a0) rfl rfl (dl_at t_X14_wavering 16 rfl) ?_
      refine r_geti (pc := 28) X fX14_53 hk q1315 (dl_at t_X14_wavering 17 rfl) fun g28 => ?_
      refine g_icmpge (pc := 31) X r5_25 g28 (off := 41) (tgt := 72) rfl (dl_at t_X14_wavering 18 rfl) (fun _ => ?_) (fun _ => ?_)
      · refine g_ls (ls2 := [(0, rv D a0), (2, iv x2_4), (3, iv x3_4), (4, iv x4_25)]) [0, 1, 2, 3] rfl ?_
        exact g_at fun Q hQ => hQ r4_25
      refine g_iload (pc := 34) X (i := 4) (q := 3) (x := x4_25) rfl (dl_at t_X14_wavering 19 rfl) ?_
      refine g_ifne (pc := 36) X (r32_z r4_25) (off := 36) (tgt := 72) rfl (dl_at t_X14_wavering 20 rfl) (fun _ => ?_) (fun _ => ?_)
      · refine g_ls (ls2 := [(0, rv D a0), (2, iv x2_4), (3, iv x3_4), (4, iv x4_25)]) [0, 1, 2, 3] rfl ?_
        exact g_at fun Q hQ => hQ r4_25
      refine g_aload_n (pc := 39) X (j := 0) (i := 0) (q := 0) (x := a0) rfl rfl (dl_at t_X14_wavering 21 rfl) ?_
      refine r_getr (pc := 40) X fX14_50 hk q1312 (dl_at t_X14_wavering 22 rfl) ?_
      refine g_iload (pc := 43) X (i := 5) (q := 4) (x := x5_25) rfl (dl_at t_X14_wavering 23 rfl) ?_
      refine g_gd fun k45 => ?_
      refine g_iald (pc := 45) X r5_25 k45 (dl_at t_X14_wavering 24 rfl) fun g45 => ?_
      refine g_iload_n (pc := 46) X (j := 3) (i := 3) (q := 2) (x := x3_4) rfl rfl (dl_at t_X14_wavering 25 rfl) ?_
      refine g_join (γ := Int) (fun q => (q = 0 ∨ q = 1)) 64 (fun q => [(0, rv D a0), (2, iv x2_4), (3, iv x3_4), (5, iv x5_25)]) (fun q => [iv q]) (fun q => h) (fun q => m_X14_wavering_j64 x5_25 q) ?_ ?_
      · rintro s0_64 rs0_64
        try dsimp only
        unfold m_X14_wavering_j64
        refine g_istoreN (pc := 64) X (i := 4) (x := s0_64) (b := 3) (w := iv x3_4) (rest := [(0, rv D a0), (2, iv x2_4), (5, iv x5_25)]) (Nat.le_of_ble_eq_true rfl) [2, 0, 1, 3] rfl (by decide) rfl rfl (dl_at t_X14_wavering 34 rfl) ?_
        refine r_iincN (pc := 66) X (i := 5) (q := 4) (n := 1) (x := x5_25) (b := 4) (w := iv s0_64) (rest := [(3, iv x3_4), (0, rv D a0), (2, iv x2_4)]) rfl r5_25 (r32_c rfl) (Nat.le_of_ble_eq_true rfl) [0, 1, 2, 3] rfl (by decide) rfl rfl (dl_at t_X14_wavering 35 rfl) fun x5_66 r5_66 => ?_
        refine g_goto (pc := 69) X (off := (-44)) (tgt := 25) rfl (dl_at t_X14_wavering 36 rfl) ?_
        refine g_ls (ls2 := [(0, rv D a0), (2, iv x2_4), (3, iv x3_4), (4, iv s0_64), (5, iv x5_66)]) [3, 4, 2, 1, 0] rfl ?_
        exact g_at fun Q hQ => hQ ⟨rs0_64, r5_66⟩
      intro J64
      refine g_join (γ := Unit) (fun q => True) 63 (fun q => [(0, rv D a0), (2, iv x2_4), (3, iv x3_4), (5, iv x5_25)]) (fun q => []) (fun q => h) (fun q => m_X14_wavering_j63 x5_25) ?_ ?_
      · rintro _ _
        try dsimp only
        unfold m_X14_wavering_j63
        refine g_iconst (pc := 63) X (n := 0) (dl_at t_X14_wavering 33 rfl) ?_
        exact J64 0 (Or.inl rfl)
      intro J63
      refine g_icmpne (pc := 47) X g45 r3_4 (off := 16) (tgt := 63) rfl (dl_at t_X14_wavering 26 rfl) (fun _ => ?_) (fun _ => ?_)
      · refine g_ls (ls2 := [(0, rv D a0), (2, iv x2_4), (3, iv x3_4), (5, iv x5_25)]) [0, 1, 2, 4] rfl ?_
        exact J63 () trivial
      refine g_aload_n (pc := 50) X (j := 0) (i := 0) (q := 0) (x := a0) rfl rfl (dl_at t_X14_wavering 27 rfl) ?_
      refine g_iload (pc := 51) X (i := 5) (q := 4) (x := x5_25) rfl (dl_at t_X14_wavering 28 rfl) ?_
      refine r_callRz (pc := 53) X (fun _ hv => s_X14_wavers hk r5_25 hv) cw_code q3047 q368 (in_Vk X (As := [iv x5_25]) kX14 hk (Or.inl q3044) q3046 qs213 cw_code q3047 ⟨by decide, by decide⟩ rfl (dl_at t_X14_wavering 29 rfl)) (dl_at t_X14_wavering 29 rfl) (cat24 (st := []) (Nat.le_of_ble_eq_true rfl)) (Nat.le_of_ble_eq_true rfl) (Nat.le_of_ble_eq_true rfl) fun v53 g53 => ?_
      refine g_ifeq (pc := 56) X (r32_z g53) (off := 7) (tgt := 63) rfl (dl_at t_X14_wavering 30 rfl) (fun _ => ?_) (fun _ => ?_)
      · refine g_ls (ls2 := [(0, rv D a0), (2, iv x2_4), (3, iv x3_4), (5, iv x5_25)]) [0, 1, 2, 4] rfl ?_
        exact J63 () trivial
      refine g_iconst (pc := 59) X (n := 1) (dl_at t_X14_wavering 31 rfl) ?_
      refine g_goto (pc := 60) X (off := 4) (tgt := 64) rfl (dl_at t_X14_wavering 32 rfl) ?_
      refine g_ls (ls2 := [(0, rv D a0), (2, iv x2_4), (3, iv x3_4), (5, iv x5_25)]) [0, 1, 2, 4] rfl ?_
      exact J64 1 (Or.inr rfl)
    · rintro x4_72 r4_72
      try dsimp only [sE]
      refine g_iload (pc := 72) X (i := 4) (q := 3) (x := x4_72) rfl (dl_at t_X14_wavering 37 rfl) ?_
      refine g_join (γ := Unit) (fun q => True) 83 (fun q => [(0, rv D a0), (2, iv x2_4), (3, iv x3_4), (4, iv x4_72)]) (fun q => []) (fun q => h) (fun q => m_X14_wavering_j83 x2_4 x3_4 x4_72) ?_ ?_
      · rintro _ _
        try dsimp only
        unfold m_X14_wavering_j83
        refine g_iload (pc := 83) X (i := 4) (q := 3) (x := x4_72) rfl (dl_at t_X14_wavering 43 rfl) ?_
        refine g_join (γ := Int) (fun q => r32 q) 91 (fun q => [(0, rv D a0), (2, iv q), (3, iv x3_4)]) (fun q => []) (fun q => h) (fun q => m_X14_wavering_j91 x3_4 q) ?_ ?_
        · rintro x2_91 r2_91
          try dsimp only
          unfold m_X14_wavering_j91
          refine r_iincN (pc := 91) X (i := 3) (q := 2) (n := 1) (x := x3_4) (b := 2) (w := iv x2_91) (rest := [(0, rv D a0)]) rfl r3_4 (r32_c rfl) (Nat.le_of_ble_eq_true rfl) [1, 0] rfl (by decide) rfl rfl (dl_at t_X14_wavering 46 rfl) fun x3_91 r3_91 => ?_
          refine g_goto (pc := 94) X (off := (-90)) (tgt := 4) rfl (dl_at t_X14_wavering 47 rfl) ?_
          refine g_ls (ls2 := [(0, rv D a0), (2, iv x2_91), (3, iv x3_91)]) [2, 1, 0] rfl ?_
          exact g_at fun Q hQ => hQ ⟨r2_91, r3_91⟩
        intro J91
        refine g_ifeq (pc := 85) X (r32_z r4_72) (off := 6) (tgt := 91) rfl (dl_at t_X14_wavering 44 rfl) (fun _ => ?_) (fun _ => ?_)
        · refine g_ls (ls2 := [(0, rv D a0), (2, iv x2_4), (3, iv x3_4)]) [0, 1, 2] rfl ?_
          exact J91 x2_4 r2_4
        refine r_iinc (pc := 88) X (i := 2) (q := 1) (n := (-1)) (x := x2_4) (rest := [(0, rv D a0), (3, iv x3_4)]) rfl r2_4 (r32_c rfl) (Nat.le_of_ble_eq_true rfl) [0, 2] rfl rfl (dl_at t_X14_wavering 45 rfl) fun x2_88 r2_88 => ?_
        refine g_ls (ls2 := [(0, rv D a0), (2, iv x2_88), (3, iv x3_4)]) [1, 0, 2] rfl ?_
        exact J91 x2_88 r2_88
      intro J83
      refine g_ifeq (pc := 74) X (r32_z r4_72) (off := 9) (tgt := 83) rfl (dl_at t_X14_wavering 38 rfl) (fun _ => ?_) (fun _ => ?_)
      · exact J83 () trivial
      refine g_iload_n (pc := 77) X (j := 2) (i := 2) (q := 1) (x := x2_4) rfl rfl (dl_at t_X14_wavering 39 rfl) ?_
      refine g_ifne (pc := 78) X r2_4 (off := 5) (tgt := 83) rfl (dl_at t_X14_wavering 40 rfl) (fun _ => ?_) (fun _ => ?_)
      · exact J83 () trivial
      refine g_iload_n (pc := 81) X (j := 3) (i := 3) (q := 2) (x := x3_4) rfl rfl (dl_at t_X14_wavering 41 rfl) ?_
      exact g_at fun Q hQ => (g_iret (pc := 82) X r3_4 rfl rfl (dl_at t_X14_wavering 42 rfl)) _ Q rfl hQ
def k_X1_counted : List (Nat × Instr × Nat) := [(0, .iload_n 1, 1), (48, .aload_n 0, 1), (49, .getfield 169, 3), (52, .invokevirtual 309, 3), (55, .ireturn, 1), (56, .aload_n 0, 1), (57, .getfield 169, 3), (60, .getfield 312, 3), (63, .ireturn, 1), (64, .aload_n 0, 1), (65, .getfield 169, 3), (68, .getfield 315, 3), (71, .ireturn, 1), (72, .aload_n 0, 1), (73, .getfield 169, 3), (76, .getfield 318, 3), (79, .ireturn, 1), (80, .aload_n 0, 1), (81, .getfield 169, 3), (84, .getfield 319, 3), (87, .ireturn, 1), (88, .aload_n 0, 1), (89, .getfield 169, 3), (92, .getfield 322, 3), (95, .ireturn, 1), (96, .aload_n 0, 1), (97, .getfield 169, 3), (100, .getfield 325, 3), (103, .getfield 329, 3), (106, .ireturn, 1), (107, .iconst 0, 1), (108, .istore_n 2, 1), (109, .aload_n 0, 1), (110, .getfield 169, 3), (113, .iload_n 2, 1), (114, .invokevirtual 332, 3), (117, .ifCond .lt 9, 3), (120, .iinc 2 1, 3), (123, .goto (-14), 3), (126, .iload_n 2, 1), (127, .ireturn, 1), (128, .aload_n 0, 1), (129, .getfield 255, 3), (132, .ireturn, 1)]
theorem t_X1_counted : ∀ q ∈ k_X1_counted, decode cX1_counted q.1 = .ok q.2 := dl_all (by decide +kernel)
theorem dS_X1_counted_1 : decode cX1_counted 1 = .ok (.tableswitch 127 3 10 #[47, 55, 63, 71, 79, 87, 95, 106], 47) := by decide +kernel
noncomputable def m_X1_counted_l109 (a0 x2_109 : Int) (h : Hp) : Option ((Int) ⊕ ((Int))) :=
  gd (h (h a0 18) (-2) = 224) ((m_X14_wavering (h a0 18) x2_109 h).bind fun v114 =>
  if v114 < 0 then (some (.inr x2_109))
  else (lt_ (w32 (x2_109 + 1)) fun x2_120 =>
  some (.inl x2_120)))
noncomputable def m_X1_counted (a0 a1 : Int) (h : Hp) : Option (Int) :=
  if a1 = 3 then (gd (h (h a0 18) (-2) = 224) ((m_X14_pages (h a0 18) h).bind fun v52 =>
  some v52))
  else (if a1 = 4 then (gd (h (h a0 18) (-2) = 224) (some (h (h a0 18) 58)))
  else (if a1 = 5 then (gd (h (h a0 18) (-2) = 224) (some (h (h a0 18) 18)))
  else (if a1 = 6 then (gd (h (h a0 18) (-2) = 224) (some (h (h a0 18) 11)))
  else (if a1 = 7 then (gd (h (h a0 18) (-2) = 224) (some (h (h a0 18) 36)))
  else (if a1 = 8 then (gd (h (h a0 18) (-2) = 224) (some (h (h a0 18) 39)))
  else (if a1 = 9 then (gd (h (h a0 18) (-2) = 224) (gd (h (h (h a0 18) 43) (-2) = 256) (some (h (h (h a0 18) 43) 9))))
  else (if a1 = 10 then (lt_ 0 fun x2_108 =>
  (lp (fun (q : Int) => m_X1_counted_l109 a0 q h) x2_108).bind (fun (x : Int) => some x))
  else (some (h a0 19)))))))))
theorem s_X1_counted {l : Launch} [NoTr l] {D : SD} {a0 a1 : Int} {h : Hp} (hk : h a0 (-2) = 16) (r1 : r32 a1) {r : Int} (hm : m_X1_counted a0 a1 h = some r) : Sim l D yX1_counted (Cond.code yX1_counted cX1_counted 3 (Option.some Jvm.ClassFile.FieldType.int)) 4 154 [rv D a0, iv a1] h 1 ((0, r), h) := by
  refine Sim.of (fin := fun (v : Int) => ((0, v), h)) (lsE := [(0, rv D a0), (1, iv a1)]) hm rfl cwS_code (la_r (la_i la_n)) (ll_r (ll_i ll_n)) ?_
  intro p e s m below meth c X hcw hmm hcc hnm hname
  unfold m_X1_counted
  refine g_iload_n (pc := 0) X (j := 1) (i := 1) (q := 1) (x := a1) rfl rfl (dl_at t_X1_counted 0 rfl) ?_
  refine g_case (fun w1 => ?_) (fun nw1 => ?_)
  · refine g_tabIn (pc := 1) X (off := 47) (tgt := 48) r1 w1 (by decide) (by decide) rfl rfl dS_X1_counted_1 ?_
    refine g_aload_n (pc := 48) X (j := 0) (i := 0) (q := 0) (x := a0) rfl rfl (dl_at t_X1_counted 1 rfl) ?_
    refine r_getr (pc := 49) X fX1_18 hk q1506 (dl_at t_X1_counted 2 rfl) ?_
    refine g_gd fun k52 => ?_
    refine r_callRi (pc := 52) X (fun _ hv => s_X14_pages k52 hv) cw_code q3079 q368 (in_Vk X (As := []) kX14 k52 (Or.inr ⟨_, nw_in q3076 rfl⟩) q3078 qs216 cw_code q3079 ⟨by decide, by decide⟩ rfl (dl_at t_X1_counted 3 rfl)) (dl_at t_X1_counted 3 rfl) (cat24 (st := []) (Nat.le_of_ble_eq_true rfl)) (Nat.le_of_ble_eq_true rfl) (Nat.le_of_ble_eq_true rfl) fun v52 g52 => ?_
    exact g_iret (pc := 55) X g52 rfl rfl (dl_at t_X1_counted 4 rfl)
  refine g_case (fun w1_1 => ?_) (fun nw1_1 => ?_)
  · refine g_tabIn (pc := 1) X (off := 55) (tgt := 56) r1 w1_1 (by decide) (by decide) rfl rfl dS_X1_counted_1 ?_
    refine g_aload_n (pc := 56) X (j := 0) (i := 0) (q := 0) (x := a0) rfl rfl (dl_at t_X1_counted 5 rfl) ?_
    refine r_getr (pc := 57) X fX1_18 hk q1506 (dl_at t_X1_counted 6 rfl) ?_
    refine g_gd fun k60 => ?_
    refine r_getiN (pc := 60) X fX14_58 k60 (nw_in q1322 rfl) (dl_at t_X1_counted 7 rfl) fun g60 => ?_
    exact g_iret (pc := 63) X g60 rfl rfl (dl_at t_X1_counted 8 rfl)
  refine g_case (fun w1_2 => ?_) (fun nw1_2 => ?_)
  · refine g_tabIn (pc := 1) X (off := 63) (tgt := 64) r1 w1_2 (by decide) (by decide) rfl rfl dS_X1_counted_1 ?_
    refine g_aload_n (pc := 64) X (j := 0) (i := 0) (q := 0) (x := a0) rfl rfl (dl_at t_X1_counted 9 rfl) ?_
    refine r_getr (pc := 65) X fX1_18 hk q1506 (dl_at t_X1_counted 10 rfl) ?_
    refine g_gd fun k68 => ?_
    refine r_getiN (pc := 68) X fX14_18 k68 (nw_in q1270 rfl) (dl_at t_X1_counted 11 rfl) fun g68 => ?_
    exact g_iret (pc := 71) X g68 rfl rfl (dl_at t_X1_counted 12 rfl)
  refine g_case (fun w1_3 => ?_) (fun nw1_3 => ?_)
  · refine g_tabIn (pc := 1) X (off := 71) (tgt := 72) r1 w1_3 (by decide) (by decide) rfl rfl dS_X1_counted_1 ?_
    refine g_aload_n (pc := 72) X (j := 0) (i := 0) (q := 0) (x := a0) rfl rfl (dl_at t_X1_counted 13 rfl) ?_
    refine r_getr (pc := 73) X fX1_18 hk q1506 (dl_at t_X1_counted 14 rfl) ?_
    refine g_gd fun k76 => ?_
    refine r_getiN (pc := 76) X fX14_11 k76 (nw_in q1259 rfl) (dl_at t_X1_counted 15 rfl) fun g76 => ?_
    exact g_iret (pc := 79) X g76 rfl rfl (dl_at t_X1_counted 16 rfl)
  refine g_case (fun w1_4 => ?_) (fun nw1_4 => ?_)
  · refine g_tabIn (pc := 1) X (off := 79) (tgt := 80) r1 w1_4 (by decide) (by decide) rfl rfl dS_X1_counted_1 ?_
    refine g_aload_n (pc := 80) X (j := 0) (i := 0) (q := 0) (x := a0) rfl rfl (dl_at t_X1_counted 17 rfl) ?_
    refine r_getr (pc := 81) X fX1_18 hk q1506 (dl_at t_X1_counted 18 rfl) ?_
    refine g_gd fun k84 => ?_
    refine r_getiN (pc := 84) X fX14_36 k84 (nw_in q1294 rfl) (dl_at t_X1_counted 19 rfl) fun g84 => ?_
    exact g_iret (pc := 87) X g84 rfl rfl (dl_at t_X1_counted 20 rfl)
  refine g_case (fun w1_5 => ?_) (fun nw1_5 => ?_)
  · refine g_tabIn (pc := 1) X (off := 87) (tgt := 88) r1 w1_5 (by decide) (by decide) rfl rfl dS_X1_counted_1 ?_
    refine g_aload_n (pc := 88) X (j := 0) (i := 0) (q := 0) (x := a0) rfl rfl (dl_at t_X1_counted 21 rfl) ?_
    refine r_getr (pc := 89) X fX1_18 hk q1506 (dl_at t_X1_counted 22 rfl) ?_
    refine g_gd fun k92 => ?_
    refine r_getiN (pc := 92) X fX14_39 k92 (nw_in q1300 rfl) (dl_at t_X1_counted 23 rfl) fun g92 => ?_
    exact g_iret (pc := 95) X g92 rfl rfl (dl_at t_X1_counted 24 rfl)
  refine g_case (fun w1_6 => ?_) (fun nw1_6 => ?_)
  · refine g_tabIn (pc := 1) X (off := 95) (tgt := 96) r1 w1_6 (by decide) (by decide) rfl rfl dS_X1_counted_1 ?_
    refine g_aload_n (pc := 96) X (j := 0) (i := 0) (q := 0) (x := a0) rfl rfl (dl_at t_X1_counted 25 rfl) ?_
    refine r_getr (pc := 97) X fX1_18 hk q1506 (dl_at t_X1_counted 26 rfl) ?_
    refine g_gd fun k100 => ?_
    refine r_getrN (pc := 100) X fX14_43 k100 (nw_in q1305 rfl) (dl_at t_X1_counted 27 rfl) ?_
    refine g_gd fun k103 => ?_
    refine r_getiN (pc := 103) X fX16_9 k103 (nw_in q1218 rfl) (dl_at t_X1_counted 28 rfl) fun g103 => ?_
    exact g_iret (pc := 106) X g103 rfl rfl (dl_at t_X1_counted 29 rfl)
  refine g_case (fun w1_7 => ?_) (fun nw1_7 => ?_)
  · refine g_tabIn (pc := 1) X (off := 106) (tgt := 107) r1 w1_7 (by decide) (by decide) rfl rfl dS_X1_counted_1 ?_
    refine g_iconst (pc := 107) X (n := 0) (dl_at t_X1_counted 30 rfl) ?_
    refine g_ltz (Or.inl rfl) fun x2_108 r2_108 => ?_
    refine g_istore_n (pc := 108) X (j := 2) (i := 2) (x := x2_108) (rest := [(0, rv D a0)]) rfl (Nat.le_of_ble_eq_true rfl) [0] rfl rfl (dl_at t_X1_counted 31 rfl) ?_
    refine g_ls (ls2 := [(0, rv D a0), (2, iv x2_108)]) [1, 0] rfl ?_
    refine g_loop0F (fun (q : Int) => [(0, rv D a0), (2, iv q)]) (fun (q : Int) => h) (fun (q : Int) => r32 q) x2_108 (r32_z r2_108) ?_ (fun _ => rfl)
    · rintro x2_109 r2_109
      try dsimp only
      unfold m_X1_counted_l109
      refine g_aload_n (pc := 109) X (j := 0) (i := 0) (q := 0) (x := a0) rfl rfl (dl_at t_X1_counted 32 rfl) ?_
      refine r_getr (pc := 110) X fX1_18 hk q1506 (dl_at t_X1_counted 33 rfl) ?_
      refine g_iload_n (pc := 113) X (j := 2) (i := 2) (q := 1) (x := x2_109) rfl rfl (dl_at t_X1_counted 34 rfl) ?_
      refine g_gd fun k114 => ?_
      refine r_callRi (pc := 114) X (fun _ hv => s_X14_wavering k114 r2_109 hv) cw_code q3083 q368 (in_Vk X (As := [iv x2_109]) kX14 k114 (Or.inr ⟨_, nw_in q3080 rfl⟩) q3082 qs217 cw_code q3083 ⟨by decide, by decide⟩ rfl (dl_at t_X1_counted 35 rfl)) (dl_at t_X1_counted 35 rfl) (cat24 (st := []) (Nat.le_of_ble_eq_true rfl)) (Nat.le_of_ble_eq_true rfl) (Nat.le_of_ble_eq_true rfl) fun v114 g114 => ?_
      refine g_iflt (pc := 117) X g114 (off := 9) (tgt := 126) rfl (dl_at t_X1_counted 36 rfl) (fun _ => ?_) (fun _ => ?_)
      · refine g_iload_n (pc := 126) X (j := 2) (i := 2) (q := 1) (x := x2_109) rfl rfl (dl_at t_X1_counted 39 rfl) ?_
        exact g_at fun Q hQ => (g_iret (pc := 127) X r2_109 rfl rfl (dl_at t_X1_counted 40 rfl)) _ Q rfl hQ
      refine r_iinc (pc := 120) X (i := 2) (q := 1) (n := 1) (x := x2_109) (rest := [(0, rv D a0)]) rfl r2_109 (r32_c rfl) (Nat.le_of_ble_eq_true rfl) [0] rfl rfl (dl_at t_X1_counted 37 rfl) fun x2_120 r2_120 => ?_
      refine g_goto (pc := 123) X (off := (-14)) (tgt := 109) rfl (dl_at t_X1_counted 38 rfl) ?_
      refine g_ls (ls2 := [(0, rv D a0), (2, iv x2_120)]) [1, 0] rfl ?_
      exact g_at fun Q hQ => hQ r2_120
  have w1_8 : ¬ a1 ∈ ([3, 4, 5, 6, 7, 8, 9, 10] : List Int) := by simp only [List.mem_cons, List.not_mem_nil, or_false, not_or] at *; simp only [*, not_false_eq_true, and_self]
  refine g_tabElse (pc := 1) X (tgt := 128) [3, 4, 5, 6, 7, 8, 9, 10] r1 w1_8 rfl rfl dS_X1_counted_1 ?_
  refine g_aload_n (pc := 128) X (j := 0) (i := 0) (q := 0) (x := a0) rfl rfl (dl_at t_X1_counted 41 rfl) ?_
  refine r_geti (pc := 129) X fX1_19 hk q1507 (dl_at t_X1_counted 42 rfl) fun g129 => ?_
  exact g_iret (pc := 132) X g129 rfl rfl (dl_at t_X1_counted 43 rfl)
def k_X1_count : List (Nat × Instr × Nat) := [(0, .iload_n 1, 1), (1, .ifCond .lt 13, 3), (4, .iload_n 1, 1), (5, .bipush 11, 2), (7, .if_icmp .gt 7, 3), (10, .iconst 1, 1), (11, .goto 4, 3), (14, .iconst 0, 1), (15, .invokestatic 134, 3), (18, .iload_n 1, 1), (44, .aload_n 0, 1), (45, .getfield 182, 3), (48, .ifnonnull 7, 3), (51, .iconst 0, 1), (52, .goto 10, 3), (55, .aload_n 0, 1), (56, .getfield 182, 3), (59, .getfield 189, 3), (62, .ireturn, 1), (63, .aload_n 0, 1), (64, .getfield 182, 3), (67, .ifnonnull 7, 3), (70, .iconst 0, 1), (71, .goto 13, 3), (74, .aload_n 0, 1), (75, .getfield 182, 3), (78, .getfield 299, 3), (81, .getfield 303, 3), (84, .ireturn, 1), (85, .aload_n 0, 1), (86, .getfield 182, 3), (89, .ifnonnull 7, 3), (92, .iconst 0, 1), (93, .goto 10, 3), (96, .aload_n 0, 1), (97, .getfield 182, 3), (100, .getfield 209, 3), (103, .ireturn, 1), (104, .aload_n 0, 1), (105, .getfield 169, 3), (108, .ifnonnull 7, 3), (111, .iconst 0, 1), (112, .goto 8, 3), (115, .aload_n 0, 1), (116, .iload_n 1, 1), (117, .invokevirtual 306, 3), (120, .ireturn, 1)]
theorem t_X1_count : ∀ q ∈ k_X1_count, decode cX1_count q.1 = .ok q.2 := dl_all (by decide +kernel)
theorem dS_X1_count_19 : decode cX1_count 19 = .ok (.tableswitch 85 0 2 #[25, 44, 66], 25) := by decide +kernel
noncomputable def m_X1_count_j15 (a0 a1 s0_15 : Int) (h : Hp) : Option ((Int × Int) × Hp) :=
  bT (m_X1_good s0_15 h) (fun _ h15 =>
  if a1 = 0 then (if (h15 a0 11) ≠ 0 then (gd (h15 (h15 a0 11) (-2) = 96) (some ((0, (h15 (h15 a0 11) 4)), h15)))
  else (some ((0, 0), h15)))
  else (if a1 = 1 then (if (h15 a0 11) ≠ 0 then (gd (h15 (h15 a0 11) (-2) = 96) (gd (h15 (h15 (h15 a0 11) 25) (-2) = 64) (some ((0, (h15 (h15 (h15 a0 11) 25) 3)), h15))))
  else (some ((0, 0), h15)))
  else (if a1 = 2 then (if (h15 a0 11) ≠ 0 then (gd (h15 (h15 a0 11) (-2) = 96) (some ((0, (h15 (h15 a0 11) 1)), h15)))
  else (some ((0, 0), h15)))
  else (if (h15 a0 18) ≠ 0 then ((m_X1_counted a0 a1 h15).bind fun v117 =>
  some ((0, v117), h15))
  else (some ((0, 0), h15)))))) (fun a_ h_ => some ((1, a_), h_))
noncomputable def m_X1_count_j14 (a0 a1 : Int) (h : Hp) : Option ((Int × Int) × Hp) :=
  m_X1_count_j15 a0 a1 0 h
noncomputable def m_X1_count (a0 a1 : Int) (h : Hp) : Option ((Int × Int) × Hp) :=
  if a1 < 0 then (m_X1_count_j14 a0 a1 h)
  else (if 11 < a1 then (m_X1_count_j14 a0 a1 h)
  else (m_X1_count_j15 a0 a1 1 h))
theorem s_X1_count {l : Launch} [NoTr l] {D : SD} {a0 a1 : Int} {h : Hp} (hk : h a0 (-2) = 16) (r1 : r32 a1) {r : (Int × Int) × Hp} (hm : m_X1_count a0 a1 h = some r) : Sim l D yX1_count (Cond.code yX1_count cX1_count 2 (Option.some Jvm.ClassFile.FieldType.int)) 10 372 [rv D a0, iv a1] h 1 r := by
  refine Sim.of (fin := fun (v : (Int × Int) × Hp) => v) (lsE := [(0, rv D a0), (1, iv a1)]) hm rfl cwS_code (la_r (la_i la_n)) (ll_r (ll_i ll_n)) ?_
  intro p e s m below meth c X hcw hmm hcc hnm hname
  have hno := noh hcw hnm hmm hcc
  unfold m_X1_count
  refine g_iload_n (pc := 0) X (j := 1) (i := 1) (q := 1) (x := a1) rfl rfl (dl_at t_X1_count 0 rfl) ?_
  refine g_join (γ := Int) (fun q => (q = 0 ∨ q = 1)) 15 (fun q => [(0, rv D a0), (1, iv a1)]) (fun q => [iv q]) (fun q => h) (fun q => m_X1_count_j15 a0 a1 q h) ?_ ?_
  · rintro s0_15 rs0_15
    try dsimp only
    unfold m_X1_count_j15
    refine r_callTv (pc := 15) X (fun _ hv => s_X1_good rs0_15 hv) cw_code q1689 q355 (in_Sc X (As := [iv s0_15]) (Or.inl q1687) q1688 q355 q1689 ⟨by decide, by decide⟩ rfl (dl_at t_X1_count 8 rfl)) (dl_at t_X1_count 8 rfl) (cat24 (st := []) (Nat.le_of_ble_eq_true rfl)) (Nat.le_of_ble_eq_true rfl) (Nat.le_of_ble_eq_true rfl) (fun v15 h15 E15 => ?_) (fun _ _ ha _ => gt_at fun Q hQ => gt_out (Q := Q) X rfl ha (hno _) _ Q rfl hQ)
    refine g_iload_n (pc := 18) X (j := 1) (i := 1) (q := 1) (x := a1) rfl rfl (dl_at t_X1_count 9 rfl) ?_
    refine g_case (fun w19 => ?_) (fun nw19 => ?_)
    · refine g_tabIn (pc := 19) X (off := 25) (tgt := 44) r1 w19 (by decide) (by decide) rfl rfl dS_X1_count_19 ?_
      refine g_aload_n (pc := 44) X (j := 0) (i := 0) (q := 0) (x := a0) rfl rfl (dl_at t_X1_count 10 rfl) ?_
      have k45 := kx E15 (by decide) hk
      refine r_getr (pc := 45) X fX1_11 k45 q1499 (dl_at t_X1_count 11 rfl) ?_
      refine g_ifnonnull (pc := 48) X (off := 7) (tgt := 55) rfl (dl_at t_X1_count 12 rfl) (fun _ => ?_) (fun _ => ?_)
      · refine g_aload_n (pc := 55) X (j := 0) (i := 0) (q := 0) (x := a0) rfl rfl (dl_at t_X1_count 15 rfl) ?_
        refine r_getr (pc := 56) X fX1_11 k45 q1499 (dl_at t_X1_count 16 rfl) ?_
        refine g_gd fun k59 => ?_
        refine r_getiN (pc := 59) X fX6_4 k59 (nw_in q656 rfl) (dl_at t_X1_count 17 rfl) fun g59 => ?_
        exact g_iret (pc := 62) X g59 rfl rfl (dl_at t_X1_count 18 rfl)
      refine g_iconst (pc := 51) X (n := 0) (dl_at t_X1_count 13 rfl) ?_
      refine g_goto (pc := 52) X (off := 10) (tgt := 62) rfl (dl_at t_X1_count 14 rfl) ?_
      exact g_iret (pc := 62) X (r32_c rfl) rfl rfl (dl_at t_X1_count 18 rfl)
    refine g_case (fun w19_1 => ?_) (fun nw19_1 => ?_)
    · refine g_tabIn (pc := 19) X (off := 44) (tgt := 63) r1 w19_1 (by decide) (by decide) rfl rfl dS_X1_count_19 ?_
      refine g_aload_n (pc := 63) X (j := 0) (i := 0) (q := 0) (x := a0) rfl rfl (dl_at t_X1_count 19 rfl) ?_
      have k64 := kx E15 (by decide) hk
      refine r_getr (pc := 64) X fX1_11 k64 q1499 (dl_at t_X1_count 20 rfl) ?_
      refine g_ifnonnull (pc := 67) X (off := 7) (tgt := 74) rfl (dl_at t_X1_count 21 rfl) (fun _ => ?_) (fun _ => ?_)
      · refine g_aload_n (pc := 74) X (j := 0) (i := 0) (q := 0) (x := a0) rfl rfl (dl_at t_X1_count 24 rfl) ?_
        refine r_getr (pc := 75) X fX1_11 k64 q1499 (dl_at t_X1_count 25 rfl) ?_
        refine g_gd fun k78 => ?_
        refine r_getrN (pc := 78) X fX6_25 k78 (nw_in q703 rfl) (dl_at t_X1_count 26 rfl) ?_
        refine g_gd fun k81 => ?_
        refine r_getiN (pc := 81) X fX4_3 k81 (nw_in q476 rfl) (dl_at t_X1_count 27 rfl) fun g81 => ?_
        exact g_iret (pc := 84) X g81 rfl rfl (dl_at t_X1_count 28 rfl)
      refine g_iconst (pc := 70) X (n := 0) (dl_at t_X1_count 22 rfl) ?_
      refine g_goto (pc := 71) X (off := 13) (tgt := 84) rfl (dl_at t_X1_count 23 rfl) ?_
      exact g_iret (pc := 84) X (r32_c rfl) rfl rfl (dl_at t_X1_count 28 rfl)
    refine g_case (fun w19_2 => ?_) (fun nw19_2 => ?_)
    · refine g_tabIn (pc := 19) X (off := 66) (tgt := 85) r1 w19_2 (by decide) (by decide) rfl rfl dS_X1_count_19 ?_
      refine g_aload_n (pc := 85) X (j := 0) (i := 0) (q := 0) (x := a0) rfl rfl (dl_at t_X1_count 29 rfl) ?_
      have k86 := kx E15 (by decide) hk
      refine r_getr (pc := 86) X fX1_11 k86 q1499 (dl_at t_X1_count 30 rfl) ?_
      refine g_ifnonnull (pc := 89) X (off := 7) (tgt := 96) rfl (dl_at t_X1_count 31 rfl) (fun _ => ?_) (fun _ => ?_)
      · refine g_aload_n (pc := 96) X (j := 0) (i := 0) (q := 0) (x := a0) rfl rfl (dl_at t_X1_count 34 rfl) ?_
        refine r_getr (pc := 97) X fX1_11 k86 q1499 (dl_at t_X1_count 35 rfl) ?_
        refine g_gd fun k100 => ?_
        refine r_getiN (pc := 100) X fX6_1 k100 (nw_in q650 rfl) (dl_at t_X1_count 36 rfl) fun g100 => ?_
        exact g_iret (pc := 103) X g100 rfl rfl (dl_at t_X1_count 37 rfl)
      refine g_iconst (pc := 92) X (n := 0) (dl_at t_X1_count 32 rfl) ?_
      refine g_goto (pc := 93) X (off := 10) (tgt := 103) rfl (dl_at t_X1_count 33 rfl) ?_
      exact g_iret (pc := 103) X (r32_c rfl) rfl rfl (dl_at t_X1_count 37 rfl)
    have w19_3 : ¬ a1 ∈ ([0, 1, 2] : List Int) := by simp only [List.mem_cons, List.not_mem_nil, or_false, not_or] at *; simp only [*, not_false_eq_true, and_self]
    refine g_tabElse (pc := 19) X (tgt := 104) [0, 1, 2] r1 w19_3 rfl rfl dS_X1_count_19 ?_
    refine g_aload_n (pc := 104) X (j := 0) (i := 0) (q := 0) (x := a0) rfl rfl (dl_at t_X1_count 38 rfl) ?_
    have k105 := kx E15 (by decide) hk
    refine r_getr (pc := 105) X fX1_18 k105 q1506 (dl_at t_X1_count 39 rfl) ?_
    refine g_ifnonnull (pc := 108) X (off := 7) (tgt := 115) rfl (dl_at t_X1_count 40 rfl) (fun _ => ?_) (fun _ => ?_)
    · refine g_aload_n (pc := 115) X (j := 0) (i := 0) (q := 0) (x := a0) rfl rfl (dl_at t_X1_count 43 rfl) ?_
      refine g_iload_n (pc := 116) X (j := 1) (i := 1) (q := 1) (x := a1) rfl rfl (dl_at t_X1_count 44 rfl) ?_
      refine r_callRi (pc := 117) X (fun _ hv => s_X1_counted k105 r1 hv) cw_code q3075 q355 (in_Vk X (As := [iv a1]) kX1 k105 (Or.inl q3072) q3074 qs215 cw_code q3075 ⟨by decide, by decide⟩ rfl (dl_at t_X1_count 45 rfl)) (dl_at t_X1_count 45 rfl) (cat24 (st := []) (Nat.le_of_ble_eq_true rfl)) (Nat.le_of_ble_eq_true rfl) (Nat.le_of_ble_eq_true rfl) fun v117 g117 => ?_
      exact g_iret (pc := 120) X g117 rfl rfl (dl_at t_X1_count 46 rfl)
    refine g_iconst (pc := 111) X (n := 0) (dl_at t_X1_count 41 rfl) ?_
    refine g_goto (pc := 112) X (off := 8) (tgt := 120) rfl (dl_at t_X1_count 42 rfl) ?_
    exact g_iret (pc := 120) X (r32_c rfl) rfl rfl (dl_at t_X1_count 46 rfl)
  intro J15
  refine g_join (γ := Unit) (fun q => True) 14 (fun q => [(0, rv D a0), (1, iv a1)]) (fun q => []) (fun q => h) (fun q => m_X1_count_j14 a0 a1 h) ?_ ?_
  · rintro _ _
    try dsimp only
    unfold m_X1_count_j14
    refine g_iconst (pc := 14) X (n := 0) (dl_at t_X1_count 7 rfl) ?_
    exact J15 0 (Or.inl rfl)
  intro J14
  refine g_iflt (pc := 1) X r1 (off := 13) (tgt := 14) rfl (dl_at t_X1_count 1 rfl) (fun _ => ?_) (fun _ => ?_)
  · exact J14 () trivial
  refine g_iload_n (pc := 4) X (j := 1) (i := 1) (q := 1) (x := a1) rfl rfl (dl_at t_X1_count 2 rfl) ?_
  refine g_bipush (pc := 5) X (n := 11) rfl (dl_at t_X1_count 3 rfl) ?_
  refine g_icmpgt (pc := 7) X r1 (r32_c rfl) (off := 7) (tgt := 14) rfl (dl_at t_X1_count 4 rfl) (fun _ => ?_) (fun _ => ?_)
  · exact J14 () trivial
  refine g_iconst (pc := 10) X (n := 1) (dl_at t_X1_count 5 rfl) ?_
  refine g_goto (pc := 11) X (off := 4) (tgt := 15) rfl (dl_at t_X1_count 6 rfl) ?_
  exact J15 1 (Or.inr rfl)
def k_X0_count : List (Nat × Instr × Nat) := [(0, .aload_n 2, 1), (1, .iconst 0, 1), (2, .aload_n 0, 1), (3, .iload_n 1, 1), (4, .invokevirtual 50, 3), (7, .i2l, 1), (8, .lastore, 1), (9, .goto 6, 3), (12, .astore_n 3, 1), (13, .iconst 1, 1), (14, .ireturn, 1), (15, .iconst 0, 1), (16, .ireturn, 1)]
theorem t_X0_count : ∀ q ∈ k_X0_count, decode cX0_count q.1 = .ok q.2 := dl_all (by decide +kernel)
noncomputable def m_X0_count (a0 a1 a2 : Int) (h : Hp) : Option (Int × Hp) :=
  gd (h a0 (-2) = 16) (bT (m_X1_count a0 a1 h) (fun v4 h4_1 =>
  gd (h4_1 a2 (-2) % 16 = 4 ∧ (0 : Int) ≤ 0 ∧ 0 < h4_1 a2 (-1)) (pt h4_1 a2 0 v4 fun h8 =>
  some (0, h8))) (fun a4 h4 => if h4 a4 (-2) = 496 then (some (1, h4))
  else (none)))
theorem s_X0_count {l : Launch} [NoTr l] {D : SD} {a0 a1 a2 : Int} {h : Hp} (r1 : r32 a1) {r : Int × Hp} (hm : m_X0_count a0 a1 a2 h = some r) : Sim l D yX0_count (Cond.codeWith yX0_count cX0_count 4 (Option.some Jvm.ClassFile.FieldType.int) [((0 : Nat), (9 : Nat), (12 : Nat), (19 : Nat))]) 11 409 [rv D a0, iv a1, rv D a2] h 1 ((0, r.1), r.2) := by
  refine Sim.of (fin := fun (v : Int × Hp) => ((0, v.1), v.2)) (lsE := [(0, rv D a0), (1, iv a1), (2, rv D a2)]) hm rfl cwS_with (la_r (la_i (la_r la_n))) (ll_r (ll_i (ll_r ll_n))) ?_
  intro p e s m below meth c X hcw hmm hcc hnm hname
  have htb := tabW hcw hnm hmm hcc
  unfold m_X0_count
  refine g_aload_n (pc := 0) X (j := 2) (i := 2) (q := 2) (x := a2) rfl rfl (dl_at t_X0_count 0 rfl) ?_
  refine g_iconst (pc := 1) X (n := 0) (dl_at t_X0_count 1 rfl) ?_
  refine g_aload_n (pc := 2) X (j := 0) (i := 0) (q := 0) (x := a0) rfl rfl (dl_at t_X0_count 2 rfl) ?_
  refine g_iload_n (pc := 3) X (j := 1) (i := 1) (q := 1) (x := a1) rfl rfl (dl_at t_X0_count 3 rfl) ?_
  refine g_gd fun k4 => ?_
  refine r_callTi (pc := 4) X (fun _ hv => s_X1_count k4 r1 hv) cw_code q3071 q355 (in_Vk X (As := [iv a1]) kX1 k4 (Or.inl q3068) q3069 q3070 cw_code q3071 ⟨by decide, by decide⟩ rfl (dl_at t_X0_count 4 rfl)) (dl_at t_X0_count 4 rfl) (cat24 (st := [iv 0, rv D a2]) (Nat.le_of_ble_eq_true rfl)) (Nat.le_of_ble_eq_true rfl) (Nat.le_of_ble_eq_true rfl) (fun v4 h4_1 g4 E4_1 => ?_) (fun a4 h4 p4 E4 => ?_)
  · refine g_i2l (pc := 7) X g4 (dl_at t_X0_count 5 rfl) ?_
    refine g_gd fun k8 => ?_
    refine r_last (pc := 8) X (r32_c rfl) (r64_of g4) k8 (dl_at t_X0_count 6 rfl) (fun h8 E8 => ?_)
    refine g_goto (pc := 9) X (off := 6) (tgt := 15) rfl (dl_at t_X0_count 7 rfl) ?_
    refine g_iconst (pc := 15) X (n := 0) (dl_at t_X0_count 11 rfl) ?_
    exact g_iret (pc := 16) X (r32_c rfl) rfl rfl (dl_at t_X0_count 12 rfl)
  refine gt_case (fun k4_1 => ?_) (fun _ => ?_)
  · refine gt_catch (pc := 4) X kJ6 k4_1 [((0, 9, 12, 19), "java/lang/IllegalArgumentException", true)] (hp := 12) rfl (by decide +kernel) (List.forall_mem_cons.mpr ⟨⟨q1682, by decide⟩, fun _ h => absurd h List.not_mem_nil⟩) htb ?_
    refine g_astore_n (pc := 12) X (j := 3) (i := 3) (x := a4) (rest := []) rfl (Nat.le_of_ble_eq_true rfl) [] rfl rfl (dl_at t_X0_count 8 rfl) ?_
    refine g_iconst (pc := 13) X (n := 1) (dl_at t_X0_count 9 rfl) ?_
    exact g_iret (pc := 14) X (r32_c rfl) rfl rfl (dl_at t_X0_count 10 rfl)
  exact gt_none
def k_X1_lineThere : List (Nat × Instr × Nat) := [(0, .aload_n 0, 1), (1, .getfield 169, 3), (4, .ifnull 7, 3), (7, .iconst 1, 1), (8, .goto 4, 3), (11, .iconst 0, 1), (12, .invokestatic 212, 3), (15, .iload_n 1, 1), (16, .ifCond .lt 18, 3), (19, .iload_n 1, 1), (20, .aload_n 0, 1), (21, .getfield 169, 3), (24, .getfield 315, 3), (27, .if_icmp .ge 7, 3), (30, .iconst 1, 1), (31, .goto 4, 3), (34, .iconst 0, 1), (35, .invokestatic 127, 3), (38, .return_, 1)]
theorem t_X1_lineThere : ∀ q ∈ k_X1_lineThere, decode cX1_lineThere q.1 = .ok q.2 := dl_all (by decide +kernel)
noncomputable def m_X1_lineThere_j12 (a0 a1 s0_12 : Int) (h : Hp) : Option ((Int × Int) × Hp) :=
  bT (m_X1_state s0_12 h) (fun _ h12 =>
  if a1 < 0 then (bT (m_X1_room 0 h12) (fun _ h35 =>
  some ((0, 0), h35)) (fun a_ h_ => some ((1, a_), h_)))
  else (gd (h12 (h12 a0 18) (-2) = 224) (if (h12 (h12 a0 18) 18) ≤ a1 then (bT (m_X1_room 0 h12) (fun _ h35_1 =>
  some ((0, 0), h35_1)) (fun a_ h_ => some ((1, a_), h_)))
  else (bT (m_X1_room 1 h12) (fun _ h35_2 =>
  some ((0, 0), h35_2)) (fun a_ h_ => some ((1, a_), h_)))))) (fun a_ h_ => some ((1, a_), h_))
noncomputable def m_X1_lineThere (a0 a1 : Int) (h : Hp) : Option ((Int × Int) × Hp) :=
  if (h a0 18) = 0 then (m_X1_lineThere_j12 a0 a1 0 h)
  else (m_X1_lineThere_j12 a0 a1 1 h)
theorem s_X1_lineThere {l : Launch} [NoTr l] {D : SD} {a0 a1 : Int} {h : Hp} (hk : h a0 (-2) = 16) (r1 : r32 a1) {r : (Int × Int) × Hp} (hm : m_X1_lineThere a0 a1 h = some r) : Sim l D yX1_lineThere (Cond.code yX1_lineThere cX1_lineThere 2 (Option.none : Option Jvm.ClassFile.FieldType)) 10 372 [rv D a0, iv a1] h 0 r := by
  refine Sim.of (fin := fun (v : (Int × Int) × Hp) => v) (lsE := [(0, rv D a0), (1, iv a1)]) hm rfl cwS_code (la_r (la_i la_n)) (ll_r (ll_i ll_n)) ?_
  intro p e s m below meth c X hcw hmm hcc hnm hname
  have hno := noh hcw hnm hmm hcc
  unfold m_X1_lineThere
  refine g_aload_n (pc := 0) X (j := 0) (i := 0) (q := 0) (x := a0) rfl rfl (dl_at t_X1_lineThere 0 rfl) ?_
  refine r_getr (pc := 1) X fX1_18 hk q1506 (dl_at t_X1_lineThere 1 rfl) ?_
  refine g_join (γ := Int) (fun q => (q = 0 ∨ q = 1)) 12 (fun q => [(0, rv D a0), (1, iv a1)]) (fun q => [iv q]) (fun q => h) (fun q => m_X1_lineThere_j12 a0 a1 q h) ?_ ?_
  · rintro s0_12 rs0_12
    try dsimp only
    unfold m_X1_lineThere_j12
    refine r_callTv (pc := 12) X (fun _ hv => s_X1_state rs0_12 hv) cw_code q2244 q355 (in_Sc X (As := [iv s0_12]) (Or.inl q2242) q2243 q355 q2244 ⟨by decide, by decide⟩ rfl (dl_at t_X1_lineThere 6 rfl)) (dl_at t_X1_lineThere 6 rfl) (cat24 (st := []) (Nat.le_of_ble_eq_true rfl)) (Nat.le_of_ble_eq_true rfl) (Nat.le_of_ble_eq_true rfl) (fun v12 h12 E12 => ?_) (fun _ _ ha _ => gt_at fun Q hQ => gt_out (Q := Q) X rfl ha (hno _) _ Q rfl hQ)
    refine g_iload_n (pc := 15) X (j := 1) (i := 1) (q := 1) (x := a1) rfl rfl (dl_at t_X1_lineThere 7 rfl) ?_
    refine g_iflt (pc := 16) X r1 (off := 18) (tgt := 34) rfl (dl_at t_X1_lineThere 8 rfl) (fun _ => ?_) (fun _ => ?_)
    · refine g_iconst (pc := 34) X (n := 0) (dl_at t_X1_lineThere 16 rfl) ?_
      refine r_callTv (pc := 35) X (fun _ hv => s_X1_room (Or.inl rfl) hv) cw_code q1653 q355 (in_Sc X (As := [iv 0]) (Or.inl q1651) q1652 q355 q1653 ⟨by decide, by decide⟩ rfl (dl_at t_X1_lineThere 17 rfl)) (dl_at t_X1_lineThere 17 rfl) (cat24 (st := []) (Nat.le_of_ble_eq_true rfl)) (Nat.le_of_ble_eq_true rfl) (Nat.le_of_ble_eq_true rfl) (fun v35 h35 E35 => ?_) (fun _ _ ha _ => gt_at fun Q hQ => gt_out (Q := Q) X rfl ha (hno _) _ Q rfl hQ)
      exact g_vret (pc := 38) X (v := 0) rfl rfl (dl_at t_X1_lineThere 18 rfl)
    refine g_iload_n (pc := 19) X (j := 1) (i := 1) (q := 1) (x := a1) rfl rfl (dl_at t_X1_lineThere 9 rfl) ?_
    refine g_aload_n (pc := 20) X (j := 0) (i := 0) (q := 0) (x := a0) rfl rfl (dl_at t_X1_lineThere 10 rfl) ?_
    have k21 := kx E12 (by decide) hk
    refine r_getr (pc := 21) X fX1_18 k21 q1506 (dl_at t_X1_lineThere 11 rfl) ?_
    refine g_gd fun k24 => ?_
    refine r_getiN (pc := 24) X fX14_18 k24 (nw_in q1270 rfl) (dl_at t_X1_lineThere 12 rfl) fun g24 => ?_
    refine g_icmpge (pc := 27) X r1 g24 (off := 7) (tgt := 34) rfl (dl_at t_X1_lineThere 13 rfl) (fun _ => ?_) (fun _ => ?_)
    · refine g_iconst (pc := 34) X (n := 0) (dl_at t_X1_lineThere 16 rfl) ?_
      refine r_callTv (pc := 35) X (fun _ hv => s_X1_room (Or.inl rfl) hv) cw_code q1653 q355 (in_Sc X (As := [iv 0]) (Or.inl q1651) q1652 q355 q1653 ⟨by decide, by decide⟩ rfl (dl_at t_X1_lineThere 17 rfl)) (dl_at t_X1_lineThere 17 rfl) (cat24 (st := []) (Nat.le_of_ble_eq_true rfl)) (Nat.le_of_ble_eq_true rfl) (Nat.le_of_ble_eq_true rfl) (fun v35_1 h35_1 E35_1 => ?_) (fun _ _ ha _ => gt_at fun Q hQ => gt_out (Q := Q) X rfl ha (hno _) _ Q rfl hQ)
      exact g_vret (pc := 38) X (v := 0) rfl rfl (dl_at t_X1_lineThere 18 rfl)
    refine g_iconst (pc := 30) X (n := 1) (dl_at t_X1_lineThere 14 rfl) ?_
    refine g_goto (pc := 31) X (off := 4) (tgt := 35) rfl (dl_at t_X1_lineThere 15 rfl) ?_
    refine r_callTv (pc := 35) X (fun _ hv => s_X1_room (Or.inr rfl) hv) cw_code q1653 q355 (in_Sc X (As := [iv 1]) (Or.inl q1651) q1652 q355 q1653 ⟨by decide, by decide⟩ rfl (dl_at t_X1_lineThere 17 rfl)) (dl_at t_X1_lineThere 17 rfl) (cat24 (st := []) (Nat.le_of_ble_eq_true rfl)) (Nat.le_of_ble_eq_true rfl) (Nat.le_of_ble_eq_true rfl) (fun v35_2 h35_2 E35_2 => ?_) (fun _ _ ha _ => gt_at fun Q hQ => gt_out (Q := Q) X rfl ha (hno _) _ Q rfl hQ)
    exact g_vret (pc := 38) X (v := 0) rfl rfl (dl_at t_X1_lineThere 18 rfl)
  intro J12
  refine g_ifnull (pc := 4) X (off := 7) (tgt := 11) rfl (dl_at t_X1_lineThere 2 rfl) (fun _ => ?_) (fun _ => ?_)
  · refine g_iconst (pc := 11) X (n := 0) (dl_at t_X1_lineThere 5 rfl) ?_
    exact J12 0 (Or.inl rfl)
  refine g_iconst (pc := 7) X (n := 1) (dl_at t_X1_lineThere 3 rfl) ?_
  refine g_goto (pc := 8) X (off := 4) (tgt := 12) rfl (dl_at t_X1_lineThere 4 rfl) ?_
  exact J12 1 (Or.inr rfl)
def k_X28_ratioAt : List (Nat × Instr × Nat) := [(0, .aload_n 0, 1), (1, .getfield 9, 3), (4, .getfield 234, 3), (7, .aload_n 0, 1), (8, .getfield 54, 3), (11, .iload_n 1, 1), (12, .iadd, 1), (13, .iaload, 1), (14, .ireturn, 1)]
theorem t_X28_ratioAt : ∀ q ∈ k_X28_ratioAt, decode cX28_ratioAt q.1 = .ok q.2 := dl_all (by decide +kernel)
noncomputable def m_X28_ratioAt (a0 a1 : Int) (h : Hp) : Option (Int) :=
  gd (h (h a0 0) (-2) = 240) (gd (h (h (h a0 0) 14) (-2) % 16 = 1 ∧ (0 : Int) ≤ (w32 ((h a0 17) + a1)) ∧ (w32 ((h a0 17) + a1)) < h (h (h a0 0) 14) (-1)) (some (h (h (h a0 0) 14) (w32 ((h a0 17) + a1)))))
theorem s_X28_ratioAt {l : Launch} [NoTr l] {D : SD} {a0 a1 : Int} {h : Hp} (hk : h a0 (-2) = 288) (r1 : r32 a1) {r : Int} (hm : m_X28_ratioAt a0 a1 h = some r) : Sim l D yX28_ratioAt (Cond.code yX28_ratioAt cX28_ratioAt 2 (Option.some Jvm.ClassFile.FieldType.int)) 0 0 [rv D a0, iv a1] h 1 ((0, r), h) := by
  refine Sim.of (fin := fun (v : Int) => ((0, v), h)) (lsE := [(0, rv D a0), (1, iv a1)]) hm rfl cwS_code (la_r (la_i la_n)) (ll_r (ll_i ll_n)) ?_
  intro p e s m below meth c X hcw hmm hcc hnm hname
  unfold m_X28_ratioAt
  refine g_aload_n (pc := 0) X (j := 0) (i := 0) (q := 0) (x := a0) rfl rfl (dl_at t_X28_ratioAt 0 rfl) ?_
  refine r_getr (pc := 1) X fX28_0 hk q2528 (dl_at t_X28_ratioAt 1 rfl) ?_
  refine g_gd fun k4 => ?_
  refine r_getrN (pc := 4) X fX15_14 k4 (nw_in q1159 rfl) (dl_at t_X28_ratioAt 2 rfl) ?_
  refine g_aload_n (pc := 7) X (j := 0) (i := 0) (q := 0) (x := a0) rfl rfl (dl_at t_X28_ratioAt 3 rfl) ?_
  refine r_geti (pc := 8) X fX28_17 hk q2560 (dl_at t_X28_ratioAt 4 rfl) fun g8 => ?_
  refine g_iload_n (pc := 11) X (j := 1) (i := 1) (q := 1) (x := a1) rfl rfl (dl_at t_X28_ratioAt 5 rfl) ?_
  refine g_iadd (pc := 12) X g8 r1 (dl_at t_X28_ratioAt 6 rfl) ?_
  refine g_gd fun k13 => ?_
  refine g_iald (pc := 13) X (r32_w _) k13 (dl_at t_X28_ratioAt 7 rfl) fun g13 => ?_
  exact g_iret (pc := 14) X g13 rfl rfl (dl_at t_X28_ratioAt 8 rfl)
def k_X28_ratioOf : List (Nat × Instr × Nat) := [(0, .aload_n 0, 1), (1, .iload_n 1, 1), (2, .invokevirtual 246, 3), (5, .ldc 166, 2), (7, .if_icmp .ne 9, 3), (10, .sipush (-1000), 3), (13, .goto 8, 3), (16, .aload_n 0, 1), (17, .iload_n 1, 1), (18, .invokevirtual 246, 3), (21, .ireturn, 1)]
theorem t_X28_ratioOf : ∀ q ∈ k_X28_ratioOf, decode cX28_ratioOf q.1 = .ok q.2 := dl_all (by decide +kernel)
noncomputable def m_X28_ratioOf (a0 a1 : Int) (h : Hp) : Option (Int) :=
  (m_X28_ratioAt a0 a1 h).bind fun v2 =>
  if v2 ≠ (-1000000) then ((m_X28_ratioAt a0 a1 h).bind fun v18 =>
  some v18)
  else (some (-1000))
theorem s_X28_ratioOf {l : Launch} [NoTr l] {D : SD} {a0 a1 : Int} {h : Hp} (hk : h a0 (-2) = 288) (r1 : r32 a1) {r : Int} (hm : m_X28_ratioOf a0 a1 h = some r) : Sim l D yX28_ratioOf (Cond.code yX28_ratioOf cX28_ratioOf 2 (Option.some Jvm.ClassFile.FieldType.int)) 1 37 [rv D a0, iv a1] h 1 ((0, r), h) := by
  refine Sim.of (fin := fun (v : Int) => ((0, v), h)) (lsE := [(0, rv D a0), (1, iv a1)]) hm rfl cwS_code (la_r (la_i la_n)) (ll_r (ll_i ll_n)) ?_
  intro p e s m below meth c X hcw hmm hcc hnm hname
  unfold m_X28_ratioOf
  refine g_aload_n (pc := 0) X (j := 0) (i := 0) (q := 0) (x := a0) rfl rfl (dl_at t_X28_ratioOf 0 rfl) ?_
  refine g_iload_n (pc := 1) X (j := 1) (i := 1) (q := 1) (x := a1) rfl rfl (dl_at t_X28_ratioOf 1 rfl) ?_
  refine r_callRi (pc := 2) X (fun _ hv => s_X28_ratioAt hk r1 hv) cw_code q3102 q396 (in_Vk X (As := [iv a1]) kX28 hk (Or.inl q3099) q3101 qs220 cw_code q3102 ⟨by decide, by decide⟩ rfl (dl_at t_X28_ratioOf 2 rfl)) (dl_at t_X28_ratioOf 2 rfl) (cat24 (st := []) (Nat.le_of_ble_eq_true rfl)) (Nat.le_of_ble_eq_true rfl) (Nat.le_of_ble_eq_true rfl) fun v2 g2 => ?_
  refine g_ldc (pc := 5) X (index := 166) (n := (-1000000)) (cneg (by decide) q2894) (dl_at t_X28_ratioOf 3 rfl) ?_
  refine g_icmpne (pc := 7) X g2 (r32_c rfl) (off := 9) (tgt := 16) rfl (dl_at t_X28_ratioOf 4 rfl) (fun _ => ?_) (fun _ => ?_)
  · refine g_aload_n (pc := 16) X (j := 0) (i := 0) (q := 0) (x := a0) rfl rfl (dl_at t_X28_ratioOf 7 rfl) ?_
    refine g_iload_n (pc := 17) X (j := 1) (i := 1) (q := 1) (x := a1) rfl rfl (dl_at t_X28_ratioOf 8 rfl) ?_
    refine r_callRi (pc := 18) X (fun _ hv => s_X28_ratioAt hk r1 hv) cw_code q3102 q396 (in_Vk X (As := [iv a1]) kX28 hk (Or.inl q3099) q3101 qs220 cw_code q3102 ⟨by decide, by decide⟩ rfl (dl_at t_X28_ratioOf 9 rfl)) (dl_at t_X28_ratioOf 9 rfl) (cat24 (st := []) (Nat.le_of_ble_eq_true rfl)) (Nat.le_of_ble_eq_true rfl) (Nat.le_of_ble_eq_true rfl) fun v18 g18 => ?_
    exact g_iret (pc := 21) X g18 rfl rfl (dl_at t_X28_ratioOf 10 rfl)
  refine g_sipush (pc := 10) X (n := (-1000)) rfl (dl_at t_X28_ratioOf 5 rfl) ?_
  refine g_goto (pc := 13) X (off := 8) (tgt := 21) rfl (dl_at t_X28_ratioOf 6 rfl) ?_
  exact g_iret (pc := 21) X (r32_c rfl) rfl rfl (dl_at t_X28_ratioOf 10 rfl)
def k_X28_startOf : List (Nat × Instr × Nat) := [(0, .aload_n 0, 1), (1, .iload_n 1, 1), (2, .invokevirtual 237, 3), (5, .istore_n 2, 1), (6, .iload_n 2, 1), (7, .ifCond .ne 15, 3), (10, .aload_n 0, 1), (11, .getfield 249, 3), (14, .aload_n 0, 1), (15, .getfield 66, 3), (18, .iadd, 1), (19, .goto 7, 3), (22, .aload_n 0, 1), (23, .getfield 249, 3), (26, .istore_n 3, 1), (27, .aload_n 0, 1), (28, .iload_n 2, 1), (29, .invokevirtual 158, 3), (32, .i2l, 1), (33, .aload_n 0, 1), (34, .iload_n 2, 1), (35, .aload_n 0, 1), (36, .iload_n 1, 1), (37, .iconst 1, 1), (38, .iadd, 1), (39, .invokevirtual 237, 3), (42, .invokevirtual 154, 3), (45, .lsub, 1), (46, .lstore 4, 2), (48, .lload 4, 2), (50, .lconst 0, 1), (51, .lcmp, 1), (52, .ifCond .le 11, 3), (55, .aload_n 0, 1), (56, .getfield 69, 3), (59, .iconst 2, 1), (60, .if_icmp .ge 5, 3), (63, .iload_n 3, 1), (64, .ireturn, 1), (65, .iload_n 3, 1), (66, .i2l, 1), (67, .aload_n 0, 1), (68, .getfield 69, 3), (71, .iconst 2, 1), (72, .if_icmp .ne 8, 3), (75, .lload 4, 2), (77, .goto 9, 3), (80, .lload 4, 2), (82, .ldc2_w 252, 3), (85, .ldiv, 1), (86, .ladd, 1), (87, .l2i, 1), (88, .ireturn, 1)]
theorem t_X28_startOf : ∀ q ∈ k_X28_startOf, decode cX28_startOf q.1 = .ok q.2 := dl_all (by decide +kernel)
noncomputable def m_X28_startOf_j26 (v2 a1 a0 s0_26 : Int) (h : Hp) : Option (Int) :=
  (m_X28_widthOf a0 v2 h).bind fun v29 =>
  (m_X28_breakOf a0 (w32 (a1 + 1)) h).bind fun v39 =>
  (m_X28_natural a0 v2 v39 h).bind fun v42 =>
  lt_ (w64 (v29 - v42)) fun x4_46 =>
  if (lcmp_ x4_46 0) ≤ 0 then (some s0_26)
  else (if 2 ≤ (h a0 8) then (if (h a0 8) ≠ 2 then (some (w32 (w64 (s0_26 + (w64 (Int.tdiv x4_46 2))))))
  else (some (w32 (w64 (s0_26 + x4_46)))))
  else (some s0_26))
noncomputable def m_X28_startOf (a0 a1 : Int) (h : Hp) : Option (Int) :=
  (m_X28_breakOf a0 a1 h).bind fun v2 =>
  if v2 ≠ 0 then (m_X28_startOf_j26 v2 a1 a0 (h a0 5) h)
  else (m_X28_startOf_j26 v2 a1 a0 (w32 ((h a0 5) + (h a0 6))) h)
theorem s_X28_startOf {l : Launch} [NoTr l] {D : SD} {a0 a1 : Int} {h : Hp} (hk : h a0 (-2) = 288) (r1 : r32 a1) {r : Int} (hm : m_X28_startOf a0 a1 h = some r) : Sim l D yX28_startOf (Cond.code yX28_startOf cX28_startOf 6 (Option.some Jvm.ClassFile.FieldType.int)) 2 77 [rv D a0, iv a1] h 1 ((0, r), h) := by
  refine Sim.of (fin := fun (v : Int) => ((0, v), h)) (lsE := [(0, rv D a0), (1, iv a1)]) hm rfl cwS_code (la_r (la_i la_n)) (ll_r (ll_i ll_n)) ?_
  intro p e s m below meth c X hcw hmm hcc hnm hname
  unfold m_X28_startOf
  refine g_aload_n (pc := 0) X (j := 0) (i := 0) (q := 0) (x := a0) rfl rfl (dl_at t_X28_startOf 0 rfl) ?_
  refine g_iload_n (pc := 1) X (j := 1) (i := 1) (q := 1) (x := a1) rfl rfl (dl_at t_X28_startOf 1 rfl) ?_
  refine r_callRi (pc := 2) X (fun _ hv => s_X28_breakOf hk r1 hv) cw_code q2939 q396 (in_Vk X (As := [iv a1]) kX28 hk (Or.inl q2936) q2938 qs189 cw_code q2939 ⟨by decide, by decide⟩ rfl (dl_at t_X28_startOf 2 rfl)) (dl_at t_X28_startOf 2 rfl) (cat24 (st := []) (Nat.le_of_ble_eq_true rfl)) (Nat.le_of_ble_eq_true rfl) (Nat.le_of_ble_eq_true rfl) fun v2 g2 => ?_
  refine g_istore_nN (pc := 5) X (j := 2) (i := 2) (x := v2) (b := 1) (w := iv a1) (rest := [(0, rv D a0)]) rfl (Nat.le_of_ble_eq_true rfl) [1, 0] rfl (by decide) rfl rfl (dl_at t_X28_startOf 3 rfl) ?_
  refine g_iload_n (pc := 6) X (j := 2) (i := 2) (q := 0) (x := v2) rfl rfl (dl_at t_X28_startOf 4 rfl) ?_
  refine g_join (γ := Int) (fun q => r32 q) 26 (fun q => [(0, rv D a0), (1, iv a1), (2, iv v2)]) (fun q => [iv q]) (fun q => h) (fun q => m_X28_startOf_j26 v2 a1 a0 q h) ?_ ?_
  · rintro s0_26 rs0_26
    try dsimp only
    unfold m_X28_startOf_j26
    refine g_istore_nN (pc := 26) X (j := 3) (i := 3) (x := s0_26) (b := 2) (w := iv v2) (rest := [(0, rv D a0), (1, iv a1)]) rfl (Nat.le_of_ble_eq_true rfl) [2, 0, 1] rfl (by decide) rfl rfl (dl_at t_X28_startOf 14 rfl) ?_
    refine g_aload_n (pc := 27) X (j := 0) (i := 0) (q := 2) (x := a0) rfl rfl (dl_at t_X28_startOf 15 rfl) ?_
    refine g_iload_n (pc := 28) X (j := 2) (i := 2) (q := 1) (x := v2) rfl rfl (dl_at t_X28_startOf 16 rfl) ?_
    refine r_callRi (pc := 29) X (fun _ hv => s_X28_widthOf hk g2 hv) cw_code q2890 q396 (in_Vk X (As := [iv v2]) kX28 hk (Or.inl q2887) q2889 qs181 cw_code q2890 ⟨by decide, by decide⟩ rfl (dl_at t_X28_startOf 17 rfl)) (dl_at t_X28_startOf 17 rfl) (cat24 (st := []) (Nat.le_of_ble_eq_true rfl)) (Nat.le_of_ble_eq_true rfl) (Nat.le_of_ble_eq_true rfl) fun v29 g29 => ?_
    refine g_i2l (pc := 32) X g29 (dl_at t_X28_startOf 18 rfl) ?_
    refine g_aload_n (pc := 33) X (j := 0) (i := 0) (q := 2) (x := a0) rfl rfl (dl_at t_X28_startOf 19 rfl) ?_
    refine g_iload_n (pc := 34) X (j := 2) (i := 2) (q := 1) (x := v2) rfl rfl (dl_at t_X28_startOf 20 rfl) ?_
    refine g_aload_n (pc := 35) X (j := 0) (i := 0) (q := 2) (x := a0) rfl rfl (dl_at t_X28_startOf 21 rfl) ?_
    refine g_iload_n (pc := 36) X (j := 1) (i := 1) (q := 3) (x := a1) rfl rfl (dl_at t_X28_startOf 22 rfl) ?_
    refine g_iconst (pc := 37) X (n := 1) (dl_at t_X28_startOf 23 rfl) ?_
    refine g_iadd (pc := 38) X r1 (r32_c rfl) (dl_at t_X28_startOf 24 rfl) ?_
    refine r_callRi (pc := 39) X (fun _ hv => s_X28_breakOf hk (r32_w _) hv) cw_code q2939 q396 (in_Vk X (As := [iv (w32 (a1 + 1))]) kX28 hk (Or.inl q2936) q2938 qs189 cw_code q2939 ⟨by decide, by decide⟩ rfl (dl_at t_X28_startOf 25 rfl)) (dl_at t_X28_startOf 25 rfl) (cat24 (st := [iv v2, rv D a0, jv v29]) (Nat.le_of_ble_eq_true rfl)) (Nat.le_of_ble_eq_true rfl) (Nat.le_of_ble_eq_true rfl) fun v39 g39 => ?_
    refine r_callRl (pc := 42) X (fun _ hv => s_X28_natural hk g2 g39 hv) cw_code q2882 q396 (in_Vk X (As := [iv v2, iv v39]) kX28 hk (Or.inl q2879) q2881 qs179 cw_code q2882 ⟨by decide, by decide⟩ rfl (dl_at t_X28_startOf 26 rfl)) (dl_at t_X28_startOf 26 rfl) (cat24 (st := [jv v29]) (Nat.le_of_ble_eq_true rfl)) (Nat.le_of_ble_eq_true rfl) (Nat.le_of_ble_eq_true rfl) fun v42 g42 => ?_
    refine g_lsub (pc := 45) X (r64_of g29) g42 (dl_at t_X28_startOf 27 rfl) ?_
    refine g_ltl (r64_w _) fun x4_46 r4_46 => ?_
    refine g_lstoreN (pc := 46) X (i := 4) (x := x4_46) (b := 3) (w := iv s0_26) (rest := [(0, rv D a0)]) (Nat.le_of_ble_eq_true rfl) [0, 2] rfl (by decide) (by decide) rfl rfl (dl_at t_X28_startOf 28 rfl) ?_
    refine g_lload (pc := 48) X (i := 4) (q := 0) (x := x4_46) rfl (dl_at t_X28_startOf 29 rfl) ?_
    refine g_lconst0 (pc := 50) X (dl_at t_X28_startOf 30 rfl) ?_
    refine g_lcmp (pc := 51) X r4_46 (r64_c rfl) (dl_at t_X28_startOf 31 rfl) ?_
    refine g_ifle (pc := 52) X (r32_lcmp _ _) (off := 11) (tgt := 63) rfl (dl_at t_X28_startOf 32 rfl) (fun _ => ?_) (fun _ => ?_)
    · refine g_iload_n (pc := 63) X (j := 3) (i := 3) (q := 1) (x := s0_26) rfl rfl (dl_at t_X28_startOf 37 rfl) ?_
      exact g_iret (pc := 64) X rs0_26 rfl rfl (dl_at t_X28_startOf 38 rfl)
    refine g_aload_n (pc := 55) X (j := 0) (i := 0) (q := 2) (x := a0) rfl rfl (dl_at t_X28_startOf 33 rfl) ?_
    refine r_geti (pc := 56) X fX28_8 hk q2547 (dl_at t_X28_startOf 34 rfl) fun g56 => ?_
    refine g_iconst (pc := 59) X (n := 2) (dl_at t_X28_startOf 35 rfl) ?_
    refine g_icmpge (pc := 60) X g56 (r32_c rfl) (off := 5) (tgt := 65) rfl (dl_at t_X28_startOf 36 rfl) (fun _ => ?_) (fun _ => ?_)
    · refine g_iload_n (pc := 65) X (j := 3) (i := 3) (q := 1) (x := s0_26) rfl rfl (dl_at t_X28_startOf 39 rfl) ?_
      refine g_i2l (pc := 66) X rs0_26 (dl_at t_X28_startOf 40 rfl) ?_
      refine g_aload_n (pc := 67) X (j := 0) (i := 0) (q := 2) (x := a0) rfl rfl (dl_at t_X28_startOf 41 rfl) ?_
      refine r_geti (pc := 68) X fX28_8 hk q2547 (dl_at t_X28_startOf 42 rfl) fun g68 => ?_
      refine g_iconst (pc := 71) X (n := 2) (dl_at t_X28_startOf 43 rfl) ?_
      refine g_icmpne (pc := 72) X g68 (r32_c rfl) (off := 8) (tgt := 80) rfl (dl_at t_X28_startOf 44 rfl) (fun _ => ?_) (fun _ => ?_)
      · refine g_lload (pc := 80) X (i := 4) (q := 0) (x := x4_46) rfl (dl_at t_X28_startOf 47 rfl) ?_
        refine g_ldc2 (pc := 82) X (index := 252) (n := 2) q3108 (dl_at t_X28_startOf 48 rfl) ?_
        refine g_ldiv (pc := 85) X r4_46 (r64_c rfl) (by decide) (dl_at t_X28_startOf 49 rfl) ?_
        refine g_ladd (pc := 86) X (r64_of rs0_26) (r64_w _) (dl_at t_X28_startOf 50 rfl) ?_
        refine g_l2i (pc := 87) X (r64_w _) (dl_at t_X28_startOf 51 rfl) ?_
        exact g_iret (pc := 88) X (r32_w _) rfl rfl (dl_at t_X28_startOf 52 rfl)
      refine g_lload (pc := 75) X (i := 4) (q := 0) (x := x4_46) rfl (dl_at t_X28_startOf 45 rfl) ?_
      refine g_goto (pc := 77) X (off := 9) (tgt := 86) rfl (dl_at t_X28_startOf 46 rfl) ?_
      refine g_ladd (pc := 86) X (r64_of rs0_26) r4_46 (dl_at t_X28_startOf 50 rfl) ?_
      refine g_l2i (pc := 87) X (r64_w _) (dl_at t_X28_startOf 51 rfl) ?_
      exact g_iret (pc := 88) X (r32_w _) rfl rfl (dl_at t_X28_startOf 52 rfl)
    refine g_iload_n (pc := 63) X (j := 3) (i := 3) (q := 1) (x := s0_26) rfl rfl (dl_at t_X28_startOf 37 rfl) ?_
    exact g_iret (pc := 64) X rs0_26 rfl rfl (dl_at t_X28_startOf 38 rfl)
  intro J26
  refine g_ifne (pc := 7) X g2 (off := 15) (tgt := 22) rfl (dl_at t_X28_startOf 5 rfl) (fun _ => ?_) (fun _ => ?_)
  · refine g_aload_n (pc := 22) X (j := 0) (i := 0) (q := 2) (x := a0) rfl rfl (dl_at t_X28_startOf 12 rfl) ?_
    refine r_geti (pc := 23) X fX28_5 hk q2542 (dl_at t_X28_startOf 13 rfl) fun g23 => ?_
    refine g_ls (ls2 := [(0, rv D a0), (1, iv a1), (2, iv v2)]) [2, 1, 0] rfl ?_
    exact J26 (h a0 5) g23
  refine g_aload_n (pc := 10) X (j := 0) (i := 0) (q := 2) (x := a0) rfl rfl (dl_at t_X28_startOf 6 rfl) ?_
  refine r_geti (pc := 11) X fX28_5 hk q2542 (dl_at t_X28_startOf 7 rfl) fun g11 => ?_
  refine g_aload_n (pc := 14) X (j := 0) (i := 0) (q := 2) (x := a0) rfl rfl (dl_at t_X28_startOf 8 rfl) ?_
  refine r_geti (pc := 15) X fX28_6 hk q2543 (dl_at t_X28_startOf 9 rfl) fun g15 => ?_
  refine g_iadd (pc := 18) X g11 g15 (dl_at t_X28_startOf 10 rfl) ?_
  refine g_goto (pc := 19) X (off := 7) (tgt := 26) rfl (dl_at t_X28_startOf 11 rfl) ?_
  refine g_ls (ls2 := [(0, rv D a0), (1, iv a1), (2, iv v2)]) [2, 1, 0] rfl ?_
  exact J26 (w32 ((h a0 5) + (h a0 6))) (r32_w _)
def k_X1_line : List (Nat × Instr × Nat) := [(0, .iload_n 2, 1), (1, .ifCond .lt 13, 3), (4, .iload_n 2, 1), (5, .bipush 6, 2), (7, .if_icmp .gt 7, 3), (10, .iconst 1, 1), (11, .goto 4, 3), (14, .iconst 0, 1), (15, .invokestatic 134, 3), (18, .aload_n 0, 1), (19, .iload_n 1, 1), (20, .invokevirtual 335, 3), (23, .aload_n 0, 1), (24, .getfield 169, 3), (27, .getfield 338, 3), (30, .iload_n 1, 1), (31, .iaload, 1), (32, .istore_n 3, 1), (33, .aload_n 0, 1), (34, .getfield 169, 3), (37, .getfield 341, 3), (40, .iload_n 1, 1), (41, .iaload, 1), (42, .istore 4, 2), (44, .iload_n 2, 1), (84, .aload_n 0, 1), (85, .getfield 169, 3), (88, .getfield 344, 3), (91, .iload_n 1, 1), (92, .iaload, 1), (93, .ireturn, 1), (94, .aload_n 0, 1), (95, .getfield 169, 3), (98, .getfield 347, 3), (101, .iload_n 1, 1), (102, .iaload, 1), (103, .ireturn, 1), (104, .iload_n 3, 1), (105, .ifCond .ge 7, 3), (108, .iconst (-1), 1), (109, .goto 4, 3), (112, .iload_n 3, 1), (113, .ireturn, 1), (114, .aload_n 0, 1), (115, .getfield 169, 3), (118, .getfield 350, 3), (121, .iload_n 1, 1), (122, .iaload, 1), (123, .ireturn, 1), (124, .iload_n 3, 1), (125, .ifCond .ge 7, 3), (128, .iconst 0, 1), (129, .goto 17, 3), (132, .aload_n 0, 1), (133, .getfield 169, 3), (136, .getfield 353, 3), (139, .iload_n 3, 1), (140, .aaload, 1), (141, .iload 4, 2), (143, .invokevirtual 357, 3), (146, .ireturn, 1), (147, .iload_n 3, 1), (148, .ifCond .ge 7, 3), (151, .iconst 0, 1), (152, .goto 19, 3), (155, .aload_n 0, 1), (156, .getfield 169, 3), (159, .getfield 353, 3), (162, .iload_n 3, 1), (163, .aaload, 1), (164, .iload 4, 2), (166, .iconst 1, 1), (167, .iadd, 1), (168, .invokevirtual 362, 3), (171, .ireturn, 1), (172, .iload_n 3, 1), (173, .ifCond .ge 17, 3), (176, .aload_n 0, 1), (177, .getfield 169, 3), (180, .getfield 365, 3), (183, .iconst (-1), 1), (184, .iload_n 3, 1), (185, .isub, 1), (186, .iaload, 1), (187, .goto 17, 3), (190, .aload_n 0, 1), (191, .getfield 169, 3), (194, .getfield 353, 3), (197, .iload_n 3, 1), (198, .aaload, 1), (199, .iload 4, 2), (201, .invokevirtual 368, 3), (204, .ireturn, 1)]
theorem t_X1_line : ∀ q ∈ k_X1_line, decode cX1_line q.1 = .ok q.2 := dl_all (by decide +kernel)
theorem dS_X1_line_45 : decode cX1_line 45 = .ok (.tableswitch 127 0 5 #[39, 49, 59, 69, 79, 102], 39) := by decide +kernel
noncomputable def m_X1_line_j15 (a0 a1 a2 s0_15 : Int) (h : Hp) : Option ((Int × Int) × Hp) :=
  bT (m_X1_good s0_15 h) (fun _ h15 =>
  bT (m_X1_lineThere a0 a1 h15) (fun _ h20 =>
  gd (h20 (h20 a0 18) (-2) = 224) (gd (h20 (h20 (h20 a0 18) 12) (-2) % 16 = 1 ∧ (0 : Int) ≤ a1 ∧ a1 < h20 (h20 (h20 a0 18) 12) (-1)) (lt_ (h20 (h20 (h20 a0 18) 12) a1) fun x3_32 =>
  gd (h20 (h20 (h20 a0 18) 13) (-2) % 16 = 1 ∧ (0 : Int) ≤ a1 ∧ a1 < h20 (h20 (h20 a0 18) 13) (-1)) (lt_ (h20 (h20 (h20 a0 18) 13) a1) fun x4_42 =>
  if a2 = 0 then (gd (h20 (h20 (h20 a0 18) 65) (-2) % 16 = 1 ∧ (0 : Int) ≤ a1 ∧ a1 < h20 (h20 (h20 a0 18) 65) (-1)) (some ((0, (h20 (h20 (h20 a0 18) 65) a1)), h20)))
  else (if a2 = 1 then (gd (h20 (h20 (h20 a0 18) 66) (-2) % 16 = 1 ∧ (0 : Int) ≤ a1 ∧ a1 < h20 (h20 (h20 a0 18) 66) (-1)) (some ((0, (h20 (h20 (h20 a0 18) 66) a1)), h20)))
  else (if a2 = 2 then (if 0 ≤ x3_32 then (some ((0, x3_32), h20))
  else (some ((0, (-1)), h20)))
  else (if a2 = 3 then (gd (h20 (h20 (h20 a0 18) 17) (-2) % 16 = 1 ∧ (0 : Int) ≤ a1 ∧ a1 < h20 (h20 (h20 a0 18) 17) (-1)) (some ((0, (h20 (h20 (h20 a0 18) 17) a1)), h20)))
  else (if a2 = 4 then (if 0 ≤ x3_32 then (gd (h20 (h20 (h20 a0 18) 10) (-2) % 16 = 9 ∧ (0 : Int) ≤ x3_32 ∧ x3_32 < h20 (h20 (h20 a0 18) 10) (-1)) (gd (h20 (h20 (h20 (h20 a0 18) 10) x3_32) (-2) = 288) ((m_X28_ratioOf (h20 (h20 (h20 a0 18) 10) x3_32) x4_42 h20).bind fun v143 =>
  some ((0, v143), h20))))
  else (some ((0, 0), h20)))
  else (if a2 = 5 then (if 0 ≤ x3_32 then (gd (h20 (h20 (h20 a0 18) 10) (-2) % 16 = 9 ∧ (0 : Int) ≤ x3_32 ∧ x3_32 < h20 (h20 (h20 a0 18) 10) (-1)) (gd (h20 (h20 (h20 (h20 a0 18) 10) x3_32) (-2) = 288) ((m_X28_breakOf (h20 (h20 (h20 a0 18) 10) x3_32) (w32 (x4_42 + 1)) h20).bind fun v168 =>
  some ((0, v168), h20))))
  else (some ((0, 0), h20)))
  else (if 0 ≤ x3_32 then (gd (h20 (h20 (h20 a0 18) 10) (-2) % 16 = 9 ∧ (0 : Int) ≤ x3_32 ∧ x3_32 < h20 (h20 (h20 a0 18) 10) (-1)) (gd (h20 (h20 (h20 (h20 a0 18) 10) x3_32) (-2) = 288) ((m_X28_startOf (h20 (h20 (h20 a0 18) 10) x3_32) x4_42 h20).bind fun v201 =>
  some ((0, v201), h20))))
  else (gd (h20 (h20 (h20 a0 18) 21) (-2) % 16 = 1 ∧ (0 : Int) ≤ (w32 ((-1) - x3_32)) ∧ (w32 ((-1) - x3_32)) < h20 (h20 (h20 a0 18) 21) (-1)) (some ((0, (h20 (h20 (h20 a0 18) 21) (w32 ((-1) - x3_32)))), h20))))))))))))) (fun a_ h_ => some ((1, a_), h_))) (fun a_ h_ => some ((1, a_), h_))
noncomputable def m_X1_line_j14 (a0 a1 a2 : Int) (h : Hp) : Option ((Int × Int) × Hp) :=
  m_X1_line_j15 a0 a1 a2 0 h
noncomputable def m_X1_line (a0 a1 a2 : Int) (h : Hp) : Option ((Int × Int) × Hp) :=
  if a2 < 0 then (m_X1_line_j14 a0 a1 a2 h)
  else (if 6 < a2 then (m_X1_line_j14 a0 a1 a2 h)
  else (m_X1_line_j15 a0 a1 a2 1 h))
theorem s_X1_line {l : Launch} [NoTr l] {D : SD} {a0 a1 a2 : Int} {h : Hp} (hk : h a0 (-2) = 16) (r1 : r32 a1) (r2 : r32 a2) {r : (Int × Int) × Hp} (hm : m_X1_line a0 a1 a2 h = some r) : Sim l D yX1_line (Cond.code yX1_line cX1_line 5 (Option.some Jvm.ClassFile.FieldType.int)) 11 409 [rv D a0, iv a1, iv a2] h 1 r := by
  refine Sim.of (fin := fun (v : (Int × Int) × Hp) => v) (lsE := [(0, rv D a0), (1, iv a1), (2, iv a2)]) hm rfl cwS_code (la_r (la_i (la_i la_n))) (ll_r (ll_i (ll_i ll_n))) ?_
  intro p e s m below meth c X hcw hmm hcc hnm hname
  have hno := noh hcw hnm hmm hcc
  unfold m_X1_line
  refine g_iload_n (pc := 0) X (j := 2) (i := 2) (q := 2) (x := a2) rfl rfl (dl_at t_X1_line 0 rfl) ?_
  refine g_join (γ := Int) (fun q => (q = 0 ∨ q = 1)) 15 (fun q => [(0, rv D a0), (1, iv a1), (2, iv a2)]) (fun q => [iv q]) (fun q => h) (fun q => m_X1_line_j15 a0 a1 a2 q h) ?_ ?_
  · rintro s0_15 rs0_15
    try dsimp only
    unfold m_X1_line_j15
    refine r_callTv (pc := 15) X (fun _ hv => s_X1_good rs0_15 hv) cw_code q1689 q355 (in_Sc X (As := [iv s0_15]) (Or.inl q1687) q1688 q355 q1689 ⟨by decide, by decide⟩ rfl (dl_at t_X1_line 8 rfl)) (dl_at t_X1_line 8 rfl) (cat24 (st := []) (Nat.le_of_ble_eq_true rfl)) (Nat.le_of_ble_eq_true rfl) (Nat.le_of_ble_eq_true rfl) (fun v15 h15 E15 => ?_) (fun _ _ ha _ => gt_at fun Q hQ => gt_out (Q := Q) X rfl ha (hno _) _ Q rfl hQ)
    refine g_aload_n (pc := 18) X (j := 0) (i := 0) (q := 0) (x := a0) rfl rfl (dl_at t_X1_line 9 rfl) ?_
    refine g_iload_n (pc := 19) X (j := 1) (i := 1) (q := 1) (x := a1) rfl rfl (dl_at t_X1_line 10 rfl) ?_
    have k20 := kx E15 (by decide) hk
    refine r_callTv (pc := 20) X (fun _ hv => s_X1_lineThere k20 r1 hv) cw_code q3094 q355 (in_Vk X (As := [iv a1]) kX1 k20 (Or.inl q3091) q3093 qs218 cw_code q3094 ⟨by decide, by decide⟩ rfl (dl_at t_X1_line 11 rfl)) (dl_at t_X1_line 11 rfl) (cat24 (st := []) (Nat.le_of_ble_eq_true rfl)) (Nat.le_of_ble_eq_true rfl) (Nat.le_of_ble_eq_true rfl) (fun v20 h20 E20 => ?_) (fun _ _ ha _ => gt_at fun Q hQ => gt_out (Q := Q) X rfl ha (hno _) _ Q rfl hQ)
    refine g_aload_n (pc := 23) X (j := 0) (i := 0) (q := 0) (x := a0) rfl rfl (dl_at t_X1_line 12 rfl) ?_
    have k24 := kx E20 (by decide) k20
    refine r_getr (pc := 24) X fX1_18 k24 q1506 (dl_at t_X1_line 13 rfl) ?_
    refine g_gd fun k27 => ?_
    refine r_getrN (pc := 27) X fX14_12 k27 (nw_in q1261 rfl) (dl_at t_X1_line 14 rfl) ?_
    refine g_iload_n (pc := 30) X (j := 1) (i := 1) (q := 1) (x := a1) rfl rfl (dl_at t_X1_line 15 rfl) ?_
    refine g_gd fun k31 => ?_
    refine g_iald (pc := 31) X r1 k31 (dl_at t_X1_line 16 rfl) fun g31 => ?_
    refine g_lti g31 fun x3_32 r3_32 => ?_
    refine g_istore_nN (pc := 32) X (j := 3) (i := 3) (x := x3_32) (b := 2) (w := iv a2) (rest := [(0, rv D a0), (1, iv a1)]) rfl (Nat.le_of_ble_eq_true rfl) [2, 0, 1] rfl (by decide) rfl rfl (dl_at t_X1_line 17 rfl) ?_
    refine g_aload_n (pc := 33) X (j := 0) (i := 0) (q := 2) (x := a0) rfl rfl (dl_at t_X1_line 18 rfl) ?_
    refine r_getr (pc := 34) X fX1_18 k24 q1506 (dl_at t_X1_line 19 rfl) ?_
    refine r_getrN (pc := 37) X fX14_13 k27 (nw_in q1263 rfl) (dl_at t_X1_line 20 rfl) ?_
    refine g_iload_n (pc := 40) X (j := 1) (i := 1) (q := 3) (x := a1) rfl rfl (dl_at t_X1_line 21 rfl) ?_
    refine g_gd fun k41 => ?_
    refine g_iald (pc := 41) X r1 k41 (dl_at t_X1_line 22 rfl) fun g41 => ?_
    refine g_lti g41 fun x4_42 r4_42 => ?_
    refine g_istoreN (pc := 42) X (i := 4) (x := x4_42) (b := 3) (w := iv x3_32) (rest := [(2, iv a2), (0, rv D a0), (1, iv a1)]) (Nat.le_of_ble_eq_true rfl) [0, 1, 2, 3] rfl (by decide) rfl rfl (dl_at t_X1_line 23 rfl) ?_
    refine g_iload_n (pc := 44) X (j := 2) (i := 2) (q := 2) (x := a2) rfl rfl (dl_at t_X1_line 24 rfl) ?_
    refine g_case (fun w45 => ?_) (fun nw45 => ?_)
    · refine g_tabIn (pc := 45) X (off := 39) (tgt := 84) r2 w45 (by decide) (by decide) rfl rfl dS_X1_line_45 ?_
      refine g_aload_n (pc := 84) X (j := 0) (i := 0) (q := 3) (x := a0) rfl rfl (dl_at t_X1_line 25 rfl) ?_
      refine r_getr (pc := 85) X fX1_18 k24 q1506 (dl_at t_X1_line 26 rfl) ?_
      refine r_getrN (pc := 88) X fX14_65 k27 (nw_in q1331 rfl) (dl_at t_X1_line 27 rfl) ?_
      refine g_iload_n (pc := 91) X (j := 1) (i := 1) (q := 4) (x := a1) rfl rfl (dl_at t_X1_line 28 rfl) ?_
      refine g_gd fun k92 => ?_
      refine g_iald (pc := 92) X r1 k92 (dl_at t_X1_line 29 rfl) fun g92 => ?_
      exact g_iret (pc := 93) X g92 rfl rfl (dl_at t_X1_line 30 rfl)
    refine g_case (fun w45_1 => ?_) (fun nw45_1 => ?_)
    · refine g_tabIn (pc := 45) X (off := 49) (tgt := 94) r2 w45_1 (by decide) (by decide) rfl rfl dS_X1_line_45 ?_
      refine g_aload_n (pc := 94) X (j := 0) (i := 0) (q := 3) (x := a0) rfl rfl (dl_at t_X1_line 31 rfl) ?_
      refine r_getr (pc := 95) X fX1_18 k24 q1506 (dl_at t_X1_line 32 rfl) ?_
      refine r_getrN (pc := 98) X fX14_66 k27 (nw_in q1333 rfl) (dl_at t_X1_line 33 rfl) ?_
      refine g_iload_n (pc := 101) X (j := 1) (i := 1) (q := 4) (x := a1) rfl rfl (dl_at t_X1_line 34 rfl) ?_
      refine g_gd fun k102 => ?_
      refine g_iald (pc := 102) X r1 k102 (dl_at t_X1_line 35 rfl) fun g102 => ?_
      exact g_iret (pc := 103) X g102 rfl rfl (dl_at t_X1_line 36 rfl)
    refine g_case (fun w45_2 => ?_) (fun nw45_2 => ?_)
    · refine g_tabIn (pc := 45) X (off := 59) (tgt := 104) r2 w45_2 (by decide) (by decide) rfl rfl dS_X1_line_45 ?_
      refine g_iload_n (pc := 104) X (j := 3) (i := 3) (q := 1) (x := x3_32) rfl rfl (dl_at t_X1_line 37 rfl) ?_
      refine g_ifge (pc := 105) X r3_32 (off := 7) (tgt := 112) rfl (dl_at t_X1_line 38 rfl) (fun _ => ?_) (fun _ => ?_)
      · refine g_iload_n (pc := 112) X (j := 3) (i := 3) (q := 1) (x := x3_32) rfl rfl (dl_at t_X1_line 41 rfl) ?_
        exact g_iret (pc := 113) X r3_32 rfl rfl (dl_at t_X1_line 42 rfl)
      refine g_iconst (pc := 108) X (n := (-1)) (dl_at t_X1_line 39 rfl) ?_
      refine g_goto (pc := 109) X (off := 4) (tgt := 113) rfl (dl_at t_X1_line 40 rfl) ?_
      exact g_iret (pc := 113) X (r32_c rfl) rfl rfl (dl_at t_X1_line 42 rfl)
    refine g_case (fun w45_3 => ?_) (fun nw45_3 => ?_)
    · refine g_tabIn (pc := 45) X (off := 69) (tgt := 114) r2 w45_3 (by decide) (by decide) rfl rfl dS_X1_line_45 ?_
      refine g_aload_n (pc := 114) X (j := 0) (i := 0) (q := 3) (x := a0) rfl rfl (dl_at t_X1_line 43 rfl) ?_
      refine r_getr (pc := 115) X fX1_18 k24 q1506 (dl_at t_X1_line 44 rfl) ?_
      refine r_getrN (pc := 118) X fX14_17 k27 (nw_in q1268 rfl) (dl_at t_X1_line 45 rfl) ?_
      refine g_iload_n (pc := 121) X (j := 1) (i := 1) (q := 4) (x := a1) rfl rfl (dl_at t_X1_line 46 rfl) ?_
      refine g_gd fun k122 => ?_
      refine g_iald (pc := 122) X r1 k122 (dl_at t_X1_line 47 rfl) fun g122 => ?_
      exact g_iret (pc := 123) X g122 rfl rfl (dl_at t_X1_line 48 rfl)
    refine g_case (fun w45_4 => ?_) (fun nw45_4 => ?_)
    · refine g_tabIn (pc := 45) X (off := 79) (tgt := 124) r2 w45_4 (by decide) (by decide) rfl rfl dS_X1_line_45 ?_
      refine g_iload_n (pc := 124) X (j := 3) (i := 3) (q := 1) (x := x3_32) rfl rfl (dl_at t_X1_line 49 rfl) ?_
      refine g_ifge (pc := 125) X r3_32 (off := 7) (tgt := 132) rfl (dl_at t_X1_line 50 rfl) (fun _ => ?_) (fun _ => ?_)
      · refine g_aload_n (pc := 132) X (j := 0) (i := 0) (q := 3) (x := a0) rfl rfl (dl_at t_X1_line 53 rfl) ?_
        refine r_getr (pc := 133) X fX1_18 k24 q1506 (dl_at t_X1_line 54 rfl) ?_
        refine r_getrN (pc := 136) X fX14_10 k27 (nw_in q1257 rfl) (dl_at t_X1_line 55 rfl) ?_
        refine g_iload_n (pc := 139) X (j := 3) (i := 3) (q := 1) (x := x3_32) rfl rfl (dl_at t_X1_line 56 rfl) ?_
        refine g_gd fun k140 => ?_
        refine g_aald (pc := 140) X 9 (Nat.le_of_ble_eq_true rfl) (Nat.le_of_ble_eq_true rfl) r3_32 rfl k140 (dl_at t_X1_line 57 rfl) ?_
        refine g_iload (pc := 141) X (i := 4) (q := 0) (x := x4_42) rfl (dl_at t_X1_line 58 rfl) ?_
        refine g_gd fun k143 => ?_
        refine r_callRi (pc := 143) X (fun _ hv => s_X28_ratioOf k143 r4_42 hv) cw_code q3098 q396 (in_Vk X (As := [iv x4_42]) kX28 k143 (Or.inr ⟨_, nw_in q3095 rfl⟩) q3097 qs219 cw_code q3098 ⟨by decide, by decide⟩ rfl (dl_at t_X1_line 59 rfl)) (dl_at t_X1_line 59 rfl) (cat24 (st := []) (Nat.le_of_ble_eq_true rfl)) (Nat.le_of_ble_eq_true rfl) (Nat.le_of_ble_eq_true rfl) fun v143 g143 => ?_
        exact g_iret (pc := 146) X g143 rfl rfl (dl_at t_X1_line 60 rfl)
      refine g_iconst (pc := 128) X (n := 0) (dl_at t_X1_line 51 rfl) ?_
      refine g_goto (pc := 129) X (off := 17) (tgt := 146) rfl (dl_at t_X1_line 52 rfl) ?_
      exact g_iret (pc := 146) X (r32_c rfl) rfl rfl (dl_at t_X1_line 60 rfl)
    refine g_case (fun w45_5 => ?_) (fun nw45_5 => ?_)
    · refine g_tabIn (pc := 45) X (off := 102) (tgt := 147) r2 w45_5 (by decide) (by decide) rfl rfl dS_X1_line_45 ?_
      refine g_iload_n (pc := 147) X (j := 3) (i := 3) (q := 1) (x := x3_32) rfl rfl (dl_at t_X1_line 61 rfl) ?_
      refine g_ifge (pc := 148) X r3_32 (off := 7) (tgt := 155) rfl (dl_at t_X1_line 62 rfl) (fun _ => ?_) (fun _ => ?_)
      · refine g_aload_n (pc := 155) X (j := 0) (i := 0) (q := 3) (x := a0) rfl rfl (dl_at t_X1_line 65 rfl) ?_
        refine r_getr (pc := 156) X fX1_18 k24 q1506 (dl_at t_X1_line 66 rfl) ?_
        refine r_getrN (pc := 159) X fX14_10 k27 (nw_in q1257 rfl) (dl_at t_X1_line 67 rfl) ?_
        refine g_iload_n (pc := 162) X (j := 3) (i := 3) (q := 1) (x := x3_32) rfl rfl (dl_at t_X1_line 68 rfl) ?_
        refine g_gd fun k163 => ?_
        refine g_aald (pc := 163) X 9 (Nat.le_of_ble_eq_true rfl) (Nat.le_of_ble_eq_true rfl) r3_32 rfl k163 (dl_at t_X1_line 69 rfl) ?_
        refine g_iload (pc := 164) X (i := 4) (q := 0) (x := x4_42) rfl (dl_at t_X1_line 70 rfl) ?_
        refine g_iconst (pc := 166) X (n := 1) (dl_at t_X1_line 71 rfl) ?_
        refine g_iadd (pc := 167) X r4_42 (r32_c rfl) (dl_at t_X1_line 72 rfl) ?_
        refine g_gd fun k168 => ?_
        refine r_callRi (pc := 168) X (fun _ hv => s_X28_breakOf k168 (r32_w _) hv) cw_code q2939 q396 (in_Vk X (As := [iv (w32 (x4_42 + 1))]) kX28 k168 (Or.inr ⟨_, nw_in q3103 rfl⟩) q2938 qs189 cw_code q2939 ⟨by decide, by decide⟩ rfl (dl_at t_X1_line 73 rfl)) (dl_at t_X1_line 73 rfl) (cat24 (st := []) (Nat.le_of_ble_eq_true rfl)) (Nat.le_of_ble_eq_true rfl) (Nat.le_of_ble_eq_true rfl) fun v168 g168 => ?_
        exact g_iret (pc := 171) X g168 rfl rfl (dl_at t_X1_line 74 rfl)
      refine g_iconst (pc := 151) X (n := 0) (dl_at t_X1_line 63 rfl) ?_
      refine g_goto (pc := 152) X (off := 19) (tgt := 171) rfl (dl_at t_X1_line 64 rfl) ?_
      exact g_iret (pc := 171) X (r32_c rfl) rfl rfl (dl_at t_X1_line 74 rfl)
    have w45_6 : ¬ a2 ∈ ([0, 1, 2, 3, 4, 5] : List Int) := by simp only [List.mem_cons, List.not_mem_nil, or_false, not_or] at *; simp only [*, not_false_eq_true, and_self]
    refine g_tabElse (pc := 45) X (tgt := 172) [0, 1, 2, 3, 4, 5] r2 w45_6 rfl rfl dS_X1_line_45 ?_
    refine g_iload_n (pc := 172) X (j := 3) (i := 3) (q := 1) (x := x3_32) rfl rfl (dl_at t_X1_line 75 rfl) ?_
    refine g_ifge (pc := 173) X r3_32 (off := 17) (tgt := 190) rfl (dl_at t_X1_line 76 rfl) (fun _ => ?_) (fun _ => ?_)
    · refine g_aload_n (pc := 190) X (j := 0) (i := 0) (q := 3) (x := a0) rfl rfl (dl_at t_X1_line 85 rfl) ?_
      refine r_getr (pc := 191) X fX1_18 k24 q1506 (dl_at t_X1_line 86 rfl) ?_
      refine r_getrN (pc := 194) X fX14_10 k27 (nw_in q1257 rfl) (dl_at t_X1_line 87 rfl) ?_
      refine g_iload_n (pc := 197) X (j := 3) (i := 3) (q := 1) (x := x3_32) rfl rfl (dl_at t_X1_line 88 rfl) ?_
      refine g_gd fun k198 => ?_
      refine g_aald (pc := 198) X 9 (Nat.le_of_ble_eq_true rfl) (Nat.le_of_ble_eq_true rfl) r3_32 rfl k198 (dl_at t_X1_line 89 rfl) ?_
      refine g_iload (pc := 199) X (i := 4) (q := 0) (x := x4_42) rfl (dl_at t_X1_line 90 rfl) ?_
      refine g_gd fun k201 => ?_
      refine r_callRi (pc := 201) X (fun _ hv => s_X28_startOf k201 r4_42 hv) cw_code q3107 q396 (in_Vk X (As := [iv x4_42]) kX28 k201 (Or.inr ⟨_, nw_in q3104 rfl⟩) q3106 qs221 cw_code q3107 ⟨by decide, by decide⟩ rfl (dl_at t_X1_line 91 rfl)) (dl_at t_X1_line 91 rfl) (cat24 (st := []) (Nat.le_of_ble_eq_true rfl)) (Nat.le_of_ble_eq_true rfl) (Nat.le_of_ble_eq_true rfl) fun v201 g201 => ?_
      exact g_iret (pc := 204) X g201 rfl rfl (dl_at t_X1_line 92 rfl)
    refine g_aload_n (pc := 176) X (j := 0) (i := 0) (q := 3) (x := a0) rfl rfl (dl_at t_X1_line 77 rfl) ?_
    refine r_getr (pc := 177) X fX1_18 k24 q1506 (dl_at t_X1_line 78 rfl) ?_
    refine r_getrN (pc := 180) X fX14_21 k27 (nw_in q1274 rfl) (dl_at t_X1_line 79 rfl) ?_
    refine g_iconst (pc := 183) X (n := (-1)) (dl_at t_X1_line 80 rfl) ?_
    refine g_iload_n (pc := 184) X (j := 3) (i := 3) (q := 1) (x := x3_32) rfl rfl (dl_at t_X1_line 81 rfl) ?_
    refine g_isub (pc := 185) X (r32_c rfl) r3_32 (dl_at t_X1_line 82 rfl) ?_
    refine g_gd fun k186 => ?_
    refine g_iald (pc := 186) X (r32_w _) k186 (dl_at t_X1_line 83 rfl) fun g186 => ?_
    refine g_goto (pc := 187) X (off := 17) (tgt := 204) rfl (dl_at t_X1_line 84 rfl) ?_
    exact g_iret (pc := 204) X g186 rfl rfl (dl_at t_X1_line 92 rfl)
  intro J15
  refine g_join (γ := Unit) (fun q => True) 14 (fun q => [(0, rv D a0), (1, iv a1), (2, iv a2)]) (fun q => []) (fun q => h) (fun q => m_X1_line_j14 a0 a1 a2 h) ?_ ?_
  · rintro _ _
    try dsimp only
    unfold m_X1_line_j14
    refine g_iconst (pc := 14) X (n := 0) (dl_at t_X1_line 7 rfl) ?_
    exact J15 0 (Or.inl rfl)
  intro J14
  refine g_iflt (pc := 1) X r2 (off := 13) (tgt := 14) rfl (dl_at t_X1_line 1 rfl) (fun _ => ?_) (fun _ => ?_)
  · exact J14 () trivial
  refine g_iload_n (pc := 4) X (j := 2) (i := 2) (q := 2) (x := a2) rfl rfl (dl_at t_X1_line 2 rfl) ?_
  refine g_bipush (pc := 5) X (n := 6) rfl (dl_at t_X1_line 3 rfl) ?_
  refine g_icmpgt (pc := 7) X r2 (r32_c rfl) (off := 7) (tgt := 14) rfl (dl_at t_X1_line 4 rfl) (fun _ => ?_) (fun _ => ?_)
  · exact J14 () trivial
  refine g_iconst (pc := 10) X (n := 1) (dl_at t_X1_line 5 rfl) ?_
  refine g_goto (pc := 11) X (off := 4) (tgt := 15) rfl (dl_at t_X1_line 6 rfl) ?_
  exact J15 1 (Or.inr rfl)
def k_X0_line : List (Nat × Instr × Nat) := [(0, .aload_n 3, 1), (1, .iconst 0, 1), (2, .aload_n 0, 1), (3, .iload_n 1, 1), (4, .iload_n 2, 1), (5, .invokevirtual 53, 3), (8, .i2l, 1), (9, .lastore, 1), (10, .goto 15, 3), (13, .astore 4, 2), (15, .iconst 1, 1), (16, .ireturn, 1), (17, .astore 4, 2), (19, .iconst 2, 1), (20, .ireturn, 1), (21, .astore 4, 2), (23, .iconst 3, 1), (24, .ireturn, 1), (25, .iconst 0, 1), (26, .ireturn, 1)]
theorem t_X0_line : ∀ q ∈ k_X0_line, decode cX0_line q.1 = .ok q.2 := dl_all (by decide +kernel)
noncomputable def m_X0_line (a0 a1 a2 a3 : Int) (h : Hp) : Option (Int × Hp) :=
  gd (h a0 (-2) = 16) (bT (m_X1_line a0 a1 a2 h) (fun v5 h5_1 =>
  gd (h5_1 a3 (-2) % 16 = 4 ∧ (0 : Int) ≤ 0 ∧ 0 < h5_1 a3 (-1)) (pt h5_1 a3 0 v5 fun h9 =>
  some (0, h9))) (fun a5 h5 => if h5 a5 (-2) = 480 then (some (3, h5))
  else (if h5 a5 (-2) = 496 then (some (1, h5))
  else (if h5 a5 (-2) = 528 then (some (2, h5))
  else (none)))))
theorem s_X0_line {l : Launch} [NoTr l] {D : SD} {a0 a1 a2 a3 : Int} {h : Hp} (r1 : r32 a1) (r2 : r32 a2) {r : Int × Hp} (hm : m_X0_line a0 a1 a2 a3 h = some r) : Sim l D yX0_line (Cond.codeWith yX0_line cX0_line 5 (Option.some Jvm.ClassFile.FieldType.int) [((0 : Nat), (10 : Nat), (13 : Nat), (19 : Nat)), ((0 : Nat), (10 : Nat), (17 : Nat), (40 : Nat)), ((0 : Nat), (10 : Nat), (21 : Nat), (13 : Nat))]) 12 449 [rv D a0, iv a1, iv a2, rv D a3] h 1 ((0, r.1), r.2) := by
  refine Sim.of (fin := fun (v : Int × Hp) => ((0, v.1), v.2)) (lsE := [(0, rv D a0), (1, iv a1), (2, iv a2), (3, rv D a3)]) hm rfl cwS_with (la_r (la_i (la_i (la_r la_n)))) (ll_r (ll_i (ll_i (ll_r ll_n)))) ?_
  intro p e s m below meth c X hcw hmm hcc hnm hname
  have htb := tabW hcw hnm hmm hcc
  unfold m_X0_line
  refine g_aload_n (pc := 0) X (j := 3) (i := 3) (q := 3) (x := a3) rfl rfl (dl_at t_X0_line 0 rfl) ?_
  refine g_iconst (pc := 1) X (n := 0) (dl_at t_X0_line 1 rfl) ?_
  refine g_aload_n (pc := 2) X (j := 0) (i := 0) (q := 0) (x := a0) rfl rfl (dl_at t_X0_line 2 rfl) ?_
  refine g_iload_n (pc := 3) X (j := 1) (i := 1) (q := 1) (x := a1) rfl rfl (dl_at t_X0_line 3 rfl) ?_
  refine g_iload_n (pc := 4) X (j := 2) (i := 2) (q := 2) (x := a2) rfl rfl (dl_at t_X0_line 4 rfl) ?_
  refine g_gd fun k5 => ?_
  refine r_callTi (pc := 5) X (fun _ hv => s_X1_line k5 r1 r2 hv) cw_code q3090 q355 (in_Vk X (As := [iv a1, iv a2]) kX1 k5 (Or.inl q3087) q3088 q3089 cw_code q3090 ⟨by decide, by decide⟩ rfl (dl_at t_X0_line 5 rfl)) (dl_at t_X0_line 5 rfl) (cat24 (st := [iv 0, rv D a3]) (Nat.le_of_ble_eq_true rfl)) (Nat.le_of_ble_eq_true rfl) (Nat.le_of_ble_eq_true rfl) (fun v5 h5_1 g5 E5_1 => ?_) (fun a5 h5 p5 E5 => ?_)
  · refine g_i2l (pc := 8) X g5 (dl_at t_X0_line 6 rfl) ?_
    refine g_gd fun k9 => ?_
    refine r_last (pc := 9) X (r32_c rfl) (r64_of g5) k9 (dl_at t_X0_line 7 rfl) (fun h9 E9 => ?_)
    refine g_goto (pc := 10) X (off := 15) (tgt := 25) rfl (dl_at t_X0_line 8 rfl) ?_
    refine g_iconst (pc := 25) X (n := 0) (dl_at t_X0_line 18 rfl) ?_
    exact g_iret (pc := 26) X (r32_c rfl) rfl rfl (dl_at t_X0_line 19 rfl)
  refine gt_case (fun k5_1 => ?_) (fun _ => ?_)
  · refine gt_catch (pc := 5) X kJ3 k5_1 [((0, 10, 13, 19), "java/lang/IllegalArgumentException", false), ((0, 10, 17, 40), "java/lang/IllegalStateException", false), ((0, 10, 21, 13), "java/lang/IndexOutOfBoundsException", true)] (hp := 21) rfl (by decide +kernel) (List.forall_mem_cons.mpr ⟨⟨q1682, by decide⟩, (List.forall_mem_cons.mpr ⟨⟨q2237, by decide⟩, (List.forall_mem_cons.mpr ⟨⟨q1565, by decide⟩, fun _ h => absurd h List.not_mem_nil⟩)⟩)⟩) htb ?_
    refine g_astore (pc := 21) X (i := 4) (x := a5) (rest := []) (Nat.le_of_ble_eq_true rfl) [] rfl rfl (dl_at t_X0_line 15 rfl) ?_
    refine g_iconst (pc := 23) X (n := 3) (dl_at t_X0_line 16 rfl) ?_
    exact g_iret (pc := 24) X (r32_c rfl) rfl rfl (dl_at t_X0_line 17 rfl)
  refine gt_case (fun k5_2 => ?_) (fun _ => ?_)
  · refine gt_catch (pc := 5) X kJ6 k5_2 [((0, 10, 13, 19), "java/lang/IllegalArgumentException", true), ((0, 10, 17, 40), "java/lang/IllegalStateException", false), ((0, 10, 21, 13), "java/lang/IndexOutOfBoundsException", false)] (hp := 13) rfl (by decide +kernel) (List.forall_mem_cons.mpr ⟨⟨q1682, by decide⟩, (List.forall_mem_cons.mpr ⟨⟨q2237, by decide⟩, (List.forall_mem_cons.mpr ⟨⟨q1565, by decide⟩, fun _ h => absurd h List.not_mem_nil⟩)⟩)⟩) htb ?_
    refine g_astore (pc := 13) X (i := 4) (x := a5) (rest := []) (Nat.le_of_ble_eq_true rfl) [] rfl rfl (dl_at t_X0_line 9 rfl) ?_
    refine g_iconst (pc := 15) X (n := 1) (dl_at t_X0_line 10 rfl) ?_
    exact g_iret (pc := 16) X (r32_c rfl) rfl rfl (dl_at t_X0_line 11 rfl)
  refine gt_case (fun k5_3 => ?_) (fun _ => ?_)
  · refine gt_catch (pc := 5) X kJ11 k5_3 [((0, 10, 13, 19), "java/lang/IllegalArgumentException", false), ((0, 10, 17, 40), "java/lang/IllegalStateException", true), ((0, 10, 21, 13), "java/lang/IndexOutOfBoundsException", false)] (hp := 17) rfl (by decide +kernel) (List.forall_mem_cons.mpr ⟨⟨q1682, by decide⟩, (List.forall_mem_cons.mpr ⟨⟨q2237, by decide⟩, (List.forall_mem_cons.mpr ⟨⟨q1565, by decide⟩, fun _ h => absurd h List.not_mem_nil⟩)⟩)⟩) htb ?_
    refine g_astore (pc := 17) X (i := 4) (x := a5) (rest := []) (Nat.le_of_ble_eq_true rfl) [] rfl rfl (dl_at t_X0_line 12 rfl) ?_
    refine g_iconst (pc := 19) X (n := 2) (dl_at t_X0_line 13 rfl) ?_
    exact g_iret (pc := 20) X (r32_c rfl) rfl rfl (dl_at t_X0_line 14 rfl)
  exact gt_none
def k_X28_moved : List (Nat × Instr × Nat) := [(0, .aload_n 0, 1), (1, .iload_n 1, 1), (2, .invokevirtual 237, 3), (5, .istore_n 3, 1), (6, .aload_n 0, 1), (7, .iload_n 1, 1), (8, .iconst 1, 1), (9, .iadd, 1), (10, .invokevirtual 237, 3), (13, .istore 4, 2), (15, .aload_n 0, 1), (16, .getfield 69, 3), (19, .ifCond .ne 20, 3), (22, .iload 4, 2), (24, .aload_n 0, 1), (25, .getfield 75, 3), (28, .if_icmp .ne 13, 3), (31, .aload_n 0, 1), (32, .iload_n 1, 1), (33, .invokevirtual 246, 3), (36, .ifCond .lt 5, 3), (39, .lconst 0, 1), (40, .lreturn, 1), (41, .aload_n 0, 1), (42, .iload_n 3, 1), (43, .invokevirtual 158, 3), (46, .i2l, 1), (47, .aload_n 0, 1), (48, .iload_n 3, 1), (49, .iload 4, 2), (51, .invokevirtual 154, 3), (54, .lsub, 1), (55, .lstore 5, 2), (57, .aload_n 0, 1), (58, .getfield 9, 3), (61, .getfield 131, 3), (64, .aload_n 0, 1), (65, .getfield 35, 3), (68, .iload_n 2, 1), (69, .iadd, 1), (70, .laload, 1), (71, .aload_n 0, 1), (72, .getfield 9, 3), (75, .getfield 131, 3), (78, .aload_n 0, 1), (79, .getfield 35, 3), (82, .iload_n 3, 1), (83, .iadd, 1), (84, .laload, 1), (85, .lsub, 1), (86, .lstore 7, 2), (88, .aload_n 0, 1), (89, .iload_n 1, 1), (90, .invokevirtual 246, 3), (93, .ldc 166, 2), (95, .if_icmp .ne 7, 3), (98, .lload 7, 2), (100, .lneg, 1), (101, .lreturn, 1), (102, .lload 5, 2), (104, .lconst 0, 1), (105, .lcmp, 1), (106, .ifCond .le 66, 3), (109, .aload_n 0, 1), (110, .aload_n 0, 1), (111, .getfield 9, 3), (114, .getfield 128, 3), (117, .iload_n 3, 1), (118, .iload 4, 2), (120, .invokevirtual 148, 3), (123, .lstore 9, 2), (125, .lload 9, 2), (127, .lconst 0, 1), (128, .lcmp, 1), (129, .ifCond .ne 7, 3), (132, .lconst 0, 1), (133, .goto 38, 3), (136, .lload 5, 2), (138, .aload_n 0, 1), (139, .getfield 9, 3), (142, .getfield 128, 3), (145, .aload_n 0, 1), (146, .getfield 35, 3), (149, .iload_n 2, 1), (150, .iadd, 1), (151, .laload, 1), (152, .aload_n 0, 1), (153, .getfield 9, 3), (156, .getfield 128, 3), (159, .aload_n 0, 1), (160, .getfield 35, 3), (163, .iload_n 3, 1), (164, .iadd, 1), (165, .laload, 1), (166, .lsub, 1), (167, .lmul, 1), (168, .lload 9, 2), (170, .ldiv, 1), (171, .lreturn, 1), (172, .aload_n 0, 1), (173, .aload_n 0, 1), (174, .getfield 9, 3), (177, .getfield 131, 3), (180, .iload_n 3, 1), (181, .iload 4, 2), (183, .invokevirtual 148, 3), (186, .lstore 9, 2), (188, .lload 9, 2), (190, .lconst 0, 1), (191, .lcmp, 1), (192, .ifCond .ne 7, 3), (195, .lconst 0, 1), (196, .goto 13, 3), (199, .lload 5, 2), (201, .lneg, 1), (202, .lload 7, 2), (204, .lmul, 1), (205, .lload 9, 2), (207, .ldiv, 1), (208, .lneg, 1), (209, .lreturn, 1)]
theorem t_X28_moved : ∀ q ∈ k_X28_moved, decode cX28_moved q.1 = .ok q.2 := dl_all (by decide +kernel)
noncomputable def m_X28_moved_j41 (v10 v2 a2 a0 a1 : Int) (h : Hp) : Option (Int) :=
  (m_X28_widthOf a0 v2 h).bind fun v43 =>
  (m_X28_natural a0 v2 v10 h).bind fun v51 =>
  lt_ (w64 (v43 - v51)) fun x5_55 =>
  gd (h (h a0 0) (-2) = 240) (gd (h (h (h a0 0) 11) (-2) % 16 = 4 ∧ (0 : Int) ≤ (w32 ((h a0 15) + a2)) ∧ (w32 ((h a0 15) + a2)) < h (h (h a0 0) 11) (-1)) (gd (h (h (h a0 0) 11) (-2) % 16 = 4 ∧ (0 : Int) ≤ (w32 ((h a0 15) + v2)) ∧ (w32 ((h a0 15) + v2)) < h (h (h a0 0) 11) (-1)) (lt_ (w64 ((h (h (h a0 0) 11) (w32 ((h a0 15) + a2))) - (h (h (h a0 0) 11) (w32 ((h a0 15) + v2))))) fun x7_86 =>
  (m_X28_ratioAt a0 a1 h).bind fun v90 =>
  if v90 ≠ (-1000000) then (if (lcmp_ x5_55 0) ≤ 0 then ((m_X28_between a0 (h (h a0 0) 11) v2 v10 h).bind fun v183 =>
  if (lcmp_ v183 0) ≠ 0 then (gd (v183 ≠ 0) (some (w64 (-(w64 (Int.tdiv (w64 ((w64 (-x5_55)) * x7_86)) v183))))))
  else (some 0))
  else ((m_X28_between a0 (h (h a0 0) 10) v2 v10 h).bind fun v120 =>
  if (lcmp_ v120 0) ≠ 0 then (gd (h (h (h a0 0) 10) (-2) % 16 = 4 ∧ (0 : Int) ≤ (w32 ((h a0 15) + a2)) ∧ (w32 ((h a0 15) + a2)) < h (h (h a0 0) 10) (-1)) (gd (h (h (h a0 0) 10) (-2) % 16 = 4 ∧ (0 : Int) ≤ (w32 ((h a0 15) + v2)) ∧ (w32 ((h a0 15) + v2)) < h (h (h a0 0) 10) (-1)) (gd (v120 ≠ 0) (some (w64 (Int.tdiv (w64 (x5_55 * (w64 ((h (h (h a0 0) 10) (w32 ((h a0 15) + a2))) - (h (h (h a0 0) 10) (w32 ((h a0 15) + v2))))))) v120))))))
  else (some 0)))
  else (some (w64 (-x7_86))))))
noncomputable def m_X28_moved (a0 a1 a2 : Int) (h : Hp) : Option (Int) :=
  (m_X28_breakOf a0 a1 h).bind fun v2 =>
  (m_X28_breakOf a0 (w32 (a1 + 1)) h).bind fun v10 =>
  if (h a0 8) ≠ 0 then (some 0)
  else (if v10 ≠ (h a0 16) then (m_X28_moved_j41 v10 v2 a2 a0 a1 h)
  else ((m_X28_ratioAt a0 a1 h).bind fun v33 =>
  if v33 < 0 then (m_X28_moved_j41 v10 v2 a2 a0 a1 h)
  else (some 0)))
theorem s_X28_moved {l : Launch} [NoTr l] {D : SD} {a0 a1 a2 : Int} {h : Hp} (hk : h a0 (-2) = 288) (r1 : r32 a1) (r2 : r32 a2) {r : Int} (hm : m_X28_moved a0 a1 a2 h = some r) : Sim l D yX28_moved (Cond.code yX28_moved cX28_moved 11 (Option.some Jvm.ClassFile.FieldType.long)) 2 77 [rv D a0, iv a1, iv a2] h 4 ((0, r), h) := by
  refine Sim.of (fin := fun (v : Int) => ((0, v), h)) (lsE := [(0, rv D a0), (1, iv a1), (2, iv a2)]) hm rfl cwS_code (la_r (la_i (la_i la_n))) (ll_r (ll_i (ll_i ll_n))) ?_
  intro p e s m below meth c X hcw hmm hcc hnm hname
  unfold m_X28_moved
  refine g_aload_n (pc := 0) X (j := 0) (i := 0) (q := 0) (x := a0) rfl rfl (dl_at t_X28_moved 0 rfl) ?_
  refine g_iload_n (pc := 1) X (j := 1) (i := 1) (q := 1) (x := a1) rfl rfl (dl_at t_X28_moved 1 rfl) ?_
  refine r_callRi (pc := 2) X (fun _ hv => s_X28_breakOf hk r1 hv) cw_code q2939 q396 (in_Vk X (As := [iv a1]) kX28 hk (Or.inl q2936) q2938 qs189 cw_code q2939 ⟨by decide, by decide⟩ rfl (dl_at t_X28_moved 2 rfl)) (dl_at t_X28_moved 2 rfl) (cat24 (st := []) (Nat.le_of_ble_eq_true rfl)) (Nat.le_of_ble_eq_true rfl) (Nat.le_of_ble_eq_true rfl) fun v2 g2 => ?_
  refine g_istore_nN (pc := 5) X (j := 3) (i := 3) (x := v2) (b := 2) (w := iv a2) (rest := [(0, rv D a0), (1, iv a1)]) rfl (Nat.le_of_ble_eq_true rfl) [2, 0, 1] rfl (by decide) rfl rfl (dl_at t_X28_moved 3 rfl) ?_
  refine g_aload_n (pc := 6) X (j := 0) (i := 0) (q := 2) (x := a0) rfl rfl (dl_at t_X28_moved 4 rfl) ?_
  refine g_iload_n (pc := 7) X (j := 1) (i := 1) (q := 3) (x := a1) rfl rfl (dl_at t_X28_moved 5 rfl) ?_
  refine g_iconst (pc := 8) X (n := 1) (dl_at t_X28_moved 6 rfl) ?_
  refine g_iadd (pc := 9) X r1 (r32_c rfl) (dl_at t_X28_moved 7 rfl) ?_
  refine r_callRi (pc := 10) X (fun _ hv => s_X28_breakOf hk (r32_w _) hv) cw_code q2939 q396 (in_Vk X (As := [iv (w32 (a1 + 1))]) kX28 hk (Or.inl q2936) q2938 qs189 cw_code q2939 ⟨by decide, by decide⟩ rfl (dl_at t_X28_moved 8 rfl)) (dl_at t_X28_moved 8 rfl) (cat24 (st := []) (Nat.le_of_ble_eq_true rfl)) (Nat.le_of_ble_eq_true rfl) (Nat.le_of_ble_eq_true rfl) fun v10 g10 => ?_
  refine g_istoreN (pc := 13) X (i := 4) (x := v10) (b := 3) (w := iv v2) (rest := [(2, iv a2), (0, rv D a0), (1, iv a1)]) (Nat.le_of_ble_eq_true rfl) [0, 1, 2, 3] rfl (by decide) rfl rfl (dl_at t_X28_moved 9 rfl) ?_
  refine g_aload_n (pc := 15) X (j := 0) (i := 0) (q := 3) (x := a0) rfl rfl (dl_at t_X28_moved 10 rfl) ?_
  refine r_geti (pc := 16) X fX28_8 hk q2547 (dl_at t_X28_moved 11 rfl) fun g16 => ?_
  refine g_ifne (pc := 19) X g16 (off := 20) (tgt := 39) rfl (dl_at t_X28_moved 12 rfl) (fun _ => ?_) (fun _ => ?_)
  · refine g_lconst0 (pc := 39) X (dl_at t_X28_moved 21 rfl) ?_
    exact g_lret (pc := 40) X (r64_c rfl) rfl rfl (dl_at t_X28_moved 22 rfl)
  refine g_iload (pc := 22) X (i := 4) (q := 0) (x := v10) rfl (dl_at t_X28_moved 13 rfl) ?_
  refine g_aload_n (pc := 24) X (j := 0) (i := 0) (q := 3) (x := a0) rfl rfl (dl_at t_X28_moved 14 rfl) ?_
  refine r_geti (pc := 25) X fX28_16 hk q2558 (dl_at t_X28_moved 15 rfl) fun g25 => ?_
  refine g_join (γ := Unit) (fun q => True) 41 (fun q => [(0, rv D a0), (1, iv a1), (2, iv a2), (3, iv v2), (4, iv v10)]) (fun q => []) (fun q => h) (fun q => m_X28_moved_j41 v10 v2 a2 a0 a1 h) ?_ ?_
  · rintro _ _
    try dsimp only
    unfold m_X28_moved_j41
    refine g_aload_n (pc := 41) X (j := 0) (i := 0) (q := 0) (x := a0) rfl rfl (dl_at t_X28_moved 23 rfl) ?_
    refine g_iload_n (pc := 42) X (j := 3) (i := 3) (q := 3) (x := v2) rfl rfl (dl_at t_X28_moved 24 rfl) ?_
    refine r_callRi (pc := 43) X (fun _ hv => s_X28_widthOf hk g2 hv) cw_code q2890 q396 (in_Vk X (As := [iv v2]) kX28 hk (Or.inl q2887) q2889 qs181 cw_code q2890 ⟨by decide, by decide⟩ rfl (dl_at t_X28_moved 25 rfl)) (dl_at t_X28_moved 25 rfl) (cat24 (st := []) (Nat.le_of_ble_eq_true rfl)) (Nat.le_of_ble_eq_true rfl) (Nat.le_of_ble_eq_true rfl) fun v43 g43 => ?_
    refine g_i2l (pc := 46) X g43 (dl_at t_X28_moved 26 rfl) ?_
    refine g_aload_n (pc := 47) X (j := 0) (i := 0) (q := 0) (x := a0) rfl rfl (dl_at t_X28_moved 27 rfl) ?_
    refine g_iload_n (pc := 48) X (j := 3) (i := 3) (q := 3) (x := v2) rfl rfl (dl_at t_X28_moved 28 rfl) ?_
    refine g_iload (pc := 49) X (i := 4) (q := 4) (x := v10) rfl (dl_at t_X28_moved 29 rfl) ?_
    refine r_callRl (pc := 51) X (fun _ hv => s_X28_natural hk g2 g10 hv) cw_code q2882 q396 (in_Vk X (As := [iv v2, iv v10]) kX28 hk (Or.inl q2879) q2881 qs179 cw_code q2882 ⟨by decide, by decide⟩ rfl (dl_at t_X28_moved 30 rfl)) (dl_at t_X28_moved 30 rfl) (cat24 (st := [jv v43]) (Nat.le_of_ble_eq_true rfl)) (Nat.le_of_ble_eq_true rfl) (Nat.le_of_ble_eq_true rfl) fun v51 g51 => ?_
    refine g_lsub (pc := 54) X (r64_of g43) g51 (dl_at t_X28_moved 31 rfl) ?_
    refine g_ltl (r64_w _) fun x5_55 r5_55 => ?_
    refine g_lstoreN (pc := 55) X (i := 5) (x := x5_55) (b := 4) (w := iv v10) (rest := [(0, rv D a0), (1, iv a1), (2, iv a2), (3, iv v2)]) (Nat.le_of_ble_eq_true rfl) [4, 0, 1, 2, 3] rfl (by decide) (by decide) rfl rfl (dl_at t_X28_moved 32 rfl) ?_
    refine g_aload_n (pc := 57) X (j := 0) (i := 0) (q := 2) (x := a0) rfl rfl (dl_at t_X28_moved 33 rfl) ?_
    refine r_getr (pc := 58) X fX28_0 hk q2528 (dl_at t_X28_moved 34 rfl) ?_
    refine g_gd fun k61 => ?_
    refine r_getrN (pc := 61) X fX15_11 k61 (nw_in q1153 rfl) (dl_at t_X28_moved 35 rfl) ?_
    refine g_aload_n (pc := 64) X (j := 0) (i := 0) (q := 2) (x := a0) rfl rfl (dl_at t_X28_moved 36 rfl) ?_
    refine r_geti (pc := 65) X fX28_15 hk q2557 (dl_at t_X28_moved 37 rfl) fun g65 => ?_
    refine g_iload_n (pc := 68) X (j := 2) (i := 2) (q := 4) (x := a2) rfl rfl (dl_at t_X28_moved 38 rfl) ?_
    refine g_iadd (pc := 69) X g65 r2 (dl_at t_X28_moved 39 rfl) ?_
    refine g_gd fun k70 => ?_
    refine g_lald (pc := 70) X (r32_w _) k70 (dl_at t_X28_moved 40 rfl) fun g70 => ?_
    refine g_aload_n (pc := 71) X (j := 0) (i := 0) (q := 2) (x := a0) rfl rfl (dl_at t_X28_moved 41 rfl) ?_
    refine r_getr (pc := 72) X fX28_0 hk q2528 (dl_at t_X28_moved 42 rfl) ?_
    refine r_getrN (pc := 75) X fX15_11 k61 (nw_in q1153 rfl) (dl_at t_X28_moved 43 rfl) ?_
    refine g_aload_n (pc := 78) X (j := 0) (i := 0) (q := 2) (x := a0) rfl rfl (dl_at t_X28_moved 44 rfl) ?_
    refine r_geti (pc := 79) X fX28_15 hk q2557 (dl_at t_X28_moved 45 rfl) fun g79 => ?_
    refine g_iload_n (pc := 82) X (j := 3) (i := 3) (q := 5) (x := v2) rfl rfl (dl_at t_X28_moved 46 rfl) ?_
    refine g_iadd (pc := 83) X g79 g2 (dl_at t_X28_moved 47 rfl) ?_
    refine g_gd fun k84 => ?_
    refine g_lald (pc := 84) X (r32_w _) k84 (dl_at t_X28_moved 48 rfl) fun g84 => ?_
    refine g_lsub (pc := 85) X g70 g84 (dl_at t_X28_moved 49 rfl) ?_
    refine g_ltl (r64_w _) fun x7_86 r7_86 => ?_
    refine g_lstore (pc := 86) X (i := 7) (x := x7_86) (rest := [(5, jv x5_55), (4, iv v10), (0, rv D a0), (1, iv a1), (2, iv a2), (3, iv v2)]) (Nat.le_of_ble_eq_true rfl) [0, 1, 2, 3, 4, 5] rfl rfl (dl_at t_X28_moved 50 rfl) ?_
    refine g_aload_n (pc := 88) X (j := 0) (i := 0) (q := 3) (x := a0) rfl rfl (dl_at t_X28_moved 51 rfl) ?_
    refine g_iload_n (pc := 89) X (j := 1) (i := 1) (q := 4) (x := a1) rfl rfl (dl_at t_X28_moved 52 rfl) ?_
    refine r_callRi (pc := 90) X (fun _ hv => s_X28_ratioAt hk r1 hv) cw_code q3102 q396 (in_Vk X (As := [iv a1]) kX28 hk (Or.inl q3099) q3101 qs220 cw_code q3102 ⟨by decide, by decide⟩ rfl (dl_at t_X28_moved 53 rfl)) (dl_at t_X28_moved 53 rfl) (cat24 (st := []) (Nat.le_of_ble_eq_true rfl)) (Nat.le_of_ble_eq_true rfl) (Nat.le_of_ble_eq_true rfl) fun v90 g90 => ?_
    refine g_ldc (pc := 93) X (index := 166) (n := (-1000000)) (cneg (by decide) q2894) (dl_at t_X28_moved 54 rfl) ?_
    refine g_icmpne (pc := 95) X g90 (r32_c rfl) (off := 7) (tgt := 102) rfl (dl_at t_X28_moved 55 rfl) (fun _ => ?_) (fun _ => ?_)
    · refine g_lload (pc := 102) X (i := 5) (q := 1) (x := x5_55) rfl (dl_at t_X28_moved 59 rfl) ?_
      refine g_lconst0 (pc := 104) X (dl_at t_X28_moved 60 rfl) ?_
      refine g_lcmp (pc := 105) X r5_55 (r64_c rfl) (dl_at t_X28_moved 61 rfl) ?_
      refine g_ifle (pc := 106) X (r32_lcmp _ _) (off := 66) (tgt := 172) rfl (dl_at t_X28_moved 62 rfl) (fun _ => ?_) (fun _ => ?_)
      · refine g_aload_n (pc := 172) X (j := 0) (i := 0) (q := 3) (x := a0) rfl rfl (dl_at t_X28_moved 99 rfl) ?_
        refine g_aload_n (pc := 173) X (j := 0) (i := 0) (q := 3) (x := a0) rfl rfl (dl_at t_X28_moved 100 rfl) ?_
        refine r_getr (pc := 174) X fX28_0 hk q2528 (dl_at t_X28_moved 101 rfl) ?_
        refine r_getrN (pc := 177) X fX15_11 k61 (nw_in q1153 rfl) (dl_at t_X28_moved 102 rfl) ?_
        refine g_iload_n (pc := 180) X (j := 3) (i := 3) (q := 6) (x := v2) rfl rfl (dl_at t_X28_moved 103 rfl) ?_
        refine g_iload (pc := 181) X (i := 4) (q := 2) (x := v10) rfl (dl_at t_X28_moved 104 rfl) ?_
        refine r_callRl (pc := 183) X (fun _ hv => s_X28_between hk g2 g10 hv) cw_code q2886 q396 (in_Vk X (As := [rv D (h (h a0 0) 11), iv v2, iv v10]) kX28 hk (Or.inl q2883) q2885 qs180 cw_code q2886 ⟨by decide, by decide⟩ rfl (dl_at t_X28_moved 105 rfl)) (dl_at t_X28_moved 105 rfl) (cat24 (st := []) (Nat.le_of_ble_eq_true rfl)) (Nat.le_of_ble_eq_true rfl) (Nat.le_of_ble_eq_true rfl) fun v183 g183 => ?_
        refine g_lstore (pc := 186) X (i := 9) (x := v183) (rest := [(7, jv x7_86), (5, jv x5_55)]) (Nat.le_of_ble_eq_true rfl) [0, 1] rfl rfl (dl_at t_X28_moved 106 rfl) ?_
        refine g_lload (pc := 188) X (i := 9) (q := 0) (x := v183) rfl (dl_at t_X28_moved 107 rfl) ?_
        refine g_lconst0 (pc := 190) X (dl_at t_X28_moved 108 rfl) ?_
        refine g_lcmp (pc := 191) X g183 (r64_c rfl) (dl_at t_X28_moved 109 rfl) ?_
        refine g_ifne (pc := 192) X (r32_lcmp _ _) (off := 7) (tgt := 199) rfl (dl_at t_X28_moved 110 rfl) (fun _ => ?_) (fun _ => ?_)
        · refine g_lload (pc := 199) X (i := 5) (q := 2) (x := x5_55) rfl (dl_at t_X28_moved 113 rfl) ?_
          refine g_lneg (pc := 201) X r5_55 (dl_at t_X28_moved 114 rfl) ?_
          refine g_lload (pc := 202) X (i := 7) (q := 1) (x := x7_86) rfl (dl_at t_X28_moved 115 rfl) ?_
          refine g_lmul (pc := 204) X (r64_w _) r7_86 (dl_at t_X28_moved 116 rfl) ?_
          refine g_lload (pc := 205) X (i := 9) (q := 0) (x := v183) rfl (dl_at t_X28_moved 117 rfl) ?_
          refine g_gd fun z207 => ?_
          refine g_ldiv (pc := 207) X (r64_w _) g183 z207 (dl_at t_X28_moved 118 rfl) ?_
          refine g_lneg (pc := 208) X (r64_w _) (dl_at t_X28_moved 119 rfl) ?_
          exact g_lret (pc := 209) X (r64_w _) rfl rfl (dl_at t_X28_moved 120 rfl)
        refine g_lconst0 (pc := 195) X (dl_at t_X28_moved 111 rfl) ?_
        refine g_goto (pc := 196) X (off := 13) (tgt := 209) rfl (dl_at t_X28_moved 112 rfl) ?_
        exact g_lret (pc := 209) X (r64_c rfl) rfl rfl (dl_at t_X28_moved 120 rfl)
      refine g_aload_n (pc := 109) X (j := 0) (i := 0) (q := 3) (x := a0) rfl rfl (dl_at t_X28_moved 63 rfl) ?_
      refine g_aload_n (pc := 110) X (j := 0) (i := 0) (q := 3) (x := a0) rfl rfl (dl_at t_X28_moved 64 rfl) ?_
      refine r_getr (pc := 111) X fX28_0 hk q2528 (dl_at t_X28_moved 65 rfl) ?_
      refine r_getrN (pc := 114) X fX15_10 k61 (nw_in q1151 rfl) (dl_at t_X28_moved 66 rfl) ?_
      refine g_iload_n (pc := 117) X (j := 3) (i := 3) (q := 6) (x := v2) rfl rfl (dl_at t_X28_moved 67 rfl) ?_
      refine g_iload (pc := 118) X (i := 4) (q := 2) (x := v10) rfl (dl_at t_X28_moved 68 rfl) ?_
      refine r_callRl (pc := 120) X (fun _ hv => s_X28_between hk g2 g10 hv) cw_code q2886 q396 (in_Vk X (As := [rv D (h (h a0 0) 10), iv v2, iv v10]) kX28 hk (Or.inl q2883) q2885 qs180 cw_code q2886 ⟨by decide, by decide⟩ rfl (dl_at t_X28_moved 69 rfl)) (dl_at t_X28_moved 69 rfl) (cat24 (st := []) (Nat.le_of_ble_eq_true rfl)) (Nat.le_of_ble_eq_true rfl) (Nat.le_of_ble_eq_true rfl) fun v120 g120 => ?_
      refine g_lstore (pc := 123) X (i := 9) (x := v120) (rest := [(5, jv x5_55), (0, rv D a0), (2, iv a2), (3, iv v2)]) (Nat.le_of_ble_eq_true rfl) [1, 3, 5, 6] rfl rfl (dl_at t_X28_moved 70 rfl) ?_
      refine g_lload (pc := 125) X (i := 9) (q := 0) (x := v120) rfl (dl_at t_X28_moved 71 rfl) ?_
      refine g_lconst0 (pc := 127) X (dl_at t_X28_moved 72 rfl) ?_
      refine g_lcmp (pc := 128) X g120 (r64_c rfl) (dl_at t_X28_moved 73 rfl) ?_
      refine g_ifne (pc := 129) X (r32_lcmp _ _) (off := 7) (tgt := 136) rfl (dl_at t_X28_moved 74 rfl) (fun _ => ?_) (fun _ => ?_)
      · refine g_lload (pc := 136) X (i := 5) (q := 1) (x := x5_55) rfl (dl_at t_X28_moved 77 rfl) ?_
        refine g_aload_n (pc := 138) X (j := 0) (i := 0) (q := 2) (x := a0) rfl rfl (dl_at t_X28_moved 78 rfl) ?_
        refine r_getr (pc := 139) X fX28_0 hk q2528 (dl_at t_X28_moved 79 rfl) ?_
        refine r_getrN (pc := 142) X fX15_10 k61 (nw_in q1151 rfl) (dl_at t_X28_moved 80 rfl) ?_
        refine g_aload_n (pc := 145) X (j := 0) (i := 0) (q := 2) (x := a0) rfl rfl (dl_at t_X28_moved 81 rfl) ?_
        refine r_geti (pc := 146) X fX28_15 hk q2557 (dl_at t_X28_moved 82 rfl) fun g146 => ?_
        refine g_iload_n (pc := 149) X (j := 2) (i := 2) (q := 3) (x := a2) rfl rfl (dl_at t_X28_moved 83 rfl) ?_
        refine g_iadd (pc := 150) X g146 r2 (dl_at t_X28_moved 84 rfl) ?_
        refine g_gd fun k151 => ?_
        refine g_lald (pc := 151) X (r32_w _) k151 (dl_at t_X28_moved 85 rfl) fun g151 => ?_
        refine g_aload_n (pc := 152) X (j := 0) (i := 0) (q := 2) (x := a0) rfl rfl (dl_at t_X28_moved 86 rfl) ?_
        refine r_getr (pc := 153) X fX28_0 hk q2528 (dl_at t_X28_moved 87 rfl) ?_
        refine r_getrN (pc := 156) X fX15_10 k61 (nw_in q1151 rfl) (dl_at t_X28_moved 88 rfl) ?_
        refine g_aload_n (pc := 159) X (j := 0) (i := 0) (q := 2) (x := a0) rfl rfl (dl_at t_X28_moved 89 rfl) ?_
        refine r_geti (pc := 160) X fX28_15 hk q2557 (dl_at t_X28_moved 90 rfl) fun g160 => ?_
        refine g_iload_n (pc := 163) X (j := 3) (i := 3) (q := 4) (x := v2) rfl rfl (dl_at t_X28_moved 91 rfl) ?_
        refine g_iadd (pc := 164) X g160 g2 (dl_at t_X28_moved 92 rfl) ?_
        refine g_gd fun k165 => ?_
        refine g_lald (pc := 165) X (r32_w _) k165 (dl_at t_X28_moved 93 rfl) fun g165 => ?_
        refine g_lsub (pc := 166) X g151 g165 (dl_at t_X28_moved 94 rfl) ?_
        refine g_lmul (pc := 167) X r5_55 (r64_w _) (dl_at t_X28_moved 95 rfl) ?_
        refine g_lload (pc := 168) X (i := 9) (q := 0) (x := v120) rfl (dl_at t_X28_moved 96 rfl) ?_
        refine g_gd fun z170 => ?_
        refine g_ldiv (pc := 170) X (r64_w _) g120 z170 (dl_at t_X28_moved 97 rfl) ?_
        exact g_lret (pc := 171) X (r64_w _) rfl rfl (dl_at t_X28_moved 98 rfl)
      refine g_lconst0 (pc := 132) X (dl_at t_X28_moved 75 rfl) ?_
      refine g_goto (pc := 133) X (off := 38) (tgt := 171) rfl (dl_at t_X28_moved 76 rfl) ?_
      exact g_lret (pc := 171) X (r64_c rfl) rfl rfl (dl_at t_X28_moved 98 rfl)
    refine g_lload (pc := 98) X (i := 7) (q := 0) (x := x7_86) rfl (dl_at t_X28_moved 56 rfl) ?_
    refine g_lneg (pc := 100) X r7_86 (dl_at t_X28_moved 57 rfl) ?_
    exact g_lret (pc := 101) X (r64_w _) rfl rfl (dl_at t_X28_moved 58 rfl)
  intro J41
  refine g_icmpne (pc := 28) X g10 g25 (off := 13) (tgt := 41) rfl (dl_at t_X28_moved 16 rfl) (fun _ => ?_) (fun _ => ?_)
  · refine g_ls (ls2 := [(0, rv D a0), (1, iv a1), (2, iv a2), (3, iv v2), (4, iv v10)]) [3, 4, 2, 1, 0] rfl ?_
    exact J41 () trivial
  refine g_aload_n (pc := 31) X (j := 0) (i := 0) (q := 3) (x := a0) rfl rfl (dl_at t_X28_moved 17 rfl) ?_
  refine g_iload_n (pc := 32) X (j := 1) (i := 1) (q := 4) (x := a1) rfl rfl (dl_at t_X28_moved 18 rfl) ?_
  refine r_callRi (pc := 33) X (fun _ hv => s_X28_ratioAt hk r1 hv) cw_code q3102 q396 (in_Vk X (As := [iv a1]) kX28 hk (Or.inl q3099) q3101 qs220 cw_code q3102 ⟨by decide, by decide⟩ rfl (dl_at t_X28_moved 19 rfl)) (dl_at t_X28_moved 19 rfl) (cat24 (st := []) (Nat.le_of_ble_eq_true rfl)) (Nat.le_of_ble_eq_true rfl) (Nat.le_of_ble_eq_true rfl) fun v33 g33 => ?_
  refine g_iflt (pc := 36) X g33 (off := 5) (tgt := 41) rfl (dl_at t_X28_moved 20 rfl) (fun _ => ?_) (fun _ => ?_)
  · refine g_ls (ls2 := [(0, rv D a0), (1, iv a1), (2, iv a2), (3, iv v2), (4, iv v10)]) [3, 4, 2, 1, 0] rfl ?_
    exact J41 () trivial
  refine g_lconst0 (pc := 39) X (dl_at t_X28_moved 21 rfl) ?_
  exact g_lret (pc := 40) X (r64_c rfl) rfl rfl (dl_at t_X28_moved 22 rfl)
def k_X28_spot : List (Nat × Instr × Nat) := [(0, .aload_n 0, 1), (1, .iload_n 1, 1), (2, .invokevirtual 237, 3), (5, .istore_n 3, 1), (6, .iload_n 2, 1), (7, .ifCond .ne 10, 3), (10, .aload_n 0, 1), (11, .iload_n 1, 1), (12, .invokevirtual 254, 3), (15, .i2l, 1), (16, .lreturn, 1), (17, .iload_n 2, 1), (18, .istore 4, 2), (20, .iload_n 3, 1), (21, .iconst 1, 1), (22, .iadd, 1), (23, .istore 5, 2), (25, .iload 5, 2), (27, .aload_n 0, 1), (28, .iload_n 1, 1), (29, .iconst 1, 1), (30, .iadd, 1), (31, .invokevirtual 237, 3), (34, .if_icmp .ge 70, 3), (37, .aload_n 0, 1), (38, .iload 5, 2), (40, .invokevirtual 85, 3), (43, .ifCond .eq 6, 3), (46, .goto 52, 3), (49, .iinc 4 (-1), 3), (52, .iload 4, 2), (54, .ifCond .ne 44, 3), (57, .aload_n 0, 1), (58, .iload_n 1, 1), (59, .invokevirtual 254, 3), (62, .i2l, 1), (63, .aload_n 0, 1), (64, .iload 5, 2), (66, .invokevirtual 145, 3), (69, .ladd, 1), (70, .aload_n 0, 1), (71, .iload_n 3, 1), (72, .invokevirtual 145, 3), (75, .lsub, 1), (76, .aload_n 0, 1), (77, .iload 5, 2), (79, .invokevirtual 152, 3), (82, .ladd, 1), (83, .aload_n 0, 1), (84, .iload_n 3, 1), (85, .invokevirtual 152, 3), (88, .lsub, 1), (89, .aload_n 0, 1), (90, .iload_n 1, 1), (91, .iload 5, 2), (93, .invokevirtual 257, 3), (96, .ladd, 1), (97, .lreturn, 1), (98, .iinc 5 1, 3), (101, .goto (-76), 3), (104, .ldc2_w 244, 3), (107, .lreturn, 1)]
theorem t_X28_spot : ∀ q ∈ k_X28_spot, decode cX28_spot q.1 = .ok q.2 := dl_all (by decide +kernel)
noncomputable def m_X28_spot_j98 (x5_25 x4_98 : Int) : Option ((Int × Int) ⊕ ((Int) ⊕ ((Int)))) :=
  lt_ (w32 (x5_25 + 1)) fun x5_98 =>
  some (.inl (x4_98, x5_98))
noncomputable def m_X28_spot_l25 (a0 a1 x4_25 x5_25 : Int) (h : Hp) : Option ((Int × Int) ⊕ ((Int) ⊕ ((Int)))) :=
  (m_X28_breakOf a0 (w32 (a1 + 1)) h).bind fun v31 =>
  if v31 ≤ x5_25 then (some (.inr (.inr (-1))))
  else ((m_X28_kind a0 x5_25 h).bind fun v40 =>
  if v40 = 0 then (lt_ (w32 (x4_25 + (-1))) fun x4_49 =>
  if x4_49 ≠ 0 then (m_X28_spot_j98 x5_25 x4_49)
  else (some (.inr (.inl x5_25))))
  else (m_X28_spot_j98 x5_25 x4_25))
noncomputable def m_X28_spot (a0 a1 a2 : Int) (h : Hp) : Option (Int) :=
  (m_X28_breakOf a0 a1 h).bind fun v2 =>
  if a2 ≠ 0 then (lt_ (w32 (v2 + 1)) fun x5_23 =>
  (lp (fun (q : Int × Int) => m_X28_spot_l25 a0 a1 q.1 q.2 h) (a2, x5_23)).bind (sE (fun (y57 : Int) => (m_X28_startOf a0 a1 h).bind fun v59 =>
  (m_X28_parts a0 y57 h).bind fun v66 =>
  (m_X28_parts a0 v2 h).bind fun v72 =>
  (m_X28_glues a0 y57 h).bind fun v79 =>
  (m_X28_glues a0 v2 h).bind fun v85 =>
  (m_X28_moved a0 a1 y57 h).bind fun v93 =>
  some (w64 ((w64 ((w64 ((w64 ((w64 (v59 + v66)) - v72)) + v79)) - v85)) + v93))) (fun (x : Int) => some x)))
  else ((m_X28_startOf a0 a1 h).bind fun v12 =>
  some v12)
theorem s_X28_spot {l : Launch} [NoTr l] {D : SD} {a0 a1 a2 : Int} {h : Hp} (hk : h a0 (-2) = 288) (r1 : r32 a1) (r2 : r32 a2) {r : Int} (hm : m_X28_spot a0 a1 a2 h = some r) : Sim l D yX28_spot (Cond.code yX28_spot cX28_spot 6 (Option.some Jvm.ClassFile.FieldType.long)) 3 123 [rv D a0, iv a1, iv a2] h 4 ((0, r), h) := by
  refine Sim.of (fin := fun (v : Int) => ((0, v), h)) (lsE := [(0, rv D a0), (1, iv a1), (2, iv a2)]) hm rfl cwS_code (la_r (la_i (la_i la_n))) (ll_r (ll_i (ll_i ll_n))) ?_
  intro p e s m below meth c X hcw hmm hcc hnm hname
  unfold m_X28_spot
  refine g_aload_n (pc := 0) X (j := 0) (i := 0) (q := 0) (x := a0) rfl rfl (dl_at t_X28_spot 0 rfl) ?_
  refine g_iload_n (pc := 1) X (j := 1) (i := 1) (q := 1) (x := a1) rfl rfl (dl_at t_X28_spot 1 rfl) ?_
  refine r_callRi (pc := 2) X (fun _ hv => s_X28_breakOf hk r1 hv) cw_code q2939 q396 (in_Vk X (As := [iv a1]) kX28 hk (Or.inl q2936) q2938 qs189 cw_code q2939 ⟨by decide, by decide⟩ rfl (dl_at t_X28_spot 2 rfl)) (dl_at t_X28_spot 2 rfl) (cat24 (st := []) (Nat.le_of_ble_eq_true rfl)) (Nat.le_of_ble_eq_true rfl) (Nat.le_of_ble_eq_true rfl) fun v2 g2 => ?_
  refine g_istore_nN (pc := 5) X (j := 3) (i := 3) (x := v2) (b := 2) (w := iv a2) (rest := [(0, rv D a0), (1, iv a1)]) rfl (Nat.le_of_ble_eq_true rfl) [2, 0, 1] rfl (by decide) rfl rfl (dl_at t_X28_spot 3 rfl) ?_
  refine g_iload_n (pc := 6) X (j := 2) (i := 2) (q := 1) (x := a2) rfl rfl (dl_at t_X28_spot 4 rfl) ?_
  refine g_ifne (pc := 7) X r2 (off := 10) (tgt := 17) rfl (dl_at t_X28_spot 5 rfl) (fun _ => ?_) (fun _ => ?_)
  · refine g_iload_n (pc := 17) X (j := 2) (i := 2) (q := 1) (x := a2) rfl rfl (dl_at t_X28_spot 11 rfl) ?_
    refine g_istoreN (pc := 18) X (i := 4) (x := a2) (b := 3) (w := iv v2) (rest := [(0, rv D a0), (1, iv a1)]) (Nat.le_of_ble_eq_true rfl) [0, 2, 3] rfl (by decide) rfl rfl (dl_at t_X28_spot 12 rfl) ?_
    refine g_iload_n (pc := 20) X (j := 3) (i := 3) (q := 1) (x := v2) rfl rfl (dl_at t_X28_spot 13 rfl) ?_
    refine g_iconst (pc := 21) X (n := 1) (dl_at t_X28_spot 14 rfl) ?_
    refine g_iadd (pc := 22) X g2 (r32_c rfl) (dl_at t_X28_spot 15 rfl) ?_
    refine g_lti (r32_w _) fun x5_23 r5_23 => ?_
    refine g_istoreN (pc := 23) X (i := 5) (x := x5_23) (b := 4) (w := iv a2) (rest := [(3, iv v2), (0, rv D a0), (1, iv a1)]) (Nat.le_of_ble_eq_true rfl) [0, 1, 2, 3] rfl (by decide) rfl rfl (dl_at t_X28_spot 16 rfl) ?_
    refine g_ls (ls2 := [(0, rv D a0), (1, iv a1), (3, iv v2), (4, iv a2), (5, iv x5_23)]) [3, 4, 2, 1, 0] rfl ?_
    refine g_loop1F (fun (q : Int × Int) => [(0, rv D a0), (1, iv a1), (3, iv v2), (4, iv q.1), (5, iv q.2)]) (fun (q : Int × Int) => h) (fun (q : Int × Int) => r32 q.1 ∧ r32 q.2) 57 (fun (y57 : Int) => [(0, rv D a0), (1, iv a1), (3, iv v2), (5, iv y57)]) (fun (y57 : Int) => h) (fun (y57 : Int) => r32 y57) (a2, x5_23) ⟨r2, r5_23⟩ ?_ ?_ (fun _ => rfl)
    · rintro ⟨x4_25, x5_25⟩ ⟨r4_25, r5_25⟩
      try dsimp only
      unfold m_X28_spot_l25
      refine g_iload (pc := 25) X (i := 5) (q := 4) (x := x5_25) rfl (dl_at t_X28_spot 17 rfl) ?_
      refine g_aload_n (pc := 27) X (j := 0) (i := 0) (q := 0) (x := a0) rfl rfl (dl_at t_X28_spot 18 rfl) ?_
      refine g_iload_n (pc := 28) X (j := 1) (i := 1) (q := 1) (x := a1) rfl rfl (dl_at t_X28_spot 19 rfl) ?_
      refine g_iconst (pc := 29) X (n := 1) (dl_at t_X28_spot 20 rfl) ?_
      refine g_iadd (pc := 30) X r1 (r32_c rfl) (dl_at t_X28_spot 21 rfl) ?_
      refine r_callRi (pc := 31) X (fun _ hv => s_X28_breakOf hk (r32_w _) hv) cw_code q2939 q396 (in_Vk X (As := [iv (w32 (a1 + 1))]) kX28 hk (Or.inl q2936) q2938 qs189 cw_code q2939 ⟨by decide, by decide⟩ rfl (dl_at t_X28_spot 22 rfl)) (dl_at t_X28_spot 22 rfl) (cat24 (st := [iv x5_25]) (Nat.le_of_ble_eq_true rfl)) (Nat.le_of_ble_eq_true rfl) (Nat.le_of_ble_eq_true rfl) fun v31 g31 => ?_
      refine g_icmpge (pc := 34) X r5_25 g31 (off := 70) (tgt := 104) rfl (dl_at t_X28_spot 23 rfl) (fun _ => ?_) (fun _ => ?_)
      · refine g_ldc2 (pc := 104) X (index := 244) (n := (-1)) (cnegL (by decide) q3125) (dl_at t_X28_spot 60 rfl) ?_
        exact g_at fun Q hQ => (g_lret (pc := 107) X (r64_c rfl) rfl rfl (dl_at t_X28_spot 61 rfl)) _ Q rfl hQ
      refine g_aload_n (pc := 37) X (j := 0) (i := 0) (q := 0) (x := a0) rfl rfl (dl_at t_X28_spot 24 rfl) ?_
      refine g_iload (pc := 38) X (i := 5) (q := 4) (x := x5_25) rfl (dl_at t_X28_spot 25 rfl) ?_
      refine r_callRi (pc := 40) X (fun _ hv => s_X28_kind hk r5_25 hv) cw_code q2862 q396 (in_Vk X (As := [iv x5_25]) kX28 hk (Or.inl q2859) q2861 qs174 cw_code q2862 ⟨by decide, by decide⟩ rfl (dl_at t_X28_spot 26 rfl)) (dl_at t_X28_spot 26 rfl) (cat24 (st := []) (Nat.le_of_ble_eq_true rfl)) (Nat.le_of_ble_eq_true rfl) (Nat.le_of_ble_eq_true rfl) fun v40 g40 => ?_
      refine g_join (γ := Int) (fun q => r32 q) 98 (fun q => [(0, rv D a0), (1, iv a1), (3, iv v2), (4, iv q), (5, iv x5_25)]) (fun q => []) (fun q => h) (fun q => m_X28_spot_j98 x5_25 q) ?_ ?_
      · rintro x4_98 r4_98
        try dsimp only
        unfold m_X28_spot_j98
        refine r_iincN (pc := 98) X (i := 5) (q := 4) (n := 1) (x := x5_25) (b := 4) (w := iv x4_98) (rest := [(0, rv D a0), (1, iv a1), (3, iv v2)]) rfl r5_25 (r32_c rfl) (Nat.le_of_ble_eq_true rfl) [3, 0, 1, 2] rfl (by decide) rfl rfl (dl_at t_X28_spot 58 rfl) fun x5_98 r5_98 => ?_
        refine g_goto (pc := 101) X (off := (-76)) (tgt := 25) rfl (dl_at t_X28_spot 59 rfl) ?_
        refine g_ls (ls2 := [(0, rv D a0), (1, iv a1), (3, iv v2), (4, iv x4_98), (5, iv x5_98)]) [2, 3, 4, 1, 0] rfl ?_
        exact g_at fun Q hQ => hQ ⟨r4_98, r5_98⟩
      intro J98
      refine g_ifeq (pc := 43) X g40 (off := 6) (tgt := 49) rfl (dl_at t_X28_spot 27 rfl) (fun _ => ?_) (fun _ => ?_)
      · refine r_iincN (pc := 49) X (i := 4) (q := 3) (n := (-1)) (x := x4_25) (b := 3) (w := iv v2) (rest := [(0, rv D a0), (1, iv a1), (5, iv x5_25)]) rfl r4_25 (r32_c rfl) (Nat.le_of_ble_eq_true rfl) [2, 0, 1, 4] rfl (by decide) rfl rfl (dl_at t_X28_spot 29 rfl) fun x4_49 r4_49 => ?_
        refine g_iload (pc := 52) X (i := 4) (q := 0) (x := x4_49) rfl (dl_at t_X28_spot 30 rfl) ?_
        refine g_ifne (pc := 54) X r4_49 (off := 44) (tgt := 98) rfl (dl_at t_X28_spot 31 rfl) (fun _ => ?_) (fun _ => ?_)
        · refine g_ls (ls2 := [(0, rv D a0), (1, iv a1), (3, iv v2), (4, iv x4_49), (5, iv x5_25)]) [2, 3, 1, 0, 4] rfl ?_
          exact J98 x4_49 r4_49
        refine g_ls (ls2 := [(0, rv D a0), (1, iv a1), (3, iv v2), (5, iv x5_25)]) [2, 3, 1, 4] rfl ?_
        exact g_at fun Q hQ => hQ r5_25
      refine g_goto (pc := 46) X (off := 52) (tgt := 98) rfl (dl_at t_X28_spot 28 rfl) ?_
      exact J98 x4_25 r4_25
    · rintro x5_57 r5_57
      try dsimp only [sE]
      refine g_aload_n (pc := 57) X (j := 0) (i := 0) (q := 0) (x := a0) rfl rfl (dl_at t_X28_spot 32 rfl) ?_
      refine g_iload_n (pc := 58) X (j := 1) (i := 1) (q := 1) (x := a1) rfl rfl (dl_at t_X28_spot 33 rfl) ?_
      refine r_callRi (pc := 59) X (fun _ hv => s_X28_startOf hk r1 hv) cw_code q3107 q396 (in_Vk X (As := [iv a1]) kX28 hk (Or.inl q3120) q3106 qs221 cw_code q3107 ⟨by decide, by decide⟩ rfl (dl_at t_X28_spot 34 rfl)) (dl_at t_X28_spot 34 rfl) (cat24 (st := []) (Nat.le_of_ble_eq_true rfl)) (Nat.le_of_ble_eq_true rfl) (Nat.le_of_ble_eq_true rfl) fun v59 g59 => ?_
      refine g_i2l (pc := 62) X g59 (dl_at t_X28_spot 35 rfl) ?_
      refine g_aload_n (pc := 63) X (j := 0) (i := 0) (q := 0) (x := a0) rfl rfl (dl_at t_X28_spot 36 rfl) ?_
      refine g_iload (pc := 64) X (i := 5) (q := 3) (x := x5_57) rfl (dl_at t_X28_spot 37 rfl) ?_
      refine r_callRl (pc := 66) X (fun _ hv => s_X28_parts hk r5_57 hv) cw_code q2795 q396 (in_Vk X (As := [iv x5_57]) kX28 hk (Or.inl q2792) q2794 qs160 cw_code q2795 ⟨by decide, by decide⟩ rfl (dl_at t_X28_spot 38 rfl)) (dl_at t_X28_spot 38 rfl) (cat24 (st := [jv v59]) (Nat.le_of_ble_eq_true rfl)) (Nat.le_of_ble_eq_true rfl) (Nat.le_of_ble_eq_true rfl) fun v66 g66 => ?_
      refine g_ladd (pc := 69) X (r64_of g59) g66 (dl_at t_X28_spot 39 rfl) ?_
      refine g_aload_n (pc := 70) X (j := 0) (i := 0) (q := 0) (x := a0) rfl rfl (dl_at t_X28_spot 40 rfl) ?_
      refine g_iload_n (pc := 71) X (j := 3) (i := 3) (q := 2) (x := v2) rfl rfl (dl_at t_X28_spot 41 rfl) ?_
      refine r_callRl (pc := 72) X (fun _ hv => s_X28_parts hk g2 hv) cw_code q2795 q396 (in_Vk X (As := [iv v2]) kX28 hk (Or.inl q2792) q2794 qs160 cw_code q2795 ⟨by decide, by decide⟩ rfl (dl_at t_X28_spot 42 rfl)) (dl_at t_X28_spot 42 rfl) (cat24 (st := [jv (w64 (v59 + v66))]) (Nat.le_of_ble_eq_true rfl)) (Nat.le_of_ble_eq_true rfl) (Nat.le_of_ble_eq_true rfl) fun v72 g72 => ?_
      refine g_lsub (pc := 75) X (r64_w _) g72 (dl_at t_X28_spot 43 rfl) ?_
      refine g_aload_n (pc := 76) X (j := 0) (i := 0) (q := 0) (x := a0) rfl rfl (dl_at t_X28_spot 44 rfl) ?_
      refine g_iload (pc := 77) X (i := 5) (q := 3) (x := x5_57) rfl (dl_at t_X28_spot 45 rfl) ?_
      refine r_callRl (pc := 79) X (fun _ hv => s_X28_glues hk r5_57 hv) cw_code q2803 q396 (in_Vk X (As := [iv x5_57]) kX28 hk (Or.inl q2800) q2802 qs162 cw_code q2803 ⟨by decide, by decide⟩ rfl (dl_at t_X28_spot 46 rfl)) (dl_at t_X28_spot 46 rfl) (cat24 (st := [jv (w64 ((w64 (v59 + v66)) - v72))]) (Nat.le_of_ble_eq_true rfl)) (Nat.le_of_ble_eq_true rfl) (Nat.le_of_ble_eq_true rfl) fun v79 g79 => ?_
      refine g_ladd (pc := 82) X (r64_w _) g79 (dl_at t_X28_spot 47 rfl) ?_
      refine g_aload_n (pc := 83) X (j := 0) (i := 0) (q := 0) (x := a0) rfl rfl (dl_at t_X28_spot 48 rfl) ?_
      refine g_iload_n (pc := 84) X (j := 3) (i := 3) (q := 2) (x := v2) rfl rfl (dl_at t_X28_spot 49 rfl) ?_
      refine r_callRl (pc := 85) X (fun _ hv => s_X28_glues hk g2 hv) cw_code q2803 q396 (in_Vk X (As := [iv v2]) kX28 hk (Or.inl q2800) q2802 qs162 cw_code q2803 ⟨by decide, by decide⟩ rfl (dl_at t_X28_spot 50 rfl)) (dl_at t_X28_spot 50 rfl) (cat24 (st := [jv (w64 ((w64 ((w64 (v59 + v66)) - v72)) + v79))]) (Nat.le_of_ble_eq_true rfl)) (Nat.le_of_ble_eq_true rfl) (Nat.le_of_ble_eq_true rfl) fun v85 g85 => ?_
      refine g_lsub (pc := 88) X (r64_w _) g85 (dl_at t_X28_spot 51 rfl) ?_
      refine g_aload_n (pc := 89) X (j := 0) (i := 0) (q := 0) (x := a0) rfl rfl (dl_at t_X28_spot 52 rfl) ?_
      refine g_iload_n (pc := 90) X (j := 1) (i := 1) (q := 1) (x := a1) rfl rfl (dl_at t_X28_spot 53 rfl) ?_
      refine g_iload (pc := 91) X (i := 5) (q := 3) (x := x5_57) rfl (dl_at t_X28_spot 54 rfl) ?_
      refine r_callRl (pc := 93) X (fun _ hv => s_X28_moved hk r1 r5_57 hv) cw_code q3124 q396 (in_Vk X (As := [iv a1, iv x5_57]) kX28 hk (Or.inl q3121) q3123 qs223 cw_code q3124 ⟨by decide, by decide⟩ rfl (dl_at t_X28_spot 55 rfl)) (dl_at t_X28_spot 55 rfl) (cat24 (st := [jv (w64 ((w64 ((w64 ((w64 (v59 + v66)) - v72)) + v79)) - v85))]) (Nat.le_of_ble_eq_true rfl)) (Nat.le_of_ble_eq_true rfl) (Nat.le_of_ble_eq_true rfl) fun v93 g93 => ?_
      refine g_ladd (pc := 96) X (r64_w _) g93 (dl_at t_X28_spot 56 rfl) ?_
      exact g_lret (pc := 97) X (r64_w _) rfl rfl (dl_at t_X28_spot 57 rfl)
  refine g_aload_n (pc := 10) X (j := 0) (i := 0) (q := 2) (x := a0) rfl rfl (dl_at t_X28_spot 6 rfl) ?_
  refine g_iload_n (pc := 11) X (j := 1) (i := 1) (q := 3) (x := a1) rfl rfl (dl_at t_X28_spot 7 rfl) ?_
  refine r_callRi (pc := 12) X (fun _ hv => s_X28_startOf hk r1 hv) cw_code q3107 q396 (in_Vk X (As := [iv a1]) kX28 hk (Or.inl q3120) q3106 qs221 cw_code q3107 ⟨by decide, by decide⟩ rfl (dl_at t_X28_spot 8 rfl)) (dl_at t_X28_spot 8 rfl) (cat24 (st := []) (Nat.le_of_ble_eq_true rfl)) (Nat.le_of_ble_eq_true rfl) (Nat.le_of_ble_eq_true rfl) fun v12 g12 => ?_
  refine g_i2l (pc := 15) X g12 (dl_at t_X28_spot 9 rfl) ?_
  exact g_lret (pc := 16) X (r64_of g12) rfl rfl (dl_at t_X28_spot 10 rfl)
