set_option maxRecDepth 100000
theorem cneg {own : String} {i : Nat} {n : Int} {x : Int32} (h : x = Int32.ofInt n) (q : Cond.constant own i x ∈ lw_all) : Cond.constant own i (Int32.ofInt n) ∈ lw_all := h ▸ q
/-! STRING CONSTANTS -/
section GS
variable {p : Program} {l : Launch} {e : Env} {R : Room} {s : State} {m : MethodId} {args : Array Value} {below : List Frame} {meth : Method} {c : Code} {D : SD} {h0 : Hp} {nL : Nat} {cc : ByteArray} {own : String} {ret : Option FieldType} {pc : Nat} {ls : List (Nat × Value)} {st : List Value} {h : Hp}
variable {α : Type} {Φ : α → (State → Prop) → Prop} {k : Option α}
theorem G_is {b : Prop} [Decidable b] (g : G p l e R s m args below meth c D h0 nL Φ pc ls st h (if b then k else k)) : G p l e R s m args below meth c D h0 nL Φ pc ls st h k := by rwa [ite_self] at g
theorem keepH {H : Heap} (hR : RelE D h0 h H) : ∀ a : Nat, a < D.H0.size → ¬ AB D a → H[a]? = D.H0[a]? := fun a _ hA => hR.1.2.2.2.1 a (Nat.not_le.mp hA)
theorem g_aldR (X : CX D p R s m args meth c h0 cc own nL ret) {j : Fin 4} {i q x : Nat} (hi : (j : Nat) = i) (hq : ls[q]? = some (i, .ref x)) (hd : decode cc pc = .ok (.aload_n j, 1)) (g : G p l e R s m args below meth c D h0 nL Φ (pc + 1) ls (.ref x :: st) h k) : G p l e R s m args below meth c D h0 nL Φ pc ls st h k :=
  G.lift (fun Q a H locs lsA hR hL hl => lv_aload_n X.1 X.2.1 hd hi (lv_at hl q hq) (a H locs lsA hR hL hl)) g
theorem g_getC (X : CX D p R s m args meth c h0 cc own nL ret) {o n d : String} {q index : Nat} {v : Value} (hE : va_OF o n d v q (AB D) s D.H0) (hw : Cond.fieldLink own index o n d ∈ lw_all) (hd : decode cc pc = .ok (.getfield index, 3)) (g : G p l e R s m args below meth c D h0 nL Φ (pc + 3) ls (v :: st) h k) : G p l e R s m args below meth c D h0 nL Φ pc ls (.ref q :: st) h k :=
  G.lift (fun Q a H locs lsA hR hL hl => by
    obtain ⟨cf, k, fi, f, cell, h1, h2, h3, h4, h5, h6⟩ := hE.kept (keepH hR)
    exact W.getf X.1 X.2.1 X.2.2.2.2.1 (X.2.2.2.2.2.1 _ hw) h1 h2 h3 h4 (v := v) h5 rfl rfl hd (a H locs lsA hR hL hl)) g
theorem g_getsC (X : CX D p R s m args meth c h0 cc own nL ret) {C n d : String} {index : Nat} {v : Value} (hZ : va_Z C n d v (AB D) s D.H0) (hw : Cond.fieldLink own index C n d ∈ lw_all) (hd : decode cc pc = .ok (.getstatic index, 3)) (g : G p l e R s m args below meth c D h0 nL Φ (pc + 3) ls (v :: st) h k) : G p l e R s m args below meth c D h0 nL Φ pc ls st h k :=
  G.lift (fun Q a H locs lsA hR hL hl => by
    obtain ⟨cf, kf, fi, f, a1, cell, h1, h2, h3, h4, h5, h6, h7, h8⟩ := hZ.kept (keepH hR)
    exact W.gets X.1 X.2.1 X.2.2.2.2.1 (X.2.2.2.2.2.1 _ hw) h1 h2 h3 h4 h5 (fun e => by rw [e] at h6; cases h6) h7 rfl hd (a H locs lsA hR hL hl)) g
theorem g_lenC (X : CX D p R s m args meth c h0 cc own nL ret) {t N : Nat} {f : Nat → Value} (hT : va_T .byte t N f (AB D) s D.H0) (hN : N < 2147483648) (hd : decode cc pc = .ok (.arraylength, 1)) (g : G p l e R s m args below meth c D h0 nL Φ (pc + 1) ls (iv (N : Int) :: st) h k) : G p l e R s m args below meth c D h0 nL Φ pc ls (.ref t :: st) h k :=
  G.lift (fun Q a H locs lsA hR hL hl => by
    obtain ⟨cell, h1, h2, h3, h4, h5, h6, h7⟩ := hT.kept (keepH hR)
    refine W.alen X.1 X.2.1 (n := Int32.ofInt (N : Int)) h1 h2 ?_ rfl rfl hd (a H locs lsA hR hL hl)
    rw [h5]
    apply i_eq
    rw [Int32.toInt_ofNat_of_lt (by omega), w32_id (by unfold r32; omega)]) g
theorem g_tbC (X : CX D p R s m args meth c h0 cc own nL ret) {t N : Nat} {f : Nat → Value} {i : Int} (hT : va_T .byte t N f (AB D) s D.H0) (hN : N < 2147483648) (ri : r32 i) (h0i : 0 ≤ i) (hi : i < N) (hd : decode cc pc = .ok (.baload, 1)) (g : G p l e R s m args below meth c D h0 nL Φ (pc + 1) ls (f i.toNat :: st) h k) : G p l e R s m args below meth c D h0 nL Φ pc ls (iv i :: .ref t :: st) h k :=
  G.lift (fun Q a H locs lsA hR hL hl => by
    obtain ⟨cell, h1, h2, h3, h4, h5, h6, h7⟩ := hT.kept (keepH hR)
    have hc : (Int32.ofInt i).toNatClampNeg = i.toNat := by
      show (Int32.ofInt i).toInt.toNat = _
      rw [i_toInt ri]
    have hin' := in_i ri h0i hi
    have hin2 : ¬ (Int32.ofInt i < 0 ∨ cell.slots.size ≤ (Int32.ofInt i).toNatClampNeg) := fun q => by
      rcases q with q | q
      · exact in_i (n := cell.slots.size) ri h0i (by omega) (Or.inl q)
      · rw [hc] at q; omega
    exact W.bald (v := f i.toNat) X.1 X.2.1 h1 h2 h3 hin2 (by rw [hc]; exact h6 _ (by omega)) rfl rfl hd (a H locs lsA hR hL hl)) g
theorem g_i2cS (X : CX D p R s m args meth c h0 cc own nL ret) {x : Int} (h1 : 0 ≤ x) (h2 : x < 65536) (hd : decode cc pc = .ok (.i2c, 1)) (g : G p l e R s m args below meth c D h0 nL Φ (pc + 1) ls (iv x :: st) h k) : G p l e R s m args below meth c D h0 nL Φ pc ls (iv x :: st) h k :=
  G.lift (fun Q a H locs lsA hR hL hl => by
    refine lv_i2c X.1 X.2.1 hd ?_ (a H locs lsA hR hL hl)
    obtain ⟨n, rfl⟩ := Int.eq_ofNat_of_zero_le h1
    have hn : n < 65536 := by omega
    apply Int32.toBitVec.inj
    show (BitVec.ofInt 32 (n : Int)).umod (BitVec.ofNat 32 65536) = BitVec.ofInt 32 (n : Int)
    apply BitVec.eq_of_toNat_eq
    rw [BitVec.ofInt_natCast, BitVec.umod_eq, BitVec.toNat_umod]
    simp only [BitVec.toNat_ofNat]
    rw [show (65536 % 2 ^ 32 : Nat) = 65536 from rfl, Nat.mod_eq_of_lt (show n < 2 ^ 32 by omega), Nat.mod_eq_of_lt hn]) g
theorem g_cret (X : CX D p R s m args meth c h0 cc own nL ret) {fin : α → (Int × Int) × Hp} {x : α} {v : Int} (h1 : 0 ≤ v) (h2 : v < 128) (hr : ret = some .char) (hfin : fin x = ((0, v), h)) (hd : decode cc pc = .ok (.ireturn, 1)) : G p l e R s m args below meth c D h0 nL (FinR D R s below h0 1 fin) pc ls [iv v] h (some x) := by
  intro y Q hy hQ H locs lsA hR hL hl
  cases hy
  have hlk := X.2.2.1
  obtain ⟨b1, b2⟩ := hR.bounds X
  have hn : narrow .char (iv v) = iv v := by
    have key : ∀ n : Nat, n < 128 → narrow .char (iv (n : Int)) = iv (n : Int) := by decide +kernel
    have := key v.toNat (by omega)
    rwa [Int.toNat_of_nonneg h1] at this
  refine W.post (Q := MQ below (fun _ _ o t => o = .returned (some (iv v)) ∧ t.heap = H) args s (cn h0 h) (sn h0 h) (fun q => D.base ≤ q)) (fun T hT => hQ T ?_) ?_
  · obtain ⟨o, hr1, he, ⟨ho, hh⟩, L, ⟨-, hW, hsame⟩, hL⟩ := hT
    subst ho
    refine ⟨_, hr1, he, ?_, by rw [hfin, hh]; exact hR, hW, L, hL, hsame.mono b1 b2⟩
    rw [hfin]
    exact Or.inl ⟨rfl, Or.inr ⟨by omega, (show r32 v by unfold r32; omega), rfl⟩⟩
  · exact W.zret X.1 X.2.1 (by rw [X.2.2.2.2.2.2.2.2.1, hr]) hn (fun t ht hW => ⟨rfl, ht⟩) hL hd
theorem g_bret0 (X : CX D p R s m args meth c h0 cc own nL ret) {fin : α → (Int × Int) × Hp} {x : α} (hr : ret = some .byte) (hfin : fin x = ((0, 0), h)) (hd : decode cc pc = .ok (.ireturn, 1)) : G p l e R s m args below meth c D h0 nL (FinR D R s below h0 2 fin) pc ls [iv 0] h (some x) := by
  intro y Q hy hQ H locs lsA hR hL hl
  cases hy
  have hlk := X.2.2.1
  obtain ⟨b1, b2⟩ := hR.bounds X
  refine W.post (Q := MQ below (fun _ _ o t => o = .returned (some (iv 0)) ∧ t.heap = H) args s (cn h0 h) (sn h0 h) (fun q => D.base ≤ q)) (fun T hT => hQ T ?_) ?_
  · obtain ⟨o, hr1, he, ⟨ho, hh⟩, L, ⟨-, hW, hsame⟩, hL⟩ := hT
    subst ho
    refine ⟨_, hr1, he, ?_, by rw [hfin, hh]; exact hR, hW, L, hL, hsame.mono b1 b2⟩
    rw [hfin]
    exact Or.inl ⟨rfl, Or.inr ⟨by omega, (show (-128 : Int) ≤ 0 ∧ (0 : Int) < 128 by decide), rfl⟩⟩
  · exact W.zret X.1 X.2.1 (by rw [X.2.2.2.2.2.2.2.2.1, hr]) (by decide +kernel) (fun t ht hW => ⟨rfl, ht⟩) hL hd
theorem r_call0 (X : CX D p R s m args meth c h0 cc own nL ret) {y : MethodName} {cw : Cond} {fr lo : Nat} {vs astk : List Value} {maxL : Nat} {ig : Instr} (hM : Sim l D y cw fr lo vs h 0 ((0, 0), h)) (hcode : cwOK cw y maxL) (hcw : cw ∈ lw_all) (hini : Cond.initialized y.cls ∈ lw_all) (hin : InTo p l e R s m args below meth c D h0 nL pc st astk vs h y) (hd : decode cc pc = .ok (ig, 3)) (hW : (st.map fun v => v.category).sum ≤ 24) (hfr : fr + 1 ≤ R.frames) (hlo : 24 + (maxL + 11) + lo ≤ R.locals) (g : G p l e R s m args below meth c D h0 nL Φ (pc + 3) ls st h k) : G p l e R s m args below meth c D h0 nL Φ pc ls astk h k :=
  G.lift (fun Q a => a_call X hM hcode hcw hini hin hd hW hfr hlo (fun _ v hout => by
    rcases hout with ⟨-, ⟨-, hq⟩ | ⟨hq, -⟩⟩ | ⟨hq, -⟩
    · cases hq; exact a
    · exact absurd rfl hq
    · exact absurd hq (show ¬ (0 : Int) = 1 by decide)) (fun _ h1 => absurd h1 (show ¬ (0 : Int) = 1 by decide))) g
theorem r_callQ (X : CX D p R s m args meth c h0 cc own nL ret) {y : MethodName} {cw : Cond} {fr lo : Nat} {vs astk : List Value} {maxL t : Nat} {v : Int} {ig : Instr} (hM : Sim l D y cw fr lo vs h t ((0, v), h)) (ht : t ≠ 0) (hcode : cwOK cw y maxL) (hcw : cw ∈ lw_all) (hini : Cond.initialized y.cls ∈ lw_all) (hin : InTo p l e R s m args below meth c D h0 nL pc st astk vs h y) (hd : decode cc pc = .ok (ig, 3)) (hW : (st.map fun v => v.category).sum ≤ 24) (hfr : fr + 1 ≤ R.frames) (hlo : 24 + (maxL + 11) + lo ≤ R.locals) (g : G p l e R s m args below meth c D h0 nL Φ (pc + 3) ls (tv D t v :: st) h k) : G p l e R s m args below meth c D h0 nL Φ pc ls astk h k :=
  G.lift (fun Q a => a_call X hM hcode hcw hini hin hd hW hfr hlo (fun _ w hout => by
    rcases hout with ⟨-, ⟨hq, -⟩ | ⟨-, -, hq⟩⟩ | ⟨hq, -⟩
    · exact absurd hq ht
    · cases hq; exact a
    · exact absurd hq (show ¬ (0 : Int) = 1 by decide)) (fun _ h1 => absurd h1 (show ¬ (0 : Int) = 1 by decide))) g
theorem in_VS (X : CX D p R s m args meth c h0 cc own nL ret) {y : MethodName} {index q : Nat} {As : List Value} {cw : Cond} {maxL : Nat} (hO : va_O "java/lang/String" q (AB D) s D.H0) (hlink : Cond.methodLink own index y ∈ lw_all) (hinst : Cond.instanceMethod y ∈ lw_all) (hsel : Cond.selects "java/lang/String" y y ∈ lw_all) (hcode : cwOK cw y maxL) (hcw : cw ∈ lw_all) (hy : y.cls ≠ "java/lang/invoke/MethodHandle" ∧ y.cls ≠ "java/lang/invoke/VarHandle") (hlen : (parseMethodDescriptor y.desc).map (fun d => d.parameters.length) = some As.length) (hd : decode cc pc = .ok (.invokevirtual index, 3)) :
    InTo p l e R s m args below meth c D h0 nL pc st (As.reverse ++ .ref q :: st) (.ref q :: As) h y := by
  intro T locs cells slots lsA hR S hsz
  obtain ⟨cell, q1, q3, hcls, -⟩ := hO.kept (H1 := T.heap) (fun a _ hA => hR.2.2.2.1 a (Nat.not_le.mp hA))
  have hts := X.2.2.2.2.2.1
  obtain ⟨mk, methM, hnamed, hmethM, hstM, habM⟩ := Cond.instanceMethod_spec (hts _ hinst)
  obtain ⟨methM', cM, hmethM', -, -, hsigM⟩ := hcode args s mk (hts _ hcw) hnamed
  cases hmethM.symm.trans hmethM'
  obtain ⟨c2, r2, m2, x1, x2, x3, x4, kP, hkP, hkPi⟩ := Cond.selects_spec (hts _ hsel)
  cases hcls.symm.trans x1
  cases (State.methodFound?_of_named hnamed hy).symm.trans x2
  cases hnamed.symm.trans x3
  have hselP : selectMethod e.platform s.vm cell.cls mk = .method mk := by rw [Launch.admits_selectMethod S.admits]; exact x4
  have hl2 : As.length = methM.sig.parameters.length := by
    rw [hsigM] at hlen
    exact (Option.some.inj hlen).symm
  obtain ⟨vm₁, X₁, hstep₁⟩ := S.invokevirtual X.1 X.2.2.2.2.1 (hts _ hlink) hnamed hmethM hstM hkP hkPi hy (a := q) (cell := cell) q1 (fun z h => by rw [h] at q3; cases q3) hselP hmethM habM hkP hkPi (g := F0 m pc lsA (As.reverse ++ .ref q :: st)) rfl (argsL := As) (rest := st) hl2 rfl (by rw [X.2.1]; exact hd)
  exact ⟨vm₁, mk, X₁, X₁.named hnamed, fun target ht => hstep₁ _ fun acts => by rw [doInvoke_state]; exact ht⟩
end GS
theorem srB_ok : ∀ b ∈ srB, b.length < 200 ∧ ∀ x ∈ b, (0 : Int) ≤ x ∧ x < 128 := by decide +kernel
theorem srB_at {k : Nat} {b : List Int} (hb : srB[k]? = some b) : b.length < 200 ∧ ∀ x ∈ b, (0 : Int) ≤ x ∧ x < 128 := srB_ok b (List.mem_of_getElem? hb)
theorem ishr0 {x : Int} (h1 : 0 ≤ x) (h2 : x < 200) : ishr_ x 0 = x := by
  have key : ∀ n : Nat, n < 200 → ishr_ (n : Int) 0 = (n : Int) := by decide +kernel
  have := key x.toNat (by omega)
  rwa [Int.toNat_of_nonneg h1] at this
theorem iand255 {x : Int} (h1 : 0 ≤ x) (h2 : x < 128) : iand_ x 255 = x := by
  have key : ∀ n : Nat, n < 128 → iand_ (n : Int) 255 = (n : Int) := by decide +kernel
  have := key x.toNat (by omega)
  rwa [Int.toNat_of_nonneg h1] at this
def k_J5_length : List (Nat × Instr × Nat) := [(0, .aload_n 0, 1), (1, .getfield 9, 3), (4, .arraylength, 1), (5, .aload_n 0, 1), (6, .invokevirtual 335, 3), (9, .ishr, 1), (10, .ireturn, 1)]
theorem t_J5_length : ∀ q ∈ k_J5_length, decode cJ5_length q.1 = .ok q.2 := dl_all (by decide +kernel)
def k_J5_coder : List (Nat × Instr × Nat) := [(0, .getstatic 38, 3), (3, .ifCond .eq 10, 3), (6, .aload_n 0, 1), (7, .getfield 15, 3), (10, .goto 4, 3), (13, .iconst 1, 1), (14, .ireturn, 1)]
theorem t_J5_coder : ∀ q ∈ k_J5_coder, decode cJ5_coder q.1 = .ok q.2 := dl_all (by decide +kernel)
def k_J5_charAt : List (Nat × Instr × Nat) := [(0, .aload_n 0, 1), (1, .invokevirtual 492, 3), (4, .ifCond .eq 12, 3), (7, .aload_n 0, 1), (8, .getfield 9, 3), (11, .iload_n 1, 1), (12, .invokestatic 495, 3), (15, .ireturn, 1), (16, .aload_n 0, 1), (17, .getfield 9, 3), (20, .iload_n 1, 1), (21, .invokestatic 498, 3), (24, .ireturn, 1)]
theorem t_J5_charAt : ∀ q ∈ k_J5_charAt, decode cJ5_charAt q.1 = .ok q.2 := dl_all (by decide +kernel)
def k_J5_isLatin1 : List (Nat × Instr × Nat) := [(0, .getstatic 38, 3), (3, .ifCond .eq 14, 3), (6, .aload_n 0, 1), (7, .getfield 15, 3), (10, .ifCond .ne 7, 3), (13, .iconst 1, 1), (14, .goto 4, 3), (17, .iconst 0, 1), (18, .ireturn, 1)]
theorem t_J5_isLatin1 : ∀ q ∈ k_J5_isLatin1, decode cJ5_isLatin1 q.1 = .ok q.2 := dl_all (by decide +kernel)
def k_J5_checkIndex : List (Nat × Instr × Nat) := [(0, .iload_n 0, 1), (1, .iload_n 1, 1), (2, .getstatic 1053, 3), (5, .invokestatic 1059, 3), (8, .pop, 1), (9, .return_, 1)]
theorem t_J5_checkIndex : ∀ q ∈ k_J5_checkIndex, decode cJ5_checkIndex q.1 = .ok q.2 := dl_all (by decide +kernel)
def k_J7_charAt : List (Nat × Instr × Nat) := [(0, .iload_n 1, 1), (1, .aload_n 0, 1), (2, .arraylength, 1), (3, .invokestatic 9, 3), (6, .aload_n 0, 1), (7, .iload_n 1, 1), (8, .baload, 1), (9, .sipush 255, 3), (12, .iand, 1), (13, .i2c, 1), (14, .ireturn, 1)]
theorem t_J7_charAt : ∀ q ∈ k_J7_charAt, decode cJ7_charAt q.1 = .ok q.2 := dl_all (by decide +kernel)
def k_J8_checkIndex : List (Nat × Instr × Nat) := [(0, .iload_n 0, 1), (1, .ifCond .lt 8, 3), (4, .iload_n 0, 1), (5, .iload_n 1, 1), (6, .if_icmp .lt 10, 3), (9, .aload_n 2, 1), (10, .iload_n 0, 1), (11, .iload_n 1, 1), (12, .invokestatic 95, 3), (15, .athrow, 1), (16, .iload_n 0, 1), (17, .ireturn, 1)]
theorem t_J8_checkIndex : ∀ q ∈ k_J8_checkIndex, decode cJ8_checkIndex q.1 = .ok q.2 := dl_all (by decide +kernel)
theorem s_J5_coder {l : Launch} {D : SD} {h : Hp} {q : Nat} {b : List Int} (hb : srB[q]? = some b) : Sim l D yJ5_coder (Cond.code yJ5_coder cJ5_coder 1 (some .byte)) 0 0 [.ref (D.sA q)] h 2 ((0, 0), h) := by
  refine Sim.of (fin := fun (v : Int) => ((0, v), h)) (k := some (0 : Int)) (x := 0) (lsE := [(0, .ref (D.sA q))]) rfl rfl cwS_code rfl (Nat.le_refl _) ?_
  intro p e s m below meth c X hcw hmm hcc hnm hname
  obtain ⟨o1, o2, o3, o4⟩ := X.2.2.2.2.2.2.1.2.2.2.2.2.2.1 q b hb
  refine g_getsC (pc := 0) X X.2.2.2.2.2.2.1.2.2.2.2.2.2.2.1 q1775 (dl_at t_J5_coder 0 rfl) ?_
  refine G_is (g_ifeq (pc := 3) X (a := 1) (r32_c rfl) (off := 10) (tgt := 13) rfl (dl_at t_J5_coder 1 rfl) (fun q => absurd q (by decide)) (fun _ => ?_))
  refine g_aldR (pc := 6) X (j := 0) (i := 0) (q := 0) rfl rfl (dl_at t_J5_coder 2 rfl) ?_
  refine g_getC (pc := 7) X o2 q5254 (dl_at t_J5_coder 3 rfl) ?_
  refine g_goto (pc := 10) X (tgt := 14) (off := 4) rfl (dl_at t_J5_coder 4 rfl) ?_
  exact g_bret0 (pc := 14) X rfl rfl (dl_at t_J5_coder 6 rfl)
theorem s_J5_isLatin1 {l : Launch} {D : SD} {h : Hp} {q : Nat} {b : List Int} (hb : srB[q]? = some b) : Sim l D yJ5_isLatin1 (Cond.code yJ5_isLatin1 cJ5_isLatin1 1 (some .boolean)) 0 0 [.ref (D.sA q)] h 3 ((0, 1), h) := by
  refine Sim.of (fin := fun (v : Int) => ((0, v), h)) (k := some (1 : Int)) (x := 1) (lsE := [(0, .ref (D.sA q))]) rfl rfl cwS_code rfl (Nat.le_refl _) ?_
  intro p e s m below meth c X hcw hmm hcc hnm hname
  obtain ⟨o1, o2, o3, o4⟩ := X.2.2.2.2.2.2.1.2.2.2.2.2.2.1 q b hb
  refine g_getsC (pc := 0) X X.2.2.2.2.2.2.1.2.2.2.2.2.2.2.1 q1775 (dl_at t_J5_isLatin1 0 rfl) ?_
  refine G_is (g_ifeq (pc := 3) X (a := 1) (r32_c rfl) (off := 14) (tgt := 17) rfl (dl_at t_J5_isLatin1 1 rfl) (fun q => absurd q (by decide)) (fun _ => ?_))
  refine g_aldR (pc := 6) X (j := 0) (i := 0) (q := 0) rfl rfl (dl_at t_J5_isLatin1 2 rfl) ?_
  refine g_getC (pc := 7) X o2 q5254 (dl_at t_J5_isLatin1 3 rfl) ?_
  refine G_is (g_ifne (pc := 10) X (a := 0) (r32_c rfl) (off := 7) (tgt := 17) rfl (dl_at t_J5_isLatin1 4 rfl) (fun q => absurd rfl q) (fun _ => ?_))
  refine g_iconst (pc := 13) X (dl_at t_J5_isLatin1 5 rfl) ?_
  refine g_goto (pc := 14) X (tgt := 18) (off := 4) rfl (dl_at t_J5_isLatin1 6 rfl) ?_
  exact g_zret (pc := 18) X (Or.inr rfl) rfl rfl (dl_at t_J5_isLatin1 8 rfl)
theorem s_J8_checkIndex {l : Launch} {D : SD} {h : Hp} {i n : Int} {v : Value} (hv : v.isRef = true) (ri : r32 i) (rn : r32 n) (h0 : 0 ≤ i) (h1 : i < n) : Sim l D yJ8_checkIndex (Cond.code yJ8_checkIndex cJ8_checkIndex 3 (some .int)) 0 0 [iv i, iv n, v] h 1 ((0, i), h) := by
  refine Sim.of (fin := fun (v : Int) => ((0, v), h)) (k := some i) (x := i) (lsE := [(0, iv i), (1, iv n), (2, v)]) rfl rfl cwS_code (by cases v <;> first | rfl | cases hv) (by cases v <;> first | exact Nat.le_refl _ | cases hv) ?_
  intro p e s m below meth c X hcw hmm hcc hnm hname
  refine g_iload_n (pc := 0) X (j := 0) (i := 0) (q := 0) (x := i) rfl rfl (dl_at t_J8_checkIndex 0 rfl) ?_
  refine G_is (g_iflt (pc := 1) X ri (off := 8) (tgt := 9) rfl (dl_at t_J8_checkIndex 1 rfl) (fun q => absurd h0 (by omega)) (fun _ => ?_))
  refine g_iload_n (pc := 4) X (j := 0) (i := 0) (q := 0) (x := i) rfl rfl (dl_at t_J8_checkIndex 2 rfl) ?_
  refine g_iload_n (pc := 5) X (j := 1) (i := 1) (q := 1) (x := n) rfl rfl (dl_at t_J8_checkIndex 3 rfl) ?_
  refine G_is (g_icmplt (pc := 6) X ri rn (off := 10) (tgt := 16) rfl (dl_at t_J8_checkIndex 4 rfl) (fun _ => ?_) (fun q => absurd h1 q))
  refine g_iload_n (pc := 16) X (j := 0) (i := 0) (q := 0) (x := i) rfl rfl (dl_at t_J8_checkIndex 10 rfl) ?_
  exact g_iret (pc := 17) X ri rfl rfl (dl_at t_J8_checkIndex 11 rfl)
theorem s_J5_checkIndex {l : Launch} {D : SD} {h : Hp} {i n : Int} (ri : r32 i) (rn : r32 n) (h0 : 0 ≤ i) (h1 : i < n) : Sim l D yJ5_checkIndex (Cond.code yJ5_checkIndex cJ5_checkIndex 2 none) 1 40 [iv i, iv n] h 0 ((0, 0), h) := by
  refine Sim.of (fin := fun (v : Int) => ((0, v), h)) (k := some 0) (x := 0) (lsE := [(0, iv i), (1, iv n)]) rfl rfl cwS_code rfl (Nat.le_refl _) ?_
  intro p e s m below meth c X hcw hmm hcc hnm hname
  obtain ⟨v, hv, hZ⟩ := X.2.2.2.2.2.2.1.2.2.2.2.2.2.2.2.1
  refine g_iload_n (pc := 0) X (j := 0) (i := 0) (q := 0) (x := i) rfl rfl (dl_at t_J5_checkIndex 0 rfl) ?_
  refine g_iload_n (pc := 1) X (j := 1) (i := 1) (q := 1) (x := n) rfl rfl (dl_at t_J5_checkIndex 1 rfl) ?_
  refine g_getsC (pc := 2) X hZ q1791 (dl_at t_J5_checkIndex 2 rfl) ?_
  refine r_callRi (pc := 5) X (st := []) (o := some i) (K := fun _ => some 0) (fun w hw => by cases hw; exact s_J8_checkIndex hv ri rn h0 h1) cw_code q1795 q388 (in_Sc X (As := [iv i, iv n, v]) (Or.inl q1793) q1794 q388 q1795 ⟨by decide, by decide⟩ rfl (dl_at t_J5_checkIndex 3 rfl)) (dl_at t_J5_checkIndex 3 rfl) (Nat.zero_le _) (Nat.le_of_ble_eq_true rfl) (Nat.le_of_ble_eq_true rfl) (fun w hw => ?_)
  refine g_pop (pc := 8) X rfl (dl_at t_J5_checkIndex 4 rfl) ?_
  exact g_vret (pc := 9) X (v := 0) rfl rfl (dl_at t_J5_checkIndex 5 rfl)
theorem s_J7_charAt {l : Launch} {D : SD} {h : Hp} {q : Nat} {b : List Int} {i x : Int} (hb : srB[q]? = some b) (ri : r32 i) (h0 : 0 ≤ i) (hx : b[i.toNat]? = some x) : Sim l D yJ7_charAt (Cond.code yJ7_charAt cJ7_charAt 2 (some .char)) 2 100 [.ref (D.sV q), iv i] h 1 ((0, x), h) := by
  refine Sim.of (fin := fun (v : Int) => ((0, v), h)) (k := some x) (x := x) (lsE := [(0, .ref (D.sV q)), (1, iv i)]) rfl rfl cwS_code rfl (Nat.le_refl _) ?_
  intro p e s m below meth c X hcw hmm hcc hnm hname
  obtain ⟨o1, o2, o3, o4⟩ := X.2.2.2.2.2.2.1.2.2.2.2.2.2.1 q b hb
  obtain ⟨bl, bx⟩ := srB_at hb
  have hlt : i.toNat < b.length := (List.getElem?_eq_some_iff.mp hx).1
  obtain ⟨x1, x2⟩ := bx x (List.mem_of_getElem? hx)
  refine g_iload_n (pc := 0) X (j := 1) (i := 1) (q := 1) (x := i) rfl rfl (dl_at t_J7_charAt 0 rfl) ?_
  refine g_aldR (pc := 1) X (j := 0) (i := 0) (q := 0) rfl rfl (dl_at t_J7_charAt 1 rfl) ?_
  refine g_lenC (pc := 2) X o4 (by omega) (dl_at t_J7_charAt 2 rfl) ?_
  refine r_call0 (pc := 3) X (st := []) (s_J5_checkIndex ri (n := (b.length : Int)) (by unfold r32; omega) h0 (by omega)) cw_code q1790 q385 (in_Sc X (As := [iv i, iv (b.length : Int)]) (Or.inl q1788) q1789 q385 q1790 ⟨by decide, by decide⟩ rfl (dl_at t_J7_charAt 3 rfl)) (dl_at t_J7_charAt 3 rfl) (Nat.zero_le _) (Nat.le_of_ble_eq_true rfl) (Nat.le_of_ble_eq_true rfl) ?_
  refine g_aldR (pc := 6) X (j := 0) (i := 0) (q := 0) rfl rfl (dl_at t_J7_charAt 4 rfl) ?_
  refine g_iload_n (pc := 7) X (j := 1) (i := 1) (q := 1) (x := i) rfl rfl (dl_at t_J7_charAt 5 rfl) ?_
  refine g_tbC (pc := 8) X o4 (by omega) ri h0 (by omega) (dl_at t_J7_charAt 6 rfl) ?_
  have hg : b.getD i.toNat 0 = x := by rw [List.getD_eq_getElem?_getD, hx]; rfl
  rw [hg]
  refine g_sipush (pc := 9) X (n := 255) rfl (dl_at t_J7_charAt 7 rfl) ?_
  refine g_iand (pc := 12) X (dl_at t_J7_charAt 8 rfl) ?_
  rw [iand255 x1 x2]
  refine g_i2cS (pc := 13) X x1 (by omega) (dl_at t_J7_charAt 9 rfl) ?_
  exact g_cret (pc := 14) X x1 x2 rfl rfl (dl_at t_J7_charAt 10 rfl)
theorem s_J5_length {l : Launch} {D : SD} {h : Hp} {q : Nat} {b : List Int} (hb : srB[q]? = some b) : Sim l D yJ5_length (Cond.code yJ5_length cJ5_length 1 (some .int)) 1 40 [.ref (D.sA q)] h 1 ((0, (b.length : Int)), h) := by
  refine Sim.of (fin := fun (v : Int) => ((0, v), h)) (k := some (b.length : Int)) (x := (b.length : Int)) (lsE := [(0, .ref (D.sA q))]) rfl rfl cwS_code rfl (Nat.le_refl _) ?_
  intro p e s m below meth c X hcw hmm hcc hnm hname
  obtain ⟨o1, o2, o3, o4⟩ := X.2.2.2.2.2.2.1.2.2.2.2.2.2.1 q b hb
  obtain ⟨bl, -⟩ := srB_at hb
  refine g_aldR (pc := 0) X (j := 0) (i := 0) (q := 0) rfl rfl (dl_at t_J5_length 0 rfl) ?_
  refine g_getC (pc := 1) X o3 q5253 (dl_at t_J5_length 1 rfl) ?_
  refine g_lenC (pc := 4) X o4 (by omega) (dl_at t_J5_length 2 rfl) ?_
  refine g_aldR (pc := 5) X (j := 0) (i := 0) (q := 0) rfl rfl (dl_at t_J5_length 3 rfl) ?_
  refine r_callQ (pc := 6) X (st := [iv (b.length : Int)]) (s_J5_coder hb) (by decide) cw_code q1774 q385 (in_VS X (As := []) o1 q1771 q1772 q1773 cw_code q1774 ⟨by decide, by decide⟩ rfl (dl_at t_J5_length 4 rfl)) (dl_at t_J5_length 4 rfl) (Nat.le_of_ble_eq_true rfl) (Nat.le_of_ble_eq_true rfl) (Nat.le_of_ble_eq_true rfl) ?_
  refine g_ishr (pc := 9) X (y := 0) (dl_at t_J5_length 5 rfl) ?_
  rw [ishr0 (by omega) (by omega)]
  exact g_iret (pc := 10) X (by unfold r32; omega) rfl rfl (dl_at t_J5_length 6 rfl)
theorem s_J5_charAt {l : Launch} {D : SD} {h : Hp} {q : Nat} {b : List Int} {i x : Int} (hb : srB[q]? = some b) (ri : r32 i) (h0 : 0 ≤ i) (hx : b[i.toNat]? = some x) : Sim l D yJ5_charAt (Cond.code yJ5_charAt cJ5_charAt 2 (some .char)) 3 140 [.ref (D.sA q), iv i] h 1 ((0, x), h) := by
  refine Sim.of (fin := fun (v : Int) => ((0, v), h)) (k := some x) (x := x) (lsE := [(0, .ref (D.sA q)), (1, iv i)]) rfl rfl cwS_code rfl (Nat.le_refl _) ?_
  intro p e s m below meth c X hcw hmm hcc hnm hname
  obtain ⟨o1, o2, o3, o4⟩ := X.2.2.2.2.2.2.1.2.2.2.2.2.2.1 q b hb
  obtain ⟨bl, bx⟩ := srB_at hb
  obtain ⟨x1, x2⟩ := bx x (List.mem_of_getElem? hx)
  refine g_aldR (pc := 0) X (j := 0) (i := 0) (q := 0) rfl rfl (dl_at t_J5_charAt 0 rfl) ?_
  refine r_callQ (pc := 1) X (st := []) (s_J5_isLatin1 hb) (by decide) cw_code q1784 q385 (in_VS X (As := []) o1 q1781 q1782 q1783 cw_code q1784 ⟨by decide, by decide⟩ rfl (dl_at t_J5_charAt 1 rfl)) (dl_at t_J5_charAt 1 rfl) (Nat.zero_le _) (Nat.le_of_ble_eq_true rfl) (Nat.le_of_ble_eq_true rfl) ?_
  refine G_is (g_ifeq (pc := 4) X (a := 1) (r32_c rfl) (off := 12) (tgt := 16) rfl (dl_at t_J5_charAt 2 rfl) (fun q => absurd q (by decide)) (fun _ => ?_))
  refine g_aldR (pc := 7) X (j := 0) (i := 0) (q := 0) rfl rfl (dl_at t_J5_charAt 3 rfl) ?_
  refine g_getC (pc := 8) X o3 q5253 (dl_at t_J5_charAt 4 rfl) ?_
  refine g_iload_n (pc := 11) X (j := 1) (i := 1) (q := 1) (x := i) rfl rfl (dl_at t_J5_charAt 5 rfl) ?_
  refine r_callQ (pc := 12) X (st := []) (s_J7_charAt hb ri h0 hx) (by decide) cw_code q1787 q387 (in_Sc X (As := [.ref (D.sV q), iv i]) (Or.inl q1785) q1786 q387 q1787 ⟨by decide, by decide⟩ rfl (dl_at t_J5_charAt 6 rfl)) (dl_at t_J5_charAt 6 rfl) (Nat.zero_le _) (Nat.le_of_ble_eq_true rfl) (Nat.le_of_ble_eq_true rfl) ?_
  exact g_cret (pc := 15) X x1 x2 rfl rfl (dl_at t_J5_charAt 7 rfl)
section GS2
variable {p : Program} {l : Launch} {e : Env} {R : Room} {s : State} {m : MethodId} {args : Array Value} {below : List Frame} {meth : Method} {c : Code} {D : SD} {h0 : Hp} {nL : Nat} {cc : ByteArray} {own : String} {ret : Option FieldType} {pc : Nat} {ls : List (Nat × Value)} {st : List Value} {h : Hp}
variable {α : Type} {Φ : α → (State → Prop) → Prop} {k : Option α}
theorem rv_c {a : Int} (ha : a ≤ -2) : rv D a = .ref (D.sA (-2 - a).toNat) := rv_str (k_ := (-2 - a).toNat) (by omega)
theorem r_slen (X : CX D p R s m args meth c h0 cc own nL ret) {a : Int} {index : Nat} {K : Int → Option α} (hw : Cond.methodLink own index yJ5_length ∈ lw_all) (hW : (st.map fun v => v.category).sum ≤ 24) (hfr : 4 ≤ R.frames) (hlo : 200 ≤ R.locals) (hd : decode cc pc = .ok (.invokevirtual index, 3)) (g : ∀ v, r32 v → G p l e R s m args below meth c D h0 nL Φ (pc + 3) ls (iv v :: st) h (K v)) : G p l e R s m args below meth c D h0 nL Φ pc ls (rv D a :: st) h ((x_slen a).bind K) := by
  intro x Q hx hQ
  unfold x_slen at hx
  cases hs : strB a with
  | none => rw [hs] at hx; cases hx
  | some b =>
    rw [hs] at hx
    unfold strB at hs
    by_cases ha : a ≤ -2
    · rw [if_pos ha] at hs
      rw [rv_c ha]
      obtain ⟨o1, o2, o3, o4⟩ := X.2.2.2.2.2.2.1.2.2.2.2.2.2.1 _ b hs
      obtain ⟨bl, -⟩ := srB_at hs
      exact r_callQ X (s_J5_length hs) (by decide) cw_code q1770 q385 (in_VS X (As := []) o1 hw q1768 q1769 cw_code q1770 ⟨by decide, by decide⟩ rfl hd) hd hW (by omega) (by omega) (g _ (by unfold r32; omega)) x Q hx hQ
    · rw [if_neg ha] at hs; cases hs
theorem r_sat (X : CX D p R s m args meth c h0 cc own nL ret) {a i : Int} {index : Nat} {K : Int → Option α} (ri : r32 i) (hw : Cond.methodLink own index yJ5_charAt ∈ lw_all) (hW : (st.map fun v => v.category).sum ≤ 24) (hfr : 4 ≤ R.frames) (hlo : 200 ≤ R.locals) (hd : decode cc pc = .ok (.invokevirtual index, 3)) (g : ∀ v, r32 v → G p l e R s m args below meth c D h0 nL Φ (pc + 3) ls (iv v :: st) h (K v)) : G p l e R s m args below meth c D h0 nL Φ pc ls (iv i :: rv D a :: st) h ((x_sat a i).bind K) := by
  intro x Q hx hQ
  unfold x_sat at hx
  by_cases h0i : 0 ≤ i
  · rw [if_pos h0i] at hx
    cases hs : strB a with
    | none => rw [hs] at hx; cases hx
    | some b =>
      rw [hs] at hx
      unfold strB at hs
      by_cases ha : a ≤ -2
      · rw [if_pos ha] at hs
        cases hc : b[i.toNat]? with
        | none => rw [Option.bind_some, hc] at hx; cases hx
        | some v =>
          rw [Option.bind_some, hc] at hx
          rw [rv_c ha]
          obtain ⟨o1, o2, o3, o4⟩ := X.2.2.2.2.2.2.1.2.2.2.2.2.2.1 _ b hs
          obtain ⟨-, bx⟩ := srB_at hs
          obtain ⟨x1, x2⟩ := bx v (List.mem_of_getElem? hc)
          exact r_callQ X (s_J5_charAt hs ri h0i hc) (by decide) cw_code q1780 q385 (in_VS X (As := [iv i]) o1 hw q1778 q1779 cw_code q1780 ⟨by decide, by decide⟩ rfl hd) hd hW (by omega) (by omega) (g _ (by unfold r32; omega)) x Q hx hQ
      · rw [if_neg ha] at hs; cases hs
  · rw [if_neg h0i] at hx; cases hx
end GS2
