/-! CALLS -/
section GC
variable {p : Program} {l : Launch} {e : Env} {R : Room} {s : State} {m : MethodId} {args : Array Value} {below : List Frame} {meth : Method} {c : Code} {D : SD} {h0 : Hp} {nL : Nat} {cc : ByteArray} {own : String} {ret : Option FieldType} {pc : Nat} {ls : List (Nat × Value)} {st : List Value} {h : Hp}
variable {α : Type} {Φ : α → (State → Prop) → Prop} {k : Option α}
theorem stand_in {T : State} {locs : List Loc} {cells slots : Nat} (r0 : Rel D h0 s.heap) (r : Rel D h T.heap) (S : Stand p l e R s m args below meth c T locs cells slots) : Stand p l e R s m args below meth c T locs (cn h0 h) (sn h0 h) ∧ h0 0 0 ≤ h 0 0 ∧ h0 0 1 ≤ h 0 1 := by
  obtain ⟨a1, a2, a3, a4, a5, a6⟩ := S.same
  have z1 : s.heap.size ≤ T.heap.size := a2
  have z2 : ∀ (a : Nat) (c : Cell), s.heap[a]? = some c → ∃ c', T.heap[a]? = some c' ∧ c'.slots.size = c.slots.size := fun a c hc => by obtain ⟨c', x1, -, x3, -⟩ := a6 a c hc; exact ⟨c', x1, x3⟩
  have hb : D.base ≤ s.heap.size := by rw [r0.2.1]; omega
  have e1 := slotSum_from hb z1 z2
  have e2 := r0.2.2.1
  have e3 := r.2.2.1
  have e4 := r0.2.1
  have e5 := r.2.1
  have b0 := r0.1
  have b1 := r.1
  refine ⟨{ S with same := ⟨a1, a2, ?_, a4, ?_, a6⟩ }, by omega, by omega⟩
  · show T.heap.size ≤ _
    unfold cn; omega
  · show slotSum T.heap s.heap.size ≤ _
    unfold sn; omega
/-- the callee's code word: what it says of the method -/
def cwOK (cw : Cond) (y : MethodName) (maxL : Nat) : Prop := ∀ (a : Array Value) (U : State) (mk : MethodId), cw.before a U = true → U.methodNamed? y = some mk → ∃ meth c, U.vm.method? mk = some meth ∧ meth.code = some c ∧ c.maxLocals = maxL ∧ parseMethodDescriptor y.desc = some meth.sig
theorem cw_code {y : MethodName} {b : ByteArray} {maxL : Nat} {rt : Option FieldType} : cwOK (Cond.code y b maxL rt) y maxL := fun a U mk h hn => by
  obtain ⟨meth, c, h1, h2, -, h4, -, -, -, h8⟩ := Cond.code_spec hn h
  exact ⟨meth, c, h1, h2, h4, h8⟩
theorem cw_with {y : MethodName} {b : ByteArray} {maxL : Nat} {rt : Option FieldType} {hh : List (Nat × Nat × Nat × Nat)} : cwOK (Cond.codeWith y b maxL rt hh) y maxL := fun a U mk h hn => by
  obtain ⟨m', meth, c, h0, h1, h2, -, h4, -, -, -, h8⟩ := Cond.codeWith_spec h
  cases h0.symm.trans hn
  exact ⟨meth, c, h1, h2, h4, h8⟩
/-- the way into the callee -/
def InTo (p : Program) (l : Launch) (e : Env) (R : Room) (s : State) (m : MethodId) (args : Array Value) (below : List Frame) (meth : Method) (c : Code) (D : SD) (h0 : Hp) (nL : Nat) (pc : Nat) (st astk : List Value) (vs : List Value) (h : Hp) (y : MethodName) : Prop :=
  ∀ (T : State) (locs : List Loc) (cells slots : Nat) (lsA : Array Slot), Rel D h T.heap → Stand p l e R s m args below meth c T locs cells slots → lsA.size = nL →
    ∃ vm₁ mk, Stand p l e R s m args below meth c (T.setVm vm₁) locs cells slots ∧ (T.setVm vm₁).methodNamed? y = some mk ∧ ∀ target, Steps p.tables e below (doInvoke e ((T.setVm vm₁).setTop (F0 m pc lsA st)) [] mk vs.toArray).1 target → Steps p.tables e below (T.setTop (F0 m pc lsA astk)) target
theorem a_call {Q : State → Prop} (X : CX D p R s m args meth c h0 cc own nL ret) {y : MethodName} {cw : Cond} {fr lo : Nat} {vs astk : List Value} {t : Nat} {r : (Int × Int) × Hp} {maxL : Nat} {ig : Instr} (hM : Sim l D y cw fr lo vs h t r) (hcode : cwOK cw y maxL) (hcw : cw ∈ lw_all) (hini : Cond.initialized y.cls ∈ lw_all)
    (hin : InTo p l e R s m args below meth c D h0 nL pc st astk vs h y) (hd : decode cc pc = .ok (ig, 3)) (hW : (st.map fun v => v.category).sum ≤ 24) (hfr : fr + 1 ≤ R.frames) (hlo : 24 + (maxL + 11) + lo ≤ R.locals)
    (g1 : Ext h r.2 → ∀ v, OutR D t r.1 (.returned v) → A_ p l e R s m args below meth c D h0 nL (pc + 3) ls (v.toList ++ st) r.2 Q)
    (g2 : Ext h r.2 → r.1.1 = 1 → 0 < r.1.2 → AT_ p l e R s m args below meth c D h0 nL pc ls r.1.2 r.2 Q) : A_ p l e R s m args below meth c D h0 nL pc ls astk h Q := by
  intro H locs lsA hR hL hl T hT S
  subst hT
  obtain ⟨S0, z1, z2⟩ := stand_in X.2.2.2.2.2.2.2.1 hR.1 S
  obtain ⟨vm₁, mk, S1, hn, hst⟩ := hin T locs _ _ lsA hR.1 S0 hl.1
  have hrc := X.2.2.2.2.2.2.2.2.2.1
  have hrs := X.2.2.2.2.2.2.2.2.2.2
  have hb := hR.1.1
  have hb0 := X.2.2.2.2.2.2.2.1.1
  obtain ⟨T', L, hRel, hL', S2, hcase⟩ := sim_call S1 hM (fun a U mk h1 h2 => by obtain ⟨m1, c1, x1, x2, x3, -⟩ := hcode a U mk h1 h2; exact ⟨m1, c1, x1, x2, x3⟩) X.2.2.2.2.2.1 hcw hini X.2.2.2.2.2.2.1 (U := T.setVm vm₁) hR.1 (g := F0 m pc lsA st) rfl (by show lsA.size = _; rw [X.2.2.2.1]; exact hl.1) (by rw [X.2.1]; exact hd) (by show 2 * 0 + (st.map fun v => v.category).sum ≤ 24; omega) hn hfr hlo (by rw [hrc]; unfold cn; omega) (by rw [hrs]; unfold sn; omega)
  have hR2 : RelE D h0 r.2 T'.heap := ⟨hRel.1, hR.2.trans hRel.2⟩
  have hL2 : ∀ q ∈ locs ++ L, D.base ≤ q.base := by
    intro q hq
    rcases List.mem_append.mp hq with hq | hq
    · exact hL q hq
    · exact hL' q hq
  obtain ⟨S3, -, -⟩ := stand_in X.2.2.2.2.2.2.2.1 hRel.1 S2
  rcases hcase with ⟨v, hout, hsteps⟩ | ⟨x, hout, hsteps⟩
  · obtain ⟨tt, a1, a2⟩ := g1 hRel.2 v hout T'.heap _ lsA hR2 hL2 hl T' rfl S3
    exact ⟨tt, hst tt (hsteps.trans a1), a2⟩
  · rcases hout with ⟨-, ⟨-, hq⟩ | ⟨-, -, hq⟩⟩ | ⟨h1, h2, hq⟩
    · cases hq
    · cases hq
    · cases hq
      obtain ⟨tt, a1, a2⟩ := g2 hRel.2 h1 h2 T'.heap _ lsA st hR2 hL2 hl T' rfl S3
      exact ⟨tt, hst tt (hsteps.trans a1), a2⟩
theorem in_V (X : CX D p R s m args meth c h0 cc own nL ret) {y : MethodName} {ci index : Nat} {q : CE} {a : Int} {As : List Value} {cw : Cond} {maxL : Nat} (hq : clT[ci]? = some q) (hk : h a (-2) = 16 * ((ci : Int) + 1)) (hlink : Cond.methodLink own index y ∈ lw_all ∨ ∃ host, Cond.methodLinkNest own index y host ∈ nwT) (hinst : Cond.instanceMethod y ∈ lw_all) (hsel : Cond.selects q.1 y y ∈ lw_all) (hcode : cwOK cw y maxL) (hcw : cw ∈ lw_all) (hy : y.cls ≠ "java/lang/invoke/MethodHandle" ∧ y.cls ≠ "java/lang/invoke/VarHandle") (hlen : (parseMethodDescriptor y.desc).map (fun d => d.parameters.length) = some As.length) (hd : decode cc pc = .ok (.invokevirtual index, 3)) :
    InTo p l e R s m args below meth c D h0 nL pc st (As.reverse ++ rv D a :: st) (rv D a :: As) h y := by
  intro T locs cells slots lsA hR S hsz
  have hpos := hR.pos (a := a) (by omega)
  rw [rv_ref (by omega)]
  obtain ⟨-, ⟨cell, q1, q2, q3, -⟩, -⟩ := hR.obj hk hq
  have hts := X.2.2.2.2.2.1
  obtain ⟨mk, methM, hnamed, hmethM, hstM, habM⟩ := Cond.instanceMethod_spec (hts _ hinst)
  obtain ⟨methM', cM, hmethM', -, -, hsigM⟩ := hcode args s mk (hts _ hcw) hnamed
  cases hmethM.symm.trans hmethM'
  obtain ⟨c2, r2, m2, x1, x2, x3, x4, kP, hkP, hkPi⟩ := Cond.selects_spec (hts _ hsel)
  have hcls : s.vm.findClass q.1 = some cell.cls := by rw [q2]; exact (X.kn hq).2.1
  cases hcls.symm.trans x1
  cases (State.methodFound?_of_named hnamed hy).symm.trans x2
  cases hnamed.symm.trans x3
  have hselP : selectMethod e.platform s.vm cell.cls mk = .method mk := by rw [Launch.admits_selectMethod S.admits]; exact x4
  have hl2 : As.length = methM.sig.parameters.length := by
    rw [hsigM] at hlen
    exact (Option.some.inj hlen).symm
  rcases hlink with hlink | ⟨host, hlink⟩
  · obtain ⟨vm₁, X₁, hstep₁⟩ := S.invokevirtual X.1 X.2.2.2.2.1 (hts _ hlink) hnamed hmethM hstM hkP hkPi hy (a := ph D a) (cell := cell) q1 (fun z h => by rw [q3] at h; cases h) hselP hmethM habM hkP hkPi (g := F0 m pc lsA (As.reverse ++ .ref (ph D a) :: st)) rfl (argsL := As) (rest := st) hl2 rfl (by rw [X.2.1]; exact hd)
    exact ⟨vm₁, mk, X₁, X₁.named hnamed, fun target ht => hstep₁ _ fun acts => by rw [doInvoke_state]; exact ht⟩
  · obtain ⟨vm₁, X₁, hstep₁⟩ := S.invokevirtualNest X.1 X.2.2.2.2.1 (va_Nw.use rfl (X.2.2.2.2.2.2.1.2.2.1 _ hlink)) hnamed hmethM hstM hkP hkPi hy (a := ph D a) (cell := cell) q1 (fun z h => by rw [q3] at h; cases h) hselP hmethM habM hkP hkPi (g := F0 m pc lsA (As.reverse ++ .ref (ph D a) :: st)) rfl (argsL := As) (rest := st) hl2 rfl (by rw [X.2.1]; exact hd)
    exact ⟨vm₁, mk, X₁, X₁.named hnamed, fun target ht => hstep₁ _ fun acts => by rw [doInvoke_state]; exact ht⟩
theorem in_S (X : CX D p R s m args meth c h0 cc own nL ret) {y : MethodName} {index : Nat} {As : List Value} {cw : Cond} {maxL : Nat} (hlink : Cond.methodLink own index y ∈ lw_all ∨ ∃ host, Cond.methodLinkNest own index y host ∈ nwT) (hstat : Cond.static y ∈ lw_all) (hini : Cond.initialized y.cls ∈ lw_all) (hnm : ∃ mk, s.methodNamed? y = some mk) (hcode : cwOK cw y maxL) (hcw : cw ∈ lw_all) (hy : y.cls ≠ "java/lang/invoke/MethodHandle" ∧ y.cls ≠ "java/lang/invoke/VarHandle") (hlen : (parseMethodDescriptor y.desc).map (fun d => d.parameters.length) = some As.length) (hd : decode cc pc = .ok (.invokestatic index, 3)) :
    InTo p l e R s m args below meth c D h0 nL pc st (As.reverse ++ st) As h y := by
  intro T locs cells slots lsA hR S hsz
  have hts := X.2.2.2.2.2.1
  obtain ⟨mk, hnamed⟩ := hnm
  obtain ⟨methM, cM, hmethM, -, -, hsigM⟩ := hcode args s mk (hts _ hcw) hnamed
  have hstatic : methM.isStatic = true := Cond.static_spec hnamed hmethM (hts _ hstat)
  obtain ⟨kP, hkP, -⟩ := className_of_methodNamed hnamed
  have hinitP : kP.init = .initialized := Cond.initialized_spec (findClass_of_methodNamed hnamed) hkP (hts _ hini)
  have hl2 : As.length = methM.sig.parameters.length := by
    rw [hsigM] at hlen
    exact (Option.some.inj hlen).symm
  rcases hlink with hlink | ⟨host, hlink⟩
  · obtain ⟨vm₁, X₁, hstep₁⟩ := S.invokestatic X.1 X.2.2.2.2.1 (hts _ hlink) hnamed hmethM hstatic hkP hinitP hy (g := F0 m pc lsA (As.reverse ++ st)) rfl (argsL := As) (rest := st) hl2 rfl (by rw [X.2.1]; exact hd)
    exact ⟨vm₁, mk, X₁, X₁.named hnamed, fun target ht => hstep₁ _ fun acts => by rw [doInvoke_state]; exact ht⟩
  · obtain ⟨vm₁, X₁, hstep₁⟩ := S.invokestaticNest X.1 X.2.2.2.2.1 (va_Nw.use rfl (X.2.2.2.2.2.2.1.2.2.1 _ hlink)) hnamed hmethM hstatic hkP hinitP hy (g := F0 m pc lsA (As.reverse ++ st)) rfl (argsL := As) (rest := st) hl2 rfl (by rw [X.2.1]; exact hd)
    exact ⟨vm₁, mk, X₁, X₁.named hnamed, fun target ht => hstep₁ _ fun acts => by rw [doInvoke_state]; exact ht⟩
theorem in_I (X : CX D p R s m args meth c h0 cc own nL ret) {y : MethodName} {index : Nat} {a : Int} {As : List Value} {b : ByteArray} {maxL : Nat} (ha : a ≠ 0) (hy1 : y.name = "<init>") (hlink : Cond.methodLink own index y ∈ lw_all ∨ ∃ host, Cond.methodLinkNest own index y host ∈ nwT) (hinst : Cond.instanceMethod y ∈ lw_all) (hcw : Cond.code y b maxL none ∈ lw_all) (hy : y.cls ≠ "java/lang/invoke/MethodHandle" ∧ y.cls ≠ "java/lang/invoke/VarHandle") (hlen : (parseMethodDescriptor y.desc).map (fun d => d.parameters.length) = some As.length) (hd : decode cc pc = .ok (.invokespecial index, 3)) :
    InTo p l e R s m args below meth c D h0 nL pc st (As.reverse ++ rv D a :: st) (rv D a :: As) h y := by
  intro T locs cells slots lsA hR S hsz
  rw [rv_ref ha]
  have hts := X.2.2.2.2.2.1
  have hpl : e.platform.magicAccessors = ({} : Platform).magicAccessors := by rw [S.admits.platform]
  have hl2 : ∀ sig, parseMethodDescriptor y.desc = some sig → As.length = sig.parameters.length := fun sig h1 => by
    rw [h1] at hlen
    exact (Option.some.inj hlen).symm
  rcases hlink with hlink | ⟨host, hlink⟩
  · obtain ⟨mk, methM, cM, kP, vm₁, hnamed, -, -, -, -, -, -, -, hW₁, hstep₁⟩ := Steps.initColdArgs (e := e) S.here X.1 S.warmed hpl X.2.2.2.2.1 hy1 hy (hts _ hlink) (hts _ hinst) (hts _ hcw) (f := F0 m pc lsA (As.reverse ++ .ref (ph D a) :: st)) rfl hl2 (rest := st) rfl (by rw [X.2.1]; exact hd)
    have X₁ := S.noted hW₁
    exact ⟨vm₁, mk, X₁, X₁.named hnamed, fun target ht => hstep₁ _ fun acts => by rw [doInvoke_state]; exact ht⟩
  · obtain ⟨mk, methM, cM, kP, vm₁, hnamed, -, -, -, -, -, -, -, hW₁, hstep₁⟩ := Steps.initColdArgsNest (e := e) S.here X.1 S.warmed hpl X.2.2.2.2.1 hy1 hy (va_Nw.use rfl (X.2.2.2.2.2.2.1.2.2.1 _ hlink)) (hts _ hinst) (hts _ hcw) (f := F0 m pc lsA (As.reverse ++ .ref (ph D a) :: st)) rfl hl2 (rest := st) rfl (by rw [X.2.1]; exact hd)
    have X₁ := S.noted hW₁
    exact ⟨vm₁, mk, X₁, X₁.named hnamed, fun target ht => hstep₁ _ fun acts => by rw [doInvoke_state]; exact ht⟩
end GC
