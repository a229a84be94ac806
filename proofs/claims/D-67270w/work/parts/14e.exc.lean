set_option maxRecDepth 100000
/-! EXCEPTIONS: their constructors -/
def EXok (q : CE) (jB : Nat) : Prop :=
  (jB < q.2.2.1 ∧ q.2.1 jB = ("java/lang/Throwable", "backtrace", "Ljava/lang/Object;", false) ∧ fcode (q.2.2.2.1 jB) = 5) ∧
  (∀ k, k < q.2.2.1 → (q.2.1 k).2.1 ≠ "cause" ∧ (q.2.1 k).2.1 ≠ "stackTrace" ∧ (q.2.1 k).2.1 ≠ "suppressedExceptions" ∧ (q.2.1 k).2.1 ≠ "detailMessage") ∧
  Cond.selects q.1 Bundle.tFill Bundle.tFill ∈ lw_all ∧ Cond.selects q.1 Bundle.tFill0 Bundle.tFill0 ∈ lw_all ∧
  Cond.lays q.1 "java/lang/Throwable" "cause" "Ljava/lang/Throwable;" ∈ lw_all ∧ Cond.lays q.1 "java/lang/Throwable" "stackTrace" "[Ljava/lang/StackTraceElement;" ∈ lw_all ∧ Cond.lays q.1 "java/lang/Throwable" "suppressedExceptions" "Ljava/util/List;" ∈ lw_all ∧ Cond.lays q.1 "java/lang/Throwable" "detailMessage" "Ljava/lang/String;" ∈ lw_all
theorem ZS.lays {D : SD} {C n d : String} {s : State} {args : Array Value} {h : Hp} (hz : ZS D C n d s) (hR : Rel D h s.heap) : (Cond.laysStatic C n d).before args s = true := by
  obtain ⟨c, k, i, f, a, cell, v, h0, h1, h2, h3, h4, h5, h6, h7, h8, h9, h10, h11⟩ := hz
  have h5' : s.heap[a]? = some cell := by rw [hR.2.2.2.1 a h4]; exact h5
  simp [Cond.before, Cond.holds, Cond.value, h0, h1, h2, h3, h5', h6, h7, h8, h9]
section GE
variable {p : Program} {l : Launch} {e : Env} {R : Room} {s : State} {m : MethodId} {args : Array Value} {below : List Frame} {meth : Method} {c : Code} {D : SD} {h0 : Hp} {nL : Nat} {cc : ByteArray} {own : String} {ret : Option FieldType} {pc : Nat} {ls : List (Nat × Value)} {st : List Value} {h : Hp}
variable {α : Type} {Φ : α → (State → Prop) → Prop} {k : Option α}
theorem tw_atoms (X : CX D p R s m args meth c h0 cc "java/lang/Throwable" nL ret) : ∀ w ∈ Bundle.throwableAtoms, w.before args s = true := by
  intro w hw
  have hts := X.2.2.2.2.2.1
  have hR := X.2.2.2.2.2.2.2.1
  obtain ⟨-, -, -, -, -, zU, zS⟩ := X.2.2.2.2.2.2.1.2.2.2.2
  unfold Bundle.throwableAtoms at hw
  simp only [List.mem_cons, List.not_mem_nil, or_false] at hw
  rcases hw with rfl | rfl | rfl | rfl | rfl | rfl | rfl | rfl | rfl | rfl | rfl | rfl | rfl | rfl | rfl | rfl | rfl | rfl | rfl | rfl | rfl | rfl | rfl | rfl
  · exact hts _ q380
  · exact hts _ q1639
  · exact hts _ q1587
  · exact hts _ q1599
  · exact hts _ q1602
  · exact hts _ q1604
  · exact hts _ q1640
  · exact hts _ q1641
  · exact hts _ q406
  · exact hts _ q407
  · exact hts _ q1581
  · exact hts _ q1586
  · exact hts _ q1600
  · exact hts _ q1607
  · exact hts _ q1633
  · exact hts _ q1608
  · exact hts _ q1634
  · exact hts _ q1609
  · exact hts _ q1635
  · exact hts _ q1582
  · exact zU.lays hR
  · exact hts _ q1584
  · exact zS.lays hR
  · exact hts _ q1636
theorem W_fill [NoTr l] (X : CX D p R s m args meth c h0 cc "java/lang/Throwable" nL ret) {ci jB : Nat} {q : CE} (hq : clT[ci]? = some q) (hE : EXok q jB) {H : Heap} {locs : List Loc} {cells slots : Nat} {Q : State → Prop} {self : Nat} {cell : Cell} {lsA : Array Slot} {rest : List Value}
    (hHb : ∀ x : Nat, x < D.base → H[x]? = D.H0[x]?) (hself : D.base ≤ self) (hc : H[self]? = some cell) (hcls : cell.cls = D.dC ci) (hvm : cell.vm = .none) (hfree : cell.monitor.owner = none) (hcount : cell.monitor.count = 0) (hback : cell.slots[D.dI ci jB]? = some .null)
    {cU : ClassId} {kU : Class} {iU aU : Nat} {fU : Field} {cellU : Cell} {v0 : Value} (z0 : s.fieldFound? "java/lang/Throwable" "UNASSIGNED_STACK" "[Ljava/lang/StackTraceElement;" = some (cU, kU, iU, fU)) (z1 : kU.statics = some aU) (z2 : aU < D.base) (z3 : D.H0[aU]? = some cellU) (z4 : cellU.vm.isStatics = true) (z5 : cellU.slots[fU.slot]? = some v0) (z6 : v0.isRef = true)
    {cS : ClassId} {kS : Class} {iS : Nat} {fS : Field} (w0 : s.fieldFound? "java/lang/Throwable" "stackTrace" "[Ljava/lang/StackTraceElement;" = some (cS, kS, iS, fS)) (w1 : cell.slots[fS.slot]? = some v0)
    (hsz : lsA.size = nL) (hfr : 3 ≤ R.frames) (hlo : (rest.map fun v => v.category).sum + 41 ≤ R.locals) (hd : decode cc pc = .ok (.invokevirtual 27, 3))
    (kk : W p l e R s m args below meth c H locs cells slots Q (F0 m (pc + 3) lsA (.ref self :: rest))) : W p l e R s m args below meth c H locs cells slots Q (F0 m pc lsA (.ref self :: rest)) := by
  intro U hU S
  subst hU
  have howns : e.platform.frameOwnsMonitors = true := by rw [S.admits.platform]
  have hfin : e.platform.finalization = false := by rw [S.admits.platform]
  have hpl : e.platform.magicAccessors = ({} : Platform).magicAccessors := by rw [S.admits.platform]
  have htr : e.platform.stackTraces = false := by rw [S.admits.platform]; exact noTr
  have hts := X.2.2.2.2.2.1
  obtain ⟨T, Z, L, LZ, Y⟩ := ThrowableC.of_atoms (args := args) howns hfin hpl (tw_atoms X)
  cases z0.symm.trans Y.unassigned
  cases w0.symm.trans Y.stack
  cases z1.symm.trans L.statics
  obtain ⟨hS, hfc, kC, hkC, hkind⟩ := X.kn hq
  obtain ⟨⟨hj, hjB, hj5⟩, -, hsF, hsF0, hlC, hlS, hlP, hlM⟩ := hE
  obtain ⟨c2, r2, m2, x1, x2, x3, x4, kP, hkP, hkPi⟩ := Cond.selects_spec (hts _ hsF)
  cases hfc.symm.trans x1
  cases (State.methodFound?_of_named Y.fill (by decide)).symm.trans x2
  cases Y.fill.symm.trans x3
  have hselF : selectMethod e.platform s.vm cell.cls T.fill = .method T.fill := by rw [Launch.admits_selectMethod S.admits, hcls]; exact x4
  obtain ⟨c3, r3, m3, y1, y2, y3, y4, -⟩ := Cond.selects_spec (hts _ hsF0)
  cases hfc.symm.trans y1
  cases (State.methodFound?_of_named Y.fill0 (by decide)).symm.trans y2
  cases Y.fill0.symm.trans y3
  have hsel0 : selectMethod e.platform s.vm cell.cls T.fill0 = .method T.fill0 := by rw [Launch.admits_selectMethod S.admits, hcls]; exact y4
  have hmF := L.method L.fillAt
  obtain ⟨vm₁, X₁, hstep₁⟩ := S.invokevirtual X.1 X.2.2.2.2.1 (hts _ q1586) Y.fill hmF L.fillStatic hkP hkPi (by decide) (a := self) (cell := cell) hc (fun z h => by rw [hvm] at h; cases h) hselF hmF L.fillAbstract hkP hkPi (g := F0 m pc lsA (.ref self :: rest)) rfl (argsL := []) (rest := rest) (by rw [L.fillParams]; rfl) rfl (by rw [X.2.1]; exact hd)
  have hcS : (U.setVm vm₁).heap[T.aS]? = some cellU := (hHb _ z2).trans z3
  have hknS : cellU.vm ≠ .unknown := fun q => by rw [q] at z4; cases z4
  obtain ⟨ci198, i198, fB, hk198, hg198, ha198, hsB, -, hnB, htB, hffB⟩ := Cond.ownField (t := .object "java/lang/Object") Y.found L.cls (by decide +kernel) (hts _ q1605) (hts _ q1637) e.platform hpl
  have hbk : cell.slots[fB.slot]? = some .null := by
    obtain ⟨cf, kf, fi, f, hi, hsl⟩ := hS jB hj
    rw [hjB] at hi
    cases hi.symm.trans hffB
    rw [hsl]; exact hback
  have htS : Takes s cell T.fStack v0 := by
    refine ⟨(Array.getElem?_eq_some_iff.mp w1).1, ?_⟩
    rw [hcls, hvm]
    exact (u_fits hfc hkC hkind (Or.inl (hts _ hlS)) Y.stack (ty := .array (.object "java/lang/StackTraceElement")) (by decide +kernel) (narrow_refV _ ⟨v0, z6⟩) (fits_refV_array _ ⟨v0, z6⟩)).2
  have hA := X₁.here
  have htop : (U.setVm vm₁).topJava?.isSome := hA.top
  have hfrm : (U.setVm vm₁).frames.length + 2 < (e.platform.stackLimits (U.setVm vm₁).me).1 := X₁.framesAbove (n := 2) (by omega)
  have hwds : (stackUse (.java (F0 m pc lsA rest) :: (U.setVm vm₁).frames.tail)).2 + 41 ≤ (e.platform.stackLimits (U.setVm vm₁).me).2 := X₁.stackAbove (g := F0 m pc lsA rest) (by show lsA.size = c.maxLocals; rw [X.2.2.2.1]; exact hsz) (K := 41) (by show 2 * 0 + (rest.map fun v => v.category).sum + 41 ≤ _; omega)
  obtain ⟨g₀, hg⟩ := Option.isSome_iff_exists.mp htop
  obtain ⟨tl, htl⟩ := State.topJava?_eq_some.mp hg
  have hlen : (U.setVm vm₁).frames.length = (Frame.java (F0 m pc lsA rest) :: (U.setVm vm₁).frames.tail).length := by rw [htl]; rfl
  have hfg : ((U.setVm vm₁).setTop (F0 m pc lsA rest)).frames = .java (F0 m pc lsA rest) :: (U.setVm vm₁).frames.tail := by rw [State.frames_setTop _ htl, htl]; rfl
  have hlimg : e.platform.stackLimits ((U.setVm vm₁).setTop (F0 m pc lsA rest)).me = e.platform.stackLimits (U.setVm vm₁).me := State.stackLimits_setTop _ htop _
  have hroom : e.platform.stackFull ((((U.setVm vm₁).setTop (F0 m pc lsA rest)).threads[((U.setVm vm₁).setTop (F0 m pc lsA rest)).cur]?).getD { frames := [] }) ((U.setVm vm₁).setTop (F0 m pc lsA rest)).frames (1 + 2) = false :=
    roomAbove (pushed := []) (base := .java (F0 m pc lsA rest) :: (U.setVm vm₁).frames.tail) (free := 41) hfg hlimg (by rw [← hlen]; simp only [List.length_nil]; omega) hwds (by simp only [stackUse_nil]; omega)
  have hroomN : ∀ vm1, e.platform.stackFull ((((fillInside ((U.setVm vm₁).setVm vm1) (F0 m pc lsA rest) T.fill self cell).setTop (fillJ T.fill self 16 [])).threads[((fillInside ((U.setVm vm₁).setVm vm1) (F0 m pc lsA rest) T.fill self cell).setTop (fillJ T.fill self 16 [])).cur]?).getD { frames := [] }) ((fillInside ((U.setVm vm₁).setVm vm1) (F0 m pc lsA rest) T.fill self cell).setTop (fillJ T.fill self 16 [])).frames (nativeFrameWords "java/lang/Throwable" "fillInStackTrace" 2) = false := by
    intro vm1
    have htopE : (((U.setVm vm₁).setVm vm1).setCell self (cell.withEntry ((U.setVm vm₁).setVm vm1).cur)).topJava?.isSome := htop
    have hfF : (fillInside ((U.setVm vm₁).setVm vm1) (F0 m pc lsA rest) T.fill self cell).frames = .java (entryFrameSync T.fill #[.ref self] 1 self) :: .java (F0 m pc lsA rest) :: (U.setVm vm₁).frames.tail := frames_entered (g := F0 m pc lsA rest) htopE _
    have htopF : (fillInside ((U.setVm vm₁).setVm vm1) (F0 m pc lsA rest) T.fill self cell).topJava?.isSome := by rw [State.topJava?_of_frames hfF]; rfl
    have hlimF : e.platform.stackLimits (fillInside ((U.setVm vm₁).setVm vm1) (F0 m pc lsA rest) T.fill self cell).me = e.platform.stackLimits (U.setVm vm₁).me := by
      rw [State.stackLimits_pushFrame, State.stackLimits_setTop _ htopE]; rfl
    have hw14 : (stackUse [Frame.java (fillJ T.fill self 16 [])]).2 = 14 := by
      rw [stackUse_java, stackUse_nil]
      simp [operandWords]
    exact roomAbove (pl := e.platform) (u := (fillInside ((U.setVm vm₁).setVm vm1) (F0 m pc lsA rest) T.fill self cell).setTop (fillJ T.fill self 16 [])) (vars := (nativeFrameWords "java/lang/Throwable" "fillInStackTrace" 2))
      (pushed := [.java (fillJ T.fill self 16 [])]) (base := .java (F0 m pc lsA rest) :: (U.setVm vm₁).frames.tail) (free := 41) (State.frames_setTop _ hfF) (by rw [State.stackLimits_setTop _ htopF]; exact hlimF)
      (by rw [← hlen]; simp only [List.length_cons, List.length_nil]; omega) hwds (by rw [hw14]; decide)
  obtain ⟨vm', hW', st⟩ := Steps.fillColdAnyV p (V := U.setVm vm₁) (g := F0 m pc lsA rest) (c := c) (self := self) hA X.1 T L X₁.warmed (Nn := fun u => u) heapOnly_id (fun _ _ => rfl) (fun _ => rfl) (fun u x y => setCell_twice _ _ _ _) (cell := cell) (cellS := cellU) (cN := cell.withEntry (U.setVm vm₁).cur) (u0 := ⟨v0, z6⟩) []
    hc (fun k h => by rw [hvm] at h; cases h) (by rw [hvm]; intro h; cases h) (Or.inl hfree) w1 hsel0 hcS (Nat.ne_of_lt (Nat.lt_of_lt_of_le z2 hself)) hknS z5 (fun _ hu => hu) (fun _ hu => hu) rfl rfl rfl rfl htS (by rw [X.2.1]; exact hd)
    (fun _ vm1 hW1 hA1 t' hrest => L.nativeOff p htr hA1 hW1 (hroomN vm1) hrest) hroom ⟨{ ci198 := ci198, i198 := i198, fBack := fB }, ⟨hk198, hg198, ha198, hsB⟩, hbk, fun _ _ => rfl⟩
  have ecell : ((cell.withEntry (U.setVm vm₁).cur).setSlot T.fStack.slot v0).left = cell := by
    rw [Cell.left_setSlot_withEntry _ _ _ hfree hcount, Cell.setSlot_same w1]
  have est : ((U.setVm vm₁).setVm vm').setCell self cell = (U.setVm vm₁).setVm vm' := State.setCell_asItLies hc
  obtain ⟨t, a1, a2⟩ := kk ((U.setVm vm₁).setVm vm') rfl (X₁.noted hW')
  refine ⟨t, hstep₁ t fun acts => ?_, a2⟩
  rw [doInvoke_state]
  refine st t ?_
  rw [show (((cell.withEntry (U.setVm vm₁).cur).setSlot T.fStack.slot (⟨v0, z6⟩ : RefV).v).left) = cell from ecell, est]
  exact a1
/-- a field of Throwable's own in an exception -/
theorem tw_field (X : CX D p R s m args meth c h0 cc "java/lang/Throwable" nL ret) {ci jB : Nat} {q : CE} (hq : clT[ci]? = some q) (hE : EXok q jB) {n d : String} {ty : FieldType} (hlay : Cond.lays q.1 "java/lang/Throwable" n d ∈ lw_all) (hde : parseFieldDescriptor d = some ty) (hn : ∀ k, k < q.2.2.1 → (q.2.1 k).2.1 ≠ n) :
    ∃ cf kf fi f, s.fieldFound? "java/lang/Throwable" n d = some (cf, kf, fi, f) ∧ f.isStatic = false ∧ f.name = n ∧ (∀ v : Value, narrow ty v = v → fits ty v = true → k2_Sd s f (D.dC ci) v) ∧ (∀ k, k < q.2.2.1 → f.slot ≠ D.dI ci k) ∧ f.slot < q.2.2.2.2 := by
  have hts := X.2.2.2.2.2.1
  obtain ⟨hS, hfc, kC, hkC, hkind⟩ := X.kn hq
  obtain ⟨c, k, cf, kf, fi, f, r1, r2, hi, -⟩ := Cond.lays_spec (hts _ hlay)
  obtain ⟨hst, -, hty⟩ := u_facts hfc hkC (Or.inl (hts _ hlay)) hi
  have hnm : f.name = n := (State.fieldFound?_type hi hde).1
  refine ⟨cf, kf, fi, f, hi, hst, hnm, fun v h1 h2 => u_store hfc hkC hkind (hts _ hlay) hi hde h1 h2, fun k hk => ?_, ?_⟩
  · obtain ⟨_, _, _, fa, hia, ea⟩ := hS k hk
    rw [← ea]
    have na : fa.name = (q.2.1 k).2.1 := (State.fieldFound?_type hia ((ce_ok hq).2.2.1 k hk)).1
    exact u_apart (Or.inl (hts _ hlay)) (u_lays hts (ce_ok hq).1 hk) hi hia (by rw [hnm, na]; exact (hn k hk).symm)
  · obtain ⟨c1, kX', hc1, hk1, hord, -, -, hn6⟩ := Cond.instantiable_spec (hts _ (ce_ok hq).2.2.2.1)
    cases hfc.symm.trans hc1
    cases hkC.symm.trans hk1
    have := (Array.getElem?_eq_some_iff.mp hty).1
    omega
theorem set_ne {cell : Cell} {i j : Nat} {v : Value} (h : i ≠ j) : (cell.setSlot i v).slots[j]? = cell.slots[j]? := by
  simp [Cell.setSlot, Array.getElem?_setIfInBounds, h]
theorem set_eq {cell : Cell} {i : Nat} {v : Value} (h : i < cell.slots.size) : (cell.setSlot i v).slots[i]? = some v := by
  simp [Cell.setSlot, h]
/-- a cell that differs from another in what isn't pictured -/
def Tch (D : SD) (ci : Nat) (q : CE) (x y : Cell) : Prop := y.cls = x.cls ∧ y.vm = x.vm ∧ y.monitor = x.monitor ∧ y.slots.size = x.slots.size ∧ ∀ k, k < q.2.2.1 → y.slots[D.dI ci k]? = x.slots[D.dI ci k]?
theorem Tch.set {ci : Nat} {q : CE} {x y : Cell} (hh : Tch D ci q x y) {i : Nat} {v : Value} (hi : ∀ k, k < q.2.2.1 → i ≠ D.dI ci k) : Tch D ci q x (y.setSlot i v) :=
  ⟨hh.1, hh.2.1, hh.2.2.1, by rw [slots_set]; exact hh.2.2.2.1, fun k hk => by rw [set_ne (hi k hk)]; exact hh.2.2.2.2 k hk⟩
theorem Tch.rel {H H' : Heap} {a : Int} {ci : Nat} {q : CE} {x y : Cell} (hR : RelE D h0 h H) (hq : clT[ci]? = some q) (hk : h a (-2) = 16 * ((ci : Int) + 1)) (hx : H[ph D a]? = some x) (hh : Tch D ci q x y) (hy : H'[ph D a]? = some y) (hz : H'.size = H.size) (ho : ∀ z : Nat, z ≠ ph D a → H'[z]? = H[z]?) : RelE D h0 h H' := by
  refine ⟨hR.1.touch hk hq ?_ hz ho ?_ ?_, hR.2⟩
  · obtain ⟨-, ⟨cell, q1, q2, q3, q4⟩, -, -⟩ := hR.1.obj hk hq
    cases hx.symm.trans q1
    exact ⟨y, hy, by rw [hh.1]; exact q2, by rw [hh.2.1]; exact q3, fun k hk => by rw [hh.2.2.2.2 k hk]; exact q4 k hk⟩
  · rw [hx, hy]; simp [hh.2.2.2.1]
  · intro hm cell hc
    cases hy.symm.trans hc
    obtain ⟨m1, m2, m3⟩ := hm x hx
    exact ⟨by rw [hh.2.2.2.1]; exact m1, by rw [hh.2.2.1]; exact m2, by rw [hh.2.2.1]; exact m3⟩
/-- a store into what isn't pictured -/
theorem a_touch (X : CX D p R s m args meth c h0 cc "java/lang/Throwable" nL ret) {Q : State → Prop} {ci jB index : Nat} {q : CE} {a : Int} {n d : String} {ty : FieldType} {v : Value} (hq : clT[ci]? = some q) (hE : EXok q jB) (hk : h a (-2) = 16 * ((ci : Int) + 1)) (hlink : Cond.fieldLink "java/lang/Throwable" index "java/lang/Throwable" n d ∈ lw_all) (hlay : Cond.lays q.1 "java/lang/Throwable" n d ∈ lw_all) (hde : parseFieldDescriptor d = some ty) (hn : ∀ k, k < q.2.2.1 → (q.2.1 k).2.1 ≠ n) (hna : narrow ty v = v) (hfi : fits ty v = true) (hd : decode cc pc = .ok (.putfield index, 3))
    (g : A_ p l e R s m args below meth c D h0 nL (pc + 3) ls st h Q) : A_ p l e R s m args below meth c D h0 nL pc ls (v :: rv D a :: st) h Q := by
  intro H locs lsA hR hL hl
  have hpos := hR.1.pos (a := a) (by omega)
  rw [rv_ref (by omega)]
  obtain ⟨o1, ⟨cell, q1, q2, q3, q4⟩, o3, o5⟩ := hR.1.obj hk hq
  obtain ⟨cf, kf, fi, f, hi, hst, -, hsd, hap, hlt⟩ := tw_field X hq hE hlay hde hn
  refine W.putK X.1 X.2.1 (f := f) ⟨X.2.2.2.2.1, X.2.2.2.2.2.1 _ hlink, ⟨_, _, _, hi⟩, hst⟩ (by rw [q2]; exact hsd v hna hfi) q1 q3 (by rw [(o5 cell q1).1]; exact hlt) rfl rfl hd (fun H' e1 e2 e3 => ?_)
  have hT : Tch D ci q cell (cell.setSlot f.slot v) := Tch.set ⟨rfl, rfl, rfl, rfl, fun _ _ => rfl⟩ hap
  refine g H' _ lsA (Tch.rel hR hq hk q1 hT e1 e2 e3) ?_ hl
  intro x hx
  rcases List.mem_append.mp hx with hx | hx
  · exact hL x hx
  · rw [List.mem_singleton.mp hx, ph_pos (by omega)]
    exact Nat.le_add_right _ _
theorem a_tinit [NoTr l] (X : CX D p R s m args meth c h0 cc "java/lang/Throwable" nL ret) {Q : State → Prop} {ci jB : Nat} {q : CE} {a : Int} (hq : clT[ci]? = some q) (hE : EXok q jB) (hk : h a (-2) = 16 * ((ci : Int) + 1)) (hB : h a (jB : Int) = 0) (hl0 : ls[0]? = some (0, rv D a)) (hfr : 3 ≤ R.frames) (hlo : 60 ≤ R.locals)
    (d0 : decode cc 0 = .ok (.aload_n 0, 1)) (d1 : decode cc 1 = .ok (.invokespecial 1, 3)) (d4 : decode cc 4 = .ok (.aload_n 0, 1)) (d5 : decode cc 5 = .ok (.aload_n 0, 1)) (d6 : decode cc 6 = .ok (.putfield 7, 3)) (d9 : decode cc 9 = .ok (.aload_n 0, 1)) (d10 : decode cc 10 = .ok (.getstatic 13, 3)) (d13 : decode cc 13 = .ok (.putfield 17, 3)) (d16 : decode cc 16 = .ok (.aload_n 0, 1)) (d17 : decode cc 17 = .ok (.getstatic 20, 3)) (d20 : decode cc 20 = .ok (.putfield 24, 3)) (d23 : decode cc 23 = .ok (.aload_n 0, 1)) (d24 : decode cc 24 = .ok (.invokevirtual 27, 3)) (d27 : decode cc 27 = .ok (.pop, 1))
    (g : A_ p l e R s m args below meth c D h0 nL 28 ls [] h Q) : A_ p l e R s m args below meth c D h0 nL 0 ls [] h Q := by
  intro H locs lsA hR hL hl
  have hts := X.2.2.2.2.2.1
  have hpos := hR.1.pos (a := a) (by omega)
  have hat := lv_at hl 0 hl0
  rw [rv_ref (by omega)] at hat
  have hbase : D.base ≤ ph D a := by rw [ph_pos (by omega)]; exact Nat.le_add_right _ _
  obtain ⟨o1, ⟨cell, q1, q2, q3, q4⟩, o3, o5⟩ := hR.1.obj hk hq
  obtain ⟨-, -, -, -, -, zU, zS⟩ := X.2.2.2.2.2.2.1.2.2.2.2
  obtain ⟨cU, kU, iU, fU, aU, cellU, v0, u0, u1, u2, u3, u4, u5, u6, u7, u8, u9, u10, u11⟩ := zU
  obtain ⟨cV, kV, iV, fV, aV, cellV, v1, w0, w1, w2, w3, w4, w5, w6, w7, w8, w9, w10, w11⟩ := zS
  have hinU : kU.init = .initialized := Cond.initialized_spec u0 (State.fieldFound?_spec u1).1 (hts _ q380)
  have hinV : kV.init = .initialized := Cond.initialized_spec w0 (State.fieldFound?_spec w1).1 (hts _ q380)
  obtain ⟨cC, kC, iC, fC, c1, c2, c3, c4, c5, c6⟩ := tw_field X hq hE hE.2.2.2.2.1 (ty := .object "java/lang/Throwable") (by decide +kernel) (fun k hk => (hE.2.1 k hk).1)
  obtain ⟨cS, kS, iS, fS, s1, s2, s3, s4, s5, s6⟩ := tw_field X hq hE hE.2.2.2.2.2.1 (ty := .array (.object "java/lang/StackTraceElement")) (by decide +kernel) (fun k hk => (hE.2.1 k hk).2.1)
  obtain ⟨cP, kP, iP, fP, p1, p2, p3, p4, p5, p6⟩ := tw_field X hq hE hE.2.2.2.2.2.2.1 (ty := .object "java/util/List") (by decide +kernel) (fun k hk => (hE.2.1 k hk).2.2.1)
  have hSP : fP.slot ≠ fS.slot := u_apart (Or.inl (hts _ hE.2.2.2.2.2.2.1)) (Or.inl (hts _ hE.2.2.2.2.2.1)) p1 s1 (by rw [p3, s3]; decide)
  obtain ⟨z1, z2, z3⟩ := o5 cell q1
  refine lv_aload_n X.1 X.2.1 d0 rfl hat ?_
  refine W.objInit X.1 X.2.1 X.2.2.2.2.1 (hts _ q1581) (hts _ q406) (hts _ q407) rfl (by rw [X.2.2.2.1]; exact hl.1) rfl d1 (by omega) (by show 2 * 0 + 0 + 12 ≤ _; omega) ?_
  refine lv_aload_n (pc := 4) X.1 X.2.1 d4 rfl hat ?_
  refine lv_aload_n (pc := 5) X.1 X.2.1 d5 rfl hat ?_
  refine W.putK (g := F0 m 6 lsA [.ref (ph D a), .ref (ph D a)]) X.1 X.2.1 (f := fC) ⟨X.2.2.2.2.1, hts _ q1607, ⟨_, _, _, c1⟩, c2⟩ (by rw [q2]; exact c4 _ (narrow_refV _ ⟨.ref (ph D a), rfl⟩) (fits_refV_object _ ⟨.ref (ph D a), rfl⟩)) q1 q3 (by rw [z1]; exact c6) rfl rfl d6 (fun H1 e1 e2 e3 => ?_)
  have t1 : Tch D ci q cell (cell.setSlot fC.slot (.ref (ph D a))) := Tch.set ⟨rfl, rfl, rfl, rfl, fun _ _ => rfl⟩ c5
  refine lv_aload_n (pc := 9) X.1 X.2.1 d9 rfl hat ?_
  have hb1 : ∀ x : Nat, x < D.base → H1[x]? = D.H0[x]? := fun x hx => (e3 x (Nat.ne_of_lt (Nat.lt_of_lt_of_le hx hbase))).trans (hR.1.2.2.2.1 x hx)
  refine W.gets (g := F0 m 10 lsA [.ref (ph D a)]) X.1 X.2.1 X.2.2.2.2.1 (hts _ q1582) u1 u2 hinU u3 ((hb1 _ u4).trans u5) (fun q => by rw [q] at u6; cases u6) u10 rfl d10 ?_
  refine W.putK (g := F0 m 13 lsA [v0, .ref (ph D a)]) X.1 X.2.1 (f := fS) ⟨X.2.2.2.2.1, hts _ q1608, ⟨_, _, _, s1⟩, s2⟩ (by rw [t1.1, q2]; exact s4 _ (narrow_refV _ ⟨v0, u11⟩) (fits_refV_array _ ⟨v0, u11⟩)) e1 (by rw [t1.2.1]; exact q3) (by rw [t1.2.2.2.1, z1]; exact s6) rfl rfl d13 (fun H2 f1 f2 f3 => ?_)
  have t2 : Tch D ci q cell ((cell.setSlot fC.slot (.ref (ph D a))).setSlot fS.slot v0) := t1.set s5
  refine lv_aload_n (pc := 16) X.1 X.2.1 d16 rfl hat ?_
  have hb2 : ∀ x : Nat, x < D.base → H2[x]? = D.H0[x]? := fun x hx => (f3 x (Nat.ne_of_lt (Nat.lt_of_lt_of_le hx hbase))).trans (hb1 x hx)
  refine W.gets (g := F0 m 17 lsA [.ref (ph D a)]) X.1 X.2.1 X.2.2.2.2.1 (hts _ q1584) w1 w2 hinV w3 ((hb2 _ w4).trans w5) (fun q => by rw [q] at w6; cases w6) w10 rfl d17 ?_
  refine W.putK (g := F0 m 20 lsA [v1, .ref (ph D a)]) X.1 X.2.1 (f := fP) ⟨X.2.2.2.2.1, hts _ q1609, ⟨_, _, _, p1⟩, p2⟩ (by rw [t2.1, q2]; exact p4 _ (narrow_refV _ ⟨v1, w11⟩) (fits_refV_object _ ⟨v1, w11⟩)) f1 (by rw [t2.2.1]; exact q3) (by rw [t2.2.2.2.1, z1]; exact p6) rfl rfl d20 (fun H3 g1 g2 g3 => ?_)
  have t3 : Tch D ci q cell (((cell.setSlot fC.slot (.ref (ph D a))).setSlot fS.slot v0).setSlot fP.slot v1) := t2.set p5
  refine lv_aload_n (pc := 23) X.1 X.2.1 d23 rfl hat ?_
  have hb3 : ∀ x : Nat, x < D.base → H3[x]? = D.H0[x]? := fun x hx => (g3 x (Nat.ne_of_lt (Nat.lt_of_lt_of_le hx hbase))).trans (hb2 x hx)
  have hback : (((cell.setSlot fC.slot (.ref (ph D a))).setSlot fS.slot v0).setSlot fP.slot v1).slots[D.dI ci jB]? = some .null := by
    rw [t3.2.2.2.2 jB hE.1.1, q4 jB hE.1.1]
    show some (tv D (fcode (q.2.2.2.1 jB)) (h a (jB : Int))) = _
    rw [hE.1.2.2, hB]
    show some (rv D 0) = _
    rw [rv_null]
  have hstk : (((cell.setSlot fC.slot (.ref (ph D a))).setSlot fS.slot v0).setSlot fP.slot v1).slots[fS.slot]? = some v0 := by
    rw [set_ne hSP, set_eq (by rw [t1.2.2.2.1, z1]; exact s6)]
  refine W_fill (pc := 24) (rest := []) X hq hE hb3 hbase g1 (t3.1.trans q2) (t3.2.1.trans q3) (by rw [t3.2.2.1]; exact z2) (by rw [t3.2.2.1]; exact z3) hback u1 u3 u4 u5 u6 u10 u11 s1 hstk hl.1 (by omega) (by show 0 + 41 ≤ _; omega) d24 ?_
  refine lv_pop (pc := 27) X.1 X.2.1 d27 rfl ?_
  refine g H3 _ lsA (Tch.rel hR hq hk q1 t3 g1 (g2.trans (f2.trans e2)) (fun z hz => (g3 z hz).trans ((f3 z hz).trans (e3 z hz)))) ?_ hl
  intro x hx
  have hbx : ∀ (i : Nat) (L : List Loc), (∀ y ∈ L, D.base ≤ y.base) → ∀ y ∈ L ++ [(⟨ph D a, i⟩ : Loc)], D.base ≤ y.base := by
    intro i L hL y hy
    rcases List.mem_append.mp hy with hy | hy
    · exact hL y hy
    · rw [List.mem_singleton.mp hy]; exact hbase
  exact hbx _ _ (hbx _ _ (hbx _ _ hL)) x hx
end GE
theorem ex_X26 : EXok (RX26, TX26e, 2, tyX26e, 7) 1 := ⟨⟨by decide, rfl, rfl⟩, by decide, q1589, q1831, q1832, q1833, q1834, q1835⟩
theorem ex_X27 : EXok (RX27, TX27e, 2, tyX27e, 7) 1 := ⟨⟨by decide, rfl, rfl⟩, by decide, q1591, q4390, q4391, q4392, q4393, q4394⟩
theorem ex_X29 : EXok (RX29, TX29e, 1, tyX29e, 6) 0 := ⟨⟨by decide, rfl, rfl⟩, fun _ _ => (by decide : ("backtrace" : String) ≠ "cause" ∧ ("backtrace" : String) ≠ "stackTrace" ∧ ("backtrace" : String) ≠ "suppressedExceptions" ∧ ("backtrace" : String) ≠ "detailMessage"), q1590, q4794, q4795, q4796, q4797, q4798⟩
theorem ex_J3 : EXok (RJ3, TJ3e, 1, tyJ3e, 6) 0 := ⟨⟨by decide, rfl, rfl⟩, fun _ _ => (by decide : ("backtrace" : String) ≠ "cause" ∧ ("backtrace" : String) ≠ "stackTrace" ∧ ("backtrace" : String) ≠ "suppressedExceptions" ∧ ("backtrace" : String) ≠ "detailMessage"), q1596, q1657, q1658, q1659, q1660, q1661⟩
theorem ex_J6 : EXok (RJ6, TJ6e, 1, tyJ6e, 6) 0 := ⟨⟨by decide, rfl, rfl⟩, fun _ _ => (by decide : ("backtrace" : String) ≠ "cause" ∧ ("backtrace" : String) ≠ "stackTrace" ∧ ("backtrace" : String) ≠ "suppressedExceptions" ∧ ("backtrace" : String) ≠ "detailMessage"), q1594, q1693, q1694, q1695, q1696, q1697⟩
theorem ex_J10 : EXok (RJ10, TJ10e, 1, tyJ10e, 6) 0 := ⟨⟨by decide, rfl, rfl⟩, fun _ _ => (by decide : ("backtrace" : String) ≠ "cause" ∧ ("backtrace" : String) ≠ "stackTrace" ∧ ("backtrace" : String) ≠ "suppressedExceptions" ∧ ("backtrace" : String) ≠ "detailMessage"), q1597, q1885, q1886, q1887, q1888, q1889⟩
theorem ex_J11 : EXok (RJ11, TJ11e, 1, tyJ11e, 6) 0 := ⟨⟨by decide, rfl, rfl⟩, fun _ _ => (by decide : ("backtrace" : String) ≠ "cause" ∧ ("backtrace" : String) ≠ "stackTrace" ∧ ("backtrace" : String) ≠ "suppressedExceptions" ∧ ("backtrace" : String) ≠ "detailMessage"), q1595, q2248, q2249, q2250, q2251, q2252⟩
theorem ex_J12 : EXok (RJ12, TJ12e, 1, tyJ12e, 6) 0 := ⟨⟨by decide, rfl, rfl⟩, fun _ _ => (by decide : ("backtrace" : String) ≠ "cause" ∧ ("backtrace" : String) ≠ "stackTrace" ∧ ("backtrace" : String) ≠ "suppressedExceptions" ∧ ("backtrace" : String) ≠ "detailMessage"), q1592, q2276, q2270, q2271, q2273, q2269⟩
theorem ex_J14 : EXok (RJ14, TJ14e, 1, tyJ14e, 6) 0 := ⟨⟨by decide, rfl, rfl⟩, fun _ _ => (by decide : ("backtrace" : String) ≠ "cause" ∧ ("backtrace" : String) ≠ "stackTrace" ∧ ("backtrace" : String) ≠ "suppressedExceptions" ∧ ("backtrace" : String) ≠ "detailMessage"), q1598, q3163, q3164, q3165, q3166, q3167⟩
def k_J0_init_2 : List (Nat × Instr × Nat) := [(0, .aload_n 0, 1), (1, .invokespecial 1, 3), (4, .aload_n 0, 1), (5, .aload_n 0, 1), (6, .putfield 7, 3), (9, .aload_n 0, 1), (10, .getstatic 13, 3), (13, .putfield 17, 3), (16, .aload_n 0, 1), (17, .getstatic 20, 3), (20, .putfield 24, 3), (23, .aload_n 0, 1), (24, .invokevirtual 27, 3), (27, .pop, 1), (28, .return_, 1)]
theorem t_J0_init_2 : ∀ q ∈ k_J0_init_2, decode cJ0_init_2 q.1 = .ok q.2 := dl_all (by decide +kernel)
def k_J0_init_3 : List (Nat × Instr × Nat) := [(0, .aload_n 0, 1), (1, .invokespecial 1, 3), (4, .aload_n 0, 1), (5, .aload_n 0, 1), (6, .putfield 7, 3), (9, .aload_n 0, 1), (10, .getstatic 13, 3), (13, .putfield 17, 3), (16, .aload_n 0, 1), (17, .getstatic 20, 3), (20, .putfield 24, 3), (23, .aload_n 0, 1), (24, .invokevirtual 27, 3), (27, .pop, 1), (28, .aload_n 0, 1), (29, .aload_n 1, 1), (30, .putfield 31, 3), (33, .aload_n 0, 1), (34, .aload_n 2, 1), (35, .putfield 7, 3), (38, .return_, 1)]
theorem t_J0_init_3 : ∀ q ∈ k_J0_init_3, decode cJ0_init_3 q.1 = .ok q.2 := dl_all (by decide +kernel)
def k_J1_init_2 : List (Nat × Instr × Nat) := [(0, .aload_n 0, 1), (1, .invokespecial 1, 3), (4, .return_, 1)]
theorem t_J1_init_2 : ∀ q ∈ k_J1_init_2, decode cJ1_init_2 q.1 = .ok q.2 := dl_all (by decide +kernel)
def k_J1_init_3 : List (Nat × Instr × Nat) := [(0, .aload_n 0, 1), (1, .aload_n 1, 1), (2, .aload_n 2, 1), (3, .invokespecial 10, 3), (6, .return_, 1)]
theorem t_J1_init_3 : ∀ q ∈ k_J1_init_3, decode cJ1_init_3 q.1 = .ok q.2 := dl_all (by decide +kernel)
def k_J2_init_2 : List (Nat × Instr × Nat) := [(0, .aload_n 0, 1), (1, .invokespecial 1, 3), (4, .return_, 1)]
theorem t_J2_init_2 : ∀ q ∈ k_J2_init_2, decode cJ2_init_2 q.1 = .ok q.2 := dl_all (by decide +kernel)
def k_J2_init_3 : List (Nat × Instr × Nat) := [(0, .aload_n 0, 1), (1, .aload_n 1, 1), (2, .aload_n 2, 1), (3, .invokespecial 10, 3), (6, .return_, 1)]
theorem t_J2_init_3 : ∀ q ∈ k_J2_init_3, decode cJ2_init_3 q.1 = .ok q.2 := dl_all (by decide +kernel)
def k_J10_init : List (Nat × Instr × Nat) := [(0, .aload_n 0, 1), (1, .aload_n 1, 1), (2, .aload_n 2, 1), (3, .invokespecial 10, 3), (6, .return_, 1)]
theorem t_J10_init : ∀ q ∈ k_J10_init, decode cJ10_init q.1 = .ok q.2 := dl_all (by decide +kernel)
def k_J10_init_2 : List (Nat × Instr × Nat) := [(0, .aload_n 0, 1), (1, .invokespecial 1, 3), (4, .return_, 1)]
theorem t_J10_init_2 : ∀ q ∈ k_J10_init_2, decode cJ10_init_2 q.1 = .ok q.2 := dl_all (by decide +kernel)
def k_J11_init : List (Nat × Instr × Nat) := [(0, .aload_n 0, 1), (1, .invokespecial 1, 3), (4, .return_, 1)]
theorem t_J11_init : ∀ q ∈ k_J11_init, decode cJ11_init q.1 = .ok q.2 := dl_all (by decide +kernel)
def k_J12_init_2 : List (Nat × Instr × Nat) := [(0, .aload_n 0, 1), (1, .invokespecial 1, 3), (4, .return_, 1)]
theorem t_J12_init_2 : ∀ q ∈ k_J12_init_2, decode cJ12_init_2 q.1 = .ok q.2 := dl_all (by decide +kernel)
def k_J14_init : List (Nat × Instr × Nat) := [(0, .aload_n 0, 1), (1, .invokespecial 1, 3), (4, .return_, 1)]
theorem t_J14_init : ∀ q ∈ k_J14_init, decode cJ14_init q.1 = .ok q.2 := dl_all (by decide +kernel)
def k_J3_init_2 : List (Nat × Instr × Nat) := [(0, .aload_n 0, 1), (1, .invokespecial 1, 3), (4, .return_, 1)]
theorem t_J3_init_2 : ∀ q ∈ k_J3_init_2, decode cJ3_init_2 q.1 = .ok q.2 := dl_all (by decide +kernel)
def k_J6_init : List (Nat × Instr × Nat) := [(0, .aload_n 0, 1), (1, .invokespecial 1, 3), (4, .return_, 1)]
theorem t_J6_init : ∀ q ∈ k_J6_init, decode cJ6_init q.1 = .ok q.2 := dl_all (by decide +kernel)
def k_X26_init : List (Nat × Instr × Nat) := [(0, .aload_n 0, 1), (1, .aconst_null, 1), (2, .aconst_null, 1), (3, .invokespecial 1, 3), (6, .aload_n 0, 1), (7, .iload_n 1, 1), (8, .putfield 7, 3), (11, .return_, 1)]
theorem t_X26_init : ∀ q ∈ k_X26_init, decode cX26_init q.1 = .ok q.2 := dl_all (by decide +kernel)
def k_X27_init : List (Nat × Instr × Nat) := [(0, .aload_n 0, 1), (1, .invokespecial 1, 3), (4, .aload_n 0, 1), (5, .iload_n 1, 1), (6, .putfield 7, 3), (9, .return_, 1)]
theorem t_X27_init : ∀ q ∈ k_X27_init, decode cX27_init q.1 = .ok q.2 := dl_all (by decide +kernel)
def k_X29_init : List (Nat × Instr × Nat) := [(0, .aload_n 0, 1), (1, .invokespecial 1, 3), (4, .return_, 1)]
theorem t_X29_init : ∀ q ∈ k_X29_init, decode cX29_init q.1 = .ok q.2 := dl_all (by decide +kernel)
theorem s_T0 {l : Launch} [NoTr l] {D : SD} {h : Hp} {ci jB : Nat} {q : CE} {a : Int} (hq : clT[ci]? = some q) (hE : EXok q jB) (hk : h a (-2) = 16 * ((ci : Int) + 1)) (hB : h a (jB : Int) = 0) : Sim l D yJ0_init_2 (Cond.code yJ0_init_2 cJ0_init_2 1 none) 3 100 [rv D a] h 0 ((0, 0), h) := by
  refine Sim.of (fin := fun (v : Int) => ((0, v), h)) (k := some 0) (x := 0) (lsE := [(0, rv D a)]) rfl rfl cwS_code (la_r la_n) (ll_r ll_n) ?_
  intro p e s m below meth c X hcw hmm hcc hnm hname
  refine G.lift (fun Q g => a_tinit X hq hE hk hB rfl (Nat.le_of_ble_eq_true rfl) (Nat.le_of_ble_eq_true rfl) (dl_at t_J0_init_2 0 rfl) (dl_at t_J0_init_2 1 rfl) (dl_at t_J0_init_2 2 rfl) (dl_at t_J0_init_2 3 rfl) (dl_at t_J0_init_2 4 rfl) (dl_at t_J0_init_2 5 rfl) (dl_at t_J0_init_2 6 rfl) (dl_at t_J0_init_2 7 rfl) (dl_at t_J0_init_2 8 rfl) (dl_at t_J0_init_2 9 rfl) (dl_at t_J0_init_2 10 rfl) (dl_at t_J0_init_2 11 rfl) (dl_at t_J0_init_2 12 rfl) (dl_at t_J0_init_2 13 rfl) g) ?_
  exact g_vret (pc := 28) X (v := 0) rfl rfl (dl_at t_J0_init_2 14 rfl)
section GN
variable {p : Program} {l : Launch} {e : Env} {R : Room} {s : State} {m : MethodId} {args : Array Value} {below : List Frame} {meth : Method} {c : Code} {D : SD} {h0 : Hp} {nL : Nat} {cc : ByteArray} {own : String} {ret : Option FieldType} {pc : Nat} {ls : List (Nat × Value)} {st : List Value} {h : Hp}
variable {α : Type} {Φ : α → (State → Prop) → Prop} {k : Option α}
theorem g_aldN (X : CX D p R s m args meth c h0 cc own nL ret) {j : Fin 4} {i q : Nat} (hi : (j : Nat) = i) (hq : ls[q]? = some (i, .null)) (hd : decode cc pc = .ok (.aload_n j, 1)) (g : G p l e R s m args below meth c D h0 nL Φ (pc + 1) ls (.null :: st) h k) : G p l e R s m args below meth c D h0 nL Φ pc ls st h k :=
  G.lift (fun Q a H locs lsA hR hL hl => lv_aload_nN X.1 X.2.1 hd hi (lv_at hl q hq) (a H locs lsA hR hL hl)) g
theorem g_nullV (X : CX D p R s m args meth c h0 cc own nL ret) (hd : decode cc pc = .ok (.aconst_null, 1)) (g : G p l e R s m args below meth c D h0 nL Φ (pc + 1) ls (.null :: st) h k) : G p l e R s m args below meth c D h0 nL Φ pc ls st h k := g_null X hd (by rw [rv_null]; exact g)
theorem la_z {i : Nat} {vs : List Value} {r : List (Nat × Value)} (q : lv_args (i + 1) vs = r) : lv_args i (.null :: vs) = (i, .null) :: r := by rw [← q]; rfl
theorem ll_z {n : Nat} {vs : List Value} (q : (lg_sl vs).length ≤ n) : (lg_sl (.null :: vs)).length ≤ n + 1 := Nat.succ_le_succ q
end GN
theorem s_T3 {l : Launch} [NoTr l] {D : SD} {h : Hp} {ci jB : Nat} {q : CE} {a : Int} (hq : clT[ci]? = some q) (hE : EXok q jB) (hk : h a (-2) = 16 * ((ci : Int) + 1)) (hB : h a (jB : Int) = 0) : Sim l D yJ0_init_3 (Cond.code yJ0_init_3 cJ0_init_3 3 none) 3 100 [rv D a, .null, .null] h 0 ((0, 0), h) := by
  refine Sim.of (fin := fun (v : Int) => ((0, v), h)) (k := some 0) (x := 0) (lsE := [(0, rv D a), (1, .null), (2, .null)]) rfl rfl cwS_code (la_r (la_z (la_z la_n))) (ll_r (ll_z (ll_z ll_n))) ?_
  intro p e s m below meth c X hcw hmm hcc hnm hname
  refine G.lift (fun Q g => a_tinit X hq hE hk hB rfl (Nat.le_of_ble_eq_true rfl) (Nat.le_of_ble_eq_true rfl) (dl_at t_J0_init_3 0 rfl) (dl_at t_J0_init_3 1 rfl) (dl_at t_J0_init_3 2 rfl) (dl_at t_J0_init_3 3 rfl) (dl_at t_J0_init_3 4 rfl) (dl_at t_J0_init_3 5 rfl) (dl_at t_J0_init_3 6 rfl) (dl_at t_J0_init_3 7 rfl) (dl_at t_J0_init_3 8 rfl) (dl_at t_J0_init_3 9 rfl) (dl_at t_J0_init_3 10 rfl) (dl_at t_J0_init_3 11 rfl) (dl_at t_J0_init_3 12 rfl) (dl_at t_J0_init_3 13 rfl) g) ?_
  refine g_aload_n (pc := 28) X (j := 0) (i := 0) (q := 0) (x := a) rfl rfl (dl_at t_J0_init_3 14 rfl) ?_
  refine g_aldN (pc := 29) X (j := 1) (i := 1) (q := 1) rfl rfl (dl_at t_J0_init_3 15 rfl) ?_
  refine G.lift (fun Q g => a_touch (pc := 30) X hq hE hk q1606 hE.2.2.2.2.2.2.2 (by decide +kernel) (fun k hk => (hE.2.1 k hk).2.2.2) (narrow_refV (.object "java/lang/String") ⟨.null, rfl⟩) (fits_refV_object _ ⟨.null, rfl⟩) (dl_at t_J0_init_3 16 rfl) g) ?_
  refine g_aload_n (pc := 33) X (j := 0) (i := 0) (q := 0) (x := a) rfl rfl (dl_at t_J0_init_3 17 rfl) ?_
  refine g_aldN (pc := 34) X (j := 2) (i := 2) (q := 2) rfl rfl (dl_at t_J0_init_3 18 rfl) ?_
  refine G.lift (fun Q g => a_touch (pc := 35) X hq hE hk q1607 hE.2.2.2.2.1 (by decide +kernel) (fun k hk => (hE.2.1 k hk).1) (narrow_refV (.object "java/lang/Throwable") ⟨.null, rfl⟩) (fits_refV_object _ ⟨.null, rfl⟩) (dl_at t_J0_init_3 19 rfl) g) ?_
  exact g_vret (pc := 38) X (v := 0) rfl rfl (dl_at t_J0_init_3 20 rfl)
theorem s_E0 {l : Launch} [NoTr l] {D : SD} {h : Hp} {ci jB : Nat} {q : CE} {a : Int} (hq : clT[ci]? = some q) (hE : EXok q jB) (hk : h a (-2) = 16 * ((ci : Int) + 1)) (hB : h a (jB : Int) = 0) : Sim l D yJ1_init_2 (Cond.code yJ1_init_2 cJ1_init_2 1 none) 4 140 [rv D a] h 0 ((0, 0), h) := by
  refine Sim.of (fin := fun (v : Int) => ((0, v), h)) (k := some 0) (x := 0) (lsE := [(0, rv D a)]) rfl rfl cwS_code (la_r la_n) (ll_r ll_n) ?_
  intro p e s m below meth c X hcw hmm hcc hnm hname
  refine g_aload_n (pc := 0) X (j := 0) (i := 0) (q := 0) (x := a) rfl rfl (dl_at t_J1_init_2 0 rfl) ?_
  refine r_call0 (pc := 1) X (st := []) (s_T0 hq hE hk hB) cw_code q1641 q380 (in_I X (As := []) (by have := X.2.2.2.2.2.2.2.1.pos (a := a) (by omega); omega) rfl (Or.inl q1672) q1640 q1641 ⟨by decide, by decide⟩ rfl (dl_at t_J1_init_2 1 rfl)) (dl_at t_J1_init_2 1 rfl) (Nat.zero_le _) (Nat.le_of_ble_eq_true rfl) (Nat.le_of_ble_eq_true rfl) ?_
  exact g_vret (pc := 4) X (v := 0) rfl rfl (dl_at t_J1_init_2 2 rfl)
theorem s_R0 {l : Launch} [NoTr l] {D : SD} {h : Hp} {ci jB : Nat} {q : CE} {a : Int} (hq : clT[ci]? = some q) (hE : EXok q jB) (hk : h a (-2) = 16 * ((ci : Int) + 1)) (hB : h a (jB : Int) = 0) : Sim l D yJ2_init_2 (Cond.code yJ2_init_2 cJ2_init_2 1 none) 5 180 [rv D a] h 0 ((0, 0), h) := by
  refine Sim.of (fin := fun (v : Int) => ((0, v), h)) (k := some 0) (x := 0) (lsE := [(0, rv D a)]) rfl rfl cwS_code (la_r la_n) (ll_r ll_n) ?_
  intro p e s m below meth c X hcw hmm hcc hnm hname
  refine g_aload_n (pc := 0) X (j := 0) (i := 0) (q := 0) (x := a) rfl rfl (dl_at t_J2_init_2 0 rfl) ?_
  refine r_call0 (pc := 1) X (st := []) (s_E0 hq hE hk hB) cw_code q1671 q381 (in_I X (As := []) (by have := X.2.2.2.2.2.2.2.1.pos (a := a) (by omega); omega) rfl (Or.inl q1669) q1670 q1671 ⟨by decide, by decide⟩ rfl (dl_at t_J2_init_2 1 rfl)) (dl_at t_J2_init_2 1 rfl) (Nat.zero_le _) (Nat.le_of_ble_eq_true rfl) (Nat.le_of_ble_eq_true rfl) ?_
  exact g_vret (pc := 4) X (v := 0) rfl rfl (dl_at t_J2_init_2 2 rfl)
theorem s_E3 {l : Launch} [NoTr l] {D : SD} {h : Hp} {ci jB : Nat} {q : CE} {a : Int} (hq : clT[ci]? = some q) (hE : EXok q jB) (hk : h a (-2) = 16 * ((ci : Int) + 1)) (hB : h a (jB : Int) = 0) : Sim l D yJ1_init_3 (Cond.code yJ1_init_3 cJ1_init_3 3 none) 4 140 [rv D a, .null, .null] h 0 ((0, 0), h) := by
  refine Sim.of (fin := fun (v : Int) => ((0, v), h)) (k := some 0) (x := 0) (lsE := [(0, rv D a), (1, .null), (2, .null)]) rfl rfl cwS_code (la_r (la_z (la_z la_n))) (ll_r (ll_z (ll_z ll_n))) ?_
  intro p e s m below meth c X hcw hmm hcc hnm hname
  refine g_aload_n (pc := 0) X (j := 0) (i := 0) (q := 0) (x := a) rfl rfl (dl_at t_J1_init_3 0 rfl) ?_
  refine g_aldN (pc := 1) X (j := 1) (i := 1) (q := 1) rfl rfl (dl_at t_J1_init_3 1 rfl) ?_
  refine g_aldN (pc := 2) X (j := 2) (i := 2) (q := 2) rfl rfl (dl_at t_J1_init_3 2 rfl) ?_
  refine r_call0 (pc := 3) X (st := []) (s_T3 hq hE hk hB) cw_code q1851 q380 (in_I X (As := [.null, .null]) (by have := X.2.2.2.2.2.2.2.1.pos (a := a) (by omega); omega) rfl (Or.inl q1849) q1850 q1851 ⟨by decide, by decide⟩ rfl (dl_at t_J1_init_3 3 rfl)) (dl_at t_J1_init_3 3 rfl) (Nat.zero_le _) (Nat.le_of_ble_eq_true rfl) (Nat.le_of_ble_eq_true rfl) ?_
  exact g_vret (pc := 6) X (v := 0) rfl rfl (dl_at t_J1_init_3 4 rfl)
theorem s_R3 {l : Launch} [NoTr l] {D : SD} {h : Hp} {ci jB : Nat} {q : CE} {a : Int} (hq : clT[ci]? = some q) (hE : EXok q jB) (hk : h a (-2) = 16 * ((ci : Int) + 1)) (hB : h a (jB : Int) = 0) : Sim l D yJ2_init_3 (Cond.code yJ2_init_3 cJ2_init_3 3 none) 5 180 [rv D a, .null, .null] h 0 ((0, 0), h) := by
  refine Sim.of (fin := fun (v : Int) => ((0, v), h)) (k := some 0) (x := 0) (lsE := [(0, rv D a), (1, .null), (2, .null)]) rfl rfl cwS_code (la_r (la_z (la_z la_n))) (ll_r (ll_z (ll_z ll_n))) ?_
  intro p e s m below meth c X hcw hmm hcc hnm hname
  refine g_aload_n (pc := 0) X (j := 0) (i := 0) (q := 0) (x := a) rfl rfl (dl_at t_J2_init_3 0 rfl) ?_
  refine g_aldN (pc := 1) X (j := 1) (i := 1) (q := 1) rfl rfl (dl_at t_J2_init_3 1 rfl) ?_
  refine g_aldN (pc := 2) X (j := 2) (i := 2) (q := 2) rfl rfl (dl_at t_J2_init_3 2 rfl) ?_
  refine r_call0 (pc := 3) X (st := []) (s_E3 hq hE hk hB) cw_code q1848 q381 (in_I X (As := [.null, .null]) (by have := X.2.2.2.2.2.2.2.1.pos (a := a) (by omega); omega) rfl (Or.inl q1846) q1847 q1848 ⟨by decide, by decide⟩ rfl (dl_at t_J2_init_3 3 rfl)) (dl_at t_J2_init_3 3 rfl) (Nat.zero_le _) (Nat.le_of_ble_eq_true rfl) (Nat.le_of_ble_eq_true rfl) ?_
  exact g_vret (pc := 6) X (v := 0) rfl rfl (dl_at t_J2_init_3 4 rfl)
theorem s_U3 {l : Launch} [NoTr l] {D : SD} {h : Hp} {ci jB : Nat} {q : CE} {a : Int} (hq : clT[ci]? = some q) (hE : EXok q jB) (hk : h a (-2) = 16 * ((ci : Int) + 1)) (hB : h a (jB : Int) = 0) : Sim l D yJ10_init (Cond.code yJ10_init cJ10_init 3 none) 6 220 [rv D a, .null, .null] h 0 ((0, 0), h) := by
  refine Sim.of (fin := fun (v : Int) => ((0, v), h)) (k := some 0) (x := 0) (lsE := [(0, rv D a), (1, .null), (2, .null)]) rfl rfl cwS_code (la_r (la_z (la_z la_n))) (ll_r (ll_z (ll_z ll_n))) ?_
  intro p e s m below meth c X hcw hmm hcc hnm hname
  refine g_aload_n (pc := 0) X (j := 0) (i := 0) (q := 0) (x := a) rfl rfl (dl_at t_J10_init 0 rfl) ?_
  refine g_aldN (pc := 1) X (j := 1) (i := 1) (q := 1) rfl rfl (dl_at t_J10_init 1 rfl) ?_
  refine g_aldN (pc := 2) X (j := 2) (i := 2) (q := 2) rfl rfl (dl_at t_J10_init 2 rfl) ?_
  refine r_call0 (pc := 3) X (st := []) (s_R3 hq hE hk hB) cw_code q1845 q382 (in_I X (As := [.null, .null]) (by have := X.2.2.2.2.2.2.2.1.pos (a := a) (by omega); omega) rfl (Or.inl q1843) q1844 q1845 ⟨by decide, by decide⟩ rfl (dl_at t_J10_init 3 rfl)) (dl_at t_J10_init 3 rfl) (Nat.zero_le _) (Nat.le_of_ble_eq_true rfl) (Nat.le_of_ble_eq_true rfl) ?_
  exact g_vret (pc := 6) X (v := 0) rfl rfl (dl_at t_J10_init 4 rfl)
theorem s_x_J6 {l : Launch} [NoTr l] {D : SD} {h : Hp} {ci jB : Nat} {q : CE} {a : Int} (hq : clT[ci]? = some q) (hE : EXok q jB) (hk : h a (-2) = 16 * ((ci : Int) + 1)) (hB : h a (jB : Int) = 0) : Sim l D yJ6_init (Cond.code yJ6_init cJ6_init 1 none) 8 300 [rv D a] h 0 ((0, 0), h) := by
  refine Sim.of (fin := fun (v : Int) => ((0, v), h)) (k := some 0) (x := 0) (lsE := [(0, rv D a)]) rfl rfl cwS_code (la_r la_n) (ll_r ll_n) ?_
  intro p e s m below meth c X hcw hmm hcc hnm hname
  refine g_aload_n (pc := 0) X (j := 0) (i := 0) (q := 0) (x := a) rfl rfl (dl_at t_J6_init 0 rfl) ?_
  refine r_call0 (pc := 1) X (st := []) (s_R0 hq hE hk hB) cw_code q1668 q382 (in_I X (As := []) (by have := X.2.2.2.2.2.2.2.1.pos (a := a) (by omega); omega) rfl (Or.inl q1702) q1667 q1668 ⟨by decide, by decide⟩ rfl (dl_at t_J6_init 1 rfl)) (dl_at t_J6_init 1 rfl) (Nat.zero_le _) (Nat.le_of_ble_eq_true rfl) (Nat.le_of_ble_eq_true rfl) ?_
  exact g_vret (pc := 4) X (v := 0) rfl rfl (dl_at t_J6_init 2 rfl)
theorem sx_IllegalArgumentException_init__V {l : Launch} [NoTr l] {D : SD} {a0 : Int} {h : Hp} (hk : h a0 (-2) = 496) {r : Hp} (hm : x_init0 a0 h = some r) : Sim l D yJ6_init (Cond.code yJ6_init cJ6_init 1 (Option.none : Option Jvm.ClassFile.FieldType)) 8 300 [rv D a0] h 0 ((0, 0), r) := by
  unfold x_init0 at hm
  split at hm
  · next hb => cases hm; exact s_x_J6 (ci := 30) rfl ex_J6 hk hb
  · cases hm
theorem s_x_J11 {l : Launch} [NoTr l] {D : SD} {h : Hp} {ci jB : Nat} {q : CE} {a : Int} (hq : clT[ci]? = some q) (hE : EXok q jB) (hk : h a (-2) = 16 * ((ci : Int) + 1)) (hB : h a (jB : Int) = 0) : Sim l D yJ11_init (Cond.code yJ11_init cJ11_init 1 none) 8 300 [rv D a] h 0 ((0, 0), h) := by
  refine Sim.of (fin := fun (v : Int) => ((0, v), h)) (k := some 0) (x := 0) (lsE := [(0, rv D a)]) rfl rfl cwS_code (la_r la_n) (ll_r ll_n) ?_
  intro p e s m below meth c X hcw hmm hcc hnm hname
  refine g_aload_n (pc := 0) X (j := 0) (i := 0) (q := 0) (x := a) rfl rfl (dl_at t_J11_init 0 rfl) ?_
  refine r_call0 (pc := 1) X (st := []) (s_R0 hq hE hk hB) cw_code q1668 q382 (in_I X (As := []) (by have := X.2.2.2.2.2.2.2.1.pos (a := a) (by omega); omega) rfl (Or.inl q2257) q1667 q1668 ⟨by decide, by decide⟩ rfl (dl_at t_J11_init 1 rfl)) (dl_at t_J11_init 1 rfl) (Nat.zero_le _) (Nat.le_of_ble_eq_true rfl) (Nat.le_of_ble_eq_true rfl) ?_
  exact g_vret (pc := 4) X (v := 0) rfl rfl (dl_at t_J11_init 2 rfl)
theorem sx_IllegalStateException_init__V {l : Launch} [NoTr l] {D : SD} {a0 : Int} {h : Hp} (hk : h a0 (-2) = 528) {r : Hp} (hm : x_init0 a0 h = some r) : Sim l D yJ11_init (Cond.code yJ11_init cJ11_init 1 (Option.none : Option Jvm.ClassFile.FieldType)) 8 300 [rv D a0] h 0 ((0, 0), r) := by
  unfold x_init0 at hm
  split at hm
  · next hb => cases hm; exact s_x_J11 (ci := 32) rfl ex_J11 hk hb
  · cases hm
theorem s_x_J3 {l : Launch} [NoTr l] {D : SD} {h : Hp} {ci jB : Nat} {q : CE} {a : Int} (hq : clT[ci]? = some q) (hE : EXok q jB) (hk : h a (-2) = 16 * ((ci : Int) + 1)) (hB : h a (jB : Int) = 0) : Sim l D yJ3_init_2 (Cond.code yJ3_init_2 cJ3_init_2 1 none) 8 300 [rv D a] h 0 ((0, 0), h) := by
  refine Sim.of (fin := fun (v : Int) => ((0, v), h)) (k := some 0) (x := 0) (lsE := [(0, rv D a)]) rfl rfl cwS_code (la_r la_n) (ll_r ll_n) ?_
  intro p e s m below meth c X hcw hmm hcc hnm hname
  refine g_aload_n (pc := 0) X (j := 0) (i := 0) (q := 0) (x := a) rfl rfl (dl_at t_J3_init_2 0 rfl) ?_
  refine r_call0 (pc := 1) X (st := []) (s_R0 hq hE hk hB) cw_code q1668 q382 (in_I X (As := []) (by have := X.2.2.2.2.2.2.2.1.pos (a := a) (by omega); omega) rfl (Or.inl q1666) q1667 q1668 ⟨by decide, by decide⟩ rfl (dl_at t_J3_init_2 1 rfl)) (dl_at t_J3_init_2 1 rfl) (Nat.zero_le _) (Nat.le_of_ble_eq_true rfl) (Nat.le_of_ble_eq_true rfl) ?_
  exact g_vret (pc := 4) X (v := 0) rfl rfl (dl_at t_J3_init_2 2 rfl)
theorem sx_IndexOutOfBoundsException_init__V {l : Launch} [NoTr l] {D : SD} {a0 : Int} {h : Hp} (hk : h a0 (-2) = 480) {r : Hp} (hm : x_init0 a0 h = some r) : Sim l D yJ3_init_2 (Cond.code yJ3_init_2 cJ3_init_2 1 (Option.none : Option Jvm.ClassFile.FieldType)) 8 300 [rv D a0] h 0 ((0, 0), r) := by
  unfold x_init0 at hm
  split at hm
  · next hb => cases hm; exact s_x_J3 (ci := 29) rfl ex_J3 hk hb
  · cases hm
theorem s_x_J10 {l : Launch} [NoTr l] {D : SD} {h : Hp} {ci jB : Nat} {q : CE} {a : Int} (hq : clT[ci]? = some q) (hE : EXok q jB) (hk : h a (-2) = 16 * ((ci : Int) + 1)) (hB : h a (jB : Int) = 0) : Sim l D yJ10_init_2 (Cond.code yJ10_init_2 cJ10_init_2 1 none) 8 300 [rv D a] h 0 ((0, 0), h) := by
  refine Sim.of (fin := fun (v : Int) => ((0, v), h)) (k := some 0) (x := 0) (lsE := [(0, rv D a)]) rfl rfl cwS_code (la_r la_n) (ll_r ll_n) ?_
  intro p e s m below meth c X hcw hmm hcc hnm hname
  refine g_aload_n (pc := 0) X (j := 0) (i := 0) (q := 0) (x := a) rfl rfl (dl_at t_J10_init_2 0 rfl) ?_
  refine r_call0 (pc := 1) X (st := []) (s_R0 hq hE hk hB) cw_code q1668 q382 (in_I X (As := []) (by have := X.2.2.2.2.2.2.2.1.pos (a := a) (by omega); omega) rfl (Or.inl q1894) q1667 q1668 ⟨by decide, by decide⟩ rfl (dl_at t_J10_init_2 1 rfl)) (dl_at t_J10_init_2 1 rfl) (Nat.zero_le _) (Nat.le_of_ble_eq_true rfl) (Nat.le_of_ble_eq_true rfl) ?_
  exact g_vret (pc := 4) X (v := 0) rfl rfl (dl_at t_J10_init_2 2 rfl)
theorem sx_UnsupportedOperationException_init__V {l : Launch} [NoTr l] {D : SD} {a0 : Int} {h : Hp} (hk : h a0 (-2) = 512) {r : Hp} (hm : x_init0 a0 h = some r) : Sim l D yJ10_init_2 (Cond.code yJ10_init_2 cJ10_init_2 1 (Option.none : Option Jvm.ClassFile.FieldType)) 8 300 [rv D a0] h 0 ((0, 0), r) := by
  unfold x_init0 at hm
  split at hm
  · next hb => cases hm; exact s_x_J10 (ci := 31) rfl ex_J10 hk hb
  · cases hm
theorem s_x_J12 {l : Launch} [NoTr l] {D : SD} {h : Hp} {ci jB : Nat} {q : CE} {a : Int} (hq : clT[ci]? = some q) (hE : EXok q jB) (hk : h a (-2) = 16 * ((ci : Int) + 1)) (hB : h a (jB : Int) = 0) : Sim l D yJ12_init_2 (Cond.code yJ12_init_2 cJ12_init_2 1 none) 8 300 [rv D a] h 0 ((0, 0), h) := by
  refine Sim.of (fin := fun (v : Int) => ((0, v), h)) (k := some 0) (x := 0) (lsE := [(0, rv D a)]) rfl rfl cwS_code (la_r la_n) (ll_r ll_n) ?_
  intro p e s m below meth c X hcw hmm hcc hnm hname
  refine g_aload_n (pc := 0) X (j := 0) (i := 0) (q := 0) (x := a) rfl rfl (dl_at t_J12_init_2 0 rfl) ?_
  refine r_call0 (pc := 1) X (st := []) (s_R0 hq hE hk hB) cw_code q1668 q382 (in_I X (As := []) (by have := X.2.2.2.2.2.2.2.1.pos (a := a) (by omega); omega) rfl (Or.inl q3019) q1667 q1668 ⟨by decide, by decide⟩ rfl (dl_at t_J12_init_2 1 rfl)) (dl_at t_J12_init_2 1 rfl) (Nat.zero_le _) (Nat.le_of_ble_eq_true rfl) (Nat.le_of_ble_eq_true rfl) ?_
  exact g_vret (pc := 4) X (v := 0) rfl rfl (dl_at t_J12_init_2 2 rfl)
theorem sx_ArithmeticException_init__V {l : Launch} [NoTr l] {D : SD} {a0 : Int} {h : Hp} (hk : h a0 (-2) = 544) {r : Hp} (hm : x_init0 a0 h = some r) : Sim l D yJ12_init_2 (Cond.code yJ12_init_2 cJ12_init_2 1 (Option.none : Option Jvm.ClassFile.FieldType)) 8 300 [rv D a0] h 0 ((0, 0), r) := by
  unfold x_init0 at hm
  split at hm
  · next hb => cases hm; exact s_x_J12 (ci := 33) rfl ex_J12 hk hb
  · cases hm
theorem s_x_J14 {l : Launch} [NoTr l] {D : SD} {h : Hp} {ci jB : Nat} {q : CE} {a : Int} (hq : clT[ci]? = some q) (hE : EXok q jB) (hk : h a (-2) = 16 * ((ci : Int) + 1)) (hB : h a (jB : Int) = 0) : Sim l D yJ14_init (Cond.code yJ14_init cJ14_init 1 none) 8 300 [rv D a] h 0 ((0, 0), h) := by
  refine Sim.of (fin := fun (v : Int) => ((0, v), h)) (k := some 0) (x := 0) (lsE := [(0, rv D a)]) rfl rfl cwS_code (la_r la_n) (ll_r ll_n) ?_
  intro p e s m below meth c X hcw hmm hcc hnm hname
  refine g_aload_n (pc := 0) X (j := 0) (i := 0) (q := 0) (x := a) rfl rfl (dl_at t_J14_init 0 rfl) ?_
  refine r_call0 (pc := 1) X (st := []) (s_R0 hq hE hk hB) cw_code q1668 q382 (in_I X (As := []) (by have := X.2.2.2.2.2.2.2.1.pos (a := a) (by omega); omega) rfl (Or.inl q3172) q1667 q1668 ⟨by decide, by decide⟩ rfl (dl_at t_J14_init 1 rfl)) (dl_at t_J14_init 1 rfl) (Nat.zero_le _) (Nat.le_of_ble_eq_true rfl) (Nat.le_of_ble_eq_true rfl) ?_
  exact g_vret (pc := 4) X (v := 0) rfl rfl (dl_at t_J14_init 2 rfl)
theorem sx_NoSuchElementException_init__V {l : Launch} [NoTr l] {D : SD} {a0 : Int} {h : Hp} (hk : h a0 (-2) = 560) {r : Hp} (hm : x_init0 a0 h = some r) : Sim l D yJ14_init (Cond.code yJ14_init cJ14_init 1 (Option.none : Option Jvm.ClassFile.FieldType)) 8 300 [rv D a0] h 0 ((0, 0), r) := by
  unfold x_init0 at hm
  split at hm
  · next hb => cases hm; exact s_x_J14 (ci := 34) rfl ex_J14 hk hb
  · cases hm
theorem s_x_X29 {l : Launch} [NoTr l] {D : SD} {h : Hp} {ci jB : Nat} {q : CE} {a : Int} (hq : clT[ci]? = some q) (hE : EXok q jB) (hk : h a (-2) = 16 * ((ci : Int) + 1)) (hB : h a (jB : Int) = 0) : Sim l D yX29_init (Cond.code yX29_init cX29_init 1 none) 8 300 [rv D a] h 0 ((0, 0), h) := by
  refine Sim.of (fin := fun (v : Int) => ((0, v), h)) (k := some 0) (x := 0) (lsE := [(0, rv D a)]) rfl rfl cwS_code (la_r la_n) (ll_r ll_n) ?_
  intro p e s m below meth c X hcw hmm hcc hnm hname
  refine g_aload_n (pc := 0) X (j := 0) (i := 0) (q := 0) (x := a) rfl rfl (dl_at t_X29_init 0 rfl) ?_
  refine r_call0 (pc := 1) X (st := []) (s_R0 hq hE hk hB) cw_code q1668 q382 (in_I X (As := []) (by have := X.2.2.2.2.2.2.2.1.pos (a := a) (by omega); omega) rfl (Or.inl q4803) q1667 q1668 ⟨by decide, by decide⟩ rfl (dl_at t_X29_init 1 rfl)) (dl_at t_X29_init 1 rfl) (Nat.zero_le _) (Nat.le_of_ble_eq_true rfl) (Nat.le_of_ble_eq_true rfl) ?_
  exact g_vret (pc := 4) X (v := 0) rfl rfl (dl_at t_X29_init 2 rfl)
theorem sx_ScholarsPressModel_Beyond_init__V {l : Launch} [NoTr l] {D : SD} {a0 : Int} {h : Hp} (hk : h a0 (-2) = 464) {r : Hp} (hm : x_init0 a0 h = some r) : Sim l D yX29_init (Cond.code yX29_init cX29_init 1 (Option.none : Option Jvm.ClassFile.FieldType)) 8 300 [rv D a0] h 0 ((0, 0), r) := by
  unfold x_init0 at hm
  split at hm
  · next hb => cases hm; exact s_x_X29 (ci := 28) rfl ex_X29 hk hb
  · cases hm
theorem sx_ScholarsPress_Broken_init_I_V {l : Launch} [NoTr l] {D : SD} {a0 a1 : Int} {h : Hp} (hk : h a0 (-2) = 432) (r1 : r32 a1) {r : Hp} (hm : x_broken a0 a1 h = some r) : Sim l D yX26_init (Cond.code yX26_init cX26_init 2 (Option.none : Option Jvm.ClassFile.FieldType)) 8 300 [rv D a0, iv a1] h 0 ((0, 0), r) := by
  unfold x_broken at hm
  split at hm
  · next hb =>
    cases hm
    refine Sim.of (fin := fun (v : Hp) => ((0, 0), v)) (k := some (up h a0 0 a1)) (x := up h a0 0 a1) (lsE := [(0, rv D a0), (1, iv a1)]) rfl rfl cwS_code (la_r (la_i la_n)) (ll_r (ll_i ll_n)) ?_
    intro p e s m below meth c X hcw hmm hcc hnm hname
    have ha : a0 ≠ 0 := by have := X.2.2.2.2.2.2.2.1.pos (a := a0) (by omega); omega
    refine g_aload_n (pc := 0) X (j := 0) (i := 0) (q := 0) (x := a0) rfl rfl (dl_at t_X26_init 0 rfl) ?_
    refine g_nullV (pc := 1) X (dl_at t_X26_init 1 rfl) ?_
    refine g_nullV (pc := 2) X (dl_at t_X26_init 2 rfl) ?_
    refine r_call0 (pc := 3) X (st := []) (s_U3 (ci := 26) rfl ex_X26 hk hb) cw_code q1842 q390 (in_I X (As := [.null, .null]) ha rfl (Or.inl q1840) q1841 q1842 ⟨by decide, by decide⟩ rfl (dl_at t_X26_init 3 rfl)) (dl_at t_X26_init 3 rfl) (Nat.zero_le _) (Nat.le_of_ble_eq_true rfl) (Nat.le_of_ble_eq_true rfl) ?_
    refine g_aload_n (pc := 6) X (j := 0) (i := 0) (q := 0) (x := a0) rfl rfl (dl_at t_X26_init 4 rfl) ?_
    refine g_iload_n (pc := 7) X (j := 1) (i := 1) (q := 1) (x := a1) rfl rfl (dl_at t_X26_init 5 rfl) ?_
    refine G.lift (fun Q g => a_put (pc := 8) X (ci := 26) (j := 0) (jI := 0) (t := 1) rfl (by decide) rfl rfl (Or.inl rfl) hk (Or.inl ⟨X.2.2.2.2.2.1 _ q1852, Or.inr ⟨rfl, hname, rfl⟩⟩) (dl_at t_X26_init 6 rfl) r1 g) ?_
    exact g_vret (pc := 11) X (v := 0) rfl rfl (dl_at t_X26_init 7 rfl)
  · cases hm
theorem sx_ScholarsPressModel_Broken_init_I_V {l : Launch} [NoTr l] {D : SD} {a0 a1 : Int} {h : Hp} (hk : h a0 (-2) = 448) (r1 : r32 a1) {r : Hp} (hm : x_broken a0 a1 h = some r) : Sim l D yX27_init (Cond.code yX27_init cX27_init 2 (Option.none : Option Jvm.ClassFile.FieldType)) 8 300 [rv D a0, iv a1] h 0 ((0, 0), r) := by
  unfold x_broken at hm
  split at hm
  · next hb =>
    cases hm
    refine Sim.of (fin := fun (v : Hp) => ((0, 0), v)) (k := some (up h a0 0 a1)) (x := up h a0 0 a1) (lsE := [(0, rv D a0), (1, iv a1)]) rfl rfl cwS_code (la_r (la_i la_n)) (ll_r (ll_i ll_n)) ?_
    intro p e s m below meth c X hcw hmm hcc hnm hname
    have ha : a0 ≠ 0 := by have := X.2.2.2.2.2.2.2.1.pos (a := a0) (by omega); omega
    refine g_aload_n (pc := 0) X (j := 0) (i := 0) (q := 0) (x := a0) rfl rfl (dl_at t_X27_init 0 rfl) ?_
    refine r_call0 (pc := 1) X (st := []) (s_R0 (ci := 27) rfl ex_X27 hk hb) cw_code q1668 q382 (in_I X (As := []) ha rfl (Or.inl q4399) q1667 q1668 ⟨by decide, by decide⟩ rfl (dl_at t_X27_init 1 rfl)) (dl_at t_X27_init 1 rfl) (Nat.zero_le _) (Nat.le_of_ble_eq_true rfl) (Nat.le_of_ble_eq_true rfl) ?_
    refine g_aload_n (pc := 4) X (j := 0) (i := 0) (q := 0) (x := a0) rfl rfl (dl_at t_X27_init 2 rfl) ?_
    refine g_iload_n (pc := 5) X (j := 1) (i := 1) (q := 1) (x := a1) rfl rfl (dl_at t_X27_init 3 rfl) ?_
    refine G.lift (fun Q g => a_put (pc := 6) X (ci := 27) (j := 0) (jI := 0) (t := 1) rfl (by decide) rfl rfl (Or.inl rfl) hk (Or.inl ⟨X.2.2.2.2.2.1 _ q4400, Or.inr ⟨rfl, hname, rfl⟩⟩) (dl_at t_X27_init 4 rfl) r1 g) ?_
    exact g_vret (pc := 9) X (v := 0) rfl rfl (dl_at t_X27_init 5 rfl)
  · cases hm
