/-! CATCHING: the search through a method's table, the classes resolved or not -/
def SearchTo (e : Env) (s : State) (f : JFrame) (a : Addr) (t : List ExceptionTableEntry) (h : Handler) (vm' : Vm) : Prop :=
  ∀ (Q : Handler → Pre) (E : CtlPost) (d : Bool) (acts : List Action), wp (findHandler.go f a t) Q E e d acts s ↔ Q h d acts (s.setVm vm')
section GKS
variable {e : Env} {s : State} {f : JFrame} {a : Addr} {x : ExceptionTableEntry} {t : List ExceptionTableEntry} {h : Handler} {vm' : Vm}
theorem SearchTo.skip (hx : covers x f.pc = false) (k : SearchTo e s f a t h vm') : SearchTo e s f a (x :: t) h vm' := fun Q E d acts => (W.findHandler_go_skip hx).trans (k Q E d acts)
theorem SearchTo.hit {c : ClassId} {cell : Cell} (hx : covers x f.pc = true) (h0 : x.catchType ≠ 0) (hl : s.vm.ClassLinks e.platform f.method.cls x.catchType c) (hcell : s.heap[a]? = some cell) (hobj : ∀ k, cell.vm ≠ .statics k)
    (hk : ∃ k, s.vm.classes[cell.cls]? = some k) (hc : ∃ k, s.vm.classes[c]? = some k) (hfit : s.vm.assignable cell.cls c = true) : SearchTo e s f a (x :: t) (.found x.handlerPc) (s.vm.noted f.method.cls x.catchType (.cls c)) := by
  intro Q E d acts
  simp only [covers] at hx
  obtain ⟨ha, ht⟩ := (resolveClass_links e.toSetting hl).op (op := VmOp.resolveClass f.method.cls x.catchType) rfl
  have hal : s.vm.Alike (s.vm.noted f.method.cls x.catchType (.cls c)) := (Vm.Alike.refl s.vm).noted _ _ _
  obtain ⟨k1, hk1⟩ := hk
  obtain ⟨k2, hk2⟩ := hc
  obtain ⟨k1', hk1', -⟩ := hal.2.2 _ _ hk1
  obtain ⟨k2', hk2', -⟩ := hal.2.2 _ _ hk2
  have hfit' : (s.vm.noted f.method.cls x.catchType (.cls c)).assignable cell.cls c = true := by rw [hal.assignable]; exact hfit
  simp [findHandler.go, hx, h0, ha, ht, hcell, hobj, hk1', hk2', hfit', VmOp.dirties, VmOp.acts]
theorem SearchTo.pass {c : ClassId} {cell : Cell} (hx : covers x f.pc = true) (h0 : x.catchType ≠ 0) (hl : s.vm.ClassLinks e.platform f.method.cls x.catchType c) (hcell : s.heap[a]? = some cell) (hobj : ∀ k, cell.vm ≠ .statics k)
    (hk : ∃ k, s.vm.classes[cell.cls]? = some k) (hc : ∃ k, s.vm.classes[c]? = some k) (hno : s.vm.assignable cell.cls c = false) (kk : SearchTo e (s.setVm (s.vm.noted f.method.cls x.catchType (.cls c))) f a t h vm') : SearchTo e s f a (x :: t) h vm' := by
  intro Q E d acts
  refine Iff.trans ?_ (kk Q E d acts)
  simp only [covers] at hx
  obtain ⟨ha, ht⟩ := (resolveClass_links e.toSetting hl).op (op := VmOp.resolveClass f.method.cls x.catchType) rfl
  have hal : s.vm.Alike (s.vm.noted f.method.cls x.catchType (.cls c)) := (Vm.Alike.refl s.vm).noted _ _ _
  obtain ⟨k1, hk1⟩ := hk
  obtain ⟨k2, hk2⟩ := hc
  obtain ⟨k1', hk1', -⟩ := hal.2.2 _ _ hk1
  obtain ⟨k2', hk2', -⟩ := hal.2.2 _ _ hk2
  have hno' : (s.vm.noted f.method.cls x.catchType (.cls c)).assignable cell.cls c = false := by rw [hal.assignable]; exact hno
  simp [findHandler.go, hx, h0, ha, ht, hcell, hobj, hk1', hk2', hno', VmOp.dirties, VmOp.acts]
theorem ct_step {r : List Frame} {pc : Nat} {meth : Method} {code : Code} (hm : s.vm.method? f.method = some meth) (hc : meth.code = some code) (ht : code.exceptionTable.toList = t) (hfind : SearchTo e s f a t (.found pc) vm') :
    (stepThrowing e s a (.java f :: r)).Is ((s.setVm vm').setFrames (.java { f with pc := pc, stack := [.ref a] } :: r)) [] := by
  subst ht
  have hfind2 : ∀ (Q : Handler → Pre) (E : CtlPost) (d : Bool) (acts : List Action), wp (findHandler f a) Q E e d acts s ↔ Q (.found pc) d acts (s.setVm vm') := fun Q E d acts => by rw [W.findHandler_eq hm hc]; exact hfind Q E d acts
  simp only [stepThrowing, searchFrame, vmDo]
  generalize hr : Sem.go _ e false [] s = res
  obtain ⟨as, rfl, ha⟩ := Sem.eq_ok_of hr (a := Handler.found pc) (s' := s.setVm vm') (acts' := []) (by simp [hfind2])
  exact ⟨rfl, ha⟩
end GKS
theorem ct_caught {tb : Tables} {e : Env} {s target : State} {g : JFrame} {c : Code} {below : List Frame} {a : Addr} {t : List ExceptionTableEntry} (h : At s g.method c below) {pc : Nat} {vm' : Vm} {meth : Method} (hm : s.vm.method? g.method = some meth) (hc : meth.code = some c) (ht : c.exceptionTable.toList = t)
    (hfind : SearchTo e ((s.setTop g).pushFrame (.throwing a)) g a t (.found pc) vm') (hrest : Steps tb e below ((s.setVm vm').setTop { g with pc := pc, stack := [.ref a] }) target) :
    Steps tb e below ((s.setTop g).pushFrame (.throwing a)) target := by
  obtain ⟨hgo, hw⟩ := h.throwing a
  refine Steps.head hgo hw ?_
  have hm2 : ((s.setTop g).pushFrame (.throwing a)).vm.method? g.method = some meth := by rw [Stand.throwing_vm]; exact hm
  rw [stepThread_throwing (frames_entered h.top _), (ct_step (s := (s.setTop g).pushFrame (.throwing a)) hm2 hc ht hfind).1]
  obtain ⟨g₀, hg⟩ := Option.isSome_iff_exists.mp h.top
  obtain ⟨r, hr⟩ := State.topJava?_eq_some.mp hg
  have hr' : (s.setVm vm').frames = .java g₀ :: r := hr
  have e2 : ∀ (u : State) (F K : List Frame), ((u.setFrames F).setVm vm').setFrames K = (u.setVm vm').setFrames K := fun u F K => by
    have h1 : (u.setFrames F).setVm vm' = (u.setVm vm').setFrames F := rfl
    rw [h1, State.setFrames_setFrames]
  rw [State.setTop_of_frames _ hr'] at hrest
  rw [hr, List.tail_cons, State.pushFrame, e2, State.setTop_of_frames _ hr, e2]
  exact hrest
/-- the handler that the search finds: entry, the name of its class, can what was thrown be cast to it -/
def planTo (pc : Nat) : List ((Nat × Nat × Nat × Nat) × String × Bool) → Option Nat
  | [] => none
  | q :: r => if (decide (q.1.1 ≤ pc) && decide (pc < q.1.2.1)) = true then (if q.2.2 = true then some q.1.2.2.1 else planTo pc r) else planTo pc r
section GKT
variable {p : Program} {l : Launch} {e : Env} {R : Room} {s : State} {m : MethodId} {args : Array Value} {below : List Frame} {meth : Method} {c : Code}
theorem st_search {g : JFrame} (hg : g.method = m) {own : String} (hown : s.vm.findClass own = some m.cls) (a : Addr) {cell : Cell} {locs : List Loc} {cells slots : Nat} (hobj : cell.vm.isStatics = false) (hkc : ∃ k, s.vm.classes[cell.cls]? = some k) :
    ∀ (L : List ((Nat × Nat × Nat × Nat) × String × Bool)) (hp : Nat), (∀ q ∈ L, (Cond.classLink own q.1.2.2.2 q.2.1).before args s = true ∧ q.1.2.2.2 ≠ 0 ∧ ∃ cT, s.vm.findClass q.2.1 = some cT ∧ s.vm.assignable cell.cls cT = q.2.2) → planTo g.pc L = some hp →
      ∀ T : State, T.heap[a]? = some cell → Stand p l e R s m args below meth c T locs cells slots → ∃ vm', Stand p l e R s m args below meth c (T.setVm vm') locs cells slots ∧ SearchTo e ((T.setTop g).pushFrame (.throwing a)) g a (tableOf (L.map (·.1))) (.found hp) vm' := by
  intro L
  induction L with
  | nil => intro hp _ h; cases h
  | cons q r ih =>
    intro hp hL hpl T hcell X
    have hLr : ∀ q ∈ r, (Cond.classLink own q.1.2.2.2 q.2.1).before args s = true ∧ q.1.2.2.2 ≠ 0 ∧ ∃ cT, s.vm.findClass q.2.1 = some cT ∧ s.vm.assignable cell.cls cT = q.2.2 := fun q hq => hL q (List.mem_cons_of_mem _ hq)
    unfold planTo at hpl
    by_cases hcov : (decide (q.1.1 ≤ g.pc) && decide (g.pc < q.1.2.1)) = true
    · rw [if_pos hcov] at hpl
      obtain ⟨hlink, h0, cT, hcT, hasg⟩ := hL q List.mem_cons_self
      have hplat : e.platform.magicAccessors = ({} : Platform).magicAccessors := by rw [X.admits.platform]
      obtain ⟨c', hc', hcl⟩ := Cond.classLink_spec hown hlink e.platform hplat
      cases hcT.symm.trans hc'
      obtain ⟨dk, _, _, kt, hd, _, _, _, _, hkt, _, hopen⟩ := hcl.here
      have hcl₀ := X.warmed.classLinks hcl
      have hW' : s.WarmedH (T.vm.noted m.cls q.1.2.2.2 (.cls cT)) := X.warmed.noted hd hopen (State.rightAt_cls hcl)
      have hal := X.warmed.alike
      obtain ⟨kt', hkt', -⟩ := hal.2.2 _ _ hkt
      obtain ⟨kc, hkc'⟩ := hkc
      obtain ⟨kc', hkc2, -⟩ := hal.2.2 _ _ hkc'
      subst hg
      have hv : ((T.setTop g).pushFrame (.throwing a)).vm = T.vm := Stand.throwing_vm T g a
      have hh : ((T.setTop g).pushFrame (.throwing a)).heap = T.heap := Stand.throwing_heap T g a
      by_cases hb : q.2.2 = true
      · rw [if_pos hb] at hpl
        cases hpl
        refine ⟨_, X.noted hW', ?_⟩
        have := SearchTo.hit (e := e) (s := (T.setTop g).pushFrame (.throwing a)) (f := g) (a := a) (x := ⟨q.1.1, q.1.2.1, q.1.2.2.1, q.1.2.2.2⟩) (t := tableOf (r.map (·.1))) (c := cT) (cell := cell) hcov h0 (by rw [hv]; exact hcl₀) (by rw [hh]; exact hcell) (VmData.ne_statics_of hobj) (by rw [hv]; exact ⟨_, hkc2⟩) (by rw [hv]; exact ⟨_, hkt'⟩) (by rw [hv, hal.assignable, hasg]; exact hb)
        rw [hv] at this
        exact this
      · rw [if_neg hb] at hpl
        obtain ⟨vm', X', hs⟩ := ih hp hLr hpl (T.setVm (T.vm.noted g.method.cls q.1.2.2.2 (.cls cT))) hcell (X.noted hW')
        refine ⟨vm', X', ?_⟩
        refine SearchTo.pass (c := cT) (cell := cell) hcov h0 (by rw [hv]; exact hcl₀) (by rw [hh]; exact hcell) (VmData.ne_statics_of hobj) (by rw [hv]; exact ⟨_, hkc2⟩) (by rw [hv]; exact ⟨_, hkt'⟩) (by rw [hv, hal.assignable, hasg]; exact Bool.eq_false_iff.mpr hb) ?_
        rw [hv]
        exact hs
    · rw [if_neg hcov] at hpl
      obtain ⟨vm', X', hs⟩ := ih hp hLr hpl T hcell X
      exact ⟨vm', X', hs.skip (Bool.eq_false_iff.mpr hcov)⟩
end GKT
section GKG
variable {p : Program} {l : Launch} {e : Env} {R : Room} {s : State} {m : MethodId} {args : Array Value} {below : List Frame} {meth : Method} {c : Code} {D : SD} {h0 : Hp} {nL : Nat} {cc : ByteArray} {own : String} {ret : Option FieldType} {pc : Nat} {ls : List (Nat × Value)} {st : List Value} {h : Hp}
variable {α : Type} {Φ : α → (State → Prop) → Prop} {k : Option α}
theorem gt_none {a : Int} : GT p l e R s m args below meth c D h0 nL Φ pc ls a h none := fun y Q hy _ => by cases hy
theorem gt_case {a : Int} {q : Prop} [Decidable q] {k2 : Option α} (g1 : q → GT p l e R s m args below meth c D h0 nL Φ pc ls a h k) (g2 : ¬ q → GT p l e R s m args below meth c D h0 nL Φ pc ls a h k2) : GT p l e R s m args below meth c D h0 nL Φ pc ls a h (if q then k else k2) := by
  by_cases hq : q
  · rw [if_pos hq]; exact g1 hq
  · rw [if_neg hq]; exact g2 hq
/-- what was thrown is caught -/
theorem gt_catch (X : CX D p R s m args meth c h0 cc own nL ret) {ci : Nat} {q : CE} {a K n : Int} (F : CK ci q K n) (hk : h a (-2) = K) (L : List ((Nat × Nat × Nat × Nat) × String × Bool)) {hp : Nat} (hplan : planTo pc L = some hp) (hcs : ∀ x ∈ L, (ci, x.2.1, x.2.2) ∈ csT) (hlk : ∀ x ∈ L, Cond.classLink own x.1.2.2.2 x.2.1 ∈ lw_all ∧ x.1.2.2.2 ≠ 0)
    (htab : c.exceptionTable.toList = tableOf (L.map (·.1))) (g : G p l e R s m args below meth c D h0 nL Φ hp ls [rv D a] h k) : GT p l e R s m args below meth c D h0 nL Φ pc ls a h k := by
  intro y Q hy hQ H locs lsA st hR hL hl T hT S
  have hkk : h a (-2) = 16 * ((ci : Int) + 1) := hk.trans F.2.2.1.symm
  have hpos := hR.1.pos (a := a) (by omega)
  obtain ⟨-, ⟨cell, q1, q2, q3, -⟩, -⟩ := hR.1.obj hkk F.1
  have hts := X.2.2.2.2.2.1
  have hcls := (X.kn F.1).2.1
  have hkx := X.2.2.2.2.2.2.1.2.2.2.2
  obtain ⟨vm', S', hs⟩ := st_search (g := F0 m pc lsA st) (cell := cell) rfl X.2.2.2.2.1 (ph D a) (by rw [q3]; rfl) (by rw [q2]; exact Vm.classAt_of_findClass hcls) L hp (fun x hx => ⟨hts _ (hlk x hx).1, (hlk x hx).2, by
    obtain ⟨cT, e1, e2⟩ := hkx.1 _ (hcs x hx)
    exact ⟨cT, e1, by rw [q2]; exact e2⟩⟩) hplan T (by rw [hT]; exact q1) S
  obtain ⟨t, a1, a2⟩ := g y Q hy hQ H locs lsA hR hL hl (T.setVm vm') hT S'
  rw [rv_ref (by omega)] at a1
  exact ⟨t, ct_caught (g := F0 m pc lsA st) S.here S.method' S.code htab hs a1, a2⟩
theorem tabW {y : MethodName} {b : ByteArray} {maxL : Nat} {rt : Option FieldType} {hh : List (Nat × Nat × Nat × Nat)} (h1 : (Cond.codeWith y b maxL rt hh).before args s = true) (hn : s.methodNamed? y = some m) (hm : s.vm.method? m = some meth) (hc : meth.code = some c) : c.exceptionTable.toList = tableOf hh := by
  obtain ⟨m', meth', c', h0, h1, h2, -, -, h3, -⟩ := Cond.codeWith_spec h1
  cases h0.symm.trans hn
  cases hm.symm.trans h1
  cases hc.symm.trans h2
  rw [← h3, table_eq]
theorem noc {t : List ExceptionTableEntry} (ht : c.exceptionTable.toList = t) (ha : t.all (fun q => !covers q pc) = true) : ∀ q ∈ c.exceptionTable.toList, covers q pc = false := by
  intro q hq
  rw [ht] at hq
  have h1 := List.all_eq_true.mp ha q hq
  exact (Bool.not_eq_true' _).mp h1
end GKG
