/-! ROWS of the frame: returns, calls, exceptions, loops -/
section GF
variable {p : Program} {l : Launch} {e : Env} {R : Room} {s : State} {m : MethodId} {args : Array Value} {below : List Frame} {meth : Method} {c : Code} {D : SD} {h0 : Hp} {nL : Nat} {cc : ByteArray} {own : String} {ret : Option FieldType} {pc : Nat} {ls : List (Nat × Value)} {st : List Value} {h : Hp}
variable {α : Type} {Φ : α → (State → Prop) → Prop} {k : Option α}
theorem eq_of_mq {fin : α → (Int × Int) × Hp} {x : α} {t : Nat} {v : Option Value} {T : State} (X : CX D p R s m args meth c h0 cc own nL ret) (hout : OutR D t (fin x).1 (.returned v)) (hfin : (fin x).2 = h) (hR : ∀ H, T.heap = H → RelE D h0 h H) (hcn : cn h0 h ≤ R.cells) (hsn : sn h0 h ≤ R.slots)
    (hq : MQ below (fun _ _ o t => o = .returned v ∧ t.heap = T.heap) args s (cn h0 h) (sn h0 h) (fun q => D.base ≤ q) T) : EQ D R s below h0 t (fin x) T := by
  obtain ⟨o, hr, he, ⟨ho, -⟩, L, ⟨-, hW, hsame⟩, hL⟩ := hq
  subst ho
  exact ⟨_, hr, he, hout, by rw [hfin]; exact hR _ rfl, hW, L, hL, hsame.mono hcn hsn⟩
theorem RelE.bounds {H : Heap} (hR : RelE D h0 h H) (X : CX D p R s m args meth c h0 cc own nL ret) : cn h0 h ≤ R.cells ∧ sn h0 h ≤ R.slots := by
  have hb := hR.1.1
  have hrc := X.2.2.2.2.2.2.2.2.2.1
  have hrs := X.2.2.2.2.2.2.2.2.2.2
  have hb0 := X.2.2.2.2.2.2.2.1.1
  constructor
  · rw [hrc]; unfold cn; omega
  · rw [hrs]; unfold sn; omega
theorem g_iret (X : CX D p R s m args meth c h0 cc own nL ret) {fin : α → (Int × Int) × Hp} {x : α} {v : Int} (hv : r32 v) (hr : ret = some .int) (hfin : fin x = ((0, v), h)) (hd : decode cc pc = .ok (.ireturn, 1)) : G p l e R s m args below meth c D h0 nL (FinR D R s below h0 1 fin) pc ls [iv v] h (some x) := by
  intro y Q hy hQ H locs lsA hR hL hl
  cases hy
  have hlk := X.2.2.1
  obtain ⟨b1, b2⟩ := hR.bounds X
  refine W.post (Q := MQ below (fun _ _ o t => o = .returned (some (iv v)) ∧ t.heap = H) args s (cn h0 h) (sn h0 h) (fun q => D.base ≤ q)) (fun T hT => hQ T ?_) ?_
  · obtain ⟨o, hr1, he, ⟨ho, hh⟩, L, ⟨-, hW, hsame⟩, hL⟩ := hT
    subst ho
    refine ⟨_, hr1, he, ?_, by rw [hfin, hh]; exact hR, hW, L, hL, hsame.mono b1 b2⟩
    rw [hfin]
    exact Or.inl ⟨rfl, Or.inr ⟨by omega, hv, rfl⟩⟩
  · exact W.iret X.1 X.2.1 (by rw [X.2.2.2.2.2.2.2.2.1, hr]) (fun t ht hW => ⟨rfl, ht⟩) hL hd
theorem g_zret (X : CX D p R s m args meth c h0 cc own nL ret) {fin : α → (Int × Int) × Hp} {x : α} {v : Int} (hv : v = 0 ∨ v = 1) (hr : ret = some .boolean) (hfin : fin x = ((0, v), h)) (hd : decode cc pc = .ok (.ireturn, 1)) : G p l e R s m args below meth c D h0 nL (FinR D R s below h0 3 fin) pc ls [iv v] h (some x) := by
  intro y Q hy hQ H locs lsA hR hL hl
  cases hy
  have hlk := X.2.2.1
  obtain ⟨b1, b2⟩ := hR.bounds X
  refine W.post (Q := MQ below (fun _ _ o t => o = .returned (some (iv v)) ∧ t.heap = H) args s (cn h0 h) (sn h0 h) (fun q => D.base ≤ q)) (fun T hT => hQ T ?_) ?_
  · obtain ⟨o, hr1, he, ⟨ho, hh⟩, L, ⟨-, hW, hsame⟩, hL⟩ := hT
    subst ho
    refine ⟨_, hr1, he, ?_, by rw [hfin, hh]; exact hR, hW, L, hL, hsame.mono b1 b2⟩
    rw [hfin]
    exact Or.inl ⟨rfl, Or.inr ⟨by omega, hv, rfl⟩⟩
  · exact W.zret X.1 X.2.1 (by rw [X.2.2.2.2.2.2.2.2.1, hr]) (by rcases hv with q | q <;> subst q <;> rfl) (fun t ht hW => ⟨rfl, ht⟩) hL hd
theorem g_lret (X : CX D p R s m args meth c h0 cc own nL ret) {fin : α → (Int × Int) × Hp} {x : α} {v : Int} (hv : r64 v) (hr : ret = some .long) (hfin : fin x = ((0, v), h)) (hd : decode cc pc = .ok (.lreturn, 1)) : G p l e R s m args below meth c D h0 nL (FinR D R s below h0 4 fin) pc ls [jv v] h (some x) := by
  intro y Q hy hQ H locs lsA hR hL hl
  cases hy
  have hlk := X.2.2.1
  obtain ⟨b1, b2⟩ := hR.bounds X
  refine W.post (Q := MQ below (fun _ _ o t => o = .returned (some (jv v)) ∧ t.heap = H) args s (cn h0 h) (sn h0 h) (fun q => D.base ≤ q)) (fun T hT => hQ T ?_) ?_
  · obtain ⟨o, hr1, he, ⟨ho, hh⟩, L, ⟨-, hW, hsame⟩, hL⟩ := hT
    subst ho
    refine ⟨_, hr1, he, ?_, by rw [hfin, hh]; exact hR, hW, L, hL, hsame.mono b1 b2⟩
    rw [hfin]
    exact Or.inl ⟨rfl, Or.inr ⟨by omega, hv, rfl⟩⟩
  · exact W.lret X.1 X.2.1 (by rw [X.2.2.2.2.2.2.2.2.1, hr]) (fun t ht hW => ⟨rfl, ht⟩) hL hd
theorem g_aret (X : CX D p R s m args meth c h0 cc own nL ret) {fin : α → (Int × Int) × Hp} {x : α} {v : Int} {rt : FieldType} (hrt : (∃ n, rt = .object n) ∨ ∃ t, rt = .array t) (hr : ret = some rt) (hfin : fin x = ((0, v), h)) (hd : decode cc pc = .ok (.areturn, 1)) : G p l e R s m args below meth c D h0 nL (FinR D R s below h0 5 fin) pc ls [rv D v] h (some x) := by
  intro y Q hy hQ H locs lsA hR hL hl
  cases hy
  have hlk := X.2.2.1
  obtain ⟨b1, b2⟩ := hR.bounds X
  refine W.post (Q := MQ below (fun _ _ o t => o = .returned (some (rv D v)) ∧ t.heap = H) args s (cn h0 h) (sn h0 h) (fun q => D.base ≤ q)) (fun T hT => hQ T ?_) ?_
  · obtain ⟨o, hr1, he, ⟨ho, hh⟩, L, ⟨-, hW, hsame⟩, hL⟩ := hT
    subst ho
    refine ⟨_, hr1, he, ?_, by rw [hfin, hh]; exact hR, hW, L, hL, hsame.mono b1 b2⟩
    rw [hfin]
    exact Or.inl ⟨rfl, Or.inr ⟨by omega, trivial, rfl⟩⟩
  · exact W.aret X.1 X.2.1 (by rw [X.2.2.2.2.2.2.2.2.1, hr]) hrt (by unfold rv; split; exact Or.inl rfl; exact Or.inr ⟨_, rfl⟩) (fun t ht hW => ⟨rfl, ht⟩) hL hd
theorem g_vret (X : CX D p R s m args meth c h0 cc own nL ret) {fin : α → (Int × Int) × Hp} {x : α} {v : Int}  (hr : ret = none) (hfin : fin x = ((0, v), h)) (hd : decode cc pc = .ok (.return_, 1)) : G p l e R s m args below meth c D h0 nL (FinR D R s below h0 0 fin) pc ls [] h (some x) := by
  intro y Q hy hQ H locs lsA hR hL hl
  cases hy
  have hlk := X.2.2.1
  obtain ⟨b1, b2⟩ := hR.bounds X
  refine W.post (Q := MQ below (fun _ _ o t => o = .returned none ∧ t.heap = H) args s (cn h0 h) (sn h0 h) (fun q => D.base ≤ q)) (fun T hT => hQ T ?_) ?_
  · obtain ⟨o, hr1, he, ⟨ho, hh⟩, L, ⟨-, hW, hsame⟩, hL⟩ := hT
    subst ho
    refine ⟨_, hr1, he, ?_, by rw [hfin, hh]; exact hR, hW, L, hL, hsame.mono b1 b2⟩
    rw [hfin]
    exact Or.inl ⟨rfl, Or.inl ⟨rfl, rfl⟩⟩
  · exact W.vret X.1 X.2.1 (by rw [X.2.2.2.2.2.2.2.2.1, hr]) (fun t ht hW => ⟨rfl, ht⟩) hL hd
/-- a split that the code's own branch follows -/
theorem g_case {q : Prop} [Decidable q] {k2 : Option α} (g1 : q → G p l e R s m args below meth c D h0 nL Φ pc ls st h k) (g2 : ¬ q → G p l e R s m args below meth c D h0 nL Φ pc ls st h k2) : G p l e R s m args below meth c D h0 nL Φ pc ls st h (if q then k else k2) := by
  by_cases hq : q
  · rw [if_pos hq]; exact g1 hq
  · rw [if_neg hq]; exact g2 hq
theorem g_tabIn (X : CX D p R s m args meth c h0 cc own nL ret) {dflt lo hi off : Int} {offs : Array Int} {len tgt : Nat} {x v : Int} (rx : r32 x) (hx : x = v) (h1 : ¬ v < lo) (h2 : ¬ hi < v) (ho : offs[(v - lo).toNat]? = some off) (ht : (pc : Int) + off = (tgt : Int)) (hd : decode cc pc = .ok (.tableswitch dflt lo hi offs, len)) (g : G p l e R s m args below meth c D h0 nL Φ tgt ls st h k) : G p l e R s m args below meth c D h0 nL Φ pc ls (iv x :: st) h k := by
  subst hx
  exact G.lift (fun Q a H locs lsA hR hL hl => lv_tableIn X.1 X.2.1 hd (by rw [i_toInt rx]; exact h1) (by rw [i_toInt rx]; exact h2) (by rw [i_toInt rx]; exact ho) ht (a H locs lsA hR hL hl)) g
theorem g_tabOut (X : CX D p R s m args meth c h0 cc own nL ret) {dflt lo hi : Int} {offs : Array Int} {len tgt : Nat} {x : Int} (rx : r32 x) (h1 : x < lo ∨ hi < x) (ht : (pc : Int) + dflt = (tgt : Int)) (hd : decode cc pc = .ok (.tableswitch dflt lo hi offs, len)) (g : G p l e R s m args below meth c D h0 nL Φ tgt ls st h k) : G p l e R s m args below meth c D h0 nL Φ pc ls (iv x :: st) h k :=
  G.lift (fun Q a H locs lsA hR hL hl => lv_tableOut X.1 X.2.1 hd (by rw [i_toInt rx]; exact h1) ht (a H locs lsA hR hL hl)) g
theorem g_look (X : CX D p R s m args meth c h0 cc own nL ret) {dflt off : Int} {ps : Array (Int × Int)} {len tgt : Nat} {x : Int} (rx : r32 x) (hp : (ps.toList.zip (ps.toList.drop 1)).all (fun (a, next) => a.1 < next.1) = true) (ho : Op.lookupswitch.offset ps.toList dflt x = off) (ht : (pc : Int) + off = (tgt : Int)) (hd : decode cc pc = .ok (.lookupswitch dflt ps, len)) (g : G p l e R s m args below meth c D h0 nL Φ tgt ls st h k) : G p l e R s m args below meth c D h0 nL Φ pc ls (iv x :: st) h k :=
  G.lift (fun Q a H locs lsA hR hL hl => lv_lookup X.1 X.2.1 hd hp (by rw [i_toInt rx]; exact ho) ht (a H locs lsA hR hL hl)) g
def lcmp_ (x y : Int) : Int := if y < x then 1 else if x = y then 0 else -1
theorem r32_lcmp (x y : Int) : r32 (lcmp_ x y) := by unfold lcmp_ r32; split <;> (try split) <;> omega
theorem g_lcmp (X : CX D p R s m args meth c h0 cc own nL ret) {x y : Int} (hx : r64 x) (hy : r64 y) (hd : decode cc pc = .ok (.lcmp, 1)) (g : G p l e R s m args below meth c D h0 nL Φ (pc + 1) ls (iv (lcmp_ x y) :: st) h k) : G p l e R s m args below meth c D h0 nL Φ pc ls (jv y :: jv x :: st) h k :=
  G.lift (fun Q a H locs lsA hR hL hl => by
    refine W.lcmp X.1 X.2.1 hd ?_
    have e1 : lg_cmp (Int64.ofInt x) (Int64.ofInt y) = Int32.ofInt (lcmp_ x y) := by
      unfold lg_cmp lcmp_
      simp only [gt_iff_lt, l_lt hy hx, l_inj hx hy]
      split
      · rfl
      · split <;> rfl
    rw [e1]
    exact a H locs lsA hR hL hl) g
theorem rv_rf {a : Int} : rv D a = va_rf (if a = 0 then none else some (ph D a)) := by
  unfold rv
  split <;> rfl
theorem rf_eq {a b : Int} (ha : 0 ≤ a) (hb : 0 ≤ b) : ((if a = 0 then none else some (ph D a)) = (if b = 0 then (none : Option Nat) else some (ph D b))) ↔ a = b := by
  constructor
  · intro q
    by_cases h1 : a = 0 <;> by_cases h2 : b = 0
    · omega
    · rw [if_pos h1, if_neg h2] at q; cases q
    · rw [if_neg h1, if_pos h2] at q; cases q
    · rw [if_neg h1, if_neg h2] at q
      exact ph_inj (by omega) (by omega) (Option.some.inj q)
  · intro q; rw [q]
theorem g_acmpeq (X : CX D p R s m args meth c h0 cc own nL ret) {a b : Int} (hab : 0 ≤ a ∧ 0 ≤ b) {off : Int} {tgt : Nat} {k2 : Option α} (ht : (pc : Int) + off = (tgt : Int)) (hd : decode cc pc = .ok (.if_acmp .eq off, 3)) (g1 : a = b → G p l e R s m args below meth c D h0 nL Φ tgt ls st h k) (g2 : ¬ a = b → G p l e R s m args below meth c D h0 nL Φ (pc + 3) ls st h k2) : G p l e R s m args below meth c D h0 nL Φ pc ls (rv D b :: rv D a :: st) h (if a = b then k else k2) := by
  intro x Q hx hQ H locs lsA hR hL hl
  rw [rv_rf, rv_rf]
  refine lv_acmp_eq X.1 X.2.1 hd ht (fun q => ?_) (fun q => ?_)
  · have h1 := (rf_eq hab.1 hab.2).mp q
    rw [if_pos h1] at hx
    exact g1 h1 x Q hx hQ H locs lsA hR hL hl
  · have h1 : ¬ a = b := fun z => q ((rf_eq hab.1 hab.2).mpr z)
    rw [if_neg h1] at hx
    exact g2 h1 x Q hx hQ H locs lsA hR hL hl
theorem g_acmpne (X : CX D p R s m args meth c h0 cc own nL ret) {a b : Int} (hab : 0 ≤ a ∧ 0 ≤ b) {off : Int} {tgt : Nat} {k2 : Option α} (ht : (pc : Int) + off = (tgt : Int)) (hd : decode cc pc = .ok (.if_acmp .ne off, 3)) (g1 : a ≠ b → G p l e R s m args below meth c D h0 nL Φ tgt ls st h k) (g2 : ¬ a ≠ b → G p l e R s m args below meth c D h0 nL Φ (pc + 3) ls st h k2) : G p l e R s m args below meth c D h0 nL Φ pc ls (rv D b :: rv D a :: st) h (if a ≠ b then k else k2) := by
  intro x Q hx hQ H locs lsA hR hL hl
  rw [rv_rf, rv_rf]
  refine lv_acmp_ne X.1 X.2.1 hd ht (fun q => ?_) (fun q => ?_)
  · have h1 : a ≠ b := fun z => q ((rf_eq hab.1 hab.2).mpr z)
    rw [if_pos h1] at hx
    exact g1 h1 x Q hx hQ H locs lsA hR hL hl
  · have h1 : ¬ a ≠ b := fun z => z ((rf_eq hab.1 hab.2).mp q)
    rw [if_neg h1] at hx
    exact g2 h1 x Q hx hQ H locs lsA hR hL hl
/-- A CALL, by the callee's picture: it returns, or it throws -/
theorem sim_call {U : State} {locs : List Loc} {cells slots : Nat} (X : Stand p l e R s m args below meth c U locs cells slots) {y : MethodName} {cw : Cond} {fr lo : Nat} {vs : List Value} {t : Nat} {r : (Int × Int) × Hp} {maxL : Nat} (hM : Sim l D y cw fr lo vs h t r)
    (hcode : ∀ (a : Array Value) (U : State) (mk : MethodId), cw.before a U = true → U.methodNamed? y = some mk → ∃ meth c, U.vm.method? mk = some meth ∧ meth.code = some c ∧ c.maxLocals = maxL) (hts : ∀ w ∈ lw_all, w.before args s = true) (hcw : cw ∈ lw_all) (hini : Cond.initialized y.cls ∈ lw_all) (hKV : KV D s) (hR : Rel D h U.heap)
    {g : JFrame} {ig : Instr} {len : Nat} {mk : MethodId} (hg : g.method = m) (hsize : g.locals.size = c.maxLocals) (hd : decode c.code g.pc = .ok (ig, len)) (hW : 2 * g.monitorRoom + (g.stack.map fun v => v.category).sum ≤ 24) (hn : U.methodNamed? y = some mk) (hfr : fr + 1 ≤ R.frames) (hlo : 24 + (maxL + 11) + lo ≤ R.locals)
    (hc : cells + (130538 - h 0 0).toNat ≤ R.cells) (hs : slots + (8696812 - h 0 1).toNat ≤ R.slots) :
    ∃ (T' : State) (L : List Loc), RelE D h r.2 T'.heap ∧ (∀ q ∈ L, D.base ≤ q.base) ∧ Stand p l e R s m args below meth c T' (locs ++ L) (cells + (130538 - h 0 0).toNat) (slots + (8696812 - h 0 1).toNat) ∧
      ((∃ v, OutR D t r.1 (.returned v) ∧ Steps p.tables e below (doInvoke e (U.setTop g) [] mk vs.toArray).1 (T'.setTop { g with pc := g.pc + len, stack := v.toList ++ g.stack })) ∨
       (∃ x, OutR D t r.1 (.threw x) ∧ Steps p.tables e below (doInvoke e (U.setTop g) [] mk vs.toArray).1 ((T'.setTop g).pushFrame (.throwing x)))) := by
  have hpay := pay_in hts lw_self
  obtain ⟨methY, cY, hmY, hcY, hlY⟩ := hcode vs.toArray U mk (hpay cw hcw _ U X.warmed) hn
  obtain ⟨kY, hkY, -⟩ := className_of_methodNamed hn
  have hinitY : kY.init = .initialized := Cond.initialized_spec (findClass_of_methodNamed hn) hkY (hpay _ hini vs.toArray U X.warmed)
  have hA : At U g.method c below := by rw [hg]; exact X.here
  have happ : (headSpec (cw :: lw_all) (rmOf h fr lo)).appliesLoose y e.platform (U.calling g mk vs.toArray) = true := by
    refine Spec.appliesLoose_calling (g := g) hA hd hn hkY hinitY (X.room_calling (g := g) (R' := rmOf h fr lo) hsize hmY hcY hfr (by rw [hlY]; show _ + lo ≤ _; omega) hc hs) ?_
    refine atoms_intro fun w hw => ?_
    rcases List.mem_cons.mp hw with e1 | hw
    · rw [e1]; exact hpay cw hcw _ U X.warmed
    · exact hpay w hw _ U X.warmed
  obtain ⟨mid, hmid⟩ := hA.above
  have hfrm : (U.setTop g).frames = (.java g :: mid) ++ below := by rw [State.frames_setTop' g hA.top, hmid]; rfl
  have hKVU : KV D (U.calling g mk vs.toArray) := KV.same (s := U) rfl (hKV.moved X.warmed)
  obtain ⟨o, s₂, hsteps, -, hend, hout, hRel, hW₂, L, hL, hsm⟩ := Steps.callFree hM p X.admits X.cas X.clock (acts := []) hfrm happ ⟨rfl, hR, hKVU⟩ trivial
  rw [State.frames_setTop' g hA.top] at hend
  obtain ⟨e2, q2, q3, q4, q5, q6⟩ := id hsm
  have e3 : s₂ = ({ (U.calling g mk vs.toArray).setFrames s₂.frames with heap := s₂.heap, slotsUsed := s₂.slotsUsed } : State).setVm s₂.vm := by
    have : s₂ = ({ s₂ with vm := (U.calling g mk vs.toArray).vm } : State).setVm s₂.vm := rfl
    rw [show ({ s₂ with vm := (U.calling g mk vs.toArray).vm } : State) = _ from e2] at this
    exact this
  have hW' : U.WarmedH s₂.vm := hW₂
  obtain ⟨g₀, hg0⟩ := Option.isSome_iff_exists.mp hA.top
  obtain ⟨rr, hr⟩ := State.topJava?_eq_some.mp hg0
  have hr' : (({ U with heap := s₂.heap, slotsUsed := s₂.slotsUsed } : State).setVm s₂.vm).frames = .java g₀ :: rr := hr
  have hsame : U.sameButNew ({ U with heap := s₂.heap, slotsUsed := s₂.slotsUsed } : State) L (rmOf h fr lo).cells (rmOf h fr lo).slots := by
    refine ⟨?_, q2, q3, q4, q5, q6⟩
    obtain ⟨t, ht, -⟩ := State.frames_cons hr
    show ({ U with heap := s₂.heap, slotsUsed := s₂.slotsUsed } : State) = { U.setFrames U.frames with heap := s₂.heap, slotsUsed := s₂.slotsUsed }
    rw [State.setFrames_self ht]
  subst hg
  refine ⟨(({ U with heap := s₂.heap, slotsUsed := s₂.slotsUsed } : State).setVm s₂.vm), L, hRel, hL, ⟨X.admits, X.cas, X.clock, X.frames, X.room, X.hears, X.method, X.code, (X.here.setHeapUsed s₂.heap s₂.slotsUsed).setVm hW'.alike, X.tail, State.WarmedH.trans X.warmed hW', X.limits, X.bytes, X.same.trans (hsame.setVm s.vm)⟩, ?_⟩
  cases o with
  | returned v =>
    left
    refine ⟨v, hout, ?_⟩
    obtain ⟨c₂, i₂, len₂, hc₂, hd₂, hf₂⟩ := hend
    have hcc : c₂ = c := by
      have h1 : s₂.code? g.method = U.code? g.method := by
        rw [State.code?_eq, State.code?_eq, hW'.alike.method?]
      exact Option.some.inj (hc₂.symm.trans (h1.trans hA.code))
    subst hcc
    have hlen : len₂ = len := by rw [hd] at hd₂; cases hd₂; rfl
    subst hlen
    have hs₂ : s₂ = (({ U with heap := s₂.heap, slotsUsed := s₂.slotsUsed } : State).setVm s₂.vm).setTop { g with pc := g.pc + len₂, stack := v.toList ++ g.stack } := by
      refine e3.trans ?_
      rw [hf₂, State.calling_eq hA.top, State.setFrames_setFrames, State.setTop_of_frames _ hr', hr]
      rfl
    rw [← hs₂]
    exact hsteps
  | threw x =>
    right
    refine ⟨x, hout, ?_⟩
    have hf₂ : s₂.frames = .throwing x :: .java g :: U.frames.tail := hend
    have hs₂ : s₂ = ((({ U with heap := s₂.heap, slotsUsed := s₂.slotsUsed } : State).setVm s₂.vm).setTop g).pushFrame (.throwing x) := by
      refine e3.trans ?_
      rw [State.pushFrame, State.frames_setTop _ hr', State.setTop_of_frames _ hr', State.setFrames_setFrames, hf₂, State.calling_eq hA.top, State.setFrames_setFrames, hr]
      rfl
    rw [← hs₂]
    exact hsteps
end GF
