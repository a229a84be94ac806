/-! LOOPS: a step goes on with a new state, or ends -/
def itn {σ ρ : Type} (f : σ → Option (σ ⊕ ρ)) : Nat → σ → Option ρ
  | 0, _ => none
  | n + 1, s => match f s with
    | none => none
    | some (.inl s') => itn f n s'
    | some (.inr r) => some r
theorem itn_mono {σ ρ : Type} {f : σ → Option (σ ⊕ ρ)} : ∀ (n : Nat) (s : σ) (r : ρ), itn f n s = some r → ∀ m, n ≤ m → itn f m s = some r := by
  intro n
  induction n with
  | zero => intro s r h; cases h
  | succ n ih =>
    intro s r h m hm
    obtain ⟨m, rfl⟩ : ∃ k, m = k + 1 := ⟨m - 1, by omega⟩
    unfold itn at h ⊢
    cases hf : f s with
    | none => rw [hf] at h; cases h
    | some q =>
      rw [hf] at h
      cases q with
      | inl s' => exact ih s' r h m (by omega)
      | inr r' => exact h
noncomputable def lp {σ ρ : Type} (f : σ → Option (σ ⊕ ρ)) (s : σ) : Option ρ := @dite _ (∃ n, (itn f n s).isSome = true) (Classical.propDecidable _) (fun h => itn f (Classical.choose h) s) (fun _ => none)
theorem lp_of {σ ρ : Type} {f : σ → Option (σ ⊕ ρ)} {s : σ} {n : Nat} {r : ρ} (h : itn f n s = some r) : lp f s = some r := by
  have hex : ∃ n, (itn f n s).isSome = true := ⟨n, by rw [h]; rfl⟩
  unfold lp
  rw [dif_pos hex]
  obtain ⟨r', hr'⟩ := Option.isSome_iff_exists.mp (Classical.choose_spec hex)
  rcases Nat.le_total n (Classical.choose hex) with q | q
  · exact itn_mono n s r h _ q
  · rw [hr', ← h]
    exact (itn_mono _ s r' hr' n q).symm
theorem lp_itn {σ ρ : Type} {f : σ → Option (σ ⊕ ρ)} {s : σ} {r : ρ} (h : lp f s = some r) : ∃ n, itn f n s = some r := by
  unfold lp at h
  by_cases hex : ∃ n, (itn f n s).isSome = true
  · rw [dif_pos hex] at h
    exact ⟨_, h⟩
  · rw [dif_neg hex] at h
    cases h
/-- a loop by its first step -/
theorem lp_eq {σ ρ : Type} (f : σ → Option (σ ⊕ ρ)) (s : σ) : lp f s = (match f s with | none => none | some (.inl s') => lp f s' | some (.inr r) => some r) := by
  cases hf : f s with
  | none =>
    cases hl : lp f s with
    | none => rfl
    | some r =>
      obtain ⟨n, hn⟩ := lp_itn hl
      cases n with
      | zero => cases hn
      | succ n => unfold itn at hn; rw [hf] at hn; cases hn
  | some q =>
    cases q with
    | inr r => exact lp_of (n := 1) (by unfold itn; rw [hf])
    | inl s' =>
      show lp f s = lp f s'
      cases hl : lp f s' with
      | some r =>
        obtain ⟨n, hn⟩ := lp_itn hl
        exact lp_of (n := n + 1) (by unfold itn; rw [hf]; exact hn)
      | none =>
        cases hl2 : lp f s with
        | none => rfl
        | some r =>
          obtain ⟨n, hn⟩ := lp_itn hl2
          cases n with
          | zero => cases hn
          | succ n =>
            unfold itn at hn
            rw [hf] at hn
            rw [lp_of hn] at hl
            cases hl
/-- the rule of a loop: an invariant, a measure that falls -/
theorem lp_rule {σ ρ : Type} {f : σ → Option (σ ⊕ ρ)} (I : σ → Prop) (μ : σ → Nat) (P : ρ → Prop) (step : ∀ s, I s → (∃ s', f s = some (.inl s') ∧ I s' ∧ μ s' < μ s) ∨ (∃ r, f s = some (.inr r) ∧ P r)) : ∀ s, I s → ∃ r, lp f s = some r ∧ P r := by
  have key : ∀ n s, μ s < n → I s → ∃ r, lp f s = some r ∧ P r := by
    intro n
    induction n with
    | zero => intro s h; omega
    | succ n ih =>
      intro s hn hI
      rcases step s hI with ⟨s', h1, h2, h3⟩ | ⟨r, h1, h2⟩
      · obtain ⟨r, a, b⟩ := ih s' (by omega) h2
        exact ⟨r, by rw [lp_eq, h1]; exact a, b⟩
      · exact ⟨r, by rw [lp_eq, h1], h2⟩
  exact fun s hI => key (μ s + 1) s (by omega) hI
section GL
variable {p : Program} {l : Launch} {e : Env} {R : Room} {s : State} {m : MethodId} {args : Array Value} {below : List Frame} {meth : Method} {c : Code} {D : SD} {h0 : Hp} {nL : Nat} {cc : ByteArray} {own : String} {ret : Option FieldType} {pc : Nat} {ls : List (Nat × Value)} {st : List Value} {h : Hp}
variable {α : Type} {Φ : α → (State → Prop) → Prop} {k : Option α}
theorem g_at {x : α} (f : ∀ Q, Φ x Q → A_ p l e R s m args below meth c D h0 nL pc ls st h Q) : G p l e R s m args below meth c D h0 nL Φ pc ls st h (some x) := fun y Q hy hQ => by cases hy; exact f Q hQ
theorem g_eq {k2 : Option α} (e1 : k = k2) (g : G p l e R s m args below meth c D h0 nL Φ pc ls st h k2) : G p l e R s m args below meth c D h0 nL Φ pc ls st h k := e1 ▸ g
theorem g_lp {σ ρ : Type} {f : σ → Option (σ ⊕ ρ)} {Ψ : ρ → (State → Prop) → Prop} (lsf : σ → List (Nat × Value)) (hf : σ → Hp) (I : σ → Prop)
    (body : ∀ a, I a → G p l e R s m args below meth c D h0 nL (fun (q : σ ⊕ ρ) Q => match q with | .inl b => I b → A_ p l e R s m args below meth c D h0 nL pc (lsf b) [] (hf b) Q | .inr r => Ψ r Q) pc (lsf a) [] (hf a) (f a)) : ∀ a, I a → G p l e R s m args below meth c D h0 nL Ψ pc (lsf a) [] (hf a) (lp f a) := by
  intro a hI x Q hx hQ
  obtain ⟨n, hn⟩ := lp_itn hx
  clear hx
  induction n generalizing a with
  | zero => cases hn
  | succ n ih =>
    unfold itn at hn
    cases hfa : f a with
    | none => rw [hfa] at hn; cases hn
    | some q =>
      rw [hfa] at hn
      cases q with
      | inl b => exact body a hI (.inl b) Q hfa (fun hb => ih b hb hn)
      | inr r => cases hn; exact body a hI (.inr x) Q hfa hQ
theorem g_bind {β : Type} {k1 : Option β} {K : β → Option α} {Ψ : β → (State → Prop) → Prop} (g1 : G p l e R s m args below meth c D h0 nL Ψ pc ls st h k1) (g2 : ∀ r x Q, K r = some x → Φ x Q → Ψ r Q) : G p l e R s m args below meth c D h0 nL Φ pc ls st h (k1.bind K) := by
  intro x Q hx hQ
  cases hk : k1 with
  | none => rw [hk] at hx; cases hx
  | some r => rw [hk] at hx; exact g1 r Q hk (g2 r x Q hx hQ)
/-- a call of a method that only reads -/
theorem g_callR (X : CX D p R s m args meth c h0 cc own nL ret) {o : Option Int} {K : Int → Option α} {y : MethodName} {cw : Cond} {fr lo : Nat} {vs astk : List Value} {t : Nat} {maxL : Nat} {ig : Instr} (hM : ∀ v, o = some v → Sim l D y cw fr lo vs h t ((0, v), h)) (hcode : cwOK cw y maxL) (hcw : cw ∈ lw_all) (hini : Cond.initialized y.cls ∈ lw_all)
    (hin : InTo p l e R s m args below meth c D h0 nL pc st astk vs h y) (hd : decode cc pc = .ok (ig, 3)) (hW : (st.map fun v => v.category).sum ≤ 24) (hfr : fr + 1 ≤ R.frames) (hlo : 24 + (maxL + 11) + lo ≤ R.locals) (ht : t ≠ 0)
    (g : ∀ v, tok t v → G p l e R s m args below meth c D h0 nL Φ (pc + 3) ls (tv D t v :: st) h (K v)) : G p l e R s m args below meth c D h0 nL Φ pc ls astk h (o.bind K) := by
  intro x Q hx hQ
  cases ho : o with
  | none => rw [ho] at hx; cases hx
  | some v =>
    rw [ho] at hx
    refine a_call X (hM v ho) hcode hcw hini hin hd hW hfr hlo (fun _ w hw => ?_) (fun _ h1 => by cases h1)
    rcases hw with ⟨-, ⟨e0, -⟩ | ⟨-, h1, h2⟩⟩ | ⟨h1, -⟩
    · exact absurd e0 ht
    · cases h2
      exact g v h1 x Q hx hQ
    · cases h1
/-- .. of one that writes, and answers -/
theorem g_callW (X : CX D p R s m args meth c h0 cc own nL ret) {o : Option (Int × Hp)} {K : Int × Hp → Option α} {y : MethodName} {cw : Cond} {fr lo : Nat} {vs astk : List Value} {t : Nat} {maxL : Nat} {ig : Instr} (hM : ∀ v, o = some v → Sim l D y cw fr lo vs h t ((0, v.1), v.2)) (hcode : cwOK cw y maxL) (hcw : cw ∈ lw_all) (hini : Cond.initialized y.cls ∈ lw_all)
    (hin : InTo p l e R s m args below meth c D h0 nL pc st astk vs h y) (hd : decode cc pc = .ok (ig, 3)) (hW : (st.map fun v => v.category).sum ≤ 24) (hfr : fr + 1 ≤ R.frames) (hlo : 24 + (maxL + 11) + lo ≤ R.locals) (ht : t ≠ 0)
    (g : ∀ v h1, tok t v → Ext h h1 → G p l e R s m args below meth c D h0 nL Φ (pc + 3) ls (tv D t v :: st) h1 (K (v, h1))) : G p l e R s m args below meth c D h0 nL Φ pc ls astk h (o.bind K) := by
  intro x Q hx hQ
  cases ho : o with
  | none => rw [ho] at hx; cases hx
  | some v =>
    rw [ho] at hx
    refine a_call X (hM v ho) hcode hcw hini hin hd hW hfr hlo (fun hE w hw => ?_) (fun _ h1 => by cases h1)
    rcases hw with ⟨-, ⟨e0, -⟩ | ⟨-, h1, h2⟩⟩ | ⟨h1, -⟩
    · exact absurd e0 ht
    · cases h2
      exact g v.1 v.2 h1 hE x Q hx hQ
    · cases h1
/-- .. of one that writes and answers nothing -/
theorem g_callV (X : CX D p R s m args meth c h0 cc own nL ret) {o : Option Hp} {K : Hp → Option α} {y : MethodName} {cw : Cond} {fr lo : Nat} {vs astk : List Value} {maxL : Nat} {ig : Instr} (hM : ∀ v, o = some v → Sim l D y cw fr lo vs h 0 ((0, 0), v)) (hcode : cwOK cw y maxL) (hcw : cw ∈ lw_all) (hini : Cond.initialized y.cls ∈ lw_all)
    (hin : InTo p l e R s m args below meth c D h0 nL pc st astk vs h y) (hd : decode cc pc = .ok (ig, 3)) (hW : (st.map fun v => v.category).sum ≤ 24) (hfr : fr + 1 ≤ R.frames) (hlo : 24 + (maxL + 11) + lo ≤ R.locals)
    (g : ∀ h1, Ext h h1 → G p l e R s m args below meth c D h0 nL Φ (pc + 3) ls st h1 (K h1)) : G p l e R s m args below meth c D h0 nL Φ pc ls astk h (o.bind K) := by
  intro x Q hx hQ
  cases ho : o with
  | none => rw [ho] at hx; cases hx
  | some v =>
    rw [ho] at hx
    refine a_call X (hM v ho) hcode hcw hini hin hd hW hfr hlo (fun hE w hw => ?_) (fun _ h1 => by cases h1)
    rcases hw with ⟨-, ⟨-, h2⟩ | ⟨e0, -⟩⟩ | ⟨h1, -⟩
    · cases h2
      exact g v hE x Q hx hQ
    · exact absurd rfl e0
    · cases h1
/-- .. of one that may throw: (0, v) with what it answers, (1, a) with what it threw -/
theorem g_callT (X : CX D p R s m args meth c h0 cc own nL ret) {o : Option ((Int × Int) × Hp)} {K KT : Int → Hp → Option α} {y : MethodName} {cw : Cond} {fr lo : Nat} {vs astk : List Value} {t : Nat} {maxL : Nat} {ig : Instr} (hM : ∀ v, o = some v → Sim l D y cw fr lo vs h t v) (hcode : cwOK cw y maxL) (hcw : cw ∈ lw_all) (hini : Cond.initialized y.cls ∈ lw_all)
    (hin : InTo p l e R s m args below meth c D h0 nL pc st astk vs h y) (hd : decode cc pc = .ok (ig, 3)) (hW : (st.map fun v => v.category).sum ≤ 24) (hfr : fr + 1 ≤ R.frames) (hlo : 24 + (maxL + 11) + lo ≤ R.locals)
    (g : ∀ v h1 w, OutR D t (0, v) (.returned w) → Ext h h1 → G p l e R s m args below meth c D h0 nL Φ (pc + 3) ls (w.toList ++ st) h1 (K v h1)) (gt : ∀ a h1, 0 < a → Ext h h1 → GT p l e R s m args below meth c D h0 nL Φ pc ls a h1 (KT a h1)) : G p l e R s m args below meth c D h0 nL Φ pc ls astk h (o.bind fun q => if q.1.1 = 0 then K q.1.2 q.2 else KT q.1.2 q.2) := by
  intro x Q hx hQ
  cases ho : o with
  | none => rw [ho] at hx; cases hx
  | some v =>
    rw [ho] at hx
    obtain ⟨⟨c1, v1⟩, h1⟩ := v
    have hx : (if c1 = 0 then K v1 h1 else KT v1 h1) = some x := hx
    refine a_call X (hM _ ho) hcode hcw hini hin hd hW hfr hlo (fun hE w hw => ?_) (fun hE e1 hp => ?_)
    · have hc : c1 = 0 := by
        rcases hw with ⟨q, -⟩ | ⟨-, -, q⟩
        · exact q
        · cases q
      subst hc
      exact g v1 h1 w hw hE x Q hx hQ
    · have e1 : c1 = 1 := e1
      subst e1
      exact gt v1 h1 hp hE x Q hx hQ
/-- what was thrown leaves the method -/
theorem gt_out {Q : State → Prop} {x : (Int × Int) × Hp} {a : Int} {t : Nat} (X : CX D p R s m args meth c h0 cc own nL ret) (hx : x = ((1, a), h)) (ha : 0 < a) (hout : ∀ q ∈ c.exceptionTable.toList, covers q pc = false) : GT p l e R s m args below meth c D h0 nL (FinR D R s below h0 t (fun (q : (Int × Int) × Hp) => q)) pc ls a h (some x) := by
  intro y Q hy hQ H locs lsA st hR hL hl T hT S
  cases hy
  subst hx
  have hlk := X.2.2.1
  obtain ⟨b1, b2⟩ := hR.bounds X
  obtain ⟨h1, h2, h3, h4, h5⟩ := S.leaveThrown (ph D a) (g := F0 m pc lsA st) rfl rfl rfl hout
  refine ⟨_, h1, hQ _ ⟨_, h2, h3, Or.inr ⟨rfl, ha, rfl⟩, ?_, h4, locs, hL, h5.mono b1 b2⟩⟩
  have : (T.setFrames (.throwing (ph D a) :: below)).heap = H := hT
  rw [this]; exact hR
/-- athrow -/
theorem g_athrow (X : CX D p R s m args meth c h0 cc own nL ret) {a : Int} (ha : a ≠ 0) (hd : decode cc pc = .ok (.athrow, 1)) (g : GT p l e R s m args below meth c D h0 nL Φ pc ls a h k) : G p l e R s m args below meth c D h0 nL Φ pc ls (rv D a :: st) h k := by
  intro x Q hx hQ H locs lsA hR hL hl T hT S
  rw [rv_ref ha]
  obtain ⟨t, a1, a2⟩ := g x Q hx hQ H locs lsA st hR hL hl T hT S
  refine ⟨t, ?_, a2⟩
  have hdd : decode c.code pc = .ok (.athrow, 1) := by rw [X.2.1]; exact hd
  jvm_step S.here [X.1, hdd, athrow.wp_sem]
  exact a1
/-- A METHOD'S PICTURE out of its walk -/
theorem Sim.of {y : MethodName} {cc : ByteArray} {maxL fr lo t : Nat} {ret : Option FieldType} {cw : Cond} {vs : List Value} {lsE : List (Nat × Value)} {fin : α → (Int × Int) × Hp} {x : α} (hk : k = some x) (hy : plainName y.cls = true)
    (hcw : ∀ (a : Array Value) (U : State) (mk : MethodId), cw.before a U = true → U.methodNamed? y = some mk → ∃ meth c, U.vm.method? mk = some meth ∧ meth.code = some c ∧ c.code = cc ∧ c.maxLocals = maxL ∧ meth.sig.returnType = ret ∧ meth.locks = false)
    (hls : lv_args 0 vs = lsE) (hsl : (lg_sl vs).length ≤ maxL)
    (body : ∀ (p : Program) (e : Env) (s : State) (m : MethodId) (below : List Frame) (meth : Method) (c : Code), CX D p (rmOf h fr lo) s m vs.toArray meth c h cc y.cls maxL ret → cw.before vs.toArray s = true → s.vm.method? m = some meth → meth.code = some c → s.methodNamed? y = some m → meth.name = y.name → G p l e (rmOf h fr lo) s m vs.toArray below meth c D h maxL (FinR D (rmOf h fr lo) s below h t fin) 0 lsE [] h k) :
    Sim l D y cw fr lo vs h t (fin x) := by
  refine MetFree.of_bodyS (code := cc) (maxLocals := maxL) (ret := ret) hy ?_ ?_
  · intro args s m hp hn
    exact hcw args s m (atoms_spec (ws := cw :: lw_all) hp _ List.mem_cons_self) hn
  · intro p e s m args below meth c s₁ B hml hP _
    obtain ⟨rfl, hR, hKV⟩ := hP
    have hts := atoms_spec (ws := cw :: lw_all) B.pre
    have hh0 : s₁.heap = s.heap := by rw [B.state]; rfl
    have hX : CX D p (rmOf h fr lo) s m vs.toArray meth c h cc y.cls maxL ret := ⟨B.exec, B.bytes, B.notSynchronized, hml, findClass_of_methodNamed B.named, fun w hw => hts w (List.mem_cons_of_mem _ hw), hKV, hR, B.returns, rfl, rfl⟩
    have S := Stand.of_body B
    have hg := body p e s m below meth c hX (hts _ List.mem_cons_self) B.method S.code B.named (name_of_methodNamed B.named B.method).1 x (EQ D (rmOf h fr lo) s below h t (fin x)) hk (fun T hT => hT)
    have hl := lv_entry vs (n := maxL) hsl
    rw [hls] at hl
    have hw := hg s.heap [] _ ⟨hR, Ext.refl h⟩ (fun q hq => absurd hq List.not_mem_nil) hl
    have hc0 : cn h h = 0 := by unfold cn; omega
    have hs0 : sn h h = 0 := by unfold sn; omega
    rw [hc0, hs0] at hw
    rw [lg_entry_eq]
    obtain ⟨T, a1, o, b1, b2, b3, b4, b5, b6⟩ := hw s₁ hh0 S
    exact ⟨T, o, a1, b1, b2, b3, b4, b5, b6⟩
end GL
