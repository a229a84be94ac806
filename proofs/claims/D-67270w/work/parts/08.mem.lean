/-! ROWS of the heap -/
section GM
variable {p : Program} {l : Launch} {e : Env} {R : Room} {s : State} {m : MethodId} {args : Array Value} {below : List Frame} {meth : Method} {c : Code} {D : SD} {h0 : Hp} {nL : Nat} {cc : ByteArray} {own : String} {ret : Option FieldType} {pc : Nat} {ls : List (Nat × Value)} {st : List Value} {h : Hp}
variable {α : Type} {Φ : α → (State → Prop) → Prop} {k : Option α}
theorem CX.kn (X : CX D p R s m args meth c h0 cc own nL ret) {ci : Nat} {q : CE} (hq : clT[ci]? = some q) : u_Kn s q.1 q.2.1 q.2.2.1 (D.dC ci) (D.dI ci) := X.2.2.2.2.2.2.1.1 ci q hq
theorem ce_ok {ci : Nat} {q : CE} (hq : clT[ci]? = some q) : CEok q := clT_ok q (List.mem_of_getElem? hq)
theorem tv_narrow {ty : FieldType} {t : Nat} (ht : fcode ty = t) {v : Int} (hv : tok t v) : narrow ty (tv D t v) = tv D t v := by
  subst ht
  cases ty with
  | int => rfl
  | byte =>
    show Value.int ((Int32.ofInt v).toInt8.toInt32) = Value.int (Int32.ofInt v)
    have hv : -128 ≤ v ∧ v < 128 := hv
    rw [i2b_ (by unfold r32; omega)]
    congr 2
    unfold w8; omega
  | boolean =>
    rcases (show v = 0 ∨ v = 1 from hv) with h | h <;> subst h <;> rfl
  | long => rfl
  | _ => show narrow _ (rv D v) = rv D v; unfold rv; split <;> rfl
theorem tv_fits {ty : FieldType} {t : Nat} (ht : fcode ty = t) (hb : ty = .int ∨ ty = .byte ∨ ty = .boolean ∨ ty = .long ∨ ty.isReference = true) {v : Int} (hv : tok t v) : fits ty (tv D t v) = true := by
  subst ht
  rcases hb with h | h | h | h | h
  · subst h; rfl
  · subst h
    have hv : -128 ≤ v ∧ v < 128 := hv
    have e : Int32.ofInt v = (Int32.ofInt v).toInt8.toInt32 := by
      rw [i2b_ (by unfold r32; omega)]
      congr 1
      unfold w8; omega
    show fits .byte (.int (Int32.ofInt v)) = true
    rw [e]; exact pk_fb _
  · subst h
    rcases (show v = 0 ∨ v = 1 from hv) with h | h <;> subst h <;> rfl
  · subst h; rfl
  · cases ty with
    | object n => show fits (.object n) (rv D v) = true; unfold rv; split <;> rfl
    | array n => show fits (.array n) (rv D v) = true; unfold rv; split <;> rfl
    | _ => cases h
/-- getfield: what the picture has there -/
theorem a_get {Q : State → Prop} (X : CX D p R s m args meth c h0 cc own nL ret) {ci j index : Nat} {q : CE} {a jI : Int} {t : Nat} (hq : clT[ci]? = some q) (hj : j < q.2.2.1) (hjI : (j : Int) = jI) (ht : fcode (q.2.2.2.1 j) = t) (hk : h a (-2) = 16 * ((ci : Int) + 1))
    (hlink : (Cond.fieldLink own index (q.2.1 j).1 (q.2.1 j).2.1 (q.2.1 j).2.2.1).before args s = true ∨ ∃ host, (Cond.fieldLinkNest own index (q.2.1 j).1 (q.2.1 j).2.1 (q.2.1 j).2.2.1 host).before args s = true) (hd : decode cc pc = .ok (.getfield index, 3))
    (g : tok t (h a jI) → A_ p l e R s m args below meth c D h0 nL (pc + 3) ls (tv D t (h a jI) :: st) h Q) : A_ p l e R s m args below meth c D h0 nL pc ls (rv D a :: st) h Q := by
  subst hjI; subst ht
  intro H locs lsA hR hL hl
  have hpos := hR.1.pos (a := a) (by omega)
  rw [rv_ref (by omega)]
  obtain ⟨o1, ⟨cell, q1, q2, q3, q4⟩, o3, o5⟩ := hR.1.obj hk hq
  obtain ⟨hS, hfc, kC, hkC, hkind⟩ := X.kn hq
  obtain ⟨cf, kf, fi, f, hi, hsl⟩ := hS j hj
  have hst := (u_facts hfc hkC (u_lays X.2.2.2.2.2.1 (ce_ok hq).1 hj) hi).1
  rcases hlink with hlink | ⟨host, hlink⟩
  · exact W.getf X.1 X.2.1 X.2.2.2.2.1 hlink hi hst q1 (by rw [q3]; exact fun h => by cases h) (by rw [hsl]; exact q4 j hj) rfl rfl hd (g (o3 j hj) H locs lsA hR hL hl)
  · exact va_Wgetf X.1 X.2.1 X.2.2.2.2.1 hlink hi hst q1 (by rw [q3]; exact fun h => by cases h) (by rw [hsl]; exact q4 j hj) rfl rfl hd (g (o3 j hj) H locs lsA hR hL hl)
theorem b32 {t : Nat} {v : Int} (ht : t = 1 ∨ t = 2 ∨ t = 3) (h : tok t v) : r32 v := by
  unfold r32
  rcases ht with e | e | e <;> subst e
  · exact h
  · have h : -128 ≤ v ∧ v < 128 := h
    omega
  · have h : v = 0 ∨ v = 1 := h
    omega
theorem apart {q : CE} {ci : Nat} (X : CX D p R s m args meth c h0 cc own nL ret) (hq : clT[ci]? = some q) : ∀ a b, a < q.2.2.1 → b < q.2.2.1 → a ≠ b → D.dI ci a ≠ D.dI ci b := by
  intro a b ha hb hne
  obtain ⟨hS, hfc, kC, hkC, hkind⟩ := X.kn hq
  obtain ⟨_, _, _, fa, hia, ea⟩ := hS a ha
  obtain ⟨_, _, _, fb, hib, eb⟩ := hS b hb
  rw [← ea, ← eb]
  have na : fa.name = (q.2.1 a).2.1 := (State.fieldFound?_type hia ((ce_ok hq).2.2.1 a ha)).1
  have nb : fb.name = (q.2.1 b).2.1 := (State.fieldFound?_type hib ((ce_ok hq).2.2.1 b hb)).1
  exact u_apart (u_lays X.2.2.2.2.2.1 (ce_ok hq).1 ha) (u_lays X.2.2.2.2.2.1 (ce_ok hq).1 hb) hia hib (by rw [na, nb]; exact (ce_ok hq).2.1 a ha b hb hne)
theorem slots_set {cell : Cell} {i : Nat} {v : Value} : (cell.setSlot i v).slots.size = cell.slots.size := by simp [Cell.setSlot]
/-- putfield: not final, or final in the class's own constructor -/
theorem a_put {Q : State → Prop} (X : CX D p R s m args meth c h0 cc own nL ret) {ci j index : Nat} {q : CE} {a jI v : Int} {t : Nat} (hq : clT[ci]? = some q) (hj : j < q.2.2.1) (hjI : (j : Int) = jI) (ht : fcode (q.2.2.2.1 j) = t) (hb : q.2.2.2.1 j = .int ∨ q.2.2.2.1 j = .byte ∨ q.2.2.2.1 j = .boolean ∨ q.2.2.2.1 j = .long ∨ (q.2.2.2.1 j).isReference = true) (hk : h a (-2) = 16 * ((ci : Int) + 1))
    (hlink : ((Cond.fieldLink own index (q.2.1 j).1 (q.2.1 j).2.1 (q.2.1 j).2.2.1).before args s = true ∧ ((q.2.1 j).2.2.2 = false ∨ ((q.2.1 j).2.2.2 = true ∧ meth.name = "<init>" ∧ (q.2.1 j).1 = own))) ∨ ((q.2.1 j).2.2.2 = false ∧ ∃ host, (Cond.fieldLinkNest own index (q.2.1 j).1 (q.2.1 j).2.1 (q.2.1 j).2.2.1 host).before args s = true)) (hd : decode cc pc = .ok (.putfield index, 3)) (hv : tok t v)
    (g : A_ p l e R s m args below meth c D h0 nL (pc + 3) ls st (up h a jI v) Q) : A_ p l e R s m args below meth c D h0 nL pc ls (tv D t v :: rv D a :: st) h Q := by
  subst hjI; subst ht
  intro H locs lsA hR hL hl
  have hpos := hR.1.pos (a := a) (by omega)
  rw [rv_ref (by omega)]
  obtain ⟨o1, ⟨cell, q1, q2, q3, q4⟩, o3, o5⟩ := hR.1.obj hk hq
  obtain ⟨hS, hfc, kC, hkC, hkind⟩ := X.kn hq
  obtain ⟨cf, kf, fi, f, hi, hsl⟩ := hS j hj
  have hlays := u_lays X.2.2.2.2.2.1 (ce_ok hq).1 hj
  have hst := (u_facts hfc hkC hlays hi).1
  have hlay := X.2.2.2.2.2.1 _ ((ce_ok hq).1 _ (u_in_lay hj))
  have hde := (ce_ok hq).2.2.1 j hj
  have hna := tv_narrow (D := D) (ty := q.2.2.2.1 j) rfl hv
  have hfi := tv_fits (D := D) (ty := q.2.2.2.1 j) rfl hb hv
  have hlt : f.slot < cell.slots.size := by rw [hsl]; exact k2_hasslot (q4 j hj)
  have key : ∀ H' : Heap, H'[ph D a]? = some (cell.setSlot f.slot (tv D (fcode (q.2.2.2.1 j)) v)) → H'.size = H.size → (∀ x, x ≠ ph D a → H'[x]? = H[x]?) → W p l e R s m args below meth c H' (locs ++ [⟨ph D a, f.slot⟩]) (cn h0 h) (sn h0 h) Q (F0 m (pc + 3) lsA st) := by
    intro H' e1 e2 e3
    have hR' : Rel D (up h a j v) H' := by
      refine hR.1.putO hk hq hj hv ⟨_, e1, q2, q3, ?_⟩ e2 e3 ?_ (fun hm cell' hc' => by
        cases e1.symm.trans hc'
        have h1 := hm cell q1
        exact ⟨by rw [slots_set]; exact h1.1, h1.2⟩)
      · rw [hsl]
        exact t_set q4 (apart X hq) hj _
      · rw [e1, q1]
        simp [slots_set]
    have hE : Ext h0 (up h a j v) := hR.2.trans (Ext.up (by omega))
    have hL' : ∀ x ∈ locs ++ [⟨ph D a, f.slot⟩], D.base ≤ x.base := by
      intro x hx
      rcases List.mem_append.mp hx with hx | hx
      · exact hL x hx
      · rw [List.mem_singleton.mp hx, ph_pos (by omega)]
        exact Nat.le_add_right _ _
    have hg := g H' _ lsA ⟨hR', hE⟩ hL' hl
    have ec : cn h0 (up h a j v) = cn h0 h := by unfold cn; rw [up_a (by omega)]
    have es : sn h0 (up h a j v) = sn h0 h := by unfold sn; rw [up_a (by omega)]
    rw [ec, es] at hg
    exact hg
  rcases hlink with ⟨hlink, hfin | ⟨hfin, hin, hdc⟩⟩ | ⟨hfin, host, hlink⟩
  · unfold u_lay at hlay
    rw [if_neg (by rw [hfin]; decide)] at hlay
    exact W.putK X.1 X.2.1 (f := f) ⟨X.2.2.2.2.1, hlink, ⟨_, _, _, hi⟩, hst⟩ (by rw [q2]; exact u_store hfc hkC hkind hlay hi hde hna hfi) q1 q3 hlt rfl rfl hd key
  · unfold u_lay at hlay
    rw [if_pos hfin] at hlay
    have hcf : m.cls = cf := by
      obtain ⟨_, _, c', _, _, _, -, -, hf', -, -, -, hown2, -⟩ := Cond.laysFinal_spec hlay
      have e1 : c' = cf := by have := hi.symm.trans hf'; simp at this; exact this.1.symm
      subst e1
      rw [hdc] at hown2
      exact Option.some.inj (X.2.2.2.2.1.symm.trans hown2)
    exact W.putFinK X.1 X.2.1 X.2.2.2.2.1 hlink hi hst hcf hin (by rw [q2]; exact u_fits hfc hkC hkind hlays hi hde hna hfi) q1 q3 hlt rfl rfl hd key
  · unfold u_lay at hlay
    rw [if_neg (by rw [hfin]; decide)] at hlay
    exact va_WputK X.1 X.2.1 X.2.2.2.2.1 hlink hi hst (by rw [q2]; exact u_store hfc hkC hkind hlay hi hde hna hfi) q1 q3 hlt rfl rfl hd key
theorem cl_i {i : Int} (ri : r32 i) : (Int32.ofInt i).toNatClampNeg = i.toNat := by
  show (Int32.ofInt i).toInt.toNat = i.toNat
  rw [i_toInt ri]
theorem in_i {i n : Int} (ri : r32 i) (h0 : 0 ≤ i) (hn : i < n) : ¬ (Int32.ofInt i < 0 ∨ n.toNat ≤ (Int32.ofInt i).toNatClampNeg) := by
  rw [cl_i ri]
  rintro (q | q)
  · have := (i_lt ri (y := 0) ⟨by omega, by omega⟩).mp q
    omega
  · omega
theorem a_iald {Q : State → Prop} (X : CX D p R s m args meth c h0 cc own nL ret) {a i : Int} (ri : r32 i) (hk : h a (-2) % 16 = 1 ∧ 0 ≤ i ∧ i < h a (-1)) (hd : decode cc pc = .ok (.iaload, 1)) (g : tok 1 (h a i) → A_ p l e R s m args below meth c D h0 nL (pc + 1) ls (tv D 1 (h a i) :: st) h Q) : A_ p l e R s m args below meth c D h0 nL pc ls (iv i :: rv D a :: st) h Q := by
  intro H locs lsA hR hL hl
  obtain ⟨hk1, hi0, hin⟩ := hk
  have hpos := hR.1.pos (a := a) (by omega)
  rw [rv_ref (by omega)]
  obtain ⟨o1, o2, o3, o4⟩ := hR.1.arr (t := 1) (by omega) (by omega) hk1
  have hi2 : i.toNat < (h a (-1)).toNat := by omega
  have hr : (arrV (D.aC 1) (h a (-1)).toNat (fun j => tv D (fcode (aty 1)) (h a j))).slots[(Int32.ofInt i).toNatClampNeg]? = some (tv D 1 (h a i)) := by
    rw [cl_i ri, arrV_read _ _ hi2, Int.toNat_of_nonneg hi0]
    rfl
  have ho := o4 i.toNat hi2
  rw [Int.toNat_of_nonneg hi0] at ho
  exact W.iald X.1 X.2.1 o3 ((X.2.2.2.2.2.2.1.2.1 1 (by omega) (by omega)).1 _ _) (fun q => by cases q) (by rw [arrV_size]; exact in_i ri hi0 hin) hr rfl rfl hd (g ho H locs lsA hR hL hl)
theorem a_iast {Q : State → Prop} (X : CX D p R s m args meth c h0 cc own nL ret) {a i v : Int} (ri : r32 i) (rv_ : r32 v) (hk : h a (-2) % 16 = 1 ∧ 0 ≤ i ∧ i < h a (-1)) (hd : decode cc pc = .ok (.iastore, 1)) (g : A_ p l e R s m args below meth c D h0 nL (pc + 1) ls st (up h a i v) Q) : A_ p l e R s m args below meth c D h0 nL pc ls (iv v :: iv i :: rv D a :: st) h Q := by
  intro H locs lsA hR hL hl
  obtain ⟨hk1, hi0, hin⟩ := hk
  have hpos := hR.1.pos (a := a) (by omega)
  rw [rv_ref (by omega)]
  obtain ⟨o1, o2, o3, o4⟩ := hR.1.arr (t := 1) (by omega) (by omega) hk1
  refine W.iast X.1 X.2.1 o3 ((X.2.2.2.2.2.2.1.2.1 1 (by omega) (by omega)).1 _ _) (fun q => by cases q) (by rw [arrV_size]; exact in_i ri hi0 hin) rfl rfl hd fun H' e1 e2 e3 => ?_
  have hR' : Rel D (up h a i v) H' := by
    refine hR.1.putA (t := 1) (by omega) (by omega) hk1 hi0 rv_ ?_ e2 e3
    rw [e1, arrV_store, cl_i ri]
    have hcv : Value.int (Int32.ofInt v) = tv D (fcode (aty 1)) v := rfl
    rw [hcv]
  have hE : Ext h0 (up h a i v) := hR.2.trans (Ext.up hi0)
  have hL' : ∀ x ∈ locs ++ [⟨ph D a, (Int32.ofInt i).toNatClampNeg⟩], D.base ≤ x.base := by
    intro x hx
    rcases List.mem_append.mp hx with hx | hx
    · exact hL x hx
    · rw [List.mem_singleton.mp hx, ph_pos (by omega)]
      exact Nat.le_add_right _ _
  have hg := g H' _ lsA ⟨hR', hE⟩ hL' hl
  have ec : cn h0 (up h a i v) = cn h0 h := by unfold cn; rw [up_a (by omega)]
  have es : sn h0 (up h a i v) = sn h0 h := by unfold sn; rw [up_a (by omega)]
  rw [ec, es] at hg
  exact hg
theorem a_bald {Q : State → Prop} (X : CX D p R s m args meth c h0 cc own nL ret) {a i : Int} (ri : r32 i) (hk : h a (-2) % 16 = 2 ∧ 0 ≤ i ∧ i < h a (-1)) (hd : decode cc pc = .ok (.baload, 1)) (g : tok 2 (h a i) → A_ p l e R s m args below meth c D h0 nL (pc + 1) ls (tv D 2 (h a i) :: st) h Q) : A_ p l e R s m args below meth c D h0 nL pc ls (iv i :: rv D a :: st) h Q := by
  intro H locs lsA hR hL hl
  obtain ⟨hk1, hi0, hin⟩ := hk
  have hpos := hR.1.pos (a := a) (by omega)
  rw [rv_ref (by omega)]
  obtain ⟨o1, o2, o3, o4⟩ := hR.1.arr (t := 2) (by omega) (by omega) hk1
  have hi2 : i.toNat < (h a (-1)).toNat := by omega
  have hr : (arrV (D.aC 2) (h a (-1)).toNat (fun j => tv D (fcode (aty 2)) (h a j))).slots[(Int32.ofInt i).toNatClampNeg]? = some (tv D 2 (h a i)) := by
    rw [cl_i ri, arrV_read _ _ hi2, Int.toNat_of_nonneg hi0]
    rfl
  have ho := o4 i.toNat hi2
  rw [Int.toNat_of_nonneg hi0] at ho
  exact W.bald X.1 X.2.1 o3 ((X.2.2.2.2.2.2.1.2.1 2 (by omega) (by omega)).1 _ _) (fun q => by cases q) (by rw [arrV_size]; exact in_i ri hi0 hin) hr rfl rfl hd (g ho H locs lsA hR hL hl)
theorem a_bast {Q : State → Prop} (X : CX D p R s m args meth c h0 cc own nL ret) {a i v : Int} (ri : r32 i) (rv_ : r32 v) (hk : h a (-2) % 16 = 2 ∧ 0 ≤ i ∧ i < h a (-1)) (hd : decode cc pc = .ok (.bastore, 1)) (g : A_ p l e R s m args below meth c D h0 nL (pc + 1) ls st (up h a i (w8 v)) Q) : A_ p l e R s m args below meth c D h0 nL pc ls (iv v :: iv i :: rv D a :: st) h Q := by
  intro H locs lsA hR hL hl
  obtain ⟨hk1, hi0, hin⟩ := hk
  have hpos := hR.1.pos (a := a) (by omega)
  rw [rv_ref (by omega)]
  obtain ⟨o1, o2, o3, o4⟩ := hR.1.arr (t := 2) (by omega) (by omega) hk1
  refine W.bast X.1 X.2.1 o3 ((X.2.2.2.2.2.2.1.2.1 2 (by omega) (by omega)).1 _ _) (fun q => by cases q) (by rw [arrV_size]; exact in_i ri hi0 hin) rfl rfl hd fun H' e1 e2 e3 => ?_
  have hR' : Rel D (up h a i (w8 v)) H' := by
    refine hR.1.putA (t := 2) (by omega) (by omega) hk1 hi0 (show -128 ≤ w8 v ∧ w8 v < 128 by unfold w8; omega) ?_ e2 e3
    rw [e1, arrV_store, cl_i ri]
    have hcv : narrow .byte (.int (Int32.ofInt v)) = tv D (fcode (aty 2)) (w8 v) := (by show Value.int ((Int32.ofInt v).toInt8.toInt32) = Value.int (Int32.ofInt (w8 v)); rw [i2b_ rv_])
    rw [hcv]
  have hE : Ext h0 (up h a i (w8 v)) := hR.2.trans (Ext.up hi0)
  have hL' : ∀ x ∈ locs ++ [⟨ph D a, (Int32.ofInt i).toNatClampNeg⟩], D.base ≤ x.base := by
    intro x hx
    rcases List.mem_append.mp hx with hx | hx
    · exact hL x hx
    · rw [List.mem_singleton.mp hx, ph_pos (by omega)]
      exact Nat.le_add_right _ _
  have hg := g H' _ lsA ⟨hR', hE⟩ hL' hl
  have ec : cn h0 (up h a i (w8 v)) = cn h0 h := by unfold cn; rw [up_a (by omega)]
  have es : sn h0 (up h a i (w8 v)) = sn h0 h := by unfold sn; rw [up_a (by omega)]
  rw [ec, es] at hg
  exact hg
theorem a_zald {Q : State → Prop} (X : CX D p R s m args meth c h0 cc own nL ret) {a i : Int} (ri : r32 i) (hk : h a (-2) % 16 = 3 ∧ 0 ≤ i ∧ i < h a (-1)) (hd : decode cc pc = .ok (.baload, 1)) (g : tok 3 (h a i) → A_ p l e R s m args below meth c D h0 nL (pc + 1) ls (tv D 3 (h a i) :: st) h Q) : A_ p l e R s m args below meth c D h0 nL pc ls (iv i :: rv D a :: st) h Q := by
  intro H locs lsA hR hL hl
  obtain ⟨hk1, hi0, hin⟩ := hk
  have hpos := hR.1.pos (a := a) (by omega)
  rw [rv_ref (by omega)]
  obtain ⟨o1, o2, o3, o4⟩ := hR.1.arr (t := 3) (by omega) (by omega) hk1
  have hi2 : i.toNat < (h a (-1)).toNat := by omega
  have hr : (arrV (D.aC 3) (h a (-1)).toNat (fun j => tv D (fcode (aty 3)) (h a j))).slots[(Int32.ofInt i).toNatClampNeg]? = some (tv D 3 (h a i)) := by
    rw [cl_i ri, arrV_read _ _ hi2, Int.toNat_of_nonneg hi0]
    rfl
  have ho := o4 i.toNat hi2
  rw [Int.toNat_of_nonneg hi0] at ho
  exact W.zald X.1 X.2.1 o3 ((X.2.2.2.2.2.2.1.2.1 3 (by omega) (by omega)).1 _ _) (fun q => by cases q) (by rw [arrV_size]; exact in_i ri hi0 hin) hr rfl rfl hd (g ho H locs lsA hR hL hl)
theorem a_zast {Q : State → Prop} (X : CX D p R s m args meth c h0 cc own nL ret) {a i v : Int} (ri : r32 i) (rv_ : v = 0 ∨ v = 1) (hk : h a (-2) % 16 = 3 ∧ 0 ≤ i ∧ i < h a (-1)) (hd : decode cc pc = .ok (.bastore, 1)) (g : A_ p l e R s m args below meth c D h0 nL (pc + 1) ls st (up h a i v) Q) : A_ p l e R s m args below meth c D h0 nL pc ls (iv v :: iv i :: rv D a :: st) h Q := by
  intro H locs lsA hR hL hl
  obtain ⟨hk1, hi0, hin⟩ := hk
  have hpos := hR.1.pos (a := a) (by omega)
  rw [rv_ref (by omega)]
  obtain ⟨o1, o2, o3, o4⟩ := hR.1.arr (t := 3) (by omega) (by omega) hk1
  refine W.zast X.1 X.2.1 o3 ((X.2.2.2.2.2.2.1.2.1 3 (by omega) (by omega)).1 _ _) (fun q => by cases q) (by rw [arrV_size]; exact in_i ri hi0 hin) rfl rfl hd fun H' e1 e2 e3 => ?_
  have hR' : Rel D (up h a i v) H' := by
    refine hR.1.putA (t := 3) (by omega) (by omega) hk1 hi0 rv_ ?_ e2 e3
    rw [e1, arrV_store, cl_i ri]
    have hcv : narrow .boolean (.int (Int32.ofInt v)) = tv D (fcode (aty 3)) v := (by rcases rv_ with q | q <;> subst q <;> rfl)
    rw [hcv]
  have hE : Ext h0 (up h a i v) := hR.2.trans (Ext.up hi0)
  have hL' : ∀ x ∈ locs ++ [⟨ph D a, (Int32.ofInt i).toNatClampNeg⟩], D.base ≤ x.base := by
    intro x hx
    rcases List.mem_append.mp hx with hx | hx
    · exact hL x hx
    · rw [List.mem_singleton.mp hx, ph_pos (by omega)]
      exact Nat.le_add_right _ _
  have hg := g H' _ lsA ⟨hR', hE⟩ hL' hl
  have ec : cn h0 (up h a i v) = cn h0 h := by unfold cn; rw [up_a (by omega)]
  have es : sn h0 (up h a i v) = sn h0 h := by unfold sn; rw [up_a (by omega)]
  rw [ec, es] at hg
  exact hg
theorem a_lald {Q : State → Prop} (X : CX D p R s m args meth c h0 cc own nL ret) {a i : Int} (ri : r32 i) (hk : h a (-2) % 16 = 4 ∧ 0 ≤ i ∧ i < h a (-1)) (hd : decode cc pc = .ok (.laload, 1)) (g : tok 4 (h a i) → A_ p l e R s m args below meth c D h0 nL (pc + 1) ls (tv D 4 (h a i) :: st) h Q) : A_ p l e R s m args below meth c D h0 nL pc ls (iv i :: rv D a :: st) h Q := by
  intro H locs lsA hR hL hl
  obtain ⟨hk1, hi0, hin⟩ := hk
  have hpos := hR.1.pos (a := a) (by omega)
  rw [rv_ref (by omega)]
  obtain ⟨o1, o2, o3, o4⟩ := hR.1.arr (t := 4) (by omega) (by omega) hk1
  have hi2 : i.toNat < (h a (-1)).toNat := by omega
  have hr : (arrV (D.aC 4) (h a (-1)).toNat (fun j => tv D (fcode (aty 4)) (h a j))).slots[(Int32.ofInt i).toNatClampNeg]? = some (tv D 4 (h a i)) := by
    rw [cl_i ri, arrV_read _ _ hi2, Int.toNat_of_nonneg hi0]
    rfl
  have ho := o4 i.toNat hi2
  rw [Int.toNat_of_nonneg hi0] at ho
  exact W.lald X.1 X.2.1 o3 ((X.2.2.2.2.2.2.1.2.1 4 (by omega) (by omega)).1 _ _) (fun q => by cases q) (by rw [arrV_size]; exact in_i ri hi0 hin) hr rfl rfl hd (g ho H locs lsA hR hL hl)
theorem a_last {Q : State → Prop} (X : CX D p R s m args meth c h0 cc own nL ret) {a i v : Int} (ri : r32 i) (rv_ : r64 v) (hk : h a (-2) % 16 = 4 ∧ 0 ≤ i ∧ i < h a (-1)) (hd : decode cc pc = .ok (.lastore, 1)) (g : A_ p l e R s m args below meth c D h0 nL (pc + 1) ls st (up h a i v) Q) : A_ p l e R s m args below meth c D h0 nL pc ls (jv v :: iv i :: rv D a :: st) h Q := by
  intro H locs lsA hR hL hl
  obtain ⟨hk1, hi0, hin⟩ := hk
  have hpos := hR.1.pos (a := a) (by omega)
  rw [rv_ref (by omega)]
  obtain ⟨o1, o2, o3, o4⟩ := hR.1.arr (t := 4) (by omega) (by omega) hk1
  refine W.last X.1 X.2.1 o3 ((X.2.2.2.2.2.2.1.2.1 4 (by omega) (by omega)).1 _ _) (fun q => by cases q) (by rw [arrV_size]; exact in_i ri hi0 hin) rfl rfl hd fun H' e1 e2 e3 => ?_
  have hR' : Rel D (up h a i v) H' := by
    refine hR.1.putA (t := 4) (by omega) (by omega) hk1 hi0 rv_ ?_ e2 e3
    rw [e1, arrV_store, cl_i ri]
    have hcv : Value.long (Int64.ofInt v) = tv D (fcode (aty 4)) v := rfl
    rw [hcv]
  have hE : Ext h0 (up h a i v) := hR.2.trans (Ext.up hi0)
  have hL' : ∀ x ∈ locs ++ [⟨ph D a, (Int32.ofInt i).toNatClampNeg⟩], D.base ≤ x.base := by
    intro x hx
    rcases List.mem_append.mp hx with hx | hx
    · exact hL x hx
    · rw [List.mem_singleton.mp hx, ph_pos (by omega)]
      exact Nat.le_add_right _ _
  have hg := g H' _ lsA ⟨hR', hE⟩ hL' hl
  have ec : cn h0 (up h a i v) = cn h0 h := by unfold cn; rw [up_a (by omega)]
  have es : sn h0 (up h a i v) = sn h0 h := by unfold sn; rw [up_a (by omega)]
  rw [ec, es] at hg
  exact hg
theorem a_aald {Q : State → Prop} (X : CX D p R s m args meth c h0 cc own nL ret) (t : Nat) (ht5 : 5 ≤ t) (ht9 : t ≤ 9) {a i : Int} (ri : r32 i) {tI : Int} (htI : (t : Int) = tI) (hk : h a (-2) % 16 = tI ∧ 0 ≤ i ∧ i < h a (-1)) (hd : decode cc pc = .ok (.aaload, 1)) (g : A_ p l e R s m args below meth c D h0 nL (pc + 1) ls (rv D (h a i) :: st) h Q) : A_ p l e R s m args below meth c D h0 nL pc ls (iv i :: rv D a :: st) h Q := by
  subst htI
  intro H locs lsA hR hL hl
  obtain ⟨hk1, hi0, hin⟩ := hk
  have hpos := hR.1.pos (a := a) (by omega)
  rw [rv_ref (by omega)]
  obtain ⟨o1, o2, o3, o4⟩ := hR.1.arr (t := t) (by omega) ht9 hk1
  have hi2 : i.toNat < (h a (-1)).toNat := by omega
  have hrf : fcode (aty t) = 5 ∧ (aty t).isReference = true := by
    rcases (show t = 5 ∨ t = 6 ∨ t = 7 ∨ t = 8 ∨ t = 9 by omega) with e | e | e | e | e <;> subst e <;> exact ⟨rfl, rfl⟩
  have hr : (arrV (D.aC t) (h a (-1)).toNat (fun j => tv D (fcode (aty t)) (h a j))).slots[(Int32.ofInt i).toNatClampNeg]? = some (rv D (h a i)) := by
    rw [cl_i ri, arrV_read _ _ hi2, Int.toNat_of_nonneg hi0, hrf.1]
    rfl
  exact W.aald X.1 X.2.1 o3 ((X.2.2.2.2.2.2.1.2.1 t (by omega) ht9).1 _ _) hrf.2 (fun q => by cases q) (by rw [arrV_size]; exact in_i ri hi0 hin) hr rfl rfl hd (g H locs lsA hR hL hl)
theorem a_alen {Q : State → Prop} (X : CX D p R s m args meth c h0 cc own nL ret) {a : Int} (hk : 1 ≤ h a (-2) % 16 ∧ h a (-2) % 16 ≤ 9) (hd : decode cc pc = .ok (.arraylength, 1)) (g : 0 ≤ h a (-1) → r32 (h a (-1)) → A_ p l e R s m args below meth c D h0 nL (pc + 1) ls (iv (h a (-1)) :: st) h Q) : A_ p l e R s m args below meth c D h0 nL pc ls (rv D a :: st) h Q := by
  intro H locs lsA hR hL hl
  have hpos := hR.1.pos (a := a) (by omega)
  rw [rv_ref (by omega)]
  obtain ⟨o1, o2, o3, o4⟩ := hR.1.arr (a := a) (t := (h a (-2) % 16).toNat) (by omega) (by omega) (by omega)
  refine W.alen X.1 X.2.1 (n := Int32.ofInt (h a (-1))) o3 ((X.2.2.2.2.2.2.1.2.1 _ (by omega) (by omega)).1 _ _) ?_ rfl rfl hd (g o1 (by unfold r32; omega) H locs lsA hR hL hl)
  rw [arrV_size]
  show Int32.ofNat _ = _
  apply i_eq
  rw [Int32.toInt_ofNat_of_lt (by omega), w32_id (by unfold r32; omega)]
  omega
/-- the class that an array of references holds: its number in the list -/
def acls : Nat → Nat := fun t => match t with
  | 5 => 2
  | 6 => 5
  | 7 => 6
  | 8 => 13
  | _ => 17
theorem a_aast {Q : State → Prop} (X : CX D p R s m args meth c h0 cc own nL ret) (t : Nat) (ht5 : 5 ≤ t) (ht9 : t ≤ 9) {a i v : Int} (ri : r32 i) {tI : Int} (htI : (t : Int) = tI) (hv : h v (-2) = 16 * ((acls t : Int) + 1)) (hk : h a (-2) % 16 = tI ∧ 0 ≤ i ∧ i < h a (-1)) (hd : decode cc pc = .ok (.aastore, 1)) (g : A_ p l e R s m args below meth c D h0 nL (pc + 1) ls st (up h a i v) Q) : A_ p l e R s m args below meth c D h0 nL pc ls (rv D v :: iv i :: rv D a :: st) h Q := by
  subst htI
  intro H locs lsA hR hL hl
  obtain ⟨hk1, hi0, hin⟩ := hk
  have hpos := hR.1.pos (a := a) (by omega)
  have hposv := hR.1.pos (a := v) (by omega)
  rw [rv_ref (a := a) (by omega), rv_ref (a := v) (by omega)]
  obtain ⟨o1, o2, o3, o4⟩ := hR.1.arr (a := a) (t := t) (by omega) ht9 hk1
  obtain ⟨q, hq, C, hC, hqC⟩ : ∃ q, clT[acls t]? = some q ∧ ∃ C, aty t = .object C ∧ q.1 = C := by
    rcases (show t = 5 ∨ t = 6 ∨ t = 7 ∨ t = 8 ∨ t = 9 by omega) with e | e | e | e | e <;> subst e <;> exact ⟨_, rfl, _, rfl, rfl⟩
  obtain ⟨-, ⟨cell, q1, q2, q3, q4⟩, -⟩ := hR.1.obj hv hq
  have hrf : fcode (aty t) = 5 ∧ (aty t).isReference = true := by rw [hC]; exact ⟨rfl, rfl⟩
  have hKA := X.2.2.2.2.2.2.1.2.1 t (by omega) ht9
  have hra := hKA.2
  rw [hC] at hra
  obtain ⟨kA, comp, k1, k2, k3, -⟩ := hra
  have hcls := (X.kn hq).2
  rw [hqC] at hcls
  have hcomp : comp = D.dC (acls t) := Option.some.inj (k3.symm.trans hcls.1)
  subst hcomp
  obtain ⟨kC, hkC, -⟩ := hcls.2
  refine W.aast X.1 X.2.1 o3 (fun q h => by cases h) (fun h => by cases h) k1 k2 rfl hkC ⟨?_, ?_⟩ q1 (fun q h => by rw [q3] at h; cases h) (by rw [q2]; exact hkC) (by rw [q2]; exact va_assign hcls) rfl rfl hd fun H' e1 e2 e3 => ?_
  · intro hlt
    have := (i_lt ri (y := 0) ⟨by omega, by omega⟩).mp hlt
    omega
  · rw [arrV_size, cl_i ri]; omega
  have hR' : Rel D (up h a i v) H' := by
    refine hR.1.putA (t := t) (by omega) (by omega) hk1 hi0 (by rw [hrf.1]; trivial) ?_ e2 e3
    rw [e1, arrV_store, cl_i ri, hrf.1]
    have hcv : Value.ref (ph D v) = tv D 5 v := (rv_ref (D := D) (by omega)).symm
    rw [hcv]
  have hE : Ext h0 (up h a i v) := hR.2.trans (Ext.up hi0)
  have hL' : ∀ x ∈ locs ++ [⟨ph D a, (Int32.ofInt i).toNatClampNeg⟩], D.base ≤ x.base := by
    intro x hx
    rcases List.mem_append.mp hx with hx | hx
    · exact hL x hx
    · rw [List.mem_singleton.mp hx, ph_pos (by omega)]
      exact Nat.le_add_right _ _
  have hg := g H' _ lsA ⟨hR', hE⟩ hL' hl
  have ec : cn h0 (up h a i v) = cn h0 h := by unfold cn; rw [up_a (by omega)]
  have es : sn h0 (up h a i v) = sn h0 h := by unfold sn; rw [up_a (by omega)]
  rw [ec, es] at hg
  exact hg
theorem nw_c {h : Hp} {kd n : Int} : nw h kd n 0 0 = h 0 0 + 1 ∨ h 0 0 + 1 = 0 := by
  unfold nw
  by_cases q : (0 : Int) = h 0 0 + 1
  · exact Or.inr q.symm
  · left; rw [if_neg q, if_pos ⟨rfl, rfl⟩]
/-- the picture with a new cell -/
theorem Rel.new {H : Heap} (R : Rel D h H) {kd : Int} {n : Nat} {x : Cell} (hs : x.slots.size = n) (hc : h 0 0 < 130538) (hsl : h 0 1 + n ≤ 8696812)
    (hcell : cellOK D (nw h kd n) (H.push x) (h 0 0 + 1)) : Rel D (nw h kd n) (H.push x) ∧ (∀ h1 : Hp, Ext h1 h → Ext h1 (nw h kd n)) := by
  obtain ⟨hb, r1, r2, r3, r4⟩ := R
  have hn0 : (0 : Int) ≠ h 0 0 + 1 := by omega
  have e00 : nw h kd n 0 0 = h 0 0 + 1 := by unfold nw; rw [if_neg hn0, if_pos ⟨rfl, rfl⟩]
  have e01 : nw h kd n 0 1 = h 0 1 + n := by unfold nw; rw [if_neg hn0, if_neg (by omega), if_pos ⟨rfl, rfl⟩]
  have erow : ∀ b : Int, b ≠ h 0 0 + 1 → b ≠ 0 → nw h kd n b = h b := by
    intro b h1 h2
    funext j
    unfold nw
    rw [if_neg h1, if_neg (fun q => h2 q.1), if_neg (fun q => h2 q.1)]
  have e02 : nw h kd n 0 (-2) = h 0 (-2) := by
    unfold nw; rw [if_neg hn0, if_neg (fun q => by omega), if_neg (fun q => by omega)]
  refine ⟨⟨?_, ?_, ?_, ?_, ?_⟩, ?_⟩
  · rw [e00, e01]; omega
  · rw [e00, Array.size_push, r1]; omega
  · rw [e01, slotSum_push (by omega), r2, hs]; omega
  · intro q hq
    rw [Array.getElem?_push, if_neg (by omega)]
    exact r3 q hq
  · intro a ha
    rw [e00]
    by_cases h1 : a = h 0 0 + 1
    · subst h1
      exact ⟨⟨by omega, by omega⟩, hcell⟩
    · by_cases h2 : a = 0
      · subst h2
        rw [e02] at ha
        have := (r4 0 ha).1
        omega
      · have er := erow a h1 h2
        rw [er] at ha
        obtain ⟨p1, p2⟩ := r4 a ha
        refine ⟨⟨p1.1, by omega⟩, p2.kept er ?_⟩
        rw [Array.getElem?_push, if_neg]
        rw [ph_pos (by omega)]
        omega
  · intro h1 hE a ha
    obtain ⟨e1, e2⟩ := hE a ha
    have hne : h a (-2) ≠ 0 := by rw [e1]; exact ha
    have hp := (r4 a hne).1
    rw [erow a (by omega) (by omega)]
    exact ⟨e1, e2⟩
theorem ph_new {H : Heap} (R : Rel D h H) : ph D (h 0 0 + 1) = H.size := by
  have hb := R.1
  rw [ph_pos (by omega), R.2.1]
  congr 2
  omega
theorem nw_row {kd n : Int} {j : Int} : nw h kd n (h 0 0 + 1) j = if j = -2 then kd else if j = -1 then n else 0 := by
  unfold nw; rw [if_pos rfl]
theorem nw_cnt {kd : Int} {n : Nat} (hc : 0 ≤ h 0 0) : nw h kd n 0 0 = h 0 0 + 1 ∧ nw h kd n 0 1 = h 0 1 + n := by
  have hn0 : (0 : Int) ≠ h 0 0 + 1 := by omega
  constructor
  · unfold nw; rw [if_neg hn0, if_pos ⟨rfl, rfl⟩]
  · unfold nw; rw [if_neg hn0, if_neg (by omega), if_pos ⟨rfl, rfl⟩]
theorem tv0 {ty : FieldType} (hb : ty = .int ∨ ty = .byte ∨ ty = .boolean ∨ ty = .long ∨ ty.isReference = true) : defaultValue ty = tv D (fcode ty) 0 := by
  rcases hb with h | h | h | h | h
  · subst h; rfl
  · subst h; rfl
  · subst h; rfl
  · subst h; rfl
  · cases ty with
    | object n => exact (rv_null (D := D)).symm
    | array n => exact (rv_null (D := D)).symm
    | _ => cases h
theorem tok0 (t : Nat) : tok t 0 := by
  unfold tok
  split
  · exact ⟨by omega, by omega⟩
  · omega
  · exact Or.inl rfl
  · exact ⟨by omega, by omega⟩
  · trivial
/-- the types of fields that are pictured -/
def tyB (ty : FieldType) : Prop := ty = .int ∨ ty = .byte ∨ ty = .boolean ∨ ty = .long ∨ ty.isReference = true
theorem a_new {Q : State → Prop} (X : CX D p R s m args meth c h0 cc own nL ret) {ci index : Nat} {q : CE} (hq : clT[ci]? = some q) (hty : ∀ j, j < q.2.2.1 → tyB (q.2.2.2.1 j)) (hcl : (Cond.classLink own index q.1).before args s = true) {kI nI : Int} (hkI : 16 * ((ci : Int) + 1) = kI) (hnI : (q.2.2.2.2 : Int) = nI) (hal : h 0 0 < 130538 ∧ h 0 1 + nI ≤ 8696812) (hd : decode cc pc = .ok (.new index, 3))
    (g : A_ p l e R s m args below meth c D h0 nL (pc + 3) ls (rv D (h 0 0 + 1) :: st) (nw h kI nI) Q) : A_ p l e R s m args below meth c D h0 nL pc ls st h Q := by
  subst hkI; subst hnI
  intro H locs lsA hR hL hl
  have hb := hR.1.1
  refine G_in X.2.2.2.2.2.2.2.1 hR.1 fun z1 z2 => ?_
  have hKn := X.kn hq
  have hrc := X.2.2.2.2.2.2.2.2.2.1
  have hrs := X.2.2.2.2.2.2.2.2.2.2
  refine W.newc X.1 X.2.1 X.2.2.2.2.1 hcl (X.2.2.2.2.2.1 _ (ce_ok hq).2.2.2.1) (X.2.2.2.2.2.1 _ (ce_ok hq).2.2.2.2) rfl hd (by rw [hrc]; unfold cn; omega) (by rw [hrs]; unfold sn; omega) fun cC kC f1 f2 f3 f4 => ?_
  have hcC : cC = D.dC ci := Option.some.inj (f1.symm.trans hKn.2.1)
  subst hcC
  have hcell : cellOK D (nw h (16 * ((ci : Int) + 1)) q.2.2.2.2) (H.push { cls := D.dC ci, slots := kC.instanceTypes.map defaultValue, vm := .none }) (h 0 0 + 1) := by
    refine Or.inl ⟨ci, q, by rw [nw_row, if_pos rfl], hq, ?_, ?_, fun cell' hc' => by
      rw [ph_new hR.1, Array.getElem?_push_size] at hc'
      cases hc'
      exact ⟨by rw [← f4]; simp, rfl, rfl⟩⟩
    · rw [ph_new hR.1]
      have := u_born (H := H.push { cls := D.dC ci, slots := kC.instanceTypes.map defaultValue, vm := .none }) (o := H.size) q.2.2.2.1 X.2.2.2.2.2.1 (ce_ok hq).1 hKn f2 (by rw [Array.getElem?_push_size]; rfl) (ce_ok hq).2.2.1
      refine this.to fun j hj => ?_
      rw [nw_row, if_neg (by omega), if_neg (by omega)]
      exact tv0 (hty j hj)
    · intro j hj
      rw [nw_row, if_neg (by omega), if_neg (by omega)]
      exact tok0 _
  obtain ⟨hR', hE'⟩ := hR.1.new (n := q.2.2.2.2) (by rw [← f4]; simp) hal.1 hal.2 hcell
  have hg := g _ locs lsA ⟨hR', hE' _ hR.2⟩ hL hl
  rw [rv_ref (by omega), ph_new hR.1] at hg
  obtain ⟨c1, c2⟩ := nw_cnt (h := h) (kd := 16 * ((ci : Int) + 1)) (n := q.2.2.2.2) (by omega)
  have ec : cn h0 (nw h (16 * ((ci : Int) + 1)) q.2.2.2.2) = cn h0 h + 1 := by unfold cn; rw [c1]; omega
  have es : sn h0 (nw h (16 * ((ci : Int) + 1)) q.2.2.2.2) = sn h0 h + q.2.2.2.2 := by unfold sn; rw [c2]; omega
  rw [ec, es] at hg
  exact hg
theorem a_newa {Q : State → Prop} (X : CX D p R s m args meth c h0 cc own nL ret) (t st_ : Nat) (ht1 : 1 ≤ t) (ht4 : t ≤ 4) {atype : ArrayType} (hat : newarray.typeOf atype = aty t) (harr : (Cond.arrayClass (aty t)).before args s = true) {n kI : Int} (rn : r32 n) (hkI : 16 * (st_ : Int) + t = kI) (hal : 0 ≤ n ∧ n ≤ 16777216 ∧ h 0 0 < 130538 ∧ h 0 1 + n ≤ 8696812) (hd : decode cc pc = .ok (.newarray atype, 2))
    (g : A_ p l e R s m args below meth c D h0 nL (pc + 2) ls (rv D (h 0 0 + 1) :: st) (nw h kI n) Q) : A_ p l e R s m args below meth c D h0 nL pc ls (iv n :: st) h Q := by
  subst hkI
  intro H locs lsA hR hL hl
  have hb := hR.1.1
  refine G_in X.2.2.2.2.2.2.2.1 hR.1 fun z1 z2 => ?_
  have hrc := X.2.2.2.2.2.2.2.2.2.1
  have hrs := X.2.2.2.2.2.2.2.2.2.2
  obtain ⟨N, hN⟩ : ∃ N : Nat, n = N := ⟨n.toNat, by omega⟩
  have hcl : (Int32.ofInt n).toNatClampNeg = N := by rw [cl_i rn]; omega
  have hbytes : componentBytes (aty t) ≤ 8 := by
    rcases (show t = 1 ∨ t = 2 ∨ t = 3 ∨ t = 4 by omega) with e | e | e | e <;> subst e <;> decide
  refine W.newa X.1 X.2.1 (by rw [hat]; exact harr) rfl hd rfl ?_ ?_ (by rw [hrc]; unfold cn; omega) (by rw [hrs, hcl]; unfold sn; omega) fun cA kA comp f1 f2 f3 => ?_
  · intro hlt
    have := (i_lt rn (y := 0) ⟨by omega, by omega⟩).mp hlt
    omega
  · rw [hcl, hat]
    have h8 : N * componentBytes (aty t) ≤ N * 8 := Nat.mul_le_mul_left _ hbytes
    omega
  rw [hat] at f1 f3
  have hcA : cA = D.aC t := by
    have hra := (X.2.2.2.2.2.2.1.2.1 t ht1 (by omega)).2
    have h2 : s.vm.findClass ("[" ++ (aty t).toString) = some (D.aC t) := by
      rcases (show t = 1 ∨ t = 2 ∨ t = 3 ∨ t = 4 by omega) with e | e | e | e <;> subst e <;> exact hra
    exact Option.some.inj (f1.symm.trans h2)
  subst hcA
  rw [hcl, hat]
  have hcell : cellOK D (nw h (16 * (st_ : Int) + t) N) (H.push { cls := D.aC t, slots := Array.replicate N (defaultValue (aty t)), vm := .none }) (h 0 0 + 1) := by
    have e1 : nw h (16 * (st_ : Int) + t) N (h 0 0 + 1) (-1) = N := by rw [nw_row, if_neg (by omega), if_pos rfl]
    refine Or.inr ⟨st_, t, ht1, by omega, by rw [nw_row, if_pos rfl], by rw [e1]; omega, by rw [e1]; omega, ?_, ?_⟩
    · rw [ph_new hR.1, Array.getElem?_push_size, e1, arrV_new]
      congr 2
      funext j
      rw [nw_row, if_neg (by omega), if_neg (by omega)]
      apply tv0
      rcases (show t = 1 ∨ t = 2 ∨ t = 3 ∨ t = 4 by omega) with e | e | e | e <;> subst e <;> simp [aty]
    · intro j hj
      rw [nw_row, if_neg (by omega), if_neg (by omega)]
      exact tok0 _
  obtain ⟨hR', hE'⟩ := hR.1.new (n := N) (by simp) hal.2.2.1 (by omega) hcell
  subst hN
  have hg := g _ locs lsA ⟨hR', hE' _ hR.2⟩ hL hl
  rw [rv_ref (by omega), ph_new hR.1] at hg
  obtain ⟨c1, c2⟩ := nw_cnt (h := h) (kd := 16 * (st_ : Int) + t) (n := N) (by omega)
  have ec : cn h0 (nw h (16 * (st_ : Int) + t) N) = cn h0 h + 1 := by unfold cn; rw [c1]; omega
  have es : sn h0 (nw h (16 * (st_ : Int) + t) N) = sn h0 h + N := by unfold sn; rw [c2]; omega
  rw [ec, es] at hg
  exact hg
theorem a_anew {Q : State → Prop} (X : CX D p R s m args meth c h0 cc own nL ret) (t st_ : Nat) (ht5 : 5 ≤ t) (ht9 : t ≤ 9) {index : Nat} {CC : String} (hC : aty t = .object CC) (hcl : (Cond.classLink own index CC).before args s = true) {n kI : Int} (rn : r32 n) (hkI : 16 * (st_ : Int) + t = kI) (hal : 0 ≤ n ∧ n ≤ 16777216 ∧ h 0 0 < 130538 ∧ h 0 1 + n ≤ 8696812) (hd : decode cc pc = .ok (.anewarray index, 3))
    (g : A_ p l e R s m args below meth c D h0 nL (pc + 3) ls (rv D (h 0 0 + 1) :: st) (nw h kI n) Q) : A_ p l e R s m args below meth c D h0 nL pc ls (iv n :: st) h Q := by
  subst hkI
  intro H locs lsA hR hL hl
  have hb := hR.1.1
  refine G_in X.2.2.2.2.2.2.2.1 hR.1 fun z1 z2 => ?_
  have hrc := X.2.2.2.2.2.2.2.2.2.1
  have hrs := X.2.2.2.2.2.2.2.2.2.2
  obtain ⟨N, hN⟩ : ∃ N : Nat, n = N := ⟨n.toNat, by omega⟩
  have hcl2 : (Int32.ofInt n).toNatClampNeg = N := by rw [cl_i rn]; omega
  refine W.anew X.1 X.2.1 X.2.2.2.2.1 hcl (va_AO.use (X.2.2.2.2.2.2.1.2.2.2.1 t ht5 ht9 CC hC)) rfl hd rfl ?_ ?_ (by rw [hrc]; unfold cn; omega) (by rw [hrs, hcl2]; unfold sn; omega) fun cA kA comp f1 f2 f3 f4 => ?_
  · intro hlt
    have := (i_lt rn (y := 0) ⟨by omega, by omega⟩).mp hlt
    omega
  · rw [hcl2]; omega
  have hcA : cA = D.aC t := by
    have hra := (X.2.2.2.2.2.2.1.2.1 t (by omega) (by omega)).2
    rw [hC] at hra
    obtain ⟨kA', comp', k1, k2, k3, k4⟩ := hra
    exact Option.some.inj (f1.symm.trans k4)
  subst hcA
  rw [hcl2]
  have hrf : fcode (aty t) = 5 := by rw [hC]; rfl
  have hcell : cellOK D (nw h (16 * (st_ : Int) + t) N) (H.push { cls := D.aC t, slots := Array.replicate N Value.null, vm := .none }) (h 0 0 + 1) := by
    have e1 : nw h (16 * (st_ : Int) + t) N (h 0 0 + 1) (-1) = N := by rw [nw_row, if_neg (by omega), if_pos rfl]
    refine Or.inr ⟨st_, t, by omega, by omega, by rw [nw_row, if_pos rfl], by rw [e1]; omega, by rw [e1]; omega, ?_, ?_⟩
    · rw [ph_new hR.1, Array.getElem?_push_size, e1, arrV_new]
      congr 2
      funext j
      rw [nw_row, if_neg (by omega), if_neg (by omega), hrf]
      exact (rv_null (D := D)).symm
    · intro j hj
      rw [nw_row, if_neg (by omega), if_neg (by omega)]
      exact tok0 _
  obtain ⟨hR', hE'⟩ := hR.1.new (n := N) (by simp) hal.2.2.1 (by omega) hcell
  subst hN
  have hg := g _ locs lsA ⟨hR', hE' _ hR.2⟩ hL hl
  rw [rv_ref (by omega), ph_new hR.1] at hg
  obtain ⟨c1, c2⟩ := nw_cnt (h := h) (kd := 16 * (st_ : Int) + t) (n := N) (by omega)
  have ec : cn h0 (nw h (16 * (st_ : Int) + t) N) = cn h0 h + 1 := by unfold cn; rw [c1]; omega
  have es : sn h0 (nw h (16 * (st_ : Int) + t) N) = sn h0 h + N := by unfold sn; rw [c2]; omega
  rw [ec, es] at hg
  exact hg
theorem g_geti (X : CX D p R s m args meth c h0 cc own nL ret) {ci j index : Nat} {q : CE} {a jI : Int} (hq : clT[ci]? = some q) (hj : j < q.2.2.1) (hjI : (j : Int) = jI) (ht : fcode (q.2.2.2.1 j) = 1) (hk : h a (-2) = 16 * ((ci : Int) + 1)) (hw : Cond.fieldLink own index (q.2.1 j).1 (q.2.1 j).2.1 (q.2.1 j).2.2.1 ∈ lw_all) (hd : decode cc pc = .ok (.getfield index, 3)) (g : r32 (h a jI) → G p l e R s m args below meth c D h0 nL Φ (pc + 3) ls (iv (h a jI) :: st) h k) : G p l e R s m args below meth c D h0 nL Φ pc ls (rv D a :: st) h k :=
  fun x Q hx hQ => a_get X hq hj hjI ht hk (Or.inl (X.2.2.2.2.2.1 _ hw)) hd (fun q => g q x Q hx hQ)
theorem g_puti (X : CX D p R s m args meth c h0 cc own nL ret) {ci j index : Nat} {q : CE} {a jI v : Int} (hq : clT[ci]? = some q) (hj : j < q.2.2.1) (hjI : (j : Int) = jI) (ht : fcode (q.2.2.2.1 j) = 1) (hb : tyB (q.2.2.2.1 j)) (hk : h a (-2) = 16 * ((ci : Int) + 1)) (hw : Cond.fieldLink own index (q.2.1 j).1 (q.2.1 j).2.1 (q.2.1 j).2.2.1 ∈ lw_all) (hfin : (q.2.1 j).2.2.2 = false) (hd : decode cc pc = .ok (.putfield index, 3)) (hv : r32 v) (g : G p l e R s m args below meth c D h0 nL Φ (pc + 3) ls st (up h a jI v) k) : G p l e R s m args below meth c D h0 nL Φ pc ls (iv v :: rv D a :: st) h k :=
  fun x Q hx hQ => a_put X hq hj hjI ht hb hk (Or.inl ⟨X.2.2.2.2.2.1 _ hw, Or.inl hfin⟩) hd hv (g x Q hx hQ)
theorem g_getiN (X : CX D p R s m args meth c h0 cc own nL ret) {ci j index : Nat} {q : CE} {a jI : Int} (hq : clT[ci]? = some q) (hj : j < q.2.2.1) (hjI : (j : Int) = jI) (ht : fcode (q.2.2.2.1 j) = 1) (hk : h a (-2) = 16 * ((ci : Int) + 1)) {host : String} (hw : Cond.fieldLinkNest own index (q.2.1 j).1 (q.2.1 j).2.1 (q.2.1 j).2.2.1 host ∈ nwT) (hd : decode cc pc = .ok (.getfield index, 3)) (g : r32 (h a jI) → G p l e R s m args below meth c D h0 nL Φ (pc + 3) ls (iv (h a jI) :: st) h k) : G p l e R s m args below meth c D h0 nL Φ pc ls (rv D a :: st) h k :=
  fun x Q hx hQ => a_get X hq hj hjI ht hk (Or.inr ⟨host, va_Nw.use rfl (X.2.2.2.2.2.2.1.2.2.1 _ hw)⟩) hd (fun q => g q x Q hx hQ)
theorem g_putiN (X : CX D p R s m args meth c h0 cc own nL ret) {ci j index : Nat} {q : CE} {a jI v : Int} (hq : clT[ci]? = some q) (hj : j < q.2.2.1) (hjI : (j : Int) = jI) (ht : fcode (q.2.2.2.1 j) = 1) (hb : tyB (q.2.2.2.1 j)) (hk : h a (-2) = 16 * ((ci : Int) + 1)) {host : String} (hw : Cond.fieldLinkNest own index (q.2.1 j).1 (q.2.1 j).2.1 (q.2.1 j).2.2.1 host ∈ nwT) (hfin : (q.2.1 j).2.2.2 = false) (hd : decode cc pc = .ok (.putfield index, 3)) (hv : r32 v) (g : G p l e R s m args below meth c D h0 nL Φ (pc + 3) ls st (up h a jI v) k) : G p l e R s m args below meth c D h0 nL Φ pc ls (iv v :: rv D a :: st) h k :=
  fun x Q hx hQ => a_put X hq hj hjI ht hb hk (Or.inr ⟨hfin, host, va_Nw.use rfl (X.2.2.2.2.2.2.1.2.2.1 _ hw)⟩) hd hv (g x Q hx hQ)
theorem g_putiF (X : CX D p R s m args meth c h0 cc own nL ret) {ci j index : Nat} {q : CE} {a jI v : Int} (hin : meth.name = "<init>") (hq : clT[ci]? = some q) (hj : j < q.2.2.1) (hjI : (j : Int) = jI) (ht : fcode (q.2.2.2.1 j) = 1) (hb : tyB (q.2.2.2.1 j)) (hk : h a (-2) = 16 * ((ci : Int) + 1)) (hw : Cond.fieldLink own index (q.2.1 j).1 (q.2.1 j).2.1 (q.2.1 j).2.2.1 ∈ lw_all) (hfin : (q.2.1 j).2.2.2 = true) (hown : (q.2.1 j).1 = own) (hd : decode cc pc = .ok (.putfield index, 3)) (hv : r32 v) (g : G p l e R s m args below meth c D h0 nL Φ (pc + 3) ls st (up h a jI v) k) : G p l e R s m args below meth c D h0 nL Φ pc ls (iv v :: rv D a :: st) h k :=
  fun x Q hx hQ => a_put X hq hj hjI ht hb hk (Or.inl ⟨X.2.2.2.2.2.1 _ hw, Or.inr ⟨hfin, hin, hown⟩⟩) hd hv (g x Q hx hQ)
theorem g_getz (X : CX D p R s m args meth c h0 cc own nL ret) {ci j index : Nat} {q : CE} {a jI : Int} (hq : clT[ci]? = some q) (hj : j < q.2.2.1) (hjI : (j : Int) = jI) (ht : fcode (q.2.2.2.1 j) = 3) (hk : h a (-2) = 16 * ((ci : Int) + 1)) (hw : Cond.fieldLink own index (q.2.1 j).1 (q.2.1 j).2.1 (q.2.1 j).2.2.1 ∈ lw_all) (hd : decode cc pc = .ok (.getfield index, 3)) (g : h a jI = 0 ∨ h a jI = 1 → G p l e R s m args below meth c D h0 nL Φ (pc + 3) ls (iv (h a jI) :: st) h k) : G p l e R s m args below meth c D h0 nL Φ pc ls (rv D a :: st) h k :=
  fun x Q hx hQ => a_get X hq hj hjI ht hk (Or.inl (X.2.2.2.2.2.1 _ hw)) hd (fun q => g q x Q hx hQ)
theorem g_putz (X : CX D p R s m args meth c h0 cc own nL ret) {ci j index : Nat} {q : CE} {a jI v : Int} (hq : clT[ci]? = some q) (hj : j < q.2.2.1) (hjI : (j : Int) = jI) (ht : fcode (q.2.2.2.1 j) = 3) (hb : tyB (q.2.2.2.1 j)) (hk : h a (-2) = 16 * ((ci : Int) + 1)) (hw : Cond.fieldLink own index (q.2.1 j).1 (q.2.1 j).2.1 (q.2.1 j).2.2.1 ∈ lw_all) (hfin : (q.2.1 j).2.2.2 = false) (hd : decode cc pc = .ok (.putfield index, 3)) (hv : v = 0 ∨ v = 1) (g : G p l e R s m args below meth c D h0 nL Φ (pc + 3) ls st (up h a jI v) k) : G p l e R s m args below meth c D h0 nL Φ pc ls (iv v :: rv D a :: st) h k :=
  fun x Q hx hQ => a_put X hq hj hjI ht hb hk (Or.inl ⟨X.2.2.2.2.2.1 _ hw, Or.inl hfin⟩) hd hv (g x Q hx hQ)
theorem g_getzN (X : CX D p R s m args meth c h0 cc own nL ret) {ci j index : Nat} {q : CE} {a jI : Int} (hq : clT[ci]? = some q) (hj : j < q.2.2.1) (hjI : (j : Int) = jI) (ht : fcode (q.2.2.2.1 j) = 3) (hk : h a (-2) = 16 * ((ci : Int) + 1)) {host : String} (hw : Cond.fieldLinkNest own index (q.2.1 j).1 (q.2.1 j).2.1 (q.2.1 j).2.2.1 host ∈ nwT) (hd : decode cc pc = .ok (.getfield index, 3)) (g : h a jI = 0 ∨ h a jI = 1 → G p l e R s m args below meth c D h0 nL Φ (pc + 3) ls (iv (h a jI) :: st) h k) : G p l e R s m args below meth c D h0 nL Φ pc ls (rv D a :: st) h k :=
  fun x Q hx hQ => a_get X hq hj hjI ht hk (Or.inr ⟨host, va_Nw.use rfl (X.2.2.2.2.2.2.1.2.2.1 _ hw)⟩) hd (fun q => g q x Q hx hQ)
theorem g_putzN (X : CX D p R s m args meth c h0 cc own nL ret) {ci j index : Nat} {q : CE} {a jI v : Int} (hq : clT[ci]? = some q) (hj : j < q.2.2.1) (hjI : (j : Int) = jI) (ht : fcode (q.2.2.2.1 j) = 3) (hb : tyB (q.2.2.2.1 j)) (hk : h a (-2) = 16 * ((ci : Int) + 1)) {host : String} (hw : Cond.fieldLinkNest own index (q.2.1 j).1 (q.2.1 j).2.1 (q.2.1 j).2.2.1 host ∈ nwT) (hfin : (q.2.1 j).2.2.2 = false) (hd : decode cc pc = .ok (.putfield index, 3)) (hv : v = 0 ∨ v = 1) (g : G p l e R s m args below meth c D h0 nL Φ (pc + 3) ls st (up h a jI v) k) : G p l e R s m args below meth c D h0 nL Φ pc ls (iv v :: rv D a :: st) h k :=
  fun x Q hx hQ => a_put X hq hj hjI ht hb hk (Or.inr ⟨hfin, host, va_Nw.use rfl (X.2.2.2.2.2.2.1.2.2.1 _ hw)⟩) hd hv (g x Q hx hQ)
theorem g_putzF (X : CX D p R s m args meth c h0 cc own nL ret) {ci j index : Nat} {q : CE} {a jI v : Int} (hin : meth.name = "<init>") (hq : clT[ci]? = some q) (hj : j < q.2.2.1) (hjI : (j : Int) = jI) (ht : fcode (q.2.2.2.1 j) = 3) (hb : tyB (q.2.2.2.1 j)) (hk : h a (-2) = 16 * ((ci : Int) + 1)) (hw : Cond.fieldLink own index (q.2.1 j).1 (q.2.1 j).2.1 (q.2.1 j).2.2.1 ∈ lw_all) (hfin : (q.2.1 j).2.2.2 = true) (hown : (q.2.1 j).1 = own) (hd : decode cc pc = .ok (.putfield index, 3)) (hv : v = 0 ∨ v = 1) (g : G p l e R s m args below meth c D h0 nL Φ (pc + 3) ls st (up h a jI v) k) : G p l e R s m args below meth c D h0 nL Φ pc ls (iv v :: rv D a :: st) h k :=
  fun x Q hx hQ => a_put X hq hj hjI ht hb hk (Or.inl ⟨X.2.2.2.2.2.1 _ hw, Or.inr ⟨hfin, hin, hown⟩⟩) hd hv (g x Q hx hQ)
theorem g_getl (X : CX D p R s m args meth c h0 cc own nL ret) {ci j index : Nat} {q : CE} {a jI : Int} (hq : clT[ci]? = some q) (hj : j < q.2.2.1) (hjI : (j : Int) = jI) (ht : fcode (q.2.2.2.1 j) = 4) (hk : h a (-2) = 16 * ((ci : Int) + 1)) (hw : Cond.fieldLink own index (q.2.1 j).1 (q.2.1 j).2.1 (q.2.1 j).2.2.1 ∈ lw_all) (hd : decode cc pc = .ok (.getfield index, 3)) (g : r64 (h a jI) → G p l e R s m args below meth c D h0 nL Φ (pc + 3) ls (jv (h a jI) :: st) h k) : G p l e R s m args below meth c D h0 nL Φ pc ls (rv D a :: st) h k :=
  fun x Q hx hQ => a_get X hq hj hjI ht hk (Or.inl (X.2.2.2.2.2.1 _ hw)) hd (fun q => g q x Q hx hQ)
theorem g_putl (X : CX D p R s m args meth c h0 cc own nL ret) {ci j index : Nat} {q : CE} {a jI v : Int} (hq : clT[ci]? = some q) (hj : j < q.2.2.1) (hjI : (j : Int) = jI) (ht : fcode (q.2.2.2.1 j) = 4) (hb : tyB (q.2.2.2.1 j)) (hk : h a (-2) = 16 * ((ci : Int) + 1)) (hw : Cond.fieldLink own index (q.2.1 j).1 (q.2.1 j).2.1 (q.2.1 j).2.2.1 ∈ lw_all) (hfin : (q.2.1 j).2.2.2 = false) (hd : decode cc pc = .ok (.putfield index, 3)) (hv : r64 v) (g : G p l e R s m args below meth c D h0 nL Φ (pc + 3) ls st (up h a jI v) k) : G p l e R s m args below meth c D h0 nL Φ pc ls (jv v :: rv D a :: st) h k :=
  fun x Q hx hQ => a_put X hq hj hjI ht hb hk (Or.inl ⟨X.2.2.2.2.2.1 _ hw, Or.inl hfin⟩) hd hv (g x Q hx hQ)
theorem g_getlN (X : CX D p R s m args meth c h0 cc own nL ret) {ci j index : Nat} {q : CE} {a jI : Int} (hq : clT[ci]? = some q) (hj : j < q.2.2.1) (hjI : (j : Int) = jI) (ht : fcode (q.2.2.2.1 j) = 4) (hk : h a (-2) = 16 * ((ci : Int) + 1)) {host : String} (hw : Cond.fieldLinkNest own index (q.2.1 j).1 (q.2.1 j).2.1 (q.2.1 j).2.2.1 host ∈ nwT) (hd : decode cc pc = .ok (.getfield index, 3)) (g : r64 (h a jI) → G p l e R s m args below meth c D h0 nL Φ (pc + 3) ls (jv (h a jI) :: st) h k) : G p l e R s m args below meth c D h0 nL Φ pc ls (rv D a :: st) h k :=
  fun x Q hx hQ => a_get X hq hj hjI ht hk (Or.inr ⟨host, va_Nw.use rfl (X.2.2.2.2.2.2.1.2.2.1 _ hw)⟩) hd (fun q => g q x Q hx hQ)
theorem g_putlN (X : CX D p R s m args meth c h0 cc own nL ret) {ci j index : Nat} {q : CE} {a jI v : Int} (hq : clT[ci]? = some q) (hj : j < q.2.2.1) (hjI : (j : Int) = jI) (ht : fcode (q.2.2.2.1 j) = 4) (hb : tyB (q.2.2.2.1 j)) (hk : h a (-2) = 16 * ((ci : Int) + 1)) {host : String} (hw : Cond.fieldLinkNest own index (q.2.1 j).1 (q.2.1 j).2.1 (q.2.1 j).2.2.1 host ∈ nwT) (hfin : (q.2.1 j).2.2.2 = false) (hd : decode cc pc = .ok (.putfield index, 3)) (hv : r64 v) (g : G p l e R s m args below meth c D h0 nL Φ (pc + 3) ls st (up h a jI v) k) : G p l e R s m args below meth c D h0 nL Φ pc ls (jv v :: rv D a :: st) h k :=
  fun x Q hx hQ => a_put X hq hj hjI ht hb hk (Or.inr ⟨hfin, host, va_Nw.use rfl (X.2.2.2.2.2.2.1.2.2.1 _ hw)⟩) hd hv (g x Q hx hQ)
theorem g_putlF (X : CX D p R s m args meth c h0 cc own nL ret) {ci j index : Nat} {q : CE} {a jI v : Int} (hin : meth.name = "<init>") (hq : clT[ci]? = some q) (hj : j < q.2.2.1) (hjI : (j : Int) = jI) (ht : fcode (q.2.2.2.1 j) = 4) (hb : tyB (q.2.2.2.1 j)) (hk : h a (-2) = 16 * ((ci : Int) + 1)) (hw : Cond.fieldLink own index (q.2.1 j).1 (q.2.1 j).2.1 (q.2.1 j).2.2.1 ∈ lw_all) (hfin : (q.2.1 j).2.2.2 = true) (hown : (q.2.1 j).1 = own) (hd : decode cc pc = .ok (.putfield index, 3)) (hv : r64 v) (g : G p l e R s m args below meth c D h0 nL Φ (pc + 3) ls st (up h a jI v) k) : G p l e R s m args below meth c D h0 nL Φ pc ls (jv v :: rv D a :: st) h k :=
  fun x Q hx hQ => a_put X hq hj hjI ht hb hk (Or.inl ⟨X.2.2.2.2.2.1 _ hw, Or.inr ⟨hfin, hin, hown⟩⟩) hd hv (g x Q hx hQ)
theorem g_getr (X : CX D p R s m args meth c h0 cc own nL ret) {ci j index : Nat} {q : CE} {a jI : Int} (hq : clT[ci]? = some q) (hj : j < q.2.2.1) (hjI : (j : Int) = jI) (ht : fcode (q.2.2.2.1 j) = 5) (hk : h a (-2) = 16 * ((ci : Int) + 1)) (hw : Cond.fieldLink own index (q.2.1 j).1 (q.2.1 j).2.1 (q.2.1 j).2.2.1 ∈ lw_all) (hd : decode cc pc = .ok (.getfield index, 3)) (g : G p l e R s m args below meth c D h0 nL Φ (pc + 3) ls (rv D (h a jI) :: st) h k) : G p l e R s m args below meth c D h0 nL Φ pc ls (rv D a :: st) h k :=
  fun x Q hx hQ => a_get X hq hj hjI ht hk (Or.inl (X.2.2.2.2.2.1 _ hw)) hd (fun _ => g x Q hx hQ)
theorem g_putr (X : CX D p R s m args meth c h0 cc own nL ret) {ci j index : Nat} {q : CE} {a jI v : Int} (hq : clT[ci]? = some q) (hj : j < q.2.2.1) (hjI : (j : Int) = jI) (ht : fcode (q.2.2.2.1 j) = 5) (hb : tyB (q.2.2.2.1 j)) (hk : h a (-2) = 16 * ((ci : Int) + 1)) (hw : Cond.fieldLink own index (q.2.1 j).1 (q.2.1 j).2.1 (q.2.1 j).2.2.1 ∈ lw_all) (hfin : (q.2.1 j).2.2.2 = false) (hd : decode cc pc = .ok (.putfield index, 3))  (g : G p l e R s m args below meth c D h0 nL Φ (pc + 3) ls st (up h a jI v) k) : G p l e R s m args below meth c D h0 nL Φ pc ls (rv D v :: rv D a :: st) h k :=
  fun x Q hx hQ => a_put X hq hj hjI ht hb hk (Or.inl ⟨X.2.2.2.2.2.1 _ hw, Or.inl hfin⟩) hd trivial (g x Q hx hQ)
theorem g_getrN (X : CX D p R s m args meth c h0 cc own nL ret) {ci j index : Nat} {q : CE} {a jI : Int} (hq : clT[ci]? = some q) (hj : j < q.2.2.1) (hjI : (j : Int) = jI) (ht : fcode (q.2.2.2.1 j) = 5) (hk : h a (-2) = 16 * ((ci : Int) + 1)) {host : String} (hw : Cond.fieldLinkNest own index (q.2.1 j).1 (q.2.1 j).2.1 (q.2.1 j).2.2.1 host ∈ nwT) (hd : decode cc pc = .ok (.getfield index, 3)) (g : G p l e R s m args below meth c D h0 nL Φ (pc + 3) ls (rv D (h a jI) :: st) h k) : G p l e R s m args below meth c D h0 nL Φ pc ls (rv D a :: st) h k :=
  fun x Q hx hQ => a_get X hq hj hjI ht hk (Or.inr ⟨host, va_Nw.use rfl (X.2.2.2.2.2.2.1.2.2.1 _ hw)⟩) hd (fun _ => g x Q hx hQ)
theorem g_putrN (X : CX D p R s m args meth c h0 cc own nL ret) {ci j index : Nat} {q : CE} {a jI v : Int} (hq : clT[ci]? = some q) (hj : j < q.2.2.1) (hjI : (j : Int) = jI) (ht : fcode (q.2.2.2.1 j) = 5) (hb : tyB (q.2.2.2.1 j)) (hk : h a (-2) = 16 * ((ci : Int) + 1)) {host : String} (hw : Cond.fieldLinkNest own index (q.2.1 j).1 (q.2.1 j).2.1 (q.2.1 j).2.2.1 host ∈ nwT) (hfin : (q.2.1 j).2.2.2 = false) (hd : decode cc pc = .ok (.putfield index, 3))  (g : G p l e R s m args below meth c D h0 nL Φ (pc + 3) ls st (up h a jI v) k) : G p l e R s m args below meth c D h0 nL Φ pc ls (rv D v :: rv D a :: st) h k :=
  fun x Q hx hQ => a_put X hq hj hjI ht hb hk (Or.inr ⟨hfin, host, va_Nw.use rfl (X.2.2.2.2.2.2.1.2.2.1 _ hw)⟩) hd trivial (g x Q hx hQ)
theorem g_putrF (X : CX D p R s m args meth c h0 cc own nL ret) {ci j index : Nat} {q : CE} {a jI v : Int} (hin : meth.name = "<init>") (hq : clT[ci]? = some q) (hj : j < q.2.2.1) (hjI : (j : Int) = jI) (ht : fcode (q.2.2.2.1 j) = 5) (hb : tyB (q.2.2.2.1 j)) (hk : h a (-2) = 16 * ((ci : Int) + 1)) (hw : Cond.fieldLink own index (q.2.1 j).1 (q.2.1 j).2.1 (q.2.1 j).2.2.1 ∈ lw_all) (hfin : (q.2.1 j).2.2.2 = true) (hown : (q.2.1 j).1 = own) (hd : decode cc pc = .ok (.putfield index, 3))  (g : G p l e R s m args below meth c D h0 nL Φ (pc + 3) ls st (up h a jI v) k) : G p l e R s m args below meth c D h0 nL Φ pc ls (rv D v :: rv D a :: st) h k :=
  fun x Q hx hQ => a_put X hq hj hjI ht hb hk (Or.inl ⟨X.2.2.2.2.2.1 _ hw, Or.inr ⟨hfin, hin, hown⟩⟩) hd trivial (g x Q hx hQ)
theorem g_iald (X : CX D p R s m args meth c h0 cc own nL ret) {a i : Int} (ri : r32 i) (hk : h a (-2) % 16 = 1 ∧ 0 ≤ i ∧ i < h a (-1)) (hd : decode cc pc = .ok (.iaload, 1)) (g : r32 (h a i) → G p l e R s m args below meth c D h0 nL Φ (pc + 1) ls (iv (h a i) :: st) h k) : G p l e R s m args below meth c D h0 nL Φ pc ls (iv i :: rv D a :: st) h k :=
  fun x Q hx hQ => a_iald X ri hk hd (fun q => g q x Q hx hQ)
theorem g_iast (X : CX D p R s m args meth c h0 cc own nL ret) {a i v : Int} (ri : r32 i) (rv_ : r32 v) (hk : h a (-2) % 16 = 1 ∧ 0 ≤ i ∧ i < h a (-1)) (hd : decode cc pc = .ok (.iastore, 1)) (g : G p l e R s m args below meth c D h0 nL Φ (pc + 1) ls st (up h a i v) k) : G p l e R s m args below meth c D h0 nL Φ pc ls (iv v :: iv i :: rv D a :: st) h k :=
  fun x Q hx hQ => a_iast X ri rv_ hk hd (g x Q hx hQ)
theorem g_bald (X : CX D p R s m args meth c h0 cc own nL ret) {a i : Int} (ri : r32 i) (hk : h a (-2) % 16 = 2 ∧ 0 ≤ i ∧ i < h a (-1)) (hd : decode cc pc = .ok (.baload, 1)) (g : -128 ≤ h a i ∧ h a i < 128 → G p l e R s m args below meth c D h0 nL Φ (pc + 1) ls (iv (h a i) :: st) h k) : G p l e R s m args below meth c D h0 nL Φ pc ls (iv i :: rv D a :: st) h k :=
  fun x Q hx hQ => a_bald X ri hk hd (fun q => g q x Q hx hQ)
theorem g_bast (X : CX D p R s m args meth c h0 cc own nL ret) {a i v : Int} (ri : r32 i) (rv_ : r32 v) (hk : h a (-2) % 16 = 2 ∧ 0 ≤ i ∧ i < h a (-1)) (hd : decode cc pc = .ok (.bastore, 1)) (g : G p l e R s m args below meth c D h0 nL Φ (pc + 1) ls st (up h a i (w8 v)) k) : G p l e R s m args below meth c D h0 nL Φ pc ls (iv v :: iv i :: rv D a :: st) h k :=
  fun x Q hx hQ => a_bast X ri rv_ hk hd (g x Q hx hQ)
theorem g_zald (X : CX D p R s m args meth c h0 cc own nL ret) {a i : Int} (ri : r32 i) (hk : h a (-2) % 16 = 3 ∧ 0 ≤ i ∧ i < h a (-1)) (hd : decode cc pc = .ok (.baload, 1)) (g : h a i = 0 ∨ h a i = 1 → G p l e R s m args below meth c D h0 nL Φ (pc + 1) ls (iv (h a i) :: st) h k) : G p l e R s m args below meth c D h0 nL Φ pc ls (iv i :: rv D a :: st) h k :=
  fun x Q hx hQ => a_zald X ri hk hd (fun q => g q x Q hx hQ)
theorem g_zast (X : CX D p R s m args meth c h0 cc own nL ret) {a i v : Int} (ri : r32 i) (rv_ : v = 0 ∨ v = 1) (hk : h a (-2) % 16 = 3 ∧ 0 ≤ i ∧ i < h a (-1)) (hd : decode cc pc = .ok (.bastore, 1)) (g : G p l e R s m args below meth c D h0 nL Φ (pc + 1) ls st (up h a i v) k) : G p l e R s m args below meth c D h0 nL Φ pc ls (iv v :: iv i :: rv D a :: st) h k :=
  fun x Q hx hQ => a_zast X ri rv_ hk hd (g x Q hx hQ)
theorem g_lald (X : CX D p R s m args meth c h0 cc own nL ret) {a i : Int} (ri : r32 i) (hk : h a (-2) % 16 = 4 ∧ 0 ≤ i ∧ i < h a (-1)) (hd : decode cc pc = .ok (.laload, 1)) (g : r64 (h a i) → G p l e R s m args below meth c D h0 nL Φ (pc + 1) ls (jv (h a i) :: st) h k) : G p l e R s m args below meth c D h0 nL Φ pc ls (iv i :: rv D a :: st) h k :=
  fun x Q hx hQ => a_lald X ri hk hd (fun q => g q x Q hx hQ)
theorem g_last (X : CX D p R s m args meth c h0 cc own nL ret) {a i v : Int} (ri : r32 i) (rv_ : r64 v) (hk : h a (-2) % 16 = 4 ∧ 0 ≤ i ∧ i < h a (-1)) (hd : decode cc pc = .ok (.lastore, 1)) (g : G p l e R s m args below meth c D h0 nL Φ (pc + 1) ls st (up h a i v) k) : G p l e R s m args below meth c D h0 nL Φ pc ls (jv v :: iv i :: rv D a :: st) h k :=
  fun x Q hx hQ => a_last X ri rv_ hk hd (g x Q hx hQ)
theorem w8_id {v : Int} (h : -128 ≤ v ∧ v < 128) : w8 v = v := by unfold w8; omega
theorem r32_b {v : Int} (h : -128 ≤ v ∧ v < 128) : r32 v := by unfold r32; omega
theorem r32_z {v : Int} (h : v = 0 ∨ v = 1) : r32 v := by unfold r32; omega
/-- a byte that is one already -/
theorem g_bastB (X : CX D p R s m args meth c h0 cc own nL ret) {a i v : Int} (ri : r32 i) (rb : -128 ≤ v ∧ v < 128) (hk : h a (-2) % 16 = 2 ∧ 0 ≤ i ∧ i < h a (-1)) (hd : decode cc pc = .ok (.bastore, 1)) (g : G p l e R s m args below meth c D h0 nL Φ (pc + 1) ls st (up h a i v) k) : G p l e R s m args below meth c D h0 nL Φ pc ls (iv v :: iv i :: rv D a :: st) h k := by
  refine g_bast X ri (r32_b rb) hk hd ?_
  rw [w8_id rb]; exact g
theorem g_aald (X : CX D p R s m args meth c h0 cc own nL ret) (t : Nat) (ht5 : 5 ≤ t) (ht9 : t ≤ 9) {a i : Int} (ri : r32 i) {tI : Int} (htI : (t : Int) = tI) (hk : h a (-2) % 16 = tI ∧ 0 ≤ i ∧ i < h a (-1)) (hd : decode cc pc = .ok (.aaload, 1)) (g : G p l e R s m args below meth c D h0 nL Φ (pc + 1) ls (rv D (h a i) :: st) h k) : G p l e R s m args below meth c D h0 nL Φ pc ls (iv i :: rv D a :: st) h k :=
  fun x Q hx hQ => a_aald X t ht5 ht9 ri htI hk hd (g x Q hx hQ)
theorem g_aast (X : CX D p R s m args meth c h0 cc own nL ret) (t : Nat) (ht5 : 5 ≤ t) (ht9 : t ≤ 9) {a i v : Int} (ri : r32 i) {tI : Int} (htI : (t : Int) = tI) (hv : h v (-2) = 16 * ((acls t : Int) + 1)) (hk : h a (-2) % 16 = tI ∧ 0 ≤ i ∧ i < h a (-1)) (hd : decode cc pc = .ok (.aastore, 1)) (g : G p l e R s m args below meth c D h0 nL Φ (pc + 1) ls st (up h a i v) k) : G p l e R s m args below meth c D h0 nL Φ pc ls (rv D v :: iv i :: rv D a :: st) h k :=
  fun x Q hx hQ => a_aast X t ht5 ht9 ri htI hv hk hd (g x Q hx hQ)
theorem g_alen (X : CX D p R s m args meth c h0 cc own nL ret) {a : Int} (hk : 1 ≤ h a (-2) % 16 ∧ h a (-2) % 16 ≤ 9) (hd : decode cc pc = .ok (.arraylength, 1)) (g : r32 (h a (-1)) → G p l e R s m args below meth c D h0 nL Φ (pc + 1) ls (iv (h a (-1)) :: st) h k) : G p l e R s m args below meth c D h0 nL Φ pc ls (rv D a :: st) h k :=
  fun x Q hx hQ => a_alen X hk hd (fun _ q => g q x Q hx hQ)
theorem g_new (X : CX D p R s m args meth c h0 cc own nL ret) {ci index : Nat} {q : CE} (hq : clT[ci]? = some q) (hty : ∀ j, j < q.2.2.1 → tyB (q.2.2.2.1 j)) (hw : Cond.classLink own index q.1 ∈ lw_all) {kI nI : Int} (hkI : 16 * ((ci : Int) + 1) = kI) (hnI : (q.2.2.2.2 : Int) = nI) (hal : h 0 0 < 130538 ∧ h 0 1 + nI ≤ 8696812) (hd : decode cc pc = .ok (.new index, 3))
    (g : G p l e R s m args below meth c D h0 nL Φ (pc + 3) ls (rv D (h 0 0 + 1) :: st) (nw h kI nI) k) : G p l e R s m args below meth c D h0 nL Φ pc ls st h k :=
  fun x Q hx hQ => a_new X hq hty (X.2.2.2.2.2.1 _ hw) hkI hnI hal hd (g x Q hx hQ)
theorem g_newa (X : CX D p R s m args meth c h0 cc own nL ret) (t st_ : Nat) (ht1 : 1 ≤ t) (ht4 : t ≤ 4) {atype : ArrayType} (hat : newarray.typeOf atype = aty t) (harr : Cond.arrayClass (aty t) ∈ lw_all) {n kI : Int} (rn : r32 n) (hkI : 16 * (st_ : Int) + t = kI) (hal : 0 ≤ n ∧ n ≤ 16777216 ∧ h 0 0 < 130538 ∧ h 0 1 + n ≤ 8696812) (hd : decode cc pc = .ok (.newarray atype, 2))
    (g : G p l e R s m args below meth c D h0 nL Φ (pc + 2) ls (rv D (h 0 0 + 1) :: st) (nw h kI n) k) : G p l e R s m args below meth c D h0 nL Φ pc ls (iv n :: st) h k :=
  fun x Q hx hQ => a_newa X t st_ ht1 ht4 hat (X.2.2.2.2.2.1 _ harr) rn hkI hal hd (g x Q hx hQ)
theorem g_anew (X : CX D p R s m args meth c h0 cc own nL ret) (t st_ : Nat) (ht5 : 5 ≤ t) (ht9 : t ≤ 9) {index : Nat} {CC : String} (hC : aty t = .object CC) (hw : Cond.classLink own index CC ∈ lw_all) {n kI : Int} (rn : r32 n) (hkI : 16 * (st_ : Int) + t = kI) (hal : 0 ≤ n ∧ n ≤ 16777216 ∧ h 0 0 < 130538 ∧ h 0 1 + n ≤ 8696812) (hd : decode cc pc = .ok (.anewarray index, 3))
    (g : G p l e R s m args below meth c D h0 nL Φ (pc + 3) ls (rv D (h 0 0 + 1) :: st) (nw h kI n) k) : G p l e R s m args below meth c D h0 nL Φ pc ls (iv n :: st) h k :=
  fun x Q hx hQ => a_anew X t st_ ht5 ht9 hC (X.2.2.2.2.2.1 _ hw) rn hkI hal hd (g x Q hx hQ)
theorem g_null (X : CX D p R s m args meth c h0 cc own nL ret) (hd : decode cc pc = .ok (.aconst_null, 1)) (g : G p l e R s m args below meth c D h0 nL Φ (pc + 1) ls (rv D 0 :: st) h k) : G p l e R s m args below meth c D h0 nL Φ pc ls st h k :=
  G.lift (fun Q a H locs lsA hR hL hl => by
    have a2 := a H locs lsA hR hL hl
    rw [rv_null] at a2
    exact lv_null X.1 X.2.1 hd a2) g
theorem g_ifnull (X : CX D p R s m args meth c h0 cc own nL ret) {a : Int} {off : Int} {tgt : Nat} {k2 : Option α} (ht : (pc : Int) + off = (tgt : Int)) (hd : decode cc pc = .ok (.ifnull off, 3)) (g1 : a = 0 → G p l e R s m args below meth c D h0 nL Φ tgt ls st h k) (g2 : a ≠ 0 → G p l e R s m args below meth c D h0 nL Φ (pc + 3) ls st h k2) : G p l e R s m args below meth c D h0 nL Φ pc ls (rv D a :: st) h (if a = 0 then k else k2) := by
  intro x Q hx hQ H locs lsA hR hL hl
  by_cases ha : a = 0
  · rw [if_pos ha] at hx
    subst ha
    rw [rv_null]
    exact lv_ifnullN X.1 X.2.1 hd ht (g1 rfl x Q hx hQ H locs lsA hR hL hl)
  · rw [if_neg ha] at hx
    rw [rv_ref ha]
    exact lv_ifnull X.1 X.2.1 hd (g2 ha x Q hx hQ H locs lsA hR hL hl)
theorem g_ifnonnull (X : CX D p R s m args meth c h0 cc own nL ret) {a : Int} {off : Int} {tgt : Nat} {k2 : Option α} (ht : (pc : Int) + off = (tgt : Int)) (hd : decode cc pc = .ok (.ifnonnull off, 3)) (g1 : a ≠ 0 → G p l e R s m args below meth c D h0 nL Φ tgt ls st h k) (g2 : ¬ a ≠ 0 → G p l e R s m args below meth c D h0 nL Φ (pc + 3) ls st h k2) : G p l e R s m args below meth c D h0 nL Φ pc ls (rv D a :: st) h (if a ≠ 0 then k else k2) := by
  intro x Q hx hQ H locs lsA hR hL hl
  by_cases ha : a = 0
  · rw [if_neg (fun q => q ha)] at hx
    subst ha
    rw [rv_null]
    exact lv_ifnonnullN X.1 X.2.1 hd (g2 (fun q => q rfl) x Q hx hQ H locs lsA hR hL hl)
  · rw [if_pos ha] at hx
    rw [rv_ref ha]
    exact lv_ifnonnull X.1 X.2.1 hd ht (g1 ha x Q hx hQ H locs lsA hR hL hl)
end GM
