/-! THE EXTERNS: System.arraycopy; ldc_w of a string -/
theorem Rel.setA {D : SD} {h h' : Hp} {H H' : Heap} (R : Rel D h H) {a : Int} {t : Nat} (h1 : 1 ≤ t) (h2 : t ≤ 9) (hk : h a (-2) % 16 = t) (hrow : ∀ b, b ≠ a → h' b = h b) (hl : h' a (-1) = h a (-1)) (hk2 : h' a (-2) = h a (-2))
    (hob : H'[ph D a]? = some (arrV (D.aC t) (h a (-1)).toNat (fun j => tv D (fcode (aty t)) (h' a j)))) (htok : ∀ j : Nat, j < (h a (-1)).toNat → tok (fcode (aty t)) (h' a j)) (hz : H'.size = H.size) (ho : ∀ x : Nat, x ≠ ph D a → H'[x]? = H[x]?) : Rel D h' H' := by
  have hpos := R.pos (a := a) (by omega)
  have ha0 : (0 : Int) ≠ a := by omega
  have hA := R.arr h1 h2 hk
  obtain ⟨hb, r1, r2, r3, r4⟩ := R
  have e0 : h' 0 = h 0 := hrow 0 ha0
  refine ⟨by rw [e0]; exact hb, by rw [e0, hz]; exact r1, ?_, ?_, ?_⟩
  · rw [e0, ← r2]
    refine slotSum_eq hz fun x => ?_
    by_cases hx : x = ph D a
    · rw [hx, hob, hA.2.2.1]
      simp [arrV_size]
    · rw [ho x hx]
  · intro x hx
    rw [ho x ?_]; exact r3 x hx
    rw [ph_pos (by omega)]; omega
  · intro b hb2
    rw [e0]
    by_cases hba : b = a
    · subst hba
      rw [hk2] at hb2
      obtain ⟨p1, p2⟩ := r4 b hb2
      refine ⟨p1, ?_⟩
      rcases p2 with ⟨ci, q, e, o⟩ | ⟨st, t', h1', h2', e, o⟩
      · omega
      · have : t' = t := by omega
        subst this
        exact Or.inr ⟨st, t', h1, h2, by rw [hk2]; exact e, by rw [hl]; exact hA.1, by rw [hl]; exact hA.2.1, by rw [hl]; exact hob, by rw [hl]; exact htok⟩
    · rw [hrow b hba] at hb2
      obtain ⟨p1, p2⟩ := r4 b hb2
      exact ⟨p1, p2.kept (hrow b hba) (ho _ fun e => hba (ph_inj p1.1 hpos.1 e))⟩
def acpH (a sp b dp n : Int) (h : Hp) : Hp := fun c j => if c = b ∧ dp ≤ j ∧ j < dp + n then h a (sp + (j - dp)) else h c j
section GX
variable {p : Program} {l : Launch} {e : Env} {R : Room} {s : State} {m : MethodId} {args : Array Value} {below : List Frame} {meth : Method} {c : Code} {D : SD} {h0 : Hp} {nL : Nat} {cc : ByteArray} {own : String} {ret : Option FieldType} {pc : Nat} {ls : List (Nat × Value)} {st : List Value} {h : Hp}
variable {α : Type} {Φ : α → (State → Prop) → Prop} {k : Option α}
theorem a_acp {Q : State → Prop} (X : CX D p R s m args meth c h0 cc own nL ret) {a sp b dp n : Int} {index t : Nat} (r1 : r32 sp) (r2 : r32 dp) (r3 : r32 n) (ht1 : 1 ≤ t) (ht9 : t ≤ 9) (hprim : refKind (aty t) = false) (hfits : ∀ v, tok (fcode (aty t)) v → fits (aty t) (tv D (fcode (aty t)) v) = true) (htk : ∀ (v : Int) (U : State) (dc : ClassId), U.takes dc (tv D (fcode (aty t)) v))
    (ka : h a (-2) % 16 = t) (kb : h b (-2) % 16 = t) (c4 : 0 ≤ sp) (c5 : 0 ≤ dp) (c6 : 0 ≤ n) (c7 : sp + n ≤ h a (-1)) (c8 : dp + n ≤ h b (-1)) (hw : Cond.methodLink own index arraycopyName ∈ lw_all) (hnat : Cond.native arraycopyName ∈ lw_all) (hstat : Cond.static arraycopyName ∈ lw_all) (hini : Cond.initialized "java/lang/System" ∈ lw_all) (hW : (st.map fun v => v.category).sum ≤ 24) (hfr : 4 ≤ R.frames) (hlo : 200 ≤ R.locals) (hd : decode cc pc = .ok (.invokestatic index, 3))
    (g : A_ p l e R s m args below meth c D h0 nL (pc + 3) ls st (acpH a sp b dp n h) Q) : A_ p l e R s m args below meth c D h0 nL pc ls (iv n :: iv dp :: rv D b :: iv sp :: rv D a :: st) h Q := by
  intro H locs lsA hR hL hl
  obtain ⟨a1, a2, a3, a4⟩ := hR.1.arr ht1 ht9 ka
  obtain ⟨b1, b2, b3, b4⟩ := hR.1.arr ht1 ht9 kb
  have pa := hR.1.pos (a := a) (by omega)
  have pb := hR.1.pos (a := b) (by omega)
  have hts := X.2.2.2.2.2.1
  have r0 : r32 0 := r32_c rfl
  rw [rv_ref (by omega), rv_ref (by omega)]
  obtain ⟨-, k0, hk0, cm0, hkk0⟩ := (X.2.2.2.2.2.2.1.2.1 t ht1 ht9).1 (h a (-1)).toNat (fun j => tv D (fcode (aty t)) (h a j))
  obtain ⟨-, k1, hk1, cm1, hkk1⟩ := (X.2.2.2.2.2.2.1.2.1 t ht1 ht9).1 (h b (-1)).toNat (fun j => tv D (fcode (aty t)) (h b j))
  have nz : ∀ z : Int, r32 z → 0 ≤ z → ¬ Int32.ofInt z < 0 := fun z rz hz q => by
    have := (i_lt rz r0).mp q
    omega
  intro T hT S
  obtain ⟨vm', X', step⟩ := S.arraycopy X.1 X.2.2.2.2.1 (hts _ hw) (hts _ hnat) (hts _ hstat) (hts _ hini) (src := ph D a) (dst := ph D b) (cs := arrV (D.aC t) (h a (-1)).toNat (fun j => tv D (fcode (aty t)) (h a j))) (cd := arrV (D.aC t) (h b (-1)).toNat (fun j => tv D (fcode (aty t)) (h b j))) (srcPos := Int32.ofInt sp) (destPos := Int32.ofInt dp) (n := Int32.ofInt n) (by rw [hT]; exact a3) (by rw [hT]; exact b3)
    (fun _ h => by cases h) (fun _ h => by cases h) (fun h => by cases h) (fun h => by cases h) hk0 hk1 hkk0 hkk1 (by simp [hprim]) (nz sp r1 c4) (nz dp r2 c5) (nz n r3 c6)
    (by rw [i_toInt r1, i_toInt r3, arrV_size]; omega)
    (by rw [i_toInt r2, i_toInt r3, arrV_size]; omega)
    (fun vm₁ _ i hi => by
      rw [cl_i r3] at hi
      have e1 : (arrV (D.aC t) (h a (-1)).toNat (fun j => tv D (fcode (aty t)) (h a j))).slots.getD ((Int32.ofInt sp).toNatClampNeg + i) .null = tv D (fcode (aty t)) (h a ((sp.toNat + i : Nat) : Int)) := by
        rw [cl_i r1, Array.getD_eq_getD_getElem?, arrV_read _ _ (by omega)]
        rfl
      rw [e1]
      exact ⟨hfits _ (a4 _ (by omega)), htk _ _ _⟩)
    (g := F0 m pc lsA (iv n :: iv dp :: .ref (ph D b) :: iv sp :: .ref (ph D a) :: st)) rfl (by rw [X.2.2.2.1]; exact hl.1) (rest := st) rfl (by rw [X.2.1]; exact hd) (by omega) (by show 2 * 0 + _ + (7 + 11) ≤ _; omega)
  have e1 : copied (arrV (D.aC t) (h a (-1)).toNat (fun j => tv D (fcode (aty t)) (h a j))) (arrV (D.aC t) (h b (-1)).toNat (fun j => tv D (fcode (aty t)) (h b j))) (Int32.ofInt sp) (Int32.ofInt dp) (Int32.ofInt n) = arrV (D.aC t) (h b (-1)).toNat (fun j => tv D (fcode (aty t)) (acpH a sp b dp n h b j)) := by
    refine (va_copied (fun z => tv D (fcode (aty t)) z) (D.aC t) (D.aC t) (fun j => h a j) (fun j => h b j) (by rw [cl_i r1, cl_i r3]; omega)).trans ?_
    congr 1
    funext j
    rw [cl_i r1, cl_i r2, cl_i r3]
    unfold va_cpy acpH
    by_cases hj : dp.toNat ≤ j ∧ j < dp.toNat + n.toNat
    · rw [if_pos hj, if_pos ⟨rfl, by omega, by omega⟩]
      show tv D (fcode (aty t)) (h a ((sp.toNat + (j - dp.toNat) : Nat) : Int)) = tv D (fcode (aty t)) (h a (sp + ((j : Int) - dp)))
      rw [show ((sp.toNat + (j - dp.toNat) : Nat) : Int) = sp + ((j : Int) - dp) by omega]
    · rw [if_neg hj, if_neg (fun q => hj ⟨by omega, by omega⟩)]
  rw [e1] at X' step
  have hheap : ((T.setVm vm').setCell (ph D b) (arrV (D.aC t) (h b (-1)).toNat (fun j => tv D (fcode (aty t)) (acpH a sp b dp n h b j)))).heap = H.setIfInBounds (ph D b) (arrV (D.aC t) (h b (-1)).toNat (fun j => tv D (fcode (aty t)) (acpH a sp b dp n h b j))) := by rw [← hT]; rfl
  have hlt : ph D b < H.size := (Array.getElem?_eq_some_iff.mp b3).1
  have hrow : ∀ x, x ≠ b → acpH a sp b dp n h x = h x := fun x hx => by
    funext j
    unfold acpH
    exact if_neg fun q => hx q.1
  have h1m : acpH a sp b dp n h b (-1) = h b (-1) := if_neg fun q => by omega
  have h2m : acpH a sp b dp n h b (-2) = h b (-2) := if_neg fun q => by omega
  have hR' : Rel D (acpH a sp b dp n h) (H.setIfInBounds (ph D b) (arrV (D.aC t) (h b (-1)).toNat (fun j => tv D (fcode (aty t)) (acpH a sp b dp n h b j)))) := by
    refine hR.1.setA ht1 ht9 kb hrow h1m h2m (by simp [Array.getElem?_setIfInBounds, hlt]) (fun j hj => ?_) (by simp) (fun x hx => by simp [Array.getElem?_setIfInBounds, Ne.symm hx])
    unfold acpH
    split
    · rename_i hc
      have := a4 (sp + ((j : Int) - dp)).toNat (by omega)
      rw [show (((sp + ((j : Int) - dp)).toNat : Nat) : Int) = sp + ((j : Int) - dp) by omega] at this
      exact this
    · exact b4 j hj
  have hE : Ext h (acpH a sp b dp n h) := fun x hx => by
    by_cases hxb : x = b
    · subst hxb
      exact ⟨h2m, h1m⟩
    · rw [hrow x hxb]
      exact ⟨rfl, rfl⟩
  have h00 : acpH a sp b dp n h 0 = h 0 := hrow 0 (by omega)
  have ec : cn h0 (acpH a sp b dp n h) = cn h0 h := by unfold cn; rw [h00]
  have es : sn h0 (acpH a sp b dp n h) = sn h0 h := by unfold sn; rw [h00]
  have hg := fun (L : List Loc) (hLL : ∀ q ∈ L, D.base ≤ q.base) => g _ L lsA ⟨hR', hR.2.trans hE⟩ hLL hl
  rw [ec, es] at hg
  have fin : ∀ L : List Loc, Stand p l e R s m args below meth c ((T.setVm vm').setCell (ph D b) (arrV (D.aC t) (h b (-1)).toNat (fun j => tv D (fcode (aty t)) (acpH a sp b dp n h b j)))) L (cn h0 h) (sn h0 h) → (∀ q ∈ L, D.base ≤ q.base) → ∃ tt, Steps p.tables e below (T.setTop (F0 m pc lsA (iv n :: iv dp :: .ref (ph D b) :: iv sp :: .ref (ph D a) :: st))) tt ∧ Q tt := fun L XX hLL => by
    obtain ⟨tt, a1', b1'⟩ := hg L hLL _ hheap XX
    exact ⟨tt, step tt a1', b1'⟩
  refine fin _ X' (fun x hx => ?_)
  rcases List.mem_append.mp hx with hx | hx
  · exact hL x hx
  · obtain ⟨z, -, hz⟩ := List.mem_map.mp hx
    rw [← hz]
    show D.base ≤ ph D b
    rw [ph_pos (by omega)]
    exact Nat.le_add_right _ _
theorem r_acp (X : CX D p R s m args meth c h0 cc own nL ret) {a sp b dp n : Int} {index : Nat} {K : Hp → Option α} (r1 : r32 sp) (r2 : r32 dp) (r3 : r32 n) (hw : Cond.methodLink own index arraycopyName ∈ lw_all) (hnat : Cond.native arraycopyName ∈ lw_all) (hstat : Cond.static arraycopyName ∈ lw_all) (hini : Cond.initialized "java/lang/System" ∈ lw_all) (hW : (st.map fun v => v.category).sum ≤ 24) (hfr : 4 ≤ R.frames) (hlo : 200 ≤ R.locals) (hd : decode cc pc = .ok (.invokestatic index, 3)) (g : ∀ h1, Ext h h1 → G p l e R s m args below meth c D h0 nL Φ (pc + 3) ls st h1 (K h1)) : G p l e R s m args below meth c D h0 nL Φ pc ls (iv n :: iv dp :: rv D b :: iv sp :: rv D a :: st) h ((x_acp a sp b dp n h).bind K) := by
  intro x Q hx hQ
  unfold x_acp at hx
  split at hx
  · rename_i hc
    obtain ⟨c1, c2, c3, c4, c5, c6, c7, c8⟩ := hc
    have hx : K (acpH a sp b dp n h) = some x := hx
    have hE : Ext h (acpH a sp b dp n h) := fun y hy => by
      unfold acpH
      exact ⟨if_neg fun q => by omega, if_neg fun q => by omega⟩
    have hg := g _ hE x Q hx hQ
    obtain ⟨t, ht⟩ : ∃ t : Nat, h a (-2) % 16 = (t : Int) := ⟨(h a (-2) % 16).toNat, by omega⟩
    have hb : t = 1 ∨ t = 2 ∨ t = 3 ∨ t = 4 := by omega
    rcases hb with rfl | rfl | rfl | rfl
    · exact a_acp X (t := 1) r1 r2 r3 (by decide) (by decide) rfl (fun v hv => tv_fits (ty := .int) rfl (Or.inl rfl) hv) (fun _ _ _ => trivial) ht (c3.trans ht) c4 c5 c6 c7 c8 hw hnat hstat hini hW hfr hlo hd hg
    · exact a_acp X (t := 2) r1 r2 r3 (by decide) (by decide) rfl (fun v hv => tv_fits (ty := .byte) rfl (Or.inr (Or.inl rfl)) hv) (fun _ _ _ => trivial) ht (c3.trans ht) c4 c5 c6 c7 c8 hw hnat hstat hini hW hfr hlo hd hg
    · exact a_acp X (t := 3) r1 r2 r3 (by decide) (by decide) rfl (fun v hv => tv_fits (ty := .boolean) rfl (Or.inr (Or.inr (Or.inl rfl))) hv) (fun _ _ _ => trivial) ht (c3.trans ht) c4 c5 c6 c7 c8 hw hnat hstat hini hW hfr hlo hd hg
    · exact a_acp X (t := 4) r1 r2 r3 (by decide) (by decide) rfl (fun v hv => tv_fits (ty := .long) rfl (Or.inr (Or.inr (Or.inr (Or.inl rfl)))) hv) (fun _ _ _ => trivial) ht (c3.trans ht) c4 c5 c6 c7 c8 hw hnat hstat hini hW hfr hlo hd hg
  · cases hx
theorem g_ldcSw (X : CX D p R s m args meth c h0 cc own nL ret) {index : Nat} {tx : String} {id : Int} (k_ : Nat) (hw : srT[k_]? = some (own, index, tx)) (hid : -2 - (k_ : Int) = id) (hd : decode cc pc = .ok (.ldc_w index, 3)) (g : G p l e R s m args below meth c D h0 nL Φ (pc + 3) ls (rv D id :: st) h k) : G p l e R s m args below meth c D h0 nL Φ pc ls st h k :=
  G.lift (fun Q a H locs lsA hR hL hl => by
    have hz := X.2.2.2.2.2.2.1.2.2.2.2.2.1 k_ _ hw
    have a2 := a H locs lsA hR hL hl
    rw [rv_str hid] at a2
    intro T hT S
    obtain ⟨t, a3, b3⟩ := a2 T hT S
    refine ⟨t, ?_, b3⟩
    obtain ⟨kc, cf, i, a', hk, hcf, hcp, -, hr, hev'⟩ := Cond.stringRef_spec X.2.2.2.2.1 hz.1
    cases hz.2.symm.trans hev'
    obtain ⟨k', hk', he⟩ := S.warmed.alike.2.2 _ _ hk
    have hr' : k'.resolved[index]? = some (some (.string (D.sA k_))) := by
      rcases S.warmed.entry hk hk' index with hq | ⟨hq, -⟩
      · rw [hq]; exact hr
      · rw [hr] at hq; cases hq
    have hdd : decode c.code pc = .ok (.ldc_w index, 3) := by rw [X.2.1]; exact hd
    jvm_step S.here [X.1, hdd, ldc_w.wp_string (e := e) (s := T) (f := F0 m pc lsA st) S.here.top hk' (by rw [he]; exact hcf) hcp hr']
    exact a3) g
end GX
