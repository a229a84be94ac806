/-! ROWS: one an instruction -/
section GR
variable {p : Program} {l : Launch} {e : Env} {R : Room} {s : State} {m : MethodId} {args : Array Value} {below : List Frame} {meth : Method} {c : Code} {D : SD} {h0 : Hp} {nL : Nat} {cc : ByteArray} {own : String} {ret : Option FieldType} {pc : Nat} {ls : List (Nat × Value)} {st : List Value} {h : Hp}
variable {α : Type} {Φ : α → (State → Prop) → Prop} {k : Option α}
theorem G.lift {pc2 : Nat} {ls2 : List (Nat × Value)} {st2 : List Value} {h2 : Hp} (f : ∀ Q, A_ p l e R s m args below meth c D h0 nL pc2 ls2 st2 h2 Q → A_ p l e R s m args below meth c D h0 nL pc ls st h Q) (g : G p l e R s m args below meth c D h0 nL Φ pc2 ls2 st2 h2 k) : G p l e R s m args below meth c D h0 nL Φ pc ls st h k := fun x Q hx hQ => f Q (g x Q hx hQ)
/-- a guard of the picture: what it says may be used -/
def gd (q : Prop) [Decidable q] (k : Option α) : Option α := if q then k else none
theorem g_gd {q : Prop} [Decidable q] (g : q → G p l e R s m args below meth c D h0 nL Φ pc ls st h k) : G p l e R s m args below meth c D h0 nL Φ pc ls st h (gd q k) := by
  intro x Q hx hQ
  unfold gd at hx
  split at hx
  · rename_i hq
    exact g hq x Q hx hQ
  · cases hx
/-- a name for a number -/
def lt_ (v : Int) (f : Int → Option α) : Option α := f v
theorem g_lti {v : Int} {f : Int → Option α} (hv : r32 v) (g : ∀ y, r32 y → G p l e R s m args below meth c D h0 nL Φ pc ls (iv y :: st) h (f y)) : G p l e R s m args below meth c D h0 nL Φ pc ls (iv v :: st) h (lt_ v f) := g v hv
theorem g_ltl {v : Int} {f : Int → Option α} (hv : r64 v) (g : ∀ y, r64 y → G p l e R s m args below meth c D h0 nL Φ pc ls (jv y :: st) h (f y)) : G p l e R s m args below meth c D h0 nL Φ pc ls (jv v :: st) h (lt_ v f) := g v hv
theorem g_ltr {v : Int} {f : Int → Option α} (g : ∀ y, G p l e R s m args below meth c D h0 nL Φ pc ls (rv D y :: st) h (f y)) : G p l e R s m args below meth c D h0 nL Φ pc ls (rv D v :: st) h (lt_ v f) := g v
theorem g_iconst (X : CX D p R s m args meth c h0 cc own nL ret) {n : Int} (hd : decode cc pc = .ok (.iconst n, 1)) (g : G p l e R s m args below meth c D h0 nL Φ (pc + 1) ls (iv n :: st) h k) : G p l e R s m args below meth c D h0 nL Φ pc ls (st) h k :=
  G.lift (fun Q a H locs lsA hR hL hl => by exact lv_iconst X.1 X.2.1 hd rfl (a H locs lsA hR hL hl)) g
theorem g_bipush (X : CX D p R s m args meth c h0 cc own nL ret) {n : Int} (hv : (Int8.ofInt n).toInt32 = Int32.ofInt n) (hd : decode cc pc = .ok (.bipush n, 2)) (g : G p l e R s m args below meth c D h0 nL Φ (pc + 2) ls (iv n :: st) h k) : G p l e R s m args below meth c D h0 nL Φ pc ls (st) h k :=
  G.lift (fun Q a H locs lsA hR hL hl => by exact lv_bipush X.1 X.2.1 hd hv (a H locs lsA hR hL hl)) g
theorem g_sipush (X : CX D p R s m args meth c h0 cc own nL ret) {n : Int} (hv : (Int16.ofInt n).toInt32 = Int32.ofInt n) (hd : decode cc pc = .ok (.sipush n, 3)) (g : G p l e R s m args below meth c D h0 nL Φ (pc + 3) ls (iv n :: st) h k) : G p l e R s m args below meth c D h0 nL Φ pc ls (st) h k :=
  G.lift (fun Q a H locs lsA hR hL hl => by exact lv_sipush X.1 X.2.1 hd hv (a H locs lsA hR hL hl)) g
theorem g_lconst0 (X : CX D p R s m args meth c h0 cc own nL ret) (hd : decode cc pc = .ok (.lconst 0, 1)) (g : G p l e R s m args below meth c D h0 nL Φ (pc + 1) ls (jv 0 :: st) h k) : G p l e R s m args below meth c D h0 nL Φ pc ls st h k :=
  G.lift (fun Q a H locs lsA hR hL hl => by exact lv_lconst X.1 X.2.1 hd rfl (a H locs lsA hR hL hl)) g
theorem g_lconst1 (X : CX D p R s m args meth c h0 cc own nL ret) (hd : decode cc pc = .ok (.lconst 1, 1)) (g : G p l e R s m args below meth c D h0 nL Φ (pc + 1) ls (jv 1 :: st) h k) : G p l e R s m args below meth c D h0 nL Φ pc ls st h k :=
  G.lift (fun Q a H locs lsA hR hL hl => by exact lv_lconst X.1 X.2.1 hd rfl (a H locs lsA hR hL hl)) g
theorem g_ldc (X : CX D p R s m args meth c h0 cc own nL ret) {index : Nat} {n : Int} (hw : Cond.constant own index (Int32.ofInt n) ∈ lw_all) (hd : decode cc pc = .ok (.ldc index, 2)) (g : G p l e R s m args below meth c D h0 nL Φ (pc + 2) ls (iv n :: st) h k) : G p l e R s m args below meth c D h0 nL Φ pc ls st h k :=
  G.lift (fun Q a H locs lsA hR hL hl => lv_ldc X.1 X.2.1 X.2.2.2.2.1 (X.2.2.2.2.2.1 _ hw) hd (a H locs lsA hR hL hl)) g
theorem g_ldc2 (X : CX D p R s m args meth c h0 cc own nL ret) {index : Nat} {n : Int} (hw : Cond.constantLong own index (Int64.ofInt n) ∈ lw_all) (hd : decode cc pc = .ok (.ldc2_w index, 3)) (g : G p l e R s m args below meth c D h0 nL Φ (pc + 3) ls (jv n :: st) h k) : G p l e R s m args below meth c D h0 nL Φ pc ls st h k :=
  G.lift (fun Q a H locs lsA hR hL hl => lv_ldc2 X.1 X.2.1 X.2.2.2.2.1 (X.2.2.2.2.2.1 _ hw) hd (a H locs lsA hR hL hl)) g
theorem g_iload_n (X : CX D p R s m args meth c h0 cc own nL ret) {j : Fin 4} {i q : Nat} {x : Int} (hi : (j : Nat) = i) (hq : ls[q]? = some (i, iv x)) (hd : decode cc pc = .ok (.iload_n j, 1)) (g : G p l e R s m args below meth c D h0 nL Φ (pc + 1) ls (iv x :: st) h k) : G p l e R s m args below meth c D h0 nL Φ pc ls (st) h k :=
  G.lift (fun Q a H locs lsA hR hL hl => by exact lv_iload_n X.1 X.2.1 hd hi (lv_at hl q hq) (a H locs lsA hR hL hl)) g
theorem g_iload (X : CX D p R s m args meth c h0 cc own nL ret) {i q : Nat} {x : Int} (hq : ls[q]? = some (i, iv x)) (hd : decode cc pc = .ok (.iload i, 2)) (g : G p l e R s m args below meth c D h0 nL Φ (pc + 2) ls (iv x :: st) h k) : G p l e R s m args below meth c D h0 nL Φ pc ls (st) h k :=
  G.lift (fun Q a H locs lsA hR hL hl => by exact lv_iload X.1 X.2.1 hd (lv_at hl q hq) (a H locs lsA hR hL hl)) g
theorem g_lload_n (X : CX D p R s m args meth c h0 cc own nL ret) {j : Fin 4} {i q : Nat} {x : Int} (hi : (j : Nat) = i) (hq : ls[q]? = some (i, jv x)) (hd : decode cc pc = .ok (.lload_n j, 1)) (g : G p l e R s m args below meth c D h0 nL Φ (pc + 1) ls (jv x :: st) h k) : G p l e R s m args below meth c D h0 nL Φ pc ls (st) h k :=
  G.lift (fun Q a H locs lsA hR hL hl => by exact lv_lload_n X.1 X.2.1 hd hi (lv_at hl q hq) (a H locs lsA hR hL hl)) g
theorem g_lload (X : CX D p R s m args meth c h0 cc own nL ret) {i q : Nat} {x : Int} (hq : ls[q]? = some (i, jv x)) (hd : decode cc pc = .ok (.lload i, 2)) (g : G p l e R s m args below meth c D h0 nL Φ (pc + 2) ls (jv x :: st) h k) : G p l e R s m args below meth c D h0 nL Φ pc ls (st) h k :=
  G.lift (fun Q a H locs lsA hR hL hl => by exact lv_lload X.1 X.2.1 hd (lv_at hl q hq) (a H locs lsA hR hL hl)) g
theorem g_iadd (X : CX D p R s m args meth c h0 cc own nL ret) {x y : Int} (hx : r32 x) (hy : r32 y) (hd : decode cc pc = .ok (.iadd, 1)) (g : G p l e R s m args below meth c D h0 nL Φ (pc + 1) ls (iv (w32 (x + y)) :: st) h k) : G p l e R s m args below meth c D h0 nL Φ pc ls (iv y :: iv x :: st) h k :=
  G.lift (fun Q a H locs lsA hR hL hl => by refine lv_iadd X.1 X.2.1 hd ?_; rw [i_add hx hy]; exact a H locs lsA hR hL hl) g
theorem g_isub (X : CX D p R s m args meth c h0 cc own nL ret) {x y : Int} (hx : r32 x) (hy : r32 y) (hd : decode cc pc = .ok (.isub, 1)) (g : G p l e R s m args below meth c D h0 nL Φ (pc + 1) ls (iv (w32 (x - y)) :: st) h k) : G p l e R s m args below meth c D h0 nL Φ pc ls (iv y :: iv x :: st) h k :=
  G.lift (fun Q a H locs lsA hR hL hl => by refine lv_isub X.1 X.2.1 hd ?_; rw [i_sub hx hy]; exact a H locs lsA hR hL hl) g
theorem g_imul (X : CX D p R s m args meth c h0 cc own nL ret) {x y : Int} (hx : r32 x) (hy : r32 y) (hd : decode cc pc = .ok (.imul, 1)) (g : G p l e R s m args below meth c D h0 nL Φ (pc + 1) ls (iv (w32 (x * y)) :: st) h k) : G p l e R s m args below meth c D h0 nL Φ pc ls (iv y :: iv x :: st) h k :=
  G.lift (fun Q a H locs lsA hR hL hl => by refine lv_imul X.1 X.2.1 hd ?_; rw [i_mul hx hy]; exact a H locs lsA hR hL hl) g
theorem g_ladd (X : CX D p R s m args meth c h0 cc own nL ret) {x y : Int} (hx : r64 x) (hy : r64 y) (hd : decode cc pc = .ok (.ladd, 1)) (g : G p l e R s m args below meth c D h0 nL Φ (pc + 1) ls (jv (w64 (x + y)) :: st) h k) : G p l e R s m args below meth c D h0 nL Φ pc ls (jv y :: jv x :: st) h k :=
  G.lift (fun Q a H locs lsA hR hL hl => by refine lv_ladd X.1 X.2.1 hd ?_; rw [l_add hx hy]; exact a H locs lsA hR hL hl) g
theorem g_lsub (X : CX D p R s m args meth c h0 cc own nL ret) {x y : Int} (hx : r64 x) (hy : r64 y) (hd : decode cc pc = .ok (.lsub, 1)) (g : G p l e R s m args below meth c D h0 nL Φ (pc + 1) ls (jv (w64 (x - y)) :: st) h k) : G p l e R s m args below meth c D h0 nL Φ pc ls (jv y :: jv x :: st) h k :=
  G.lift (fun Q a H locs lsA hR hL hl => by refine lv_lsub X.1 X.2.1 hd ?_; rw [l_sub hx hy]; exact a H locs lsA hR hL hl) g
theorem g_lmul (X : CX D p R s m args meth c h0 cc own nL ret) {x y : Int} (hx : r64 x) (hy : r64 y) (hd : decode cc pc = .ok (.lmul, 1)) (g : G p l e R s m args below meth c D h0 nL Φ (pc + 1) ls (jv (w64 (x * y)) :: st) h k) : G p l e R s m args below meth c D h0 nL Φ pc ls (jv y :: jv x :: st) h k :=
  G.lift (fun Q a H locs lsA hR hL hl => by refine lv_lmul X.1 X.2.1 hd ?_; rw [l_mul hx hy]; exact a H locs lsA hR hL hl) g
theorem g_ineg (X : CX D p R s m args meth c h0 cc own nL ret) {x : Int} (hx : r32 x) (hd : decode cc pc = .ok (.ineg, 1)) (g : G p l e R s m args below meth c D h0 nL Φ (pc + 1) ls (iv (w32 (-x)) :: st) h k) : G p l e R s m args below meth c D h0 nL Φ pc ls (iv x :: st) h k :=
  G.lift (fun Q a H locs lsA hR hL hl => by refine lv_ineg X.1 X.2.1 hd ?_; rw [i_neg hx]; exact a H locs lsA hR hL hl) g
theorem g_lneg (X : CX D p R s m args meth c h0 cc own nL ret) {x : Int} (hx : r64 x) (hd : decode cc pc = .ok (.lneg, 1)) (g : G p l e R s m args below meth c D h0 nL Φ (pc + 1) ls (jv (w64 (-x)) :: st) h k) : G p l e R s m args below meth c D h0 nL Φ pc ls (jv x :: st) h k :=
  G.lift (fun Q a H locs lsA hR hL hl => by refine lv_lneg X.1 X.2.1 hd ?_; rw [l_neg hx]; exact a H locs lsA hR hL hl) g
theorem g_idiv (X : CX D p R s m args meth c h0 cc own nL ret) {x y : Int} (hx : r32 x) (hy : r32 y) (h0y : y ≠ 0) (hd : decode cc pc = .ok (.idiv, 1)) (g : G p l e R s m args below meth c D h0 nL Φ (pc + 1) ls (iv (w32 (x.tdiv y)) :: st) h k) : G p l e R s m args below meth c D h0 nL Φ pc ls (iv y :: iv x :: st) h k :=
  G.lift (fun Q a H locs lsA hR hL hl => by refine lv_idiv X.1 X.2.1 hd (fun q => h0y ((i_inj hy ⟨by omega, by omega⟩).mp (q.trans rfl))) ?_; rw [i_div hx hy]; exact a H locs lsA hR hL hl) g
theorem g_ldiv (X : CX D p R s m args meth c h0 cc own nL ret) {x y : Int} (hx : r64 x) (hy : r64 y) (h0y : y ≠ 0) (hd : decode cc pc = .ok (.ldiv, 1)) (g : G p l e R s m args below meth c D h0 nL Φ (pc + 1) ls (jv (w64 (x.tdiv y)) :: st) h k) : G p l e R s m args below meth c D h0 nL Φ pc ls (jv y :: jv x :: st) h k :=
  G.lift (fun Q a H locs lsA hR hL hl => by refine lv_ldiv X.1 X.2.1 hd (fun q => h0y ((l_inj hy ⟨by omega, by omega⟩).mp (q.trans rfl))) ?_; rw [l_div hx hy]; exact a H locs lsA hR hL hl) g
theorem g_irem (X : CX D p R s m args meth c h0 cc own nL ret) {x y : Int} (hx : r32 x) (hy : r32 y) (h0y : y ≠ 0) (hd : decode cc pc = .ok (.irem, 1)) (g : G p l e R s m args below meth c D h0 nL Φ (pc + 1) ls (iv (x.tmod y) :: st) h k) : G p l e R s m args below meth c D h0 nL Φ pc ls (iv y :: iv x :: st) h k :=
  G.lift (fun Q a H locs lsA hR hL hl => by refine lv_irem X.1 X.2.1 hd (fun q => h0y ((i_inj hy ⟨by omega, by omega⟩).mp (q.trans rfl))) ?_; rw [i_rem hx hy]; exact a H locs lsA hR hL hl) g
theorem g_lrem (X : CX D p R s m args meth c h0 cc own nL ret) {x y : Int} (hx : r64 x) (hy : r64 y) (h0y : y ≠ 0) (hd : decode cc pc = .ok (.lrem, 1)) (g : G p l e R s m args below meth c D h0 nL Φ (pc + 1) ls (jv (x.tmod y) :: st) h k) : G p l e R s m args below meth c D h0 nL Φ pc ls (jv y :: jv x :: st) h k :=
  G.lift (fun Q a H locs lsA hR hL hl => by refine lv_lrem X.1 X.2.1 hd (fun q => h0y ((l_inj hy ⟨by omega, by omega⟩).mp (q.trans rfl))) ?_; rw [l_rem hx hy]; exact a H locs lsA hR hL hl) g
theorem g_iand (X : CX D p R s m args meth c h0 cc own nL ret) {x y : Int} (hd : decode cc pc = .ok (.iand, 1)) (g : G p l e R s m args below meth c D h0 nL Φ (pc + 1) ls (iv (iand_ x y) :: st) h k) : G p l e R s m args below meth c D h0 nL Φ pc ls (iv y :: iv x :: st) h k :=
  G.lift (fun Q a H locs lsA hR hL hl => by refine lv_iand X.1 X.2.1 hd ?_; rw [iand_eq x y]; exact a H locs lsA hR hL hl) g
theorem g_ixor (X : CX D p R s m args meth c h0 cc own nL ret) {x y : Int} (hd : decode cc pc = .ok (.ixor, 1)) (g : G p l e R s m args below meth c D h0 nL Φ (pc + 1) ls (iv (ixor_ x y) :: st) h k) : G p l e R s m args below meth c D h0 nL Φ pc ls (iv y :: iv x :: st) h k :=
  G.lift (fun Q a H locs lsA hR hL hl => by refine lv_ixor X.1 X.2.1 hd ?_; rw [ixor_eq x y]; exact a H locs lsA hR hL hl) g
theorem g_ishr (X : CX D p R s m args meth c h0 cc own nL ret) {x y : Int} (hd : decode cc pc = .ok (.ishr, 1)) (g : G p l e R s m args below meth c D h0 nL Φ (pc + 1) ls (iv (ishr_ x y) :: st) h k) : G p l e R s m args below meth c D h0 nL Φ pc ls (iv y :: iv x :: st) h k :=
  G.lift (fun Q a H locs lsA hR hL hl => by refine lv_ishr X.1 X.2.1 hd ?_; rw [ishr_eq x y]; exact a H locs lsA hR hL hl) g
theorem g_iushr (X : CX D p R s m args meth c h0 cc own nL ret) {x y : Int} (hd : decode cc pc = .ok (.iushr, 1)) (g : G p l e R s m args below meth c D h0 nL Φ (pc + 1) ls (iv (iushr_ x y) :: st) h k) : G p l e R s m args below meth c D h0 nL Φ pc ls (iv y :: iv x :: st) h k :=
  G.lift (fun Q a H locs lsA hR hL hl => by exact lv_iushr X.1 X.2.1 hd (iushr_eq x y) (a H locs lsA hR hL hl)) g
theorem g_land (X : CX D p R s m args meth c h0 cc own nL ret) {x y : Int} (hd : decode cc pc = .ok (.land, 1)) (g : G p l e R s m args below meth c D h0 nL Φ (pc + 1) ls (jv (land_ x y) :: st) h k) : G p l e R s m args below meth c D h0 nL Φ pc ls (jv y :: jv x :: st) h k :=
  G.lift (fun Q a H locs lsA hR hL hl => by refine lv_land X.1 X.2.1 hd ?_; rw [land_eq x y]; exact a H locs lsA hR hL hl) g
theorem g_lor (X : CX D p R s m args meth c h0 cc own nL ret) {x y : Int} (hd : decode cc pc = .ok (.lor, 1)) (g : G p l e R s m args below meth c D h0 nL Φ (pc + 1) ls (jv (lor_ x y) :: st) h k) : G p l e R s m args below meth c D h0 nL Φ pc ls (jv y :: jv x :: st) h k :=
  G.lift (fun Q a H locs lsA hR hL hl => by refine lv_lor X.1 X.2.1 hd ?_; rw [lor_eq x y]; exact a H locs lsA hR hL hl) g
theorem g_lshl (X : CX D p R s m args meth c h0 cc own nL ret) {x y : Int} (hd : decode cc pc = .ok (.lshl, 1)) (g : G p l e R s m args below meth c D h0 nL Φ (pc + 1) ls (jv (lshl_ x y) :: st) h k) : G p l e R s m args below meth c D h0 nL Φ pc ls (iv y :: jv x :: st) h k :=
  G.lift (fun Q a H locs lsA hR hL hl => by exact lv_lshl X.1 X.2.1 hd (lshl_eq x y) (a H locs lsA hR hL hl)) g
theorem g_i2l (X : CX D p R s m args meth c h0 cc own nL ret) {x : Int} (hx : r32 x) (hd : decode cc pc = .ok (.i2l, 1)) (g : G p l e R s m args below meth c D h0 nL Φ (pc + 1) ls (jv x :: st) h k) : G p l e R s m args below meth c D h0 nL Φ pc ls (iv x :: st) h k :=
  G.lift (fun Q a H locs lsA hR hL hl => by exact lv_i2l X.1 X.2.1 hd (i2l_ hx) (a H locs lsA hR hL hl)) g
theorem g_l2i (X : CX D p R s m args meth c h0 cc own nL ret) {x : Int} (hx : r64 x) (hd : decode cc pc = .ok (.l2i, 1)) (g : G p l e R s m args below meth c D h0 nL Φ (pc + 1) ls (iv (w32 x) :: st) h k) : G p l e R s m args below meth c D h0 nL Φ pc ls (jv x :: st) h k :=
  G.lift (fun Q a H locs lsA hR hL hl => by exact lv_l2i X.1 X.2.1 hd (l2i_ hx) (a H locs lsA hR hL hl)) g
theorem g_i2b (X : CX D p R s m args meth c h0 cc own nL ret) {x : Int} (hx : r32 x) (hd : decode cc pc = .ok (.i2b, 1)) (g : G p l e R s m args below meth c D h0 nL Φ (pc + 1) ls (iv (w8 x) :: st) h k) : G p l e R s m args below meth c D h0 nL Φ pc ls (iv x :: st) h k :=
  G.lift (fun Q a H locs lsA hR hL hl => by exact lv_i2b X.1 X.2.1 hd (i2b_ hx) (a H locs lsA hR hL hl)) g
theorem g_dup (X : CX D p R s m args meth c h0 cc own nL ret) {v : Value} (hv : v.category = 1) (hd : decode cc pc = .ok (.dup, 1)) (g : G p l e R s m args below meth c D h0 nL Φ (pc + 1) ls (v :: v :: st) h k) : G p l e R s m args below meth c D h0 nL Φ pc ls (v :: st) h k :=
  G.lift (fun Q a H locs lsA hR hL hl => by exact lv_dup X.1 X.2.1 hd hv (a H locs lsA hR hL hl)) g
theorem g_dup_x1 (X : CX D p R s m args meth c h0 cc own nL ret) {v w : Value} (hv : v.category = 1) (hw : w.category = 1) (hd : decode cc pc = .ok (.dup_x1, 1)) (g : G p l e R s m args below meth c D h0 nL Φ (pc + 1) ls (v :: w :: v :: st) h k) : G p l e R s m args below meth c D h0 nL Φ pc ls (v :: w :: st) h k :=
  G.lift (fun Q a H locs lsA hR hL hl => by exact lv_dup_x1 X.1 X.2.1 hd hv hw (a H locs lsA hR hL hl)) g
theorem g_dup2 (X : CX D p R s m args meth c h0 cc own nL ret) {v w : Value} (hv : v.category = 1) (hw : w.category = 1) (hd : decode cc pc = .ok (.dup2, 1)) (g : G p l e R s m args below meth c D h0 nL Φ (pc + 1) ls (v :: w :: v :: w :: st) h k) : G p l e R s m args below meth c D h0 nL Φ pc ls (v :: w :: st) h k :=
  G.lift (fun Q a H locs lsA hR hL hl => by exact lv_dup2_11 X.1 X.2.1 hd hv hw (a H locs lsA hR hL hl)) g
theorem g_pop (X : CX D p R s m args meth c h0 cc own nL ret) {v : Value} (hv : v.category = 1) (hd : decode cc pc = .ok (.pop, 1)) (g : G p l e R s m args below meth c D h0 nL Φ (pc + 1) ls (st) h k) : G p l e R s m args below meth c D h0 nL Φ pc ls (v :: st) h k :=
  G.lift (fun Q a H locs lsA hR hL hl => by exact lv_pop X.1 X.2.1 hd hv (a H locs lsA hR hL hl)) g
theorem g_goto (X : CX D p R s m args meth c h0 cc own nL ret) {off : Int} {tgt : Nat} (ht : (pc : Int) + off = (tgt : Int)) (hd : decode cc pc = .ok (.goto off, 3)) (g : G p l e R s m args below meth c D h0 nL Φ tgt ls st h k) : G p l e R s m args below meth c D h0 nL Φ pc ls st h k :=
  G.lift (fun Q a H locs lsA hR hL hl => lv_goto X.1 X.2.1 hd ht (a H locs lsA hR hL hl)) g
theorem g_ifeq (X : CX D p R s m args meth c h0 cc own nL ret) {a : Int} (ha : r32 a) {off : Int} {tgt : Nat} {k2 : Option α} (ht : (pc : Int) + off = (tgt : Int)) (hd : decode cc pc = .ok (.ifCond .eq off, 3)) (g1 : a = 0 → G p l e R s m args below meth c D h0 nL Φ tgt ls st h k) (g2 : ¬ (a = 0) → G p l e R s m args below meth c D h0 nL Φ (pc + 3) ls st h k2) : G p l e R s m args below meth c D h0 nL Φ pc ls (iv a :: st) h (if a = 0 then k else k2) := by
  intro x Q hx hQ H locs lsA hR hL hl
  refine lv_if_eq X.1 X.2.1 hd ht (fun hc => ?_) (fun hc => ?_)
  · have hc2 : a = 0 := (i_inj ha ⟨by omega, by omega⟩).mp (hc.trans rfl)
    rw [if_pos hc2] at hx
    exact g1 hc2 x Q hx hQ H locs lsA hR hL hl
  · have hc2 : ¬ (a = 0) := fun q => hc (((i_inj ha ⟨by omega, by omega⟩).mpr q).trans rfl)
    rw [if_neg hc2] at hx
    exact g2 hc2 x Q hx hQ H locs lsA hR hL hl
theorem g_ifne (X : CX D p R s m args meth c h0 cc own nL ret) {a : Int} (ha : r32 a) {off : Int} {tgt : Nat} {k2 : Option α} (ht : (pc : Int) + off = (tgt : Int)) (hd : decode cc pc = .ok (.ifCond .ne off, 3)) (g1 : a ≠ 0 → G p l e R s m args below meth c D h0 nL Φ tgt ls st h k) (g2 : ¬ (a ≠ 0) → G p l e R s m args below meth c D h0 nL Φ (pc + 3) ls st h k2) : G p l e R s m args below meth c D h0 nL Φ pc ls (iv a :: st) h (if a ≠ 0 then k else k2) := by
  intro x Q hx hQ H locs lsA hR hL hl
  refine lv_if_ne X.1 X.2.1 hd ht (fun hc => ?_) (fun hc => ?_)
  · have hc2 : a ≠ 0 := fun q => hc (((i_inj ha ⟨by omega, by omega⟩).mpr q).trans rfl)
    rw [if_pos hc2] at hx
    exact g1 hc2 x Q hx hQ H locs lsA hR hL hl
  · have hc2 : ¬ (a ≠ 0) := fun q => q ((i_inj ha ⟨by omega, by omega⟩).mp (hc.trans rfl))
    rw [if_neg hc2] at hx
    exact g2 hc2 x Q hx hQ H locs lsA hR hL hl
theorem g_iflt (X : CX D p R s m args meth c h0 cc own nL ret) {a : Int} (ha : r32 a) {off : Int} {tgt : Nat} {k2 : Option α} (ht : (pc : Int) + off = (tgt : Int)) (hd : decode cc pc = .ok (.ifCond .lt off, 3)) (g1 : a < 0 → G p l e R s m args below meth c D h0 nL Φ tgt ls st h k) (g2 : ¬ (a < 0) → G p l e R s m args below meth c D h0 nL Φ (pc + 3) ls st h k2) : G p l e R s m args below meth c D h0 nL Φ pc ls (iv a :: st) h (if a < 0 then k else k2) := by
  intro x Q hx hQ H locs lsA hR hL hl
  refine lv_if_lt X.1 X.2.1 hd ht (fun hc => ?_) (fun hc => ?_)
  · have hc2 : a < 0 := (i_lt ha (y := 0) ⟨by omega, by omega⟩).mp hc
    rw [if_pos hc2] at hx
    exact g1 hc2 x Q hx hQ H locs lsA hR hL hl
  · have hc2 : ¬ (a < 0) := fun q => hc ((i_lt ha (y := 0) ⟨by omega, by omega⟩).mpr q)
    rw [if_neg hc2] at hx
    exact g2 hc2 x Q hx hQ H locs lsA hR hL hl
theorem g_ifge (X : CX D p R s m args meth c h0 cc own nL ret) {a : Int} (ha : r32 a) {off : Int} {tgt : Nat} {k2 : Option α} (ht : (pc : Int) + off = (tgt : Int)) (hd : decode cc pc = .ok (.ifCond .ge off, 3)) (g1 : 0 ≤ a → G p l e R s m args below meth c D h0 nL Φ tgt ls st h k) (g2 : ¬ (0 ≤ a) → G p l e R s m args below meth c D h0 nL Φ (pc + 3) ls st h k2) : G p l e R s m args below meth c D h0 nL Φ pc ls (iv a :: st) h (if 0 ≤ a then k else k2) := by
  intro x Q hx hQ H locs lsA hR hL hl
  refine lv_if_ge X.1 X.2.1 hd ht (fun hc => ?_) (fun hc => ?_)
  · have hc2 : 0 ≤ a := (i_le (x := 0) ⟨by omega, by omega⟩ ha).mp hc
    rw [if_pos hc2] at hx
    exact g1 hc2 x Q hx hQ H locs lsA hR hL hl
  · have hc2 : ¬ (0 ≤ a) := fun q => hc ((i_le (x := 0) ⟨by omega, by omega⟩ ha).mpr q)
    rw [if_neg hc2] at hx
    exact g2 hc2 x Q hx hQ H locs lsA hR hL hl
theorem g_ifgt (X : CX D p R s m args meth c h0 cc own nL ret) {a : Int} (ha : r32 a) {off : Int} {tgt : Nat} {k2 : Option α} (ht : (pc : Int) + off = (tgt : Int)) (hd : decode cc pc = .ok (.ifCond .gt off, 3)) (g1 : 0 < a → G p l e R s m args below meth c D h0 nL Φ tgt ls st h k) (g2 : ¬ (0 < a) → G p l e R s m args below meth c D h0 nL Φ (pc + 3) ls st h k2) : G p l e R s m args below meth c D h0 nL Φ pc ls (iv a :: st) h (if 0 < a then k else k2) := by
  intro x Q hx hQ H locs lsA hR hL hl
  refine lv_if_gt X.1 X.2.1 hd ht (fun hc => ?_) (fun hc => ?_)
  · have hc2 : 0 < a := (i_lt (x := 0) ⟨by omega, by omega⟩ ha).mp hc
    rw [if_pos hc2] at hx
    exact g1 hc2 x Q hx hQ H locs lsA hR hL hl
  · have hc2 : ¬ (0 < a) := fun q => hc ((i_lt (x := 0) ⟨by omega, by omega⟩ ha).mpr q)
    rw [if_neg hc2] at hx
    exact g2 hc2 x Q hx hQ H locs lsA hR hL hl
theorem g_ifle (X : CX D p R s m args meth c h0 cc own nL ret) {a : Int} (ha : r32 a) {off : Int} {tgt : Nat} {k2 : Option α} (ht : (pc : Int) + off = (tgt : Int)) (hd : decode cc pc = .ok (.ifCond .le off, 3)) (g1 : a ≤ 0 → G p l e R s m args below meth c D h0 nL Φ tgt ls st h k) (g2 : ¬ (a ≤ 0) → G p l e R s m args below meth c D h0 nL Φ (pc + 3) ls st h k2) : G p l e R s m args below meth c D h0 nL Φ pc ls (iv a :: st) h (if a ≤ 0 then k else k2) := by
  intro x Q hx hQ H locs lsA hR hL hl
  refine lv_if_le X.1 X.2.1 hd ht (fun hc => ?_) (fun hc => ?_)
  · have hc2 : a ≤ 0 := (i_le ha (y := 0) ⟨by omega, by omega⟩).mp hc
    rw [if_pos hc2] at hx
    exact g1 hc2 x Q hx hQ H locs lsA hR hL hl
  · have hc2 : ¬ (a ≤ 0) := fun q => hc ((i_le ha (y := 0) ⟨by omega, by omega⟩).mpr q)
    rw [if_neg hc2] at hx
    exact g2 hc2 x Q hx hQ H locs lsA hR hL hl
theorem g_icmpeq (X : CX D p R s m args meth c h0 cc own nL ret) {a b : Int} (ha : r32 a) (hb : r32 b) {off : Int} {tgt : Nat} {k2 : Option α} (ht : (pc : Int) + off = (tgt : Int)) (hd : decode cc pc = .ok (.if_icmp .eq off, 3)) (g1 : a = b → G p l e R s m args below meth c D h0 nL Φ tgt ls st h k) (g2 : ¬ (a = b) → G p l e R s m args below meth c D h0 nL Φ (pc + 3) ls st h k2) : G p l e R s m args below meth c D h0 nL Φ pc ls (iv b :: iv a :: st) h (if a = b then k else k2) := by
  intro x Q hx hQ H locs lsA hR hL hl
  refine lv_icmp_eq X.1 X.2.1 hd ht (fun hc => ?_) (fun hc => ?_)
  · have hc2 : a = b := (i_inj ha hb).mp hc
    rw [if_pos hc2] at hx
    exact g1 hc2 x Q hx hQ H locs lsA hR hL hl
  · have hc2 : ¬ (a = b) := fun q => hc ((i_inj ha hb).mpr q)
    rw [if_neg hc2] at hx
    exact g2 hc2 x Q hx hQ H locs lsA hR hL hl
theorem g_icmpne (X : CX D p R s m args meth c h0 cc own nL ret) {a b : Int} (ha : r32 a) (hb : r32 b) {off : Int} {tgt : Nat} {k2 : Option α} (ht : (pc : Int) + off = (tgt : Int)) (hd : decode cc pc = .ok (.if_icmp .ne off, 3)) (g1 : a ≠ b → G p l e R s m args below meth c D h0 nL Φ tgt ls st h k) (g2 : ¬ (a ≠ b) → G p l e R s m args below meth c D h0 nL Φ (pc + 3) ls st h k2) : G p l e R s m args below meth c D h0 nL Φ pc ls (iv b :: iv a :: st) h (if a ≠ b then k else k2) := by
  intro x Q hx hQ H locs lsA hR hL hl
  refine lv_icmp_ne X.1 X.2.1 hd ht (fun hc => ?_) (fun hc => ?_)
  · have hc2 : a ≠ b := fun q => hc ((i_inj ha hb).mpr q)
    rw [if_pos hc2] at hx
    exact g1 hc2 x Q hx hQ H locs lsA hR hL hl
  · have hc2 : ¬ (a ≠ b) := fun q => q ((i_inj ha hb).mp hc)
    rw [if_neg hc2] at hx
    exact g2 hc2 x Q hx hQ H locs lsA hR hL hl
theorem g_icmplt (X : CX D p R s m args meth c h0 cc own nL ret) {a b : Int} (ha : r32 a) (hb : r32 b) {off : Int} {tgt : Nat} {k2 : Option α} (ht : (pc : Int) + off = (tgt : Int)) (hd : decode cc pc = .ok (.if_icmp .lt off, 3)) (g1 : a < b → G p l e R s m args below meth c D h0 nL Φ tgt ls st h k) (g2 : ¬ (a < b) → G p l e R s m args below meth c D h0 nL Φ (pc + 3) ls st h k2) : G p l e R s m args below meth c D h0 nL Φ pc ls (iv b :: iv a :: st) h (if a < b then k else k2) := by
  intro x Q hx hQ H locs lsA hR hL hl
  refine lv_icmp_lt X.1 X.2.1 hd ht (fun hc => ?_) (fun hc => ?_)
  · have hc2 : a < b := (i_lt ha hb).mp hc
    rw [if_pos hc2] at hx
    exact g1 hc2 x Q hx hQ H locs lsA hR hL hl
  · have hc2 : ¬ (a < b) := fun q => hc ((i_lt ha hb).mpr q)
    rw [if_neg hc2] at hx
    exact g2 hc2 x Q hx hQ H locs lsA hR hL hl
theorem g_icmpge (X : CX D p R s m args meth c h0 cc own nL ret) {a b : Int} (ha : r32 a) (hb : r32 b) {off : Int} {tgt : Nat} {k2 : Option α} (ht : (pc : Int) + off = (tgt : Int)) (hd : decode cc pc = .ok (.if_icmp .ge off, 3)) (g1 : b ≤ a → G p l e R s m args below meth c D h0 nL Φ tgt ls st h k) (g2 : ¬ (b ≤ a) → G p l e R s m args below meth c D h0 nL Φ (pc + 3) ls st h k2) : G p l e R s m args below meth c D h0 nL Φ pc ls (iv b :: iv a :: st) h (if b ≤ a then k else k2) := by
  intro x Q hx hQ H locs lsA hR hL hl
  refine lv_icmp_ge X.1 X.2.1 hd ht (fun hc => ?_) (fun hc => ?_)
  · have hc2 : b ≤ a := (i_le hb ha).mp hc
    rw [if_pos hc2] at hx
    exact g1 hc2 x Q hx hQ H locs lsA hR hL hl
  · have hc2 : ¬ (b ≤ a) := fun q => hc ((i_le hb ha).mpr q)
    rw [if_neg hc2] at hx
    exact g2 hc2 x Q hx hQ H locs lsA hR hL hl
theorem g_icmpgt (X : CX D p R s m args meth c h0 cc own nL ret) {a b : Int} (ha : r32 a) (hb : r32 b) {off : Int} {tgt : Nat} {k2 : Option α} (ht : (pc : Int) + off = (tgt : Int)) (hd : decode cc pc = .ok (.if_icmp .gt off, 3)) (g1 : b < a → G p l e R s m args below meth c D h0 nL Φ tgt ls st h k) (g2 : ¬ (b < a) → G p l e R s m args below meth c D h0 nL Φ (pc + 3) ls st h k2) : G p l e R s m args below meth c D h0 nL Φ pc ls (iv b :: iv a :: st) h (if b < a then k else k2) := by
  intro x Q hx hQ H locs lsA hR hL hl
  refine lv_icmp_gt X.1 X.2.1 hd ht (fun hc => ?_) (fun hc => ?_)
  · have hc2 : b < a := (i_lt hb ha).mp hc
    rw [if_pos hc2] at hx
    exact g1 hc2 x Q hx hQ H locs lsA hR hL hl
  · have hc2 : ¬ (b < a) := fun q => hc ((i_lt hb ha).mpr q)
    rw [if_neg hc2] at hx
    exact g2 hc2 x Q hx hQ H locs lsA hR hL hl
theorem g_icmple (X : CX D p R s m args meth c h0 cc own nL ret) {a b : Int} (ha : r32 a) (hb : r32 b) {off : Int} {tgt : Nat} {k2 : Option α} (ht : (pc : Int) + off = (tgt : Int)) (hd : decode cc pc = .ok (.if_icmp .le off, 3)) (g1 : a ≤ b → G p l e R s m args below meth c D h0 nL Φ tgt ls st h k) (g2 : ¬ (a ≤ b) → G p l e R s m args below meth c D h0 nL Φ (pc + 3) ls st h k2) : G p l e R s m args below meth c D h0 nL Φ pc ls (iv b :: iv a :: st) h (if a ≤ b then k else k2) := by
  intro x Q hx hQ H locs lsA hR hL hl
  refine lv_icmp_le X.1 X.2.1 hd ht (fun hc => ?_) (fun hc => ?_)
  · have hc2 : a ≤ b := (i_le ha hb).mp hc
    rw [if_pos hc2] at hx
    exact g1 hc2 x Q hx hQ H locs lsA hR hL hl
  · have hc2 : ¬ (a ≤ b) := fun q => hc ((i_le ha hb).mpr q)
    rw [if_neg hc2] at hx
    exact g2 hc2 x Q hx hQ H locs lsA hR hL hl
theorem lv_keep1 {lsA : Array Slot} {i : Nat} {v : Value} {ls rest : List (Nat × Value)} (ks : List Nat) (hks : lv_pick ls ks = rest) (hne : rest.all (fun q => q.1 != i && q.1 + 1 != i) = true) (h : lv_has lsA nL ((i, v) :: ls.filter (fun q => !(q.1 == i) && !(q.1 + 1 == i && q.2.category == 2)))) : lv_has lsA nL ((i, v) :: rest) := by
  refine ⟨h.1, h.2.1, fun q hq => ?_⟩
  rcases List.mem_cons.mp hq with rfl | hq
  · exact h.2.2 _ List.mem_cons_self
  · have h1 := List.all_eq_true.mp hne q hq
    simp only [bne_iff_ne, ne_eq, Bool.and_eq_true] at h1
    rw [← hks] at hq
    obtain ⟨k, -, hk⟩ := List.mem_filterMap.mp hq
    refine h.2.2 q (List.mem_cons_of_mem _ (List.mem_filter.mpr ⟨List.mem_of_getElem? hk, ?_⟩))
    simp [h1.1, h1.2]
theorem lv_keepN {lsA : Array Slot} {i j : Nat} {v w : Value} {ls rest : List (Nat × Value)} (ks : List Nat) (hks : lv_pick ls ks = (j, w) :: rest) (hj : j ≠ i) (hw : w.category = 1) (hne : rest.all (fun q => q.1 != i && q.1 + 1 != i) = true) (h : lv_has lsA nL ((i, v) :: ls.filter (fun q => !(q.1 == i) && !(q.1 + 1 == i && q.2.category == 2)))) : lv_has lsA nL ((i, v) :: (j, w) :: rest) := by
  refine ⟨h.1, h.2.1, fun q hq => ?_⟩
  rcases List.mem_cons.mp hq with rfl | hq
  · exact h.2.2 _ List.mem_cons_self
  · have hin : q ∈ ls := by
      rw [← hks] at hq
      obtain ⟨k, -, hk⟩ := List.mem_filterMap.mp hq
      exact List.mem_of_getElem? hk
    refine h.2.2 q (List.mem_cons_of_mem _ (List.mem_filter.mpr ⟨hin, ?_⟩))
    rcases List.mem_cons.mp hq with rfl | hq
    · simp [hj, hw]
    · have h1 := List.all_eq_true.mp hne q hq
      simp only [bne_iff_ne, ne_eq, Bool.and_eq_true] at h1
      simp [h1.1, h1.2]
theorem lv_keep2 {lsA : Array Slot} {i : Nat} {v : Value} {ls rest : List (Nat × Value)} (ks : List Nat) (hks : lv_pick ls ks = rest) (hne : rest.all (fun q => q.1 != i && (q.1 != i + 1 && q.1 + 1 != i)) = true) (h : lv_has lsA nL ((i, v) :: ls.filter (fun q => !(q.1 == i) && (!(q.1 == i + 1) && !(q.1 + 1 == i && q.2.category == 2))))) : lv_has lsA nL ((i, v) :: rest) := by
  refine ⟨h.1, h.2.1, fun q hq => ?_⟩
  rcases List.mem_cons.mp hq with rfl | hq
  · exact h.2.2 _ List.mem_cons_self
  · have h1 := List.all_eq_true.mp hne q hq
    simp only [bne_iff_ne, ne_eq, Bool.and_eq_true] at h1
    rw [← hks] at hq
    obtain ⟨k, -, hk⟩ := List.mem_filterMap.mp hq
    refine h.2.2 q (List.mem_cons_of_mem _ (List.mem_filter.mpr ⟨List.mem_of_getElem? hk, ?_⟩))
    simp [h1.1, h1.2.1, h1.2.2]
theorem lv_keep2N {lsA : Array Slot} {i j : Nat} {v w : Value} {ls rest : List (Nat × Value)} (ks : List Nat) (hks : lv_pick ls ks = (j, w) :: rest) (hj : j ≠ i) (hj2 : j ≠ i + 1) (hw : w.category = 1) (hne : rest.all (fun q => q.1 != i && (q.1 != i + 1 && q.1 + 1 != i)) = true) (h : lv_has lsA nL ((i, v) :: ls.filter (fun q => !(q.1 == i) && (!(q.1 == i + 1) && !(q.1 + 1 == i && q.2.category == 2))))) : lv_has lsA nL ((i, v) :: (j, w) :: rest) := by
  refine ⟨h.1, h.2.1, fun q hq => ?_⟩
  rcases List.mem_cons.mp hq with rfl | hq
  · exact h.2.2 _ List.mem_cons_self
  · have hin : q ∈ ls := by
      rw [← hks] at hq
      obtain ⟨k, -, hk⟩ := List.mem_filterMap.mp hq
      exact List.mem_of_getElem? hk
    refine h.2.2 q (List.mem_cons_of_mem _ (List.mem_filter.mpr ⟨hin, ?_⟩))
    rcases List.mem_cons.mp hq with rfl | hq
    · simp [hj, hj2, hw]
    · have h1 := List.all_eq_true.mp hne q hq
      simp only [bne_iff_ne, ne_eq, Bool.and_eq_true] at h1
      simp [h1.1, h1.2.1, h1.2.2]
theorem rv_cat {a : Int} : (rv D a).category = 1 := by unfold rv; split <;> rfl
theorem g_istore_n (X : CX D p R s m args meth c h0 cc own nL ret) {i : Nat} {x : Int} {rest : List (Nat × Value)} {j : Fin 4} (hi : (j : Nat) = i) (hn : i < nL) (ks : List Nat) (hks : lv_pick ls ks = rest) (hne : rest.all (fun q => q.1 != i && q.1 + 1 != i) = true) (hd : decode cc pc = .ok (.istore_n j, 1)) (g : G p l e R s m args below meth c D h0 nL Φ (pc + 1) ((i, iv x) :: rest) st h k) : G p l e R s m args below meth c D h0 nL Φ pc ls (iv x :: st) h k :=
  G.lift (fun Q a H locs lsA hR hL hl => by exact lv_istore_n X.1 X.2.1 hd hi hl hn rfl (fun lsB hlB => a H locs lsB hR hL (lv_keep1 ks hks hne hlB))) g
theorem g_istore_nN (X : CX D p R s m args meth c h0 cc own nL ret) {i : Nat} {x : Int} {rest : List (Nat × Value)} {b : Nat} {w : Value} {j : Fin 4} (hi : (j : Nat) = i) (hn : i < nL) (ks : List Nat) (hks : lv_pick ls ks = (b, w) :: rest) (hb : b ≠ i) (hw : w.category = 1) (hne : rest.all (fun q => q.1 != i && q.1 + 1 != i) = true) (hd : decode cc pc = .ok (.istore_n j, 1)) (g : G p l e R s m args below meth c D h0 nL Φ (pc + 1) ((i, iv x) :: (b, w) :: rest) st h k) : G p l e R s m args below meth c D h0 nL Φ pc ls (iv x :: st) h k :=
  G.lift (fun Q a H locs lsA hR hL hl => by exact lv_istore_n X.1 X.2.1 hd hi hl hn rfl (fun lsB hlB => a H locs lsB hR hL (lv_keepN ks hks hb hw hne hlB))) g
theorem g_istore (X : CX D p R s m args meth c h0 cc own nL ret) {i : Nat} {x : Int} {rest : List (Nat × Value)} (hn : i < nL) (ks : List Nat) (hks : lv_pick ls ks = rest) (hne : rest.all (fun q => q.1 != i && q.1 + 1 != i) = true) (hd : decode cc pc = .ok (.istore i, 2)) (g : G p l e R s m args below meth c D h0 nL Φ (pc + 2) ((i, iv x) :: rest) st h k) : G p l e R s m args below meth c D h0 nL Φ pc ls (iv x :: st) h k :=
  G.lift (fun Q a H locs lsA hR hL hl => by exact lv_istore X.1 X.2.1 hd hl hn rfl (fun lsB hlB => a H locs lsB hR hL (lv_keep1 ks hks hne hlB))) g
theorem g_istoreN (X : CX D p R s m args meth c h0 cc own nL ret) {i : Nat} {x : Int} {rest : List (Nat × Value)} {b : Nat} {w : Value} (hn : i < nL) (ks : List Nat) (hks : lv_pick ls ks = (b, w) :: rest) (hb : b ≠ i) (hw : w.category = 1) (hne : rest.all (fun q => q.1 != i && q.1 + 1 != i) = true) (hd : decode cc pc = .ok (.istore i, 2)) (g : G p l e R s m args below meth c D h0 nL Φ (pc + 2) ((i, iv x) :: (b, w) :: rest) st h k) : G p l e R s m args below meth c D h0 nL Φ pc ls (iv x :: st) h k :=
  G.lift (fun Q a H locs lsA hR hL hl => by exact lv_istore X.1 X.2.1 hd hl hn rfl (fun lsB hlB => a H locs lsB hR hL (lv_keepN ks hks hb hw hne hlB))) g
theorem g_lstore_n (X : CX D p R s m args meth c h0 cc own nL ret) {i : Nat} {x : Int} {rest : List (Nat × Value)} {j : Fin 4} (hi : (j : Nat) = i) (hn : i + 1 < nL) (ks : List Nat) (hks : lv_pick ls ks = rest) (hne : rest.all (fun q => q.1 != i && (q.1 != i + 1 && q.1 + 1 != i)) = true) (hd : decode cc pc = .ok (.lstore_n j, 1)) (g : G p l e R s m args below meth c D h0 nL Φ (pc + 1) ((i, jv x) :: rest) st h k) : G p l e R s m args below meth c D h0 nL Φ pc ls (jv x :: st) h k :=
  G.lift (fun Q a H locs lsA hR hL hl => by exact lv_lstore_n X.1 X.2.1 hd hi hl hn rfl (fun lsB hlB => a H locs lsB hR hL (lv_keep2 ks hks hne hlB))) g
theorem g_lstore_nN (X : CX D p R s m args meth c h0 cc own nL ret) {i : Nat} {x : Int} {rest : List (Nat × Value)} {b : Nat} {w : Value} {j : Fin 4} (hi : (j : Nat) = i) (hn : i + 1 < nL) (ks : List Nat) (hks : lv_pick ls ks = (b, w) :: rest) (hb : b ≠ i) (hb2 : b ≠ i + 1) (hw : w.category = 1) (hne : rest.all (fun q => q.1 != i && (q.1 != i + 1 && q.1 + 1 != i)) = true) (hd : decode cc pc = .ok (.lstore_n j, 1)) (g : G p l e R s m args below meth c D h0 nL Φ (pc + 1) ((i, jv x) :: (b, w) :: rest) st h k) : G p l e R s m args below meth c D h0 nL Φ pc ls (jv x :: st) h k :=
  G.lift (fun Q a H locs lsA hR hL hl => by exact lv_lstore_n X.1 X.2.1 hd hi hl hn rfl (fun lsB hlB => a H locs lsB hR hL (lv_keep2N ks hks hb hb2 hw hne hlB))) g
theorem g_lstore (X : CX D p R s m args meth c h0 cc own nL ret) {i : Nat} {x : Int} {rest : List (Nat × Value)} (hn : i + 1 < nL) (ks : List Nat) (hks : lv_pick ls ks = rest) (hne : rest.all (fun q => q.1 != i && (q.1 != i + 1 && q.1 + 1 != i)) = true) (hd : decode cc pc = .ok (.lstore i, 2)) (g : G p l e R s m args below meth c D h0 nL Φ (pc + 2) ((i, jv x) :: rest) st h k) : G p l e R s m args below meth c D h0 nL Φ pc ls (jv x :: st) h k :=
  G.lift (fun Q a H locs lsA hR hL hl => by exact lv_lstore X.1 X.2.1 hd hl hn rfl (fun lsB hlB => a H locs lsB hR hL (lv_keep2 ks hks hne hlB))) g
theorem g_lstoreN (X : CX D p R s m args meth c h0 cc own nL ret) {i : Nat} {x : Int} {rest : List (Nat × Value)} {b : Nat} {w : Value} (hn : i + 1 < nL) (ks : List Nat) (hks : lv_pick ls ks = (b, w) :: rest) (hb : b ≠ i) (hb2 : b ≠ i + 1) (hw : w.category = 1) (hne : rest.all (fun q => q.1 != i && (q.1 != i + 1 && q.1 + 1 != i)) = true) (hd : decode cc pc = .ok (.lstore i, 2)) (g : G p l e R s m args below meth c D h0 nL Φ (pc + 2) ((i, jv x) :: (b, w) :: rest) st h k) : G p l e R s m args below meth c D h0 nL Φ pc ls (jv x :: st) h k :=
  G.lift (fun Q a H locs lsA hR hL hl => by exact lv_lstore X.1 X.2.1 hd hl hn rfl (fun lsB hlB => a H locs lsB hR hL (lv_keep2N ks hks hb hb2 hw hne hlB))) g
theorem g_astore_n (X : CX D p R s m args meth c h0 cc own nL ret) {i : Nat} {x : Int} {rest : List (Nat × Value)} {j : Fin 4} (hi : (j : Nat) = i) (hn : i < nL) (ks : List Nat) (hks : lv_pick ls ks = rest) (hne : rest.all (fun q => q.1 != i && q.1 + 1 != i) = true) (hd : decode cc pc = .ok (.astore_n j, 1)) (g : G p l e R s m args below meth c D h0 nL Φ (pc + 1) ((i, rv D x) :: rest) st h k) : G p l e R s m args below meth c D h0 nL Φ pc ls (rv D x :: st) h k :=
  G.lift (fun Q a H locs lsA hR hL hl => by
    by_cases hx0 : x = 0
    · subst hx0
      rw [rv_null] at *
      exact lv_astore_nN X.1 X.2.1 hd hi hl hn rfl (fun lsB hlB => a H locs lsB hR hL (lv_keep1 ks hks hne hlB))
    · rw [rv_ref hx0] at *
      exact lv_astore_n X.1 X.2.1 hd hi hl hn rfl (fun lsB hlB => a H locs lsB hR hL (lv_keep1 ks hks hne hlB))) g
theorem g_astore_nN (X : CX D p R s m args meth c h0 cc own nL ret) {i : Nat} {x : Int} {rest : List (Nat × Value)} {b : Nat} {w : Value} {j : Fin 4} (hi : (j : Nat) = i) (hn : i < nL) (ks : List Nat) (hks : lv_pick ls ks = (b, w) :: rest) (hb : b ≠ i) (hw : w.category = 1) (hne : rest.all (fun q => q.1 != i && q.1 + 1 != i) = true) (hd : decode cc pc = .ok (.astore_n j, 1)) (g : G p l e R s m args below meth c D h0 nL Φ (pc + 1) ((i, rv D x) :: (b, w) :: rest) st h k) : G p l e R s m args below meth c D h0 nL Φ pc ls (rv D x :: st) h k :=
  G.lift (fun Q a H locs lsA hR hL hl => by
    by_cases hx0 : x = 0
    · subst hx0
      rw [rv_null] at *
      exact lv_astore_nN X.1 X.2.1 hd hi hl hn rfl (fun lsB hlB => a H locs lsB hR hL (lv_keepN ks hks hb hw hne hlB))
    · rw [rv_ref hx0] at *
      exact lv_astore_n X.1 X.2.1 hd hi hl hn rfl (fun lsB hlB => a H locs lsB hR hL (lv_keepN ks hks hb hw hne hlB))) g
theorem g_astore (X : CX D p R s m args meth c h0 cc own nL ret) {i : Nat} {x : Int} {rest : List (Nat × Value)} (hn : i < nL) (ks : List Nat) (hks : lv_pick ls ks = rest) (hne : rest.all (fun q => q.1 != i && q.1 + 1 != i) = true) (hd : decode cc pc = .ok (.astore i, 2)) (g : G p l e R s m args below meth c D h0 nL Φ (pc + 2) ((i, rv D x) :: rest) st h k) : G p l e R s m args below meth c D h0 nL Φ pc ls (rv D x :: st) h k :=
  G.lift (fun Q a H locs lsA hR hL hl => by
    by_cases hx0 : x = 0
    · subst hx0
      rw [rv_null] at *
      exact lv_astoreN X.1 X.2.1 hd hl hn rfl (fun lsB hlB => a H locs lsB hR hL (lv_keep1 ks hks hne hlB))
    · rw [rv_ref hx0] at *
      exact lv_astore X.1 X.2.1 hd hl hn rfl (fun lsB hlB => a H locs lsB hR hL (lv_keep1 ks hks hne hlB))) g
theorem g_astoreN (X : CX D p R s m args meth c h0 cc own nL ret) {i : Nat} {x : Int} {rest : List (Nat × Value)} {b : Nat} {w : Value} (hn : i < nL) (ks : List Nat) (hks : lv_pick ls ks = (b, w) :: rest) (hb : b ≠ i) (hw : w.category = 1) (hne : rest.all (fun q => q.1 != i && q.1 + 1 != i) = true) (hd : decode cc pc = .ok (.astore i, 2)) (g : G p l e R s m args below meth c D h0 nL Φ (pc + 2) ((i, rv D x) :: (b, w) :: rest) st h k) : G p l e R s m args below meth c D h0 nL Φ pc ls (rv D x :: st) h k :=
  G.lift (fun Q a H locs lsA hR hL hl => by
    by_cases hx0 : x = 0
    · subst hx0
      rw [rv_null] at *
      exact lv_astoreN X.1 X.2.1 hd hl hn rfl (fun lsB hlB => a H locs lsB hR hL (lv_keepN ks hks hb hw hne hlB))
    · rw [rv_ref hx0] at *
      exact lv_astore X.1 X.2.1 hd hl hn rfl (fun lsB hlB => a H locs lsB hR hL (lv_keepN ks hks hb hw hne hlB))) g
theorem g_aload_n (X : CX D p R s m args meth c h0 cc own nL ret) {j : Fin 4} {i q : Nat} {x : Int} (hi : (j : Nat) = i) (hq : ls[q]? = some (i, rv D x)) (hd : decode cc pc = .ok (.aload_n j, 1)) (g : G p l e R s m args below meth c D h0 nL Φ (pc + 1) ls (rv D x :: st) h k) : G p l e R s m args below meth c D h0 nL Φ pc ls st h k :=
  G.lift (fun Q a H locs lsA hR hL hl => by
    have hat := lv_at hl q hq
    have a2 := a H locs lsA hR hL hl
    by_cases hx0 : x = 0
    · subst hx0
      rw [rv_null] at hat a2
      exact lv_aload_nN X.1 X.2.1 hd hi hat a2
    · rw [rv_ref hx0] at hat a2
      exact lv_aload_n X.1 X.2.1 hd hi hat a2) g
theorem g_aload (X : CX D p R s m args meth c h0 cc own nL ret) {i q : Nat} {x : Int} (hq : ls[q]? = some (i, rv D x)) (hd : decode cc pc = .ok (.aload i, 2)) (g : G p l e R s m args below meth c D h0 nL Φ (pc + 2) ls (rv D x :: st) h k) : G p l e R s m args below meth c D h0 nL Φ pc ls st h k :=
  G.lift (fun Q a H locs lsA hR hL hl => by
    have hat := lv_at hl q hq
    have a2 := a H locs lsA hR hL hl
    by_cases hx0 : x = 0
    · subst hx0
      rw [rv_null] at hat a2
      exact lv_aloadN X.1 X.2.1 hd hat a2
    · rw [rv_ref hx0] at hat a2
      exact lv_aload X.1 X.2.1 hd hat a2) g
theorem g_iinc (X : CX D p R s m args meth c h0 cc own nL ret) {i q : Nat} {n x : Int} {rest : List (Nat × Value)} (hq : ls[q]? = some (i, iv x)) (hx : r32 x) (hnr : r32 n) (hn : i < nL) (ks : List Nat) (hks : lv_pick ls ks = rest) (hne : rest.all (fun q => q.1 != i && q.1 + 1 != i) = true) (hd : decode cc pc = .ok (.iinc i n, 3)) (g : G p l e R s m args below meth c D h0 nL Φ (pc + 3) ((i, iv (w32 (x + n))) :: rest) st h k) : G p l e R s m args below meth c D h0 nL Φ pc ls st h k :=
  G.lift (fun Q a H locs lsA hR hL hl => lv_iinc X.1 X.2.1 hd hl hq (i_add hx hnr) hn rfl (fun lsB hlB => a H locs lsB hR hL (lv_keep1 ks hks hne hlB))) g
theorem g_iincN (X : CX D p R s m args meth c h0 cc own nL ret) {i q : Nat} {n x : Int} {rest : List (Nat × Value)} {b : Nat} {w : Value} (hq : ls[q]? = some (i, iv x)) (hx : r32 x) (hnr : r32 n) (hn : i < nL) (ks : List Nat) (hks : lv_pick ls ks = (b, w) :: rest) (hb : b ≠ i) (hw : w.category = 1) (hne : rest.all (fun q => q.1 != i && q.1 + 1 != i) = true) (hd : decode cc pc = .ok (.iinc i n, 3)) (g : G p l e R s m args below meth c D h0 nL Φ (pc + 3) ((i, iv (w32 (x + n))) :: (b, w) :: rest) st h k) : G p l e R s m args below meth c D h0 nL Φ pc ls st h k :=
  G.lift (fun Q a H locs lsA hR hL hl => lv_iinc X.1 X.2.1 hd hl hq (i_add hx hnr) hn rfl (fun lsB hlB => a H locs lsB hR hL (lv_keepN ks hks hb hw hne hlB))) g
end GR
