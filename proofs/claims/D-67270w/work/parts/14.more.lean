/-! further rows -/
/-- the bytes of a constant -/
def strB (a : Int) : Option (List Int) := if a ≤ -2 then srB[(-2 - a).toNat]? else none
def x_slen (a : Int) : Option Int := (strB a).map (fun b => (b.length : Int))
def x_sat (a i : Int) : Option Int := if 0 ≤ i then (strB a).bind (fun b => b[i.toNat]?) else none
/-- System.arraycopy between two arrays of one type of numbers -/
def x_acp (a sp b dp n : Int) (h : Hp) : Option Hp := if 1 ≤ h a (-2) % 16 ∧ h a (-2) % 16 ≤ 4 ∧ h b (-2) % 16 = h a (-2) % 16 ∧ 0 ≤ sp ∧ 0 ≤ dp ∧ 0 ≤ n ∧ sp + n ≤ h a (-1) ∧ dp + n ≤ h b (-1) then some (fun c j => if c = b ∧ dp ≤ j ∧ j < dp + n then h a (sp + (j - dp)) else h c j) else none
def max_ (a b : Int) : Int := if a < b then b else a
def min_ (a b : Int) : Int := if b < a then b else a
def abs_ (a : Int) : Int := if 0 ≤ a then a else w32 (0 - a)
theorem r32_max {a b : Int} (ha : r32 a) (hb : r32 b) : r32 (max_ a b) := by unfold max_; split <;> assumption
theorem r64_max {a b : Int} (ha : r64 a) (hb : r64 b) : r64 (max_ a b) := by unfold max_; split <;> assumption
theorem r32_min {a b : Int} (ha : r32 a) (hb : r32 b) : r32 (min_ a b) := by unfold min_; split <;> assumption
theorem r64_min {a b : Int} (ha : r64 a) (hb : r64 b) : r64 (min_ a b) := by unfold min_; split <;> assumption
theorem r32_abs {a : Int} (ha : r32 a) : r32 (abs_ a) := by unfold abs_; split; exact ha; exact r32_w _
section GM
variable {p : Program} {l : Launch} {e : Env} {R : Room} {s : State} {m : MethodId} {args : Array Value} {below : List Frame} {meth : Method} {c : Code} {D : SD} {h0 : Hp} {nL : Nat} {cc : ByteArray} {own : String} {ret : Option FieldType} {pc : Nat} {ls : List (Nat × Value)} {st : List Value} {h : Hp}
variable {α : Type} {Φ : α → (State → Prop) → Prop} {k : Option α}
theorem g_mmax (X : CX D p R s m args meth c h0 cc own nL ret) {x y : Int} {index : Nat} (hx : r32 x) (hy : r32 y) (hlink : Cond.methodLink own index Lib.Math.max.name ∈ lw_all) (hstat : Cond.static Lib.Math.max.name ∈ lw_all) (hini : Cond.initialized "java/lang/Math" ∈ lw_all) (hcode : Cond.code Lib.Math.max.name Lib.Math.max.code 2 (some .int) ∈ lw_all) (hW : (st.map fun v => v.category).sum ≤ 24) (hfr : 1 ≤ R.frames) (hlo : 40 ≤ R.locals) (hd : decode cc pc = .ok (.invokestatic index, 3)) (g : G p l e R s m args below meth c D h0 nL Φ (pc + 3) ls (iv (max_ x y) :: st) h k) : G p l e R s m args below meth c D h0 nL Φ pc ls (iv y :: iv x :: st) h k :=
  G.lift (fun Q a H locs lsA hR hL hl => by
    obtain ⟨b1, b2⟩ := hR.bounds X
    refine va_mmax X.1 X.2.1 (by rw [X.2.2.2.1]; exact hl.1.symm) X.2.2.2.2.1 (X.2.2.2.2.2.1 _ hlink) (X.2.2.2.2.2.1 _ hstat) (X.2.2.2.2.2.1 _ hini) (X.2.2.2.2.2.1 _ hcode) hfr (by omega) b1 b2 hd ?_
    have e1 := a H locs lsA hR hL hl
    unfold max_ at e1
    by_cases hc : x < y
    · rw [if_pos ((i_lt hx hy).mpr hc)]; rw [if_pos hc] at e1; exact e1
    · rw [if_neg (fun z => hc ((i_lt hx hy).mp z))]; rw [if_neg hc] at e1; exact e1) g
theorem g_mmin (X : CX D p R s m args meth c h0 cc own nL ret) {x y : Int} {index : Nat} (hx : r32 x) (hy : r32 y) (hlink : Cond.methodLink own index Lib.Math.min.name ∈ lw_all) (hstat : Cond.static Lib.Math.min.name ∈ lw_all) (hini : Cond.initialized "java/lang/Math" ∈ lw_all) (hcode : Cond.code Lib.Math.min.name Lib.Math.min.code 2 (some .int) ∈ lw_all) (hW : (st.map fun v => v.category).sum ≤ 24) (hfr : 1 ≤ R.frames) (hlo : 40 ≤ R.locals) (hd : decode cc pc = .ok (.invokestatic index, 3)) (g : G p l e R s m args below meth c D h0 nL Φ (pc + 3) ls (iv (min_ x y) :: st) h k) : G p l e R s m args below meth c D h0 nL Φ pc ls (iv y :: iv x :: st) h k :=
  G.lift (fun Q a H locs lsA hR hL hl => by
    obtain ⟨b1, b2⟩ := hR.bounds X
    refine va_mmin X.1 X.2.1 (by rw [X.2.2.2.1]; exact hl.1.symm) X.2.2.2.2.1 (X.2.2.2.2.2.1 _ hlink) (X.2.2.2.2.2.1 _ hstat) (X.2.2.2.2.2.1 _ hini) (X.2.2.2.2.2.1 _ hcode) hfr (by omega) b1 b2 hd ?_
    have e1 := a H locs lsA hR hL hl
    unfold min_ at e1
    by_cases hc : y < x
    · rw [if_pos ((i_lt hy hx).mpr hc)]; rw [if_pos hc] at e1; exact e1
    · rw [if_neg (fun z => hc ((i_lt hy hx).mp z))]; rw [if_neg hc] at e1; exact e1) g
theorem g_mmaxl (X : CX D p R s m args meth c h0 cc own nL ret) {x y : Int} {index : Nat} (hx : r64 x) (hy : r64 y) (hlink : Cond.methodLink own index Lib.MathLoose.max_long.x ∈ lw_all) (hstat : Cond.static Lib.MathLoose.max_long.x ∈ lw_all) (hini : Cond.initialized "java/lang/Math" ∈ lw_all) (hcode : Cond.code Lib.MathLoose.max_long.x Lib.MathLoose.max_long.code 4 (some .long) ∈ lw_all) (hW : (st.map fun v => v.category).sum ≤ 24) (hfr : 1 ≤ R.frames) (hlo : 40 ≤ R.locals) (hd : decode cc pc = .ok (.invokestatic index, 3)) (g : G p l e R s m args below meth c D h0 nL Φ (pc + 3) ls (jv (max_ x y) :: st) h k) : G p l e R s m args below meth c D h0 nL Φ pc ls (jv y :: jv x :: st) h k :=
  G.lift (fun Q a H locs lsA hR hL hl => by
    obtain ⟨b1, b2⟩ := hR.bounds X
    refine va_mmax_long X.1 X.2.1 (by rw [X.2.2.2.1]; exact hl.1.symm) X.2.2.2.2.1 (X.2.2.2.2.2.1 _ hlink) (X.2.2.2.2.2.1 _ hstat) (X.2.2.2.2.2.1 _ hini) (X.2.2.2.2.2.1 _ hcode) hfr (by omega) b1 b2 hd ?_
    have e1 := a H locs lsA hR hL hl
    unfold max_ at e1
    by_cases hc : y < x
    · rw [if_pos ((l_lt hy hx).mpr hc)]; rw [if_neg (by omega)] at e1; exact e1
    · rw [if_neg (fun z => hc ((l_lt hy hx).mp z))]
      by_cases hc2 : x < y
      · rw [if_pos hc2] at e1; exact e1
      · have : x = y := by omega
        subst this; rw [if_neg hc2] at e1; exact e1) g
theorem g_mminl (X : CX D p R s m args meth c h0 cc own nL ret) {x y : Int} {index : Nat} (hx : r64 x) (hy : r64 y) (hlink : Cond.methodLink own index Lib.MathLoose.min_long.x ∈ lw_all) (hstat : Cond.static Lib.MathLoose.min_long.x ∈ lw_all) (hini : Cond.initialized "java/lang/Math" ∈ lw_all) (hcode : Cond.code Lib.MathLoose.min_long.x Lib.MathLoose.min_long.code 4 (some .long) ∈ lw_all) (hW : (st.map fun v => v.category).sum ≤ 24) (hfr : 1 ≤ R.frames) (hlo : 40 ≤ R.locals) (hd : decode cc pc = .ok (.invokestatic index, 3)) (g : G p l e R s m args below meth c D h0 nL Φ (pc + 3) ls (jv (min_ x y) :: st) h k) : G p l e R s m args below meth c D h0 nL Φ pc ls (jv y :: jv x :: st) h k :=
  G.lift (fun Q a H locs lsA hR hL hl => by
    obtain ⟨b1, b2⟩ := hR.bounds X
    refine va_mmin_long X.1 X.2.1 (by rw [X.2.2.2.1]; exact hl.1.symm) X.2.2.2.2.1 (X.2.2.2.2.2.1 _ hlink) (X.2.2.2.2.2.1 _ hstat) (X.2.2.2.2.2.1 _ hini) (X.2.2.2.2.2.1 _ hcode) hfr (by omega) b1 b2 hd ?_
    have e1 := a H locs lsA hR hL hl
    unfold min_ at e1
    by_cases hc : y < x
    · rw [if_pos ((l_lt hy hx).mpr hc)]; rw [if_pos hc] at e1; exact e1
    · rw [if_neg (fun z => hc ((l_lt hy hx).mp z))]; rw [if_neg hc] at e1; exact e1) g
theorem g_mabs (X : CX D p R s m args meth c h0 cc own nL ret) {x : Int} {index : Nat} (hx : r32 x) (hlink : Cond.methodLink own index Lib.Math.abs.name ∈ lw_all) (hstat : Cond.static Lib.Math.abs.name ∈ lw_all) (hini : Cond.initialized "java/lang/Math" ∈ lw_all) (hcode : Cond.code Lib.Math.abs.name Lib.Math.abs.code 1 (some .int) ∈ lw_all) (hW : (st.map fun v => v.category).sum ≤ 24) (hfr : 1 ≤ R.frames) (hlo : 40 ≤ R.locals) (hd : decode cc pc = .ok (.invokestatic index, 3)) (g : G p l e R s m args below meth c D h0 nL Φ (pc + 3) ls (iv (abs_ x) :: st) h k) : G p l e R s m args below meth c D h0 nL Φ pc ls (iv x :: st) h k :=
  G.lift (fun Q a H locs lsA hR hL hl => by
    obtain ⟨b1, b2⟩ := hR.bounds X
    refine va_mabs X.1 X.2.1 (by rw [X.2.2.2.1]; exact hl.1.symm) X.2.2.2.2.1 (X.2.2.2.2.2.1 _ hlink) (X.2.2.2.2.2.1 _ hstat) (X.2.2.2.2.2.1 _ hini) (X.2.2.2.2.2.1 _ hcode) hfr (by omega) b1 b2 hd ?_
    have e1 := a H locs lsA hR hL hl
    unfold abs_ at e1
    have r0 : r32 0 := r32_c rfl
    have z0 : (0 : Int32) ≤ Int32.ofInt x ↔ 0 ≤ x := i_le r0 hx
    have z1 : (0 : Int32) - Int32.ofInt x = Int32.ofInt (w32 (0 - x)) := i_sub r0 hx
    by_cases hc : 0 ≤ x
    · rw [if_pos (z0.mpr hc)]; rw [if_pos hc] at e1; exact e1
    · rw [if_neg (fun z => hc (z0.mp z)), z1]; rw [if_neg hc] at e1; exact e1) g
theorem b_w8 (x : Int) : -128 ≤ w8 x ∧ w8 x < 128 := by unfold w8; omega
theorem r_iinc (X : CX D p R s m args meth c h0 cc own nL ret) {i q : Nat} {n x : Int} {rest : List (Nat × Value)} {f : Int → Option α} (hq : ls[q]? = some (i, iv x)) (hx : r32 x) (hnr : r32 n) (hn : i < nL) (ks : List Nat) (hks : lv_pick ls ks = rest) (hne : rest.all (fun q => q.1 != i && q.1 + 1 != i) = true) (hd : decode cc pc = .ok (.iinc i n, 3)) (g : ∀ y, r32 y → G p l e R s m args below meth c D h0 nL Φ (pc + 3) ((i, iv y) :: rest) st h (f y)) : G p l e R s m args below meth c D h0 nL Φ pc ls st h (lt_ (w32 (x + n)) f) := g_iinc X hq hx hnr hn ks hks hne hd (g _ (r32_w _))
theorem r_iincN (X : CX D p R s m args meth c h0 cc own nL ret) {i q : Nat} {n x : Int} {rest : List (Nat × Value)} {b : Nat} {w : Value} {f : Int → Option α} (hq : ls[q]? = some (i, iv x)) (hx : r32 x) (hnr : r32 n) (hn : i < nL) (ks : List Nat) (hks : lv_pick ls ks = (b, w) :: rest) (hb : b ≠ i) (hw : w.category = 1) (hne : rest.all (fun q => q.1 != i && q.1 + 1 != i) = true) (hd : decode cc pc = .ok (.iinc i n, 3)) (g : ∀ y, r32 y → G p l e R s m args below meth c D h0 nL Φ (pc + 3) ((i, iv y) :: (b, w) :: rest) st h (f y)) : G p l e R s m args below meth c D h0 nL Φ pc ls st h (lt_ (w32 (x + n)) f) := g_iincN X hq hx hnr hn ks hks hb hw hne hd (g _ (r32_w _))
theorem r_iincW (X : CX D p R s m args meth c h0 cc own nL ret) {i q : Nat} {n x : Int} {rest : List (Nat × Value)} {f : Int → Option α} (hq : ls[q]? = some (i, iv x)) (hx : r32 x) (hnr : r32 n) (hn : i < nL) (ks : List Nat) (hks : lv_pick ls ks = rest) (hne : rest.all (fun q => q.1 != i && q.1 + 1 != i) = true) (hd : decode cc pc = .ok (.iinc i n, 6)) (g : ∀ y, r32 y → G p l e R s m args below meth c D h0 nL Φ (pc + 6) ((i, iv y) :: rest) st h (f y)) : G p l e R s m args below meth c D h0 nL Φ pc ls st h (lt_ (w32 (x + n)) f) :=
  G.lift (k := f (w32 (x + n))) (fun Q a H locs lsA hR hL hl => lv_iincW X.1 X.2.1 hd hl hq (i_add hx hnr) hn rfl (fun lsB hlB => a H locs lsB hR hL (lv_keep1 ks hks hne hlB))) (g _ (r32_w _))
theorem r_iincWN (X : CX D p R s m args meth c h0 cc own nL ret) {i q : Nat} {n x : Int} {rest : List (Nat × Value)} {b : Nat} {w : Value} {f : Int → Option α} (hq : ls[q]? = some (i, iv x)) (hx : r32 x) (hnr : r32 n) (hn : i < nL) (ks : List Nat) (hks : lv_pick ls ks = (b, w) :: rest) (hb : b ≠ i) (hw : w.category = 1) (hne : rest.all (fun q => q.1 != i && q.1 + 1 != i) = true) (hd : decode cc pc = .ok (.iinc i n, 6)) (g : ∀ y, r32 y → G p l e R s m args below meth c D h0 nL Φ (pc + 6) ((i, iv y) :: (b, w) :: rest) st h (f y)) : G p l e R s m args below meth c D h0 nL Φ pc ls st h (lt_ (w32 (x + n)) f) :=
  G.lift (k := f (w32 (x + n))) (fun Q a H locs lsA hR hL hl => lv_iincW X.1 X.2.1 hd hl hq (i_add hx hnr) hn rfl (fun lsB hlB => a H locs lsB hR hL (lv_keepN ks hks hb hw hne hlB))) (g _ (r32_w _))
theorem g_ldcw (X : CX D p R s m args meth c h0 cc own nL ret) {index : Nat} {n : Int} (hw : Cond.constant own index (Int32.ofInt n) ∈ lw_all) (hd : decode cc pc = .ok (.ldc_w index, 3)) (g : G p l e R s m args below meth c D h0 nL Φ (pc + 3) ls (iv n :: st) h k) : G p l e R s m args below meth c D h0 nL Φ pc ls st h k :=
  G.lift (fun Q a H locs lsA hR hL hl => lv_ldcw X.1 X.2.1 X.2.2.2.2.1 (X.2.2.2.2.2.1 _ hw) hd (a H locs lsA hR hL hl)) g
theorem r_oinitK (X : CX D p R s m args meth c h0 cc own nL ret) {a K : Int} {index : Nat} (hk : h a (-2) = K) (hK : K ≠ 0) (hlink : Cond.methodLink own index Lib.objectInit ∈ lw_all) (hinst : Cond.instanceMethod Lib.objectInit ∈ lw_all) (hcode : Cond.code Lib.objectInit ⟨#[0xb1]⟩ 1 none ∈ lw_all) (hfr : 1 ≤ R.frames) (hlo : (st.map fun v => v.category).sum + 12 ≤ R.locals) (hd : decode cc pc = .ok (.invokespecial index, 3)) (g : G p l e R s m args below meth c D h0 nL Φ (pc + 3) ls st h k) : G p l e R s m args below meth c D h0 nL Φ pc ls (rv D a :: st) h k :=
  fun x Q hx hQ H locs lsA hR hL hl => r_oinit X (by have := hR.1.pos (a := a) (by rw [hk]; exact hK); omega) hlink hinst hcode hfr hlo hd g x Q hx hQ H locs lsA hR hL hl
theorem la_n {i : Nat} : lv_args i [] = [] := rfl
theorem la_r {i : Nat} {a : Int} {vs : List Value} {r : List (Nat × Value)} (q : lv_args (i + 1) vs = r) : lv_args i (rv D a :: vs) = (i, rv D a) :: r := by
  subst q
  show (i, rv D a) :: lv_args (if (rv D a).category = 2 then i + 2 else i + 1) vs = _
  rw [rv_cat]; rfl
theorem la_i {i : Nat} {a : Int} {vs : List Value} {r : List (Nat × Value)} (q : lv_args (i + 1) vs = r) : lv_args i (iv a :: vs) = (i, iv a) :: r := by rw [← q]; rfl
theorem la_j {i : Nat} {a : Int} {vs : List Value} {r : List (Nat × Value)} (q : lv_args (i + 2) vs = r) : lv_args i (jv a :: vs) = (i, jv a) :: r := by rw [← q]; rfl
theorem ll_n {n : Nat} : (lg_sl []).length ≤ n := Nat.zero_le _
theorem ll_r {n : Nat} {a : Int} {vs : List Value} (q : (lg_sl vs).length ≤ n) : (lg_sl (rv D a :: vs)).length ≤ n + 1 := by
  unfold rv
  split <;> exact Nat.succ_le_succ q
theorem ll_i {n : Nat} {a : Int} {vs : List Value} (q : (lg_sl vs).length ≤ n) : (lg_sl (iv a :: vs)).length ≤ n + 1 := Nat.succ_le_succ q
theorem ll_j {n : Nat} {a : Int} {vs : List Value} (q : (lg_sl vs).length ≤ n) : (lg_sl (jv a :: vs)).length ≤ n + 2 := Nat.succ_le_succ (Nat.succ_le_succ q)
theorem rv_str {k_ : Nat} {id : Int} (hid : -2 - (k_ : Int) = id) : rv D id = .ref (D.sA k_) := by
  subst hid
  rw [rv_ref (by omega)]
  unfold ph
  rw [if_neg (by omega), if_neg (by omega)]
  congr 2
  omega
theorem g_ldcS (X : CX D p R s m args meth c h0 cc own nL ret) {index : Nat} {tx : String} {id : Int} (k_ : Nat) (hw : srT[k_]? = some (own, index, tx)) (hid : -2 - (k_ : Int) = id) (hd : decode cc pc = .ok (.ldc index, 2)) (g : G p l e R s m args below meth c D h0 nL Φ (pc + 2) ls (rv D id :: st) h k) : G p l e R s m args below meth c D h0 nL Φ pc ls st h k :=
  G.lift (fun Q a H locs lsA hR hL hl => by
    have hz := X.2.2.2.2.2.2.1.2.2.2.2.2.1 k_ _ hw
    have a2 := a H locs lsA hR hL hl
    rw [rv_str hid] at a2
    exact va_ldcS X.1 X.2.1 X.2.2.2.2.1 hz hd a2) g
end GM
/-! the externs: members of the JDK, and the constructors of what is thrown -/
/-- exceptions: their constructors; the place of the field backtrace must be null -/
abbrev NoTr (l : Launch) : Prop := Nonempty (PLift (l.stackTraces = false))
theorem noTr {l : Launch} [i : NoTr l] : l.stackTraces = false := i.elim fun x => x.down
def x_init0 (a : Int) (h : Hp) : Option Hp := if h a 0 = 0 then some h else none
def x_broken (a n : Int) (h : Hp) : Option Hp := if h a 1 = 0 then some (up h a 0 n) else none
