set_option maxRecDepth 100000
/-! the classes whose objects are pictured: name, fields, how many of them are pictured, their types, slots of an object -/
def TX26e : u_T := fun k => match k with | 0 => ("ScholarsPress$Broken", "place", "I", true) | _ => ("java/lang/Throwable", "backtrace", "Ljava/lang/Object;", false)
def tyX26e : Nat → FieldType := fun k => match k with | 0 => .int | _ => .object "java/lang/Object"
def TX27e : u_T := fun k => match k with | 0 => ("ScholarsPressModel$Broken", "place", "I", true) | _ => ("java/lang/Throwable", "backtrace", "Ljava/lang/Object;", false)
def tyX27e : Nat → FieldType := fun k => match k with | 0 => .int | _ => .object "java/lang/Object"
def TX29e : u_T := fun _ => ("java/lang/Throwable", "backtrace", "Ljava/lang/Object;", false)
def tyX29e : Nat → FieldType := fun _ => .object "java/lang/Object"
def TJ3e : u_T := fun _ => ("java/lang/Throwable", "backtrace", "Ljava/lang/Object;", false)
def tyJ3e : Nat → FieldType := fun _ => .object "java/lang/Object"
def TJ6e : u_T := fun _ => ("java/lang/Throwable", "backtrace", "Ljava/lang/Object;", false)
def tyJ6e : Nat → FieldType := fun _ => .object "java/lang/Object"
def TJ10e : u_T := fun _ => ("java/lang/Throwable", "backtrace", "Ljava/lang/Object;", false)
def tyJ10e : Nat → FieldType := fun _ => .object "java/lang/Object"
def TJ11e : u_T := fun _ => ("java/lang/Throwable", "backtrace", "Ljava/lang/Object;", false)
def tyJ11e : Nat → FieldType := fun _ => .object "java/lang/Object"
def TJ12e : u_T := fun _ => ("java/lang/Throwable", "backtrace", "Ljava/lang/Object;", false)
def tyJ12e : Nat → FieldType := fun _ => .object "java/lang/Object"
def TJ14e : u_T := fun _ => ("java/lang/Throwable", "backtrace", "Ljava/lang/Object;", false)
def tyJ14e : Nat → FieldType := fun _ => .object "java/lang/Object"
abbrev CE : Type := String × u_T × Nat × (Nat → FieldType) × Nat
def clT : List CE := [(RX1, TX1, 23, tyX1, 23), (RX2, TX2, 8, tyX2, 8), (RX3, TX3, 29, tyX3, 29), (RX4, TX4, 6, tyX4, 6), (RX5, TX5, 2, tyX5, 2), (RX6, TX6, 30, tyX6, 30), (RX7, TX7, 21, tyX7, 21), (RX8, TX8, 5, tyX8, 5), (RX9, TX9, 19, tyX9, 19), (RX10, TX10, 19, tyX10, 19), (RX11, TX11, 3, tyX11, 3), (RX12, TX12, 7, tyX12, 7), (RX13, TX13, 4, tyX13, 4), (RX14, TX14, 67, tyX14, 67), (RX15, TX15, 16, tyX15, 16), (RX16, TX16, 10, tyX16, 10), (RX17, TX17, 3, tyX17, 3), (RX28, TX28, 21, tyX28, 21), (RX18, TX18, 23, tyX18, 23), (RX19, TX19, 9, tyX19, 9), (RX20, TX20, 8, tyX20, 8), (RX21, TX21, 14, tyX21, 14), (RX22, TX22, 28, tyX22, 28), (RX23, TX23, 28, tyX23, 28), (RX24, TX24, 30, tyX24, 30), (RX25, TX25, 141, tyX25, 141), (RX26, TX26e, 2, tyX26e, 7), (RX27, TX27e, 2, tyX27e, 7), (RX29, TX29e, 1, tyX29e, 6), (RJ3, TJ3e, 1, tyJ3e, 6), (RJ6, TJ6e, 1, tyJ6e, 6), (RJ10, TJ10e, 1, tyJ10e, 6), (RJ11, TJ11e, 1, tyJ11e, 6), (RJ12, TJ12e, 1, tyJ12e, 6), (RJ14, TJ14e, 1, tyJ14e, 6)]
/-- what is known of each: the words of its fields, their names apart, their types -/
def CEok (q : CE) : Prop := (∀ w ∈ u_ws q.1 q.2.1 q.2.2.1, w ∈ lw_all) ∧ (∀ a, a < q.2.2.1 → ∀ b, b < q.2.2.1 → a ≠ b → (q.2.1 a).2.1 ≠ (q.2.1 b).2.1) ∧ (∀ k, k < q.2.2.1 → parseFieldDescriptor (q.2.1 k).2.2.1 = some (q.2.2.2.1 k)) ∧ Cond.instantiable q.1 q.2.2.2.2 ∈ lw_all ∧ Cond.initialized q.1 ∈ lw_all
theorem okX1 : CEok (RX1, TX1, 23, tyX1, 23) := ⟨in_X1, nmX1, tyX1_ok, q401, q355⟩
theorem okX2 : CEok (RX2, TX2, 8, tyX2, 8) := ⟨in_X2, nmX2, tyX2_ok, q409, q356⟩
theorem okX3 : CEok (RX3, TX3, 29, tyX3, 29) := ⟨in_X3, nmX3, tyX3_ok, q452, q357⟩
theorem okX4 : CEok (RX4, TX4, 6, tyX4, 6) := ⟨in_X4, nmX4, tyX4_ok, q458, q358⟩
theorem okX5 : CEok (RX5, TX5, 2, tyX5, 2) := ⟨in_X5, nmX5, tyX5_ok, q494, q359⟩
theorem okX6 : CEok (RX6, TX6, 30, tyX6, 30) := ⟨in_X6, nmX6, tyX6_ok, q638, q360⟩
theorem okX7 : CEok (RX7, TX7, 21, tyX7, 21) := ⟨in_X7, nmX7, tyX7_ok, q771, q361⟩
theorem okX8 : CEok (RX8, TX8, 5, tyX8, 5) := ⟨in_X8, nmX8, tyX8_ok, q857, q362⟩
theorem okX9 : CEok (RX9, TX9, 19, tyX9, 19) := ⟨in_X9, nmX9, tyX9_ok, q884, q363⟩
theorem okX10 : CEok (RX10, TX10, 19, tyX10, 19) := ⟨in_X10, nmX10, tyX10_ok, q954, q364⟩
theorem okX11 : CEok (RX11, TX11, 3, tyX11, 3) := ⟨in_X11, nmX11, tyX11_ok, q960, q365⟩
theorem okX12 : CEok (RX12, TX12, 7, tyX12, 7) := ⟨in_X12, nmX12, tyX12_ok, q980, q366⟩
theorem okX13 : CEok (RX13, TX13, 4, tyX13, 4) := ⟨in_X13, nmX13, tyX13_ok, q1016, q367⟩
theorem okX14 : CEok (RX14, TX14, 67, tyX14, 67) := ⟨in_X14, nmX14, tyX14_ok, q1116, q368⟩
theorem okX15 : CEok (RX15, TX15, 16, tyX15, 16) := ⟨in_X15, nmX15, tyX15_ok, q1122, q369⟩
theorem okX16 : CEok (RX16, TX16, 10, tyX16, 10) := ⟨in_X16, nmX16, tyX16_ok, q1198, q370⟩
theorem okX17 : CEok (RX17, TX17, 3, tyX17, 3) := ⟨in_X17, nmX17, tyX17_ok, q1470, q371⟩
theorem okX28 : CEok (RX28, TX28, 21, tyX28, 21) := ⟨in_X28, nmX28, tyX28_ok, q2523, q396⟩
theorem okX18 : CEok (RX18, TX18, 23, tyX18, 23) := ⟨in_X18, nmX18, tyX18_ok, q3256, q372⟩
theorem okX19 : CEok (RX19, TX19, 9, tyX19, 9) := ⟨in_X19, nmX19, tyX19_ok, q3262, q373⟩
theorem okX20 : CEok (RX20, TX20, 8, tyX20, 8) := ⟨in_X20, nmX20, tyX20_ok, q3268, q374⟩
theorem okX21 : CEok (RX21, TX21, 14, tyX21, 14) := ⟨in_X21, nmX21, tyX21_ok, q3340, q375⟩
theorem okX22 : CEok (RX22, TX22, 28, tyX22, 28) := ⟨in_X22, nmX22, tyX22_ok, q3391, q376⟩
theorem okX23 : CEok (RX23, TX23, 28, tyX23, 28) := ⟨in_X23, nmX23, tyX23_ok, q3511, q377⟩
theorem okX24 : CEok (RX24, TX24, 30, tyX24, 30) := ⟨in_X24, nmX24, tyX24_ok, q3635, q378⟩
theorem okX25 : CEok (RX25, TX25, 141, tyX25, 141) := ⟨in_X25, nmX25, tyX25_ok, q3754, q379⟩
theorem okX26 : CEok (RX26, TX26e, 2, tyX26e, 7) := ⟨fun w h => by rcases List.mem_cons.mp (show w ∈ [_, _] from h) with h | h; rw [h]; exact q1854; rw [List.mem_singleton.mp h]; exact q1836, by decide +kernel, by decide +kernel, q1827, q391⟩
theorem okX27 : CEok (RX27, TX27e, 2, tyX27e, 7) := ⟨fun w h => by rcases List.mem_cons.mp (show w ∈ [_, _] from h) with h | h; rw [h]; exact q4402; rw [List.mem_singleton.mp h]; exact q4395, by decide +kernel, by decide +kernel, q4388, q392⟩
theorem okX29 : CEok (RX29, TX29e, 1, tyX29e, 6) := ⟨fun w h => by rw [List.mem_singleton.mp (show w ∈ [_] from h)]; exact q4799, fun a (h : a < 1) b (h2 : b < 1) hne => absurd (show a = b by omega) hne, fun _ _ => (by decide +kernel : parseFieldDescriptor "Ljava/lang/Object;" = some (.object "java/lang/Object")), q4792, q397⟩
theorem okJ3 : CEok (RJ3, TJ3e, 1, tyJ3e, 6) := ⟨fun w h => by rw [List.mem_singleton.mp (show w ∈ [_] from h)]; exact q1662, fun a (h : a < 1) b (h2 : b < 1) hne => absurd (show a = b by omega) hne, fun _ _ => (by decide +kernel : parseFieldDescriptor "Ljava/lang/Object;" = some (.object "java/lang/Object")), q1655, q383⟩
theorem okJ6 : CEok (RJ6, TJ6e, 1, tyJ6e, 6) := ⟨fun w h => by rw [List.mem_singleton.mp (show w ∈ [_] from h)]; exact q1698, fun a (h : a < 1) b (h2 : b < 1) hne => absurd (show a = b by omega) hne, fun _ _ => (by decide +kernel : parseFieldDescriptor "Ljava/lang/Object;" = some (.object "java/lang/Object")), q1691, q386⟩
theorem okJ10 : CEok (RJ10, TJ10e, 1, tyJ10e, 6) := ⟨fun w h => by rw [List.mem_singleton.mp (show w ∈ [_] from h)]; exact q1890, fun a (h : a < 1) b (h2 : b < 1) hne => absurd (show a = b by omega) hne, fun _ _ => (by decide +kernel : parseFieldDescriptor "Ljava/lang/Object;" = some (.object "java/lang/Object")), q1883, q390⟩
theorem okJ11 : CEok (RJ11, TJ11e, 1, tyJ11e, 6) := ⟨fun w h => by rw [List.mem_singleton.mp (show w ∈ [_] from h)]; exact q2253, fun a (h : a < 1) b (h2 : b < 1) hne => absurd (show a = b by omega) hne, fun _ _ => (by decide +kernel : parseFieldDescriptor "Ljava/lang/Object;" = some (.object "java/lang/Object")), q2246, q394⟩
theorem okJ12 : CEok (RJ12, TJ12e, 1, tyJ12e, 6) := ⟨fun w h => by rw [List.mem_singleton.mp (show w ∈ [_] from h)]; exact q2268, fun a (h : a < 1) b (h2 : b < 1) hne => absurd (show a = b by omega) hne, fun _ _ => (by decide +kernel : parseFieldDescriptor "Ljava/lang/Object;" = some (.object "java/lang/Object")), q2264, q395⟩
theorem okJ14 : CEok (RJ14, TJ14e, 1, tyJ14e, 6) := ⟨fun w h => by rw [List.mem_singleton.mp (show w ∈ [_] from h)]; exact q3168, fun a (h : a < 1) b (h2 : b < 1) hne => absurd (show a = b by omega) hne, fun _ _ => (by decide +kernel : parseFieldDescriptor "Ljava/lang/Object;" = some (.object "java/lang/Object")), q3161, q399⟩
theorem clT_ok : ∀ q ∈ clT, CEok q := List.forall_mem_cons.mpr ⟨okX1, List.forall_mem_cons.mpr ⟨okX2, List.forall_mem_cons.mpr ⟨okX3, List.forall_mem_cons.mpr ⟨okX4, List.forall_mem_cons.mpr ⟨okX5, List.forall_mem_cons.mpr ⟨okX6, List.forall_mem_cons.mpr ⟨okX7, List.forall_mem_cons.mpr ⟨okX8, List.forall_mem_cons.mpr ⟨okX9, List.forall_mem_cons.mpr ⟨okX10, List.forall_mem_cons.mpr ⟨okX11, List.forall_mem_cons.mpr ⟨okX12, List.forall_mem_cons.mpr ⟨okX13, List.forall_mem_cons.mpr ⟨okX14, List.forall_mem_cons.mpr ⟨okX15, List.forall_mem_cons.mpr ⟨okX16, List.forall_mem_cons.mpr ⟨okX17, List.forall_mem_cons.mpr ⟨okX28, List.forall_mem_cons.mpr ⟨okX18, List.forall_mem_cons.mpr ⟨okX19, List.forall_mem_cons.mpr ⟨okX20, List.forall_mem_cons.mpr ⟨okX21, List.forall_mem_cons.mpr ⟨okX22, List.forall_mem_cons.mpr ⟨okX23, List.forall_mem_cons.mpr ⟨okX24, List.forall_mem_cons.mpr ⟨okX25, List.forall_mem_cons.mpr ⟨okX26, List.forall_mem_cons.mpr ⟨okX27, List.forall_mem_cons.mpr ⟨okX29, List.forall_mem_cons.mpr ⟨okJ3, List.forall_mem_cons.mpr ⟨okJ6, List.forall_mem_cons.mpr ⟨okJ10, List.forall_mem_cons.mpr ⟨okJ11, List.forall_mem_cons.mpr ⟨okJ12, List.forall_mem_cons.mpr ⟨okJ14, fun _ h => absurd h List.not_mem_nil⟩⟩⟩⟩⟩⟩⟩⟩⟩⟩⟩⟩⟩⟩⟩⟩⟩⟩⟩⟩⟩⟩⟩⟩⟩⟩⟩⟩⟩⟩⟩⟩⟩⟩⟩
/-! THE HEAP'S PICTURE: a number for every place of every cell; place -1: the length, place -2: the kind; cell 0: null, and the counts of cells and slots made -/
abbrev Hp : Type := Int → Int → Int
def up (h : Hp) (a i v : Int) : Hp := fun b j => if b = a ∧ j = i then v else h b j
theorem up_s (h : Hp) (a i v : Int) : up h a i v a i = v := if_pos ⟨rfl, rfl⟩
theorem up_a {h : Hp} {a i v b j : Int} (n : b ≠ a) : up h a i v b j = h b j := if_neg fun q => n q.1
theorem up_i {h : Hp} {a i v b j : Int} (n : j ≠ i) : up h a i v b j = h b j := if_neg fun q => n q.2
/-- a new cell of n slots -/
def nw (h : Hp) (kind n : Int) : Hp := fun b j => if b = h 0 0 + 1 then (if j = -2 then kind else if j = -1 then n else 0) else if b = 0 ∧ j = 0 then h 0 0 + 1 else if b = 0 ∧ j = 1 then h 0 1 + n else h b j
/-- what is fixed through a run: where the new cells begin, the elder heap, the classes' numbers and their fields' slots, the array classes' numbers, the script's cell, the constants' cells -/
abbrev SD : Type := Nat × Heap × (Nat → ClassId) × (Nat → Nat → Nat) × (Nat → ClassId) × Nat × (Nat → Nat) × (Nat → Nat)
abbrev SD.base (D : SD) : Nat := D.1
abbrev SD.H0 (D : SD) : Heap := D.2.1
abbrev SD.dC (D : SD) : Nat → ClassId := D.2.2.1
abbrev SD.dI (D : SD) : Nat → Nat → Nat := D.2.2.2.1
abbrev SD.aC (D : SD) : Nat → ClassId := D.2.2.2.2.1
abbrev SD.scr (D : SD) : Nat := D.2.2.2.2.2.1
abbrev SD.sA (D : SD) : Nat → Nat := D.2.2.2.2.2.2.1
abbrev SD.sV (D : SD) : Nat → Nat := D.2.2.2.2.2.2.2
def ph (D : SD) (a : Int) : Nat := if 0 < a then D.base + (a - 1).toNat else if a = -1 then D.scr else D.sA (-2 - a).toNat
theorem ph_pos {D : SD} {a : Int} (h : 0 < a) : ph D a = D.base + (a - 1).toNat := if_pos h
def rv (D : SD) (a : Int) : Value := if a = 0 then .null else .ref (ph D a)
theorem rv_ref {D : SD} {a : Int} (h : a ≠ 0) : rv D a = .ref (ph D a) := if_neg h
theorem rv_null {D : SD} : rv D 0 = .null := if_pos rfl
def fcode : FieldType → Nat
  | .int => 1
  | .byte => 2
  | .boolean => 3
  | .long => 4
  | _ => 5
abbrev iv (x : Int) : Value := .int (Int32.ofInt x)
abbrev jv (x : Int) : Value := .long (Int64.ofInt x)
def tv (D : SD) (t : Nat) (v : Int) : Value := match t with
  | 4 => jv v
  | 5 => rv D v
  | _ => iv v
def tok (t : Nat) (v : Int) : Prop := match t with
  | 1 => r32 v
  | 2 => -128 ≤ v ∧ v < 128
  | 3 => v = 0 ∨ v = 1
  | 4 => r64 v
  | _ => True
def aty : Nat → FieldType := fun t => match t with
  | 1 => .int
  | 2 => .byte
  | 3 => .boolean
  | 4 => .long
  | 5 => .object "ScholarsPress$Style"
  | 6 => .object "ScholarsPress$Source"
  | 7 => .object "ScholarsPress$Tree"
  | 8 => .object "ScholarsPress$Book"
  | _ => .object "ScholarsPress$Paragraph"
/-- an object's slots, and nobody is in its monitor -/
def monOK (H : Heap) (o n : Nat) : Prop := ∀ cell : Cell, H[o]? = some cell → cell.slots.size = n ∧ cell.monitor.owner = none ∧ cell.monitor.count = 0
/-- an object of the class ci of the list: kind 16 * (ci + 1) -/
def objOK (D : SD) (h : Hp) (H : Heap) (a : Int) (ci : Nat) (q : CE) : Prop :=
  clT[ci]? = some q ∧ t_OB (ph D a) (D.dC ci) q.2.2.1 (D.dI ci) H (fun k => tv D (fcode (q.2.2.2.1 k)) (h a k)) ∧ (∀ k : Nat, k < q.2.2.1 → tok (fcode (q.2.2.2.1 k)) (h a k)) ∧ monOK H (ph D a) q.2.2.2.2
/-- an array of the type t: kind 16 * site + t -/
def arrOK (D : SD) (h : Hp) (H : Heap) (a : Int) (t : Nat) : Prop :=
  0 ≤ h a (-1) ∧ h a (-1) < 2147483648 ∧ H[ph D a]? = some (arrV (D.aC t) (h a (-1)).toNat (fun j => tv D (fcode (aty t)) (h a j))) ∧ ∀ j : Nat, j < (h a (-1)).toNat → tok (fcode (aty t)) (h a j)
def cellOK (D : SD) (h : Hp) (H : Heap) (a : Int) : Prop :=
  (∃ (ci : Nat) (q : CE), h a (-2) = 16 * ((ci : Int) + 1) ∧ objOK D h H a ci q) ∨ (∃ (st t : Nat), 1 ≤ t ∧ t ≤ 9 ∧ h a (-2) = 16 * (st : Int) + t ∧ arrOK D h H a t)
def slotSum (H : Heap) (b : Nat) : Nat := ((H.toList.drop b).map (·.slots.size)).sum
def Rel (D : SD) (h : Hp) (H : Heap) : Prop :=
  (0 ≤ h 0 0 ∧ h 0 0 ≤ 130538 ∧ 0 ≤ h 0 1 ∧ h 0 1 ≤ 8696812) ∧ H.size = D.base + (h 0 0).toNat ∧ slotSum H D.base = (h 0 1).toNat ∧ (∀ q, q < D.base → H[q]? = D.H0[q]?) ∧
  ∀ a : Int, h a (-2) ≠ 0 → (1 ≤ a ∧ a ≤ h 0 0) ∧ cellOK D h H a
theorem slotSum_eq {H H' : Heap} {b : Nat} (hs : H'.size = H.size) (hc : ∀ q : Nat, (H'[q]?).map (·.slots.size) = (H[q]?).map (·.slots.size)) : slotSum H' b = slotSum H b := by
  unfold slotSum
  congr 1
  apply List.ext_getElem?
  intro i
  simp only [List.getElem?_map, List.getElem?_drop, Array.getElem?_toList]
  exact hc (b + i)
theorem slotSum_push {H : Heap} {x : Cell} {b : Nat} (hb : b ≤ H.size) : slotSum (H.push x) b = slotSum H b + x.slots.size := by
  unfold slotSum
  rw [Array.toList_push, List.drop_append_of_le_length (by simpa using hb)]
  simp
theorem Rel.obj {D : SD} {h : Hp} {H : Heap} (R : Rel D h H) {a : Int} {ci : Nat} {q : CE} (hk : h a (-2) = 16 * ((ci : Int) + 1)) (hq : clT[ci]? = some q) : objOK D h H a ci q := by
  rcases (R.2.2.2.2 a (by omega)).2 with ⟨c2, q2, e, o⟩ | ⟨st, t, h1, h2, e, o⟩
  · have : c2 = ci := by omega
    subst this
    have : q2 = q := Option.some.inj (o.1.symm.trans hq)
    subst this
    exact o
  · omega
theorem Rel.arr {D : SD} {h : Hp} {H : Heap} (R : Rel D h H) {a : Int} {t : Nat} (h1 : 1 ≤ t) (h2 : t ≤ 9) (hk : h a (-2) % 16 = t) : arrOK D h H a t := by
  rcases (R.2.2.2.2 a (by omega)).2 with ⟨c2, q2, e, o⟩ | ⟨st, t', h1', h2', e, o⟩
  · omega
  · have : t' = t := by omega
    subst this
    exact o
theorem Rel.pos {D : SD} {h : Hp} {H : Heap} (R : Rel D h H) {a : Int} (hk : h a (-2) ≠ 0) : 1 ≤ a ∧ a ≤ h 0 0 := (R.2.2.2.2 a hk).1
/-- cells are apart -/
theorem ph_inj {D : SD} {a b : Int} (ha : 1 ≤ a) (hb : 1 ≤ b) (h : ph D a = ph D b) : a = b := by
  rw [ph_pos (by omega), ph_pos (by omega)] at h
  omega
theorem cellOK.kept {D : SD} {h h' : Hp} {H H' : Heap} {a : Int} (c : cellOK D h H a) (hh : h' a = h a) (hH : H'[ph D a]? = H[ph D a]?) : cellOK D h' H' a := by
  rcases c with ⟨ci, q, e, o1, o2, o3, o5⟩ | ⟨st, t, h1, h2, e, o1, o2, o3, o4⟩
  · exact Or.inl ⟨ci, q, by rw [hh]; exact e, o1, by rw [hh]; exact o2.kept hH, by rw [hh]; exact o3, fun cell hc => o5 cell (hH ▸ hc)⟩
  · refine Or.inr ⟨st, t, h1, h2, by rw [hh]; exact e, by rw [hh]; exact o1, by rw [hh]; exact o2, ?_, by rw [hh]; exact o4⟩
    rw [hh, hH]; exact o3
theorem up_row {h : Hp} {a i v b : Int} (n : b ≠ a) : up h a i v b = h b := by funext j; exact up_a n
/-- a store into a pictured field -/
theorem Rel.putO {D : SD} {h : Hp} {H H' : Heap} (R : Rel D h H) {a : Int} {ci : Nat} {q : CE} (hk : h a (-2) = 16 * ((ci : Int) + 1)) (hq : clT[ci]? = some q) {k : Nat} (hkn : k < q.2.2.1) {v : Int} (hv : tok (fcode (q.2.2.2.1 k)) v)
    (hob : t_OB (ph D a) (D.dC ci) q.2.2.1 (D.dI ci) H' (updV (fun k => tv D (fcode (q.2.2.2.1 k)) (h a k)) k (tv D (fcode (q.2.2.2.1 k)) v)))
    (hz : H'.size = H.size) (ho : ∀ x : Nat, x ≠ ph D a → H'[x]? = H[x]?) (hsl : (H'[ph D a]?).map (·.slots.size) = (H[ph D a]?).map (·.slots.size)) (hmon : monOK H (ph D a) q.2.2.2.2 → monOK H' (ph D a) q.2.2.2.2) : Rel D (up h a k v) H' := by
  have hpos := R.pos (a := a) (by omega)
  have ha0 : (0 : Int) ≠ a := by omega
  obtain ⟨hb, r1, r2, r3, r4⟩ := R
  refine ⟨?_, ?_, ?_, ?_, ?_⟩
  · rw [up_a ha0, up_a ha0]; exact hb
  · rw [up_a ha0, hz]; exact r1
  · rw [up_a ha0, ← r2]
    refine slotSum_eq hz fun x => ?_
    by_cases hx : x = ph D a
    · rw [hx]; exact hsl
    · rw [ho x hx]
  · intro x hx
    rw [ho x ?_]; exact r3 x hx
    rw [ph_pos (by omega)]; omega
  · intro b hb2
    rw [up_a ha0]
    have hk2 : up h a k v b (-2) = h b (-2) := up_i (by omega)
    rw [hk2] at hb2
    obtain ⟨p1, p2⟩ := r4 b hb2
    refine ⟨p1, ?_⟩
    by_cases hba : b = a
    · subst hba
      obtain ⟨o1, o2, o3, o5⟩ := Rel.obj ⟨hb, r1, r2, r3, r4⟩ hk hq
      refine Or.inl ⟨ci, q, by rw [hk2]; exact hk, hq, ?_, ?_, hmon o5⟩
      · refine hob.to fun j hj => ?_
        by_cases hjk : j = k
        · subst hjk; simp [updV, up_s]
        · have : (j : Int) ≠ k := by omega
          simp [updV, hjk, up_i this]
      · intro j hj
        by_cases hjk : j = k
        · subst hjk; rw [up_s]; exact hv
        · rw [up_i (by omega)]; exact o3 j hj
    · refine p2.kept (up_row hba) (ho _ fun e => hba (ph_inj p1.1 hpos.1 e))
/-- a store into what isn't pictured -/
theorem Rel.touch {D : SD} {h : Hp} {H H' : Heap} (R : Rel D h H) {a : Int} {ci : Nat} {q : CE} (hk : h a (-2) = 16 * ((ci : Int) + 1)) (hq : clT[ci]? = some q)
    (hob : t_OB (ph D a) (D.dC ci) q.2.2.1 (D.dI ci) H' (fun k => tv D (fcode (q.2.2.2.1 k)) (h a k)))
    (hz : H'.size = H.size) (ho : ∀ x : Nat, x ≠ ph D a → H'[x]? = H[x]?) (hsl : (H'[ph D a]?).map (·.slots.size) = (H[ph D a]?).map (·.slots.size)) (hmon : monOK H (ph D a) q.2.2.2.2 → monOK H' (ph D a) q.2.2.2.2) : Rel D h H' := by
  have hpos := R.pos (a := a) (by omega)
  obtain ⟨hb, r1, r2, r3, r4⟩ := R
  refine ⟨hb, by rw [hz]; exact r1, ?_, ?_, ?_⟩
  · rw [← r2]
    refine slotSum_eq hz fun x => ?_
    by_cases hx : x = ph D a
    · rw [hx]; exact hsl
    · rw [ho x hx]
  · intro x hx
    rw [ho x ?_]; exact r3 x hx
    rw [ph_pos (by omega)]; omega
  · intro b hb2
    obtain ⟨p1, p2⟩ := r4 b hb2
    refine ⟨p1, ?_⟩
    by_cases hba : b = a
    · subst hba
      obtain ⟨o1, o2, o3, o5⟩ := Rel.obj ⟨hb, r1, r2, r3, r4⟩ hk hq
      exact Or.inl ⟨ci, q, hk, hq, hob, o3, hmon o5⟩
    · exact p2.kept rfl (ho _ fun e => hba (ph_inj p1.1 hpos.1 e))
/-- a store into an array -/
theorem Rel.putA {D : SD} {h : Hp} {H H' : Heap} (R : Rel D h H) {a : Int} {t : Nat} (h1 : 1 ≤ t) (h2 : t ≤ 9) (hk : h a (-2) % 16 = t) {i v : Int} (hi : 0 ≤ i) (hv : tok (fcode (aty t)) v)
    (hob : H'[ph D a]? = some (arrV (D.aC t) (h a (-1)).toNat (updV (fun j => tv D (fcode (aty t)) (h a j)) i.toNat (tv D (fcode (aty t)) v))))
    (hz : H'.size = H.size) (ho : ∀ x : Nat, x ≠ ph D a → H'[x]? = H[x]?) : Rel D (up h a i v) H' := by
  have hpos := R.pos (a := a) (by omega)
  have ha0 : (0 : Int) ≠ a := by omega
  have hA := R.arr h1 h2 hk
  obtain ⟨hb, r1, r2, r3, r4⟩ := R
  refine ⟨?_, ?_, ?_, ?_, ?_⟩
  · rw [up_a ha0, up_a ha0]; exact hb
  · rw [up_a ha0, hz]; exact r1
  · rw [up_a ha0, ← r2]
    refine slotSum_eq hz fun x => ?_
    by_cases hx : x = ph D a
    · rw [hx, hob, hA.2.2.1]
      simp [arrV_size]
    · rw [ho x hx]
  · intro x hx
    rw [ho x ?_]; exact r3 x hx
    rw [ph_pos (by omega)]; omega
  · intro b hb2
    rw [up_a ha0]
    have hk2 : up h a i v b (-2) = h b (-2) := up_i (by omega)
    rw [hk2] at hb2
    obtain ⟨p1, p2⟩ := r4 b hb2
    refine ⟨p1, ?_⟩
    by_cases hba : b = a
    · subst hba
      rcases p2 with ⟨ci, q, e, o⟩ | ⟨st, t', h1', h2', e, o⟩
      · omega
      · have : t' = t := by omega
        subst this
        have hl : up h b i v b (-1) = h b (-1) := up_i (by omega)
        refine Or.inr ⟨st, t', h1, h2, by rw [hk2]; exact e, by rw [hl]; exact hA.1, by rw [hl]; exact hA.2.1, ?_, ?_⟩
        · rw [hl, hob]
          congr 2
          funext j
          by_cases hj : j = i.toNat
          · have : (j : Int) = i := by omega
            simp [updV, hj]
            rw [show (max i 0 : Int) = i by omega, up_s]
          · have : (j : Int) ≠ i := by omega
            simp [updV, hj, up_i this]
        · intro j hj
          rw [hl] at hj
          by_cases hji : (j : Int) = i
          · rw [hji, up_s]; exact hv
          · rw [up_i hji]; exact hA.2.2.2 j hj
    · refine p2.kept (up_row hba) (ho _ fun e => hba (ph_inj p1.1 hpos.1 e))
