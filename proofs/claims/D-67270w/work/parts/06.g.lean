/-! THE JUDGEMENT G: the frame implements the rest of a pure computation -/
/-- words of a kind that doesn't ride in the lists -/
def nwK (w : Cond) : Bool := match w with
  | .fieldLinkNest .. => true
  | .methodLinkNest .. => true
  | .castable .. => true
  | _ => false
def nwT : List Cond := lw_tbl.filter nwK
theorem nw_in {w : Cond} (h : w ∈ lw_tbl) (g : nwK w = true) : w ∈ nwT := List.mem_filter.mpr ⟨h, g⟩
theorem nw_moved {w : Cond} (g : nwK w = true) {s U : State} (hW : s.WarmedH U.vm) (h : va_Nw w s) : va_Nw w U := by
  unfold nwK at g
  split at g
  · exact va_Nw.warmF hW h
  · exact va_Nw.warmM hW h
  · exact va_Nw.warmC hW h
  · cases g
/-! MORE OF THE TABLES: what can be cast to what; the string constants by their places; static fields -/
def csT : List (Nat × String × Bool) := [(26, "ScholarsPress$Broken", true), (26, "ScholarsPressModel$Broken", false), (26, "ScholarsPressModel$Beyond", false), (26, "java/lang/IndexOutOfBoundsException", false), (26, "java/lang/IllegalArgumentException", false), (26, "java/lang/UnsupportedOperationException", true), (26, "java/lang/IllegalStateException", false), (26, "java/lang/ArithmeticException", false), (26, "java/util/NoSuchElementException", false), (27, "ScholarsPress$Broken", false), (27, "ScholarsPressModel$Broken", true), (27, "ScholarsPressModel$Beyond", false), (27, "java/lang/IndexOutOfBoundsException", false), (27, "java/lang/IllegalArgumentException", false), (27, "java/lang/UnsupportedOperationException", false), (27, "java/lang/IllegalStateException", false), (27, "java/lang/ArithmeticException", false), (27, "java/util/NoSuchElementException", false), (28, "ScholarsPress$Broken", false), (28, "ScholarsPressModel$Broken", false), (28, "ScholarsPressModel$Beyond", true), (28, "java/lang/IndexOutOfBoundsException", false), (28, "java/lang/IllegalArgumentException", false), (28, "java/lang/UnsupportedOperationException", false), (28, "java/lang/IllegalStateException", false), (28, "java/lang/ArithmeticException", false), (28, "java/util/NoSuchElementException", false), (29, "ScholarsPress$Broken", false), (29, "ScholarsPressModel$Broken", false), (29, "ScholarsPressModel$Beyond", false), (29, "java/lang/IndexOutOfBoundsException", true), (29, "java/lang/IllegalArgumentException", false), (29, "java/lang/UnsupportedOperationException", false), (29, "java/lang/IllegalStateException", false), (29, "java/lang/ArithmeticException", false), (29, "java/util/NoSuchElementException", false), (30, "ScholarsPress$Broken", false), (30, "ScholarsPressModel$Broken", false), (30, "ScholarsPressModel$Beyond", false), (30, "java/lang/IndexOutOfBoundsException", false), (30, "java/lang/IllegalArgumentException", true), (30, "java/lang/UnsupportedOperationException", false), (30, "java/lang/IllegalStateException", false), (30, "java/lang/ArithmeticException", false), (30, "java/util/NoSuchElementException", false), (31, "ScholarsPress$Broken", false), (31, "ScholarsPressModel$Broken", false), (31, "ScholarsPressModel$Beyond", false), (31, "java/lang/IndexOutOfBoundsException", false), (31, "java/lang/IllegalArgumentException", false), (31, "java/lang/UnsupportedOperationException", true), (31, "java/lang/IllegalStateException", false), (31, "java/lang/ArithmeticException", false), (31, "java/util/NoSuchElementException", false), (32, "ScholarsPress$Broken", false), (32, "ScholarsPressModel$Broken", false), (32, "ScholarsPressModel$Beyond", false), (32, "java/lang/IndexOutOfBoundsException", false), (32, "java/lang/IllegalArgumentException", false), (32, "java/lang/UnsupportedOperationException", false), (32, "java/lang/IllegalStateException", true), (32, "java/lang/ArithmeticException", false), (32, "java/util/NoSuchElementException", false), (33, "ScholarsPress$Broken", false), (33, "ScholarsPressModel$Broken", false), (33, "ScholarsPressModel$Beyond", false), (33, "java/lang/IndexOutOfBoundsException", false), (33, "java/lang/IllegalArgumentException", false), (33, "java/lang/UnsupportedOperationException", false), (33, "java/lang/IllegalStateException", false), (33, "java/lang/ArithmeticException", true), (33, "java/util/NoSuchElementException", false), (34, "ScholarsPress$Broken", false), (34, "ScholarsPressModel$Broken", false), (34, "ScholarsPressModel$Beyond", false), (34, "java/lang/IndexOutOfBoundsException", false), (34, "java/lang/IllegalArgumentException", false), (34, "java/lang/UnsupportedOperationException", false), (34, "java/lang/IllegalStateException", false), (34, "java/lang/ArithmeticException", false), (34, "java/util/NoSuchElementException", true)]
def srT : List (String × Nat × String) := [("ScholarsPress$Book", 529, "of"), ("ScholarsPress$Book", 589, "??"), ("ScholarsPress$Book", 598, "to"), ("ScholarsPress$Book", 600, "as"), ("ScholarsPress$Book", 602, "page"), ("ScholarsPress$Book", 608, "line"), ("ScholarsPress$Book", 610, "number"), ("ScholarsPress$Book", 615, "title"), ("ScholarsPress$Book", 619, "side"), ("ScholarsPress$Book", 621, "above"), ("ScholarsPress$Book", 623, "below"), ("ScholarsPress$Entries", 66, "at"), ("ScholarsPress$Font", 38, "width"), ("ScholarsPress$Font", 55, "kern"), ("ScholarsPress$Font", 68, "join"), ("ScholarsPress$Source", 170, "lt"), ("ScholarsPress$Source", 176, "amp"), ("ScholarsPress$Source", 226, "id"), ("ScholarsPress$Style", 126, "page"), ("ScholarsPress$Style", 164, "no"), ("ScholarsPress$Style", 166, "all"), ("ScholarsPress$Style", 168, "width"), ("ScholarsPress$Style", 169, "height"), ("ScholarsPress$Style", 170, "columns"), ("ScholarsPress$Style", 171, "gap"), ("ScholarsPress$Style", 172, "rule"), ("ScholarsPress$Style", 173, "lines"), ("ScholarsPress$Style", 220, "first"), ("ScholarsPress$Style", 222, "last"), ("ScholarsPress$Style", 224, "empty"), ("ScholarsPress$Style", 226, "nth"), ("ScholarsPress$Style", 231, "not"), ("ScholarsPress$Style", 255, "none"), ("ScholarsPress$Style", 261, "show"), ("ScholarsPress$Style", 263, "size"), ("ScholarsPress$Style", 264, "lead"), ("ScholarsPress$Style", 266, "indent"), ("ScholarsPress$Style", 268, "left"), ("ScholarsPress$Style", 270, "right"), ("ScholarsPress$Style", 272, "above"), ("ScholarsPress$Style", 274, "below"), ("ScholarsPress$Style", 276, "align"), ("ScholarsPress$Style", 278, "hyphens"), ("ScholarsPress$Style", 280, "tolerance"), ("ScholarsPress$Style", 282, "keep"), ("ScholarsPress$Style", 284, "count"), ("ScholarsPress$Style", 286, "step"), ("ScholarsPress$Style", 287, "reset"), ("ScholarsPress$Style", 289, "label"), ("ScholarsPress$Style", 290, "form"), ("ScholarsPress$Style", 292, "depth"), ("ScholarsPress$Style", 294, "head"), ("ScholarsPress$Style", 299, "just"), ("ScholarsPress$Style", 301, "middle"), ("ScholarsPress$Style", 303, "arabic"), ("ScholarsPress$Style", 305, "roman"), ("ScholarsPress$Style", 307, "letter"), ("ScholarsPress$Style", 309, "yes"), ("ScholarsPress$Style", 311, "inline"), ("ScholarsPress$Style", 313, "block"), ("ScholarsPress$Style", 315, "note"), ("ScholarsPress$Style", 317, "float"), ("ScholarsPress$Style", 319, "table"), ("ScholarsPress$Style", 321, "row"), ("ScholarsPress$Style", 323, "cell"), ("ScholarsPress$Style", 325, "contents"), ("ScholarsPress$Style", 327, "index"), ("ScholarsPress$Style", 329, "ref"), ("ScholarsPress$Style", 331, "term"), ("ScholarsPressModel$Letters", 103, "join"), ("ScholarsPressModel$Letters", 74, "width"), ("ScholarsPressModel$Letters", 86, "kern"), ("ScholarsPressModel$Parting", 66, "ends"), ("ScholarsPressModel$Setting", 429, "at"), ("ScholarsPressModel$Setting", 558, "as"), ("ScholarsPressModel$Setting", 560, "to"), ("ScholarsPressModel$Setting", 568, "page"), ("ScholarsPressModel$Setting", 576, "line"), ("ScholarsPressModel$Setting", 578, "number"), ("ScholarsPressModel$Setting", 579, "title"), ("ScholarsPressModel$Setting", 580, "side"), ("ScholarsPressModel$Setting", 582, "above"), ("ScholarsPressModel$Setting", 584, "below"), ("ScholarsPressModel$Setting", 655, "of"), ("ScholarsPressModel$Source", 138, "lt"), ("ScholarsPressModel$Source", 144, "amp"), ("ScholarsPressModel$Source", 176, "id"), ("ScholarsPressModel$Style", 114, "page"), ("ScholarsPressModel$Style", 136, "width"), ("ScholarsPressModel$Style", 138, "height"), ("ScholarsPressModel$Style", 140, "columns"), ("ScholarsPressModel$Style", 142, "gap"), ("ScholarsPressModel$Style", 144, "rule"), ("ScholarsPressModel$Style", 145, "lines"), ("ScholarsPressModel$Style", 157, "no page all"), ("ScholarsPressModel$Style", 204, "first last empty nth not"), ("ScholarsPressModel$Style", 207, "show size lead indent left right above below align hyphens tolerance first last keep count step reset label form depth head height "), ("ScholarsPressModel$Style", 218, "inline block none note float table row cell contents index ref term"), ("ScholarsPressModel$Style", 225, "just left right middle"), ("ScholarsPressModel$Style", 227, "no yes"), ("ScholarsPressModel$Style", 231, "none"), ("ScholarsPressModel$Style", 233, "arabic roman letter"), ("ScholarsPressModel$Tree", 246, "mdclxvi")]
def srB : List (List Int) := [[111, 102], [63, 63], [116, 111], [97, 115], [112, 97, 103, 101], [108, 105, 110, 101], [110, 117, 109, 98, 101, 114], [116, 105, 116, 108, 101], [115, 105, 100, 101], [97, 98, 111, 118, 101], [98, 101, 108, 111, 119], [97, 116], [119, 105, 100, 116, 104], [107, 101, 114, 110], [106, 111, 105, 110], [108, 116], [97, 109, 112], [105, 100], [112, 97, 103, 101], [110, 111], [97, 108, 108], [119, 105, 100, 116, 104], [104, 101, 105, 103, 104, 116], [99, 111, 108, 117, 109, 110, 115], [103, 97, 112], [114, 117, 108, 101], [108, 105, 110, 101, 115], [102, 105, 114, 115, 116], [108, 97, 115, 116], [101, 109, 112, 116, 121], [110, 116, 104], [110, 111, 116], [110, 111, 110, 101], [115, 104, 111, 119], [115, 105, 122, 101], [108, 101, 97, 100], [105, 110, 100, 101, 110, 116], [108, 101, 102, 116], [114, 105, 103, 104, 116], [97, 98, 111, 118, 101], [98, 101, 108, 111, 119], [97, 108, 105, 103, 110], [104, 121, 112, 104, 101, 110, 115], [116, 111, 108, 101, 114, 97, 110, 99, 101], [107, 101, 101, 112], [99, 111, 117, 110, 116], [115, 116, 101, 112], [114, 101, 115, 101, 116], [108, 97, 98, 101, 108], [102, 111, 114, 109], [100, 101, 112, 116, 104], [104, 101, 97, 100], [106, 117, 115, 116], [109, 105, 100, 100, 108, 101], [97, 114, 97, 98, 105, 99], [114, 111, 109, 97, 110], [108, 101, 116, 116, 101, 114], [121, 101, 115], [105, 110, 108, 105, 110, 101], [98, 108, 111, 99, 107], [110, 111, 116, 101], [102, 108, 111, 97, 116], [116, 97, 98, 108, 101], [114, 111, 119], [99, 101, 108, 108], [99, 111, 110, 116, 101, 110, 116, 115], [105, 110, 100, 101, 120], [114, 101, 102], [116, 101, 114, 109], [106, 111, 105, 110], [119, 105, 100, 116, 104], [107, 101, 114, 110], [101, 110, 100, 115], [97, 116], [97, 115], [116, 111], [112, 97, 103, 101], [108, 105, 110, 101], [110, 117, 109, 98, 101, 114], [116, 105, 116, 108, 101], [115, 105, 100, 101], [97, 98, 111, 118, 101], [98, 101, 108, 111, 119], [111, 102], [108, 116], [97, 109, 112], [105, 100], [112, 97, 103, 101], [119, 105, 100, 116, 104], [104, 101, 105, 103, 104, 116], [99, 111, 108, 117, 109, 110, 115], [103, 97, 112], [114, 117, 108, 101], [108, 105, 110, 101, 115], [110, 111, 32, 112, 97, 103, 101, 32, 97, 108, 108], [102, 105, 114, 115, 116, 32, 108, 97, 115, 116, 32, 101, 109, 112, 116, 121, 32, 110, 116, 104, 32, 110, 111, 116], [115, 104, 111, 119, 32, 115, 105, 122, 101, 32, 108, 101, 97, 100, 32, 105, 110, 100, 101, 110, 116, 32, 108, 101, 102, 116, 32, 114, 105, 103, 104, 116, 32, 97, 98, 111, 118, 101, 32, 98, 101, 108, 111, 119, 32, 97, 108, 105, 103, 110, 32, 104, 121, 112, 104, 101, 110, 115, 32, 116, 111, 108, 101, 114, 97, 110, 99, 101, 32, 102, 105, 114, 115, 116, 32, 108, 97, 115, 116, 32, 107, 101, 101, 112, 32, 99, 111, 117, 110, 116, 32, 115, 116, 101, 112, 32, 114, 101, 115, 101, 116, 32, 108, 97, 98, 101, 108, 32, 102, 111, 114, 109, 32, 100, 101, 112, 116, 104, 32, 104, 101, 97, 100, 32, 104, 101, 105, 103, 104, 116, 32], [105, 110, 108, 105, 110, 101, 32, 98, 108, 111, 99, 107, 32, 110, 111, 110, 101, 32, 110, 111, 116, 101, 32, 102, 108, 111, 97, 116, 32, 116, 97, 98, 108, 101, 32, 114, 111, 119, 32, 99, 101, 108, 108, 32, 99, 111, 110, 116, 101, 110, 116, 115, 32, 105, 110, 100, 101, 120, 32, 114, 101, 102, 32, 116, 101, 114, 109], [106, 117, 115, 116, 32, 108, 101, 102, 116, 32, 114, 105, 103, 104, 116, 32, 109, 105, 100, 100, 108, 101], [110, 111, 32, 121, 101, 115], [110, 111, 110, 101], [97, 114, 97, 98, 105, 99, 32, 114, 111, 109, 97, 110, 32, 108, 101, 116, 116, 101, 114], [109, 100, 99, 108, 120, 118, 105]]
def AB (D : SD) : Nat → Prop := fun q => D.base ≤ q
/-- a static field of a reference type, that nobody writes -/
def ZS (D : SD) (C n d : String) (U : State) : Prop := ∃ (c : ClassId) (k : Class) (i : Nat) (f : Field) (a : Nat) (cell : Cell) (v : Value), U.vm.findClass C = some c ∧ U.fieldFound? C n d = some (c, k, i, f) ∧ f.isStatic = true ∧ k.statics = some a ∧ a < D.base ∧ D.H0[a]? = some cell ∧ cell.vm.isStatics = true ∧ cell.cls = c ∧ f.slot < cell.slots.size ∧ k.staticTypes[f.slot]? = some f.type ∧ cell.slots[f.slot]? = some v ∧ v.isRef = true
theorem ZS.moved {D : SD} {C n d : String} {u U : State} (hvm : u.vm.Alike U.vm) (h : ZS D C n d u) : ZS D C n d U := by
  obtain ⟨c, k, i, f, a, cell, v, h0, h1, h2, h3, h4, h5, h6, h7, h8, h9, h10⟩ := h
  obtain ⟨k', hi', he⟩ := State.fieldFound?_setVm hvm h1
  exact ⟨c, k', i, f, a, cell, v, by rw [hvm.findClass]; exact h0, hi', h2, by rw [he]; exact h3, h4, h5, h6, h7, h8, by rw [he]; exact h9, h10⟩
def KX (D : SD) (U : State) : Prop :=
  (∀ q ∈ csT, ∃ cT, U.vm.findClass q.2.1 = some cT ∧ U.vm.assignable (D.dC q.1) cT = q.2.2) ∧
  (∀ (k : Nat) (q : String × Nat × String), srT[k]? = some q → vk_R q.1 q.2.1 q.2.2 (D.sA k) U) ∧
  (∀ (k : Nat) (b : List Int), srB[k]? = some b → va_O "java/lang/String" (D.sA k) (AB D) U D.H0 ∧ va_OF "java/lang/String" "coder" "B" (.int 0) (D.sA k) (AB D) U D.H0 ∧ va_OF "java/lang/String" "value" "[B" (.ref (D.sV k)) (D.sA k) (AB D) U D.H0 ∧ va_T .byte (D.sV k) b.length (fun j => iv (b.getD j 0)) (AB D) U D.H0) ∧
  va_Z "java/lang/String" "COMPACT_STRINGS" "Z" (.int 1) (AB D) U D.H0 ∧ (∃ v : Value, v.isRef = true ∧ va_Z "jdk/internal/util/Preconditions" "SIOOBE_FORMATTER" "Ljava/util/function/BiFunction;" v (AB D) U D.H0) ∧
  ZS D "java/lang/Throwable" "UNASSIGNED_STACK" "[Ljava/lang/StackTraceElement;" U ∧ ZS D "java/lang/Throwable" "SUPPRESSED_SENTINEL" "Ljava/util/List;" U
theorem KX.moved {D : SD} {s U : State} (hW : s.WarmedH U.vm) (h : KX D s) : KX D U := by
  obtain ⟨h1, h2, h3, h4, ⟨v, h5, h6⟩, h7, h8⟩ := h
  have hal := hW.alike
  refine ⟨fun q hq => ?_, fun k q hq => (h2 k q hq).warm hW, fun k b hb => ?_, h4.moved hal, ⟨v, h5, h6.moved hal⟩, h7.moved hal, h8.moved hal⟩
  · obtain ⟨cT, e1, e2⟩ := h1 q hq
    exact ⟨cT, by rw [hal.findClass]; exact e1, by rw [hal.assignable]; exact e2⟩
  · obtain ⟨a1, a2, a3, a4⟩ := h3 k b hb
    exact ⟨a1.moved hal, a2.moved hal, a3.moved hal, a4.moved hal⟩
/-- what the tables say all through a run -/
def KV (D : SD) (U : State) : Prop :=
  (∀ (c : Nat) (q : CE), clT[c]? = some q → u_Kn U q.1 q.2.1 q.2.2.1 (D.dC c) (D.dI c)) ∧ (∀ t : Nat, 1 ≤ t → t ≤ 9 → ArrOfT U (D.aC t) (aty t) ∧ va_RA U (D.aC t) (aty t)) ∧ (∀ w ∈ nwT, va_Nw w U) ∧ (∀ t : Nat, 5 ≤ t → t ≤ 9 → ∀ C, aty t = .object C → va_AO C U) ∧ KX D U
theorem KV.moved {D : SD} {s U : State} (hW : s.WarmedH U.vm) (h : KV D s) : KV D U :=
  ⟨fun c q hq => u_Kn_moved hW.alike (h.1 c q hq), fun t h1 h2 => ⟨arrOfT_moved hW.alike (h.2.1 t h1 h2).1, (h.2.1 t h1 h2).2.moved hW.alike⟩, fun w hw => nw_moved (List.mem_filter.mp hw).2 hW (h.2.2.1 w hw), fun t h1 h2 C hC => va_AO.moved hW.alike (h.2.2.2.1 t h1 h2 C hC), h.2.2.2.2.moved hW⟩
theorem KV.same {D : SD} {s U : State} (hv : U.vm = s.vm) (h : KV D s) : KV D U := by
  have hW : s.WarmedH U.vm := by rw [hv]; exact State.WarmedH.refl s
  exact h.moved hW
/-- kinds and lengths stay -/
def Ext (h h' : Hp) : Prop := ∀ a : Int, h a (-2) ≠ 0 → h' a (-2) = h a (-2) ∧ h' a (-1) = h a (-1)
theorem Ext.refl (h : Hp) : Ext h h := fun _ _ => ⟨rfl, rfl⟩
theorem Ext.trans {h1 h2 h3 : Hp} (a : Ext h1 h2) (b : Ext h2 h3) : Ext h1 h3 := fun x hx => by
  obtain ⟨e1, e2⟩ := a x hx
  obtain ⟨f1, f2⟩ := b x (by rw [e1]; exact hx)
  exact ⟨f1.trans e1, f2.trans e2⟩
theorem Ext.up {h : Hp} {a i v : Int} (hi : 0 ≤ i) : Ext h (up h a i v) := fun x _ => ⟨up_i (by omega), up_i (by omega)⟩
theorem kx {h h1 : Hp} {a K : Int} (E : Ext h h1) (hK : K ≠ 0) (k : h a (-2) = K) : h1 a (-2) = K := (E a (by rw [k]; exact hK)).1.trans k
theorem ka {h h1 : Hp} {a t i : Int} (E : Ext h h1) (ht : t ≠ 0) (k : h a (-2) % 16 = t ∧ 0 ≤ i ∧ i < h a (-1)) : h1 a (-2) % 16 = t ∧ 0 ≤ i ∧ i < h1 a (-1) := by
  obtain ⟨e1, e2⟩ := E a (fun q => ht (by rw [← k.1, q]; rfl))
  rw [e1, e2]; exact k
def RelE (D : SD) (h0 h : Hp) (H : Heap) : Prop := Rel D h H ∧ Ext h0 h
/-- an outcome: (0, v) returned, (1, a) threw the object a; t: the kind of what is returned (0: nothing) -/
def OutR (D : SD) (t : Nat) (r : Int × Int) (o : Outcome) : Prop :=
  (r.1 = 0 ∧ ((t = 0 ∧ o = .returned none) ∨ (t ≠ 0 ∧ tok t r.2 ∧ o = .returned (some (tv D t r.2))))) ∨ (r.1 = 1 ∧ 0 < r.2 ∧ o = .threw (ph D r.2))
def EQ (D : SD) (R : Room) (s : State) (below : List Frame) (h0 : Hp) (t : Nat) (r : (Int × Int) × Hp) : State → Prop := fun T =>
  ∃ o, T.status = .running ∧ Ended T below o ∧ OutR D t r.1 o ∧ RelE D h0 r.2 T.heap ∧ s.WarmedH T.vm ∧ ∃ L : List Loc, (∀ q ∈ L, D.base ≤ q.base) ∧ s.sameButNew { T with vm := s.vm } L R.cells R.slots
abbrev rmOf (h : Hp) (fr lo : Nat) : Room := { frames := fr, cells := (130538 - h 0 0).toNat, slots := (8696812 - h 0 1).toNat, locals := lo }
/-- A METHOD'S PICTURE: from the heap h with the arguments vs it ends with r, the heap h' -/
def Sim (l : Launch) (D : SD) (y : MethodName) (cw : Cond) (fr lo : Nat) (vs : List Value) (h : Hp) (t : Nat) (r : (Int × Int) × Hp) : Prop :=
  MetFree l y (headSpec (cw :: lw_all) (rmOf h fr lo)) (fun a U => a = vs.toArray ∧ Rel D h U.heap ∧ KV D U) (fun _ _ _ _ _ => True)
    (fun _ st o T => OutR D t r.1 o ∧ RelE D h r.2 T.heap ∧ st.WarmedH T.vm ∧ ∃ L : List Loc, (∀ q ∈ L, D.base ≤ q.base) ∧ st.sameButNew { T with vm := st.vm } L (rmOf h fr lo).cells (rmOf h fr lo).slots)
/-- what is known in a method's walk -/
def CX (D : SD) (p : Program) (R : Room) (s : State) (m : MethodId) (args : Array Value) (meth : Method) (c : Code) (h0 : Hp) (cc : ByteArray) (own : String) (nL : Nat) (ret : Option FieldType) : Prop :=
  p.tables.exec = Jvm.exec ∧ c.code = cc ∧ meth.locks = false ∧ c.maxLocals = nL ∧ s.vm.findClass own = some m.cls ∧ (∀ w ∈ lw_all, w.before args s = true) ∧ KV D s ∧ Rel D h0 s.heap ∧ meth.sig.returnType = ret ∧ R.cells = (130538 - h0 0 0).toNat ∧ R.slots = (8696812 - h0 0 1).toNat
def cn (h0 h : Hp) : Nat := (h 0 0 - h0 0 0).toNat
def sn (h0 h : Hp) : Nat := (h 0 1 - h0 0 1).toNat
/-- at this place of the code, with these locals and operands and this picture, the machine comes to Q -/
def A_ (p : Program) (l : Launch) (e : Env) (R : Room) (s : State) (m : MethodId) (args : Array Value) (below : List Frame) (meth : Method) (c : Code) (D : SD) (h0 : Hp) (nL : Nat) (pc : Nat) (ls : List (Nat × Value)) (st : List Value) (h : Hp) (Q : State → Prop) : Prop :=
  ∀ (H : Heap) (locs : List Loc) (lsA : Array Slot), RelE D h0 h H → (∀ q ∈ locs, D.base ≤ q.base) → lv_has lsA nL ls → W p l e R s m args below meth c H locs (cn h0 h) (sn h0 h) Q (F0 m pc lsA st)
/-- .. with the object x thrown there -/
def AT_ (p : Program) (l : Launch) (e : Env) (R : Room) (s : State) (m : MethodId) (args : Array Value) (below : List Frame) (meth : Method) (c : Code) (D : SD) (h0 : Hp) (nL : Nat) (pc : Nat) (ls : List (Nat × Value)) (x : Int) (h : Hp) (Q : State → Prop) : Prop :=
  ∀ (H : Heap) (locs : List Loc) (lsA : Array Slot) (st : List Value), RelE D h0 h H → (∀ q ∈ locs, D.base ≤ q.base) → lv_has lsA nL ls →
    ∀ T : State, T.heap = H → Stand p l e R s m args below meth c T locs (cn h0 h) (sn h0 h) → ∃ t, Steps p.tables e below ((T.setTop (F0 m pc lsA st)).pushFrame (.throwing (ph D x))) t ∧ Q t
def G {α : Type} (p : Program) (l : Launch) (e : Env) (R : Room) (s : State) (m : MethodId) (args : Array Value) (below : List Frame) (meth : Method) (c : Code) (D : SD) (h0 : Hp) (nL : Nat) (Φ : α → (State → Prop) → Prop)
    (pc : Nat) (ls : List (Nat × Value)) (st : List Value) (h : Hp) (k : Option α) : Prop :=
  ∀ (x : α) (Q : State → Prop), k = some x → Φ x Q → A_ p l e R s m args below meth c D h0 nL pc ls st h Q
def GT {α : Type} (p : Program) (l : Launch) (e : Env) (R : Room) (s : State) (m : MethodId) (args : Array Value) (below : List Frame) (meth : Method) (c : Code) (D : SD) (h0 : Hp) (nL : Nat) (Φ : α → (State → Prop) → Prop)
    (pc : Nat) (ls : List (Nat × Value)) (x : Int) (h : Hp) (k : Option α) : Prop :=
  ∀ (y : α) (Q : State → Prop), k = some y → Φ y Q → AT_ p l e R s m args below meth c D h0 nL pc ls x h Q
/-- the end of a method -/
def FinR {α : Type} (D : SD) (R : Room) (s : State) (below : List Frame) (h0 : Hp) (t : Nat) (fin : α → (Int × Int) × Hp) : α → (State → Prop) → Prop := fun x Q => ∀ T, EQ D R s below h0 t (fin x) T → Q T
section GW
variable {p : Program} {l : Launch} {e : Env} {R : Room} {s : State} {m : MethodId} {args : Array Value} {below : List Frame} {meth : Method} {c : Code} {H : Heap} {locs : List Loc} {cells slots : Nat} {Q Q' : State → Prop}
theorem W.post {g : JFrame} (h : ∀ t, Q t → Q' t) (k : W p l e R s m args below meth c H locs cells slots Q g) : W p l e R s m args below meth c H locs cells slots Q' g := fun T hT X => by
  obtain ⟨t, a, b⟩ := k T hT X
  exact ⟨t, a, h t b⟩
/-- the counts are bounds: the heap itself tells them -/
theorem W.tight {g : JFrame} {k n : Nat} (h1 : H.size ≤ s.heap.size + k) (h2 : slotSum H s.heap.size ≤ n) (kk : W p l e R s m args below meth c H locs k n Q g) : W p l e R s m args below meth c H locs cells slots Q g := fun T hT X => by
  refine kk T hT { X with same := ?_ }
  obtain ⟨a1, a2, a3, a4, a5, a6⟩ := X.same
  have e : (T.setVm s.vm).heap = H := hT
  refine ⟨a1, a2, ?_, a4, ?_, a6⟩
  · rw [e]; exact h1
  · rw [e]; exact h2
/-- what the walk's own place says of the heap -/
theorem W.know {g : JFrame} (kk : s.heap.size ≤ H.size → (∀ (a : Nat) (c : Cell), s.heap[a]? = some c → ∃ c', H[a]? = some c' ∧ c'.slots.size = c.slots.size) → W p l e R s m args below meth c H locs cells slots Q g) : W p l e R s m args below meth c H locs cells slots Q g := fun T hT X => by
  obtain ⟨a1, a2, a3, a4, a5, a6⟩ := X.same
  have e : (T.setVm s.vm).heap = H := hT
  rw [e] at a2 a6
  exact kk a2 (fun a c hc => by obtain ⟨c', x1, -, x3, -⟩ := a6 a c hc; exact ⟨c', x1, x3⟩) T hT X
end GW
theorem slotSum_from {H K : Heap} {b : Nat} (hb : b ≤ K.size) (hs : K.size ≤ H.size) (hc : ∀ (a : Nat) (c : Cell), K[a]? = some c → ∃ c', H[a]? = some c' ∧ c'.slots.size = c.slots.size) : slotSum H b = slotSum K b + slotSum H K.size := by
  unfold slotSum
  have e : H.toList.drop b = (H.toList.drop b).take (K.size - b) ++ H.toList.drop K.size := by
    conv => lhs; rw [← List.take_append_drop (K.size - b) (H.toList.drop b)]
    congr 1
    rw [List.drop_drop]
    congr 1
    omega
  rw [e, List.map_append, List.sum_append]
  congr 2
  apply List.ext_getElem?
  intro i
  simp only [List.getElem?_map, List.getElem?_take, List.getElem?_drop, Array.getElem?_toList]
  by_cases hi : i < K.size - b
  · rw [if_pos hi]
    have hk : b + i < K.size := by omega
    obtain ⟨c', x1, x2⟩ := hc (b + i) K[b + i] (Array.getElem?_eq_getElem hk)
    rw [x1, Array.getElem?_eq_getElem hk]
    simp [x2]
  · rw [if_neg hi]
    have : K[b + i]? = none := Array.getElem?_eq_none (by omega)
    rw [this]
/-- entering W at the counts of the picture -/
theorem G_in {D : SD} {p : Program} {l : Launch} {e : Env} {R : Room} {s : State} {m : MethodId} {args : Array Value} {below : List Frame} {meth : Method} {c : Code} {H : Heap} {locs : List Loc} {cells slots : Nat} {Q : State → Prop} {h0 h : Hp} {g : JFrame} (r0 : Rel D h0 s.heap) (r : Rel D h H)
    (kk : h0 0 0 ≤ h 0 0 → h0 0 1 ≤ h 0 1 → W p l e R s m args below meth c H locs (cn h0 h) (sn h0 h) Q g) : W p l e R s m args below meth c H locs cells slots Q g := by
  refine W.know fun z1 z2 => ?_
  have hb : D.base ≤ s.heap.size := by rw [r0.2.1]; omega
  have e1 := slotSum_from hb z1 z2
  have e2 := r0.2.2.1
  have e3 := r.2.2.1
  have e4 := r0.2.1
  have e5 := r.2.1
  have b0 := r0.1
  have b1 := r.1
  refine W.tight (k := cn h0 h) (n := sn h0 h) ?_ ?_ (kk ?_ ?_)
  · unfold cn; omega
  · unfold sn; omega
  · omega
  · omega
