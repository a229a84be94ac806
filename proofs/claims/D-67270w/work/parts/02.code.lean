/-! the code by a list: one pass over the bytes gives every decode row of a method -/
def dl_u1 (f : Nat → Instr) (t : List UInt8) : Option (Instr × Nat) := match t with | a :: _ => some (f a.toNat, 2) | _ => none
def dl_s1 (f : Int → Instr) (t : List UInt8) : Option (Instr × Nat) := match t with | a :: _ => some (f (Reader.signed 8 a.toNat), 2) | _ => none
def dl_u2 (f : Nat → Instr) (t : List UInt8) : Option (Instr × Nat) := match t with | a :: b :: _ => some (f (a.toNat * 256 + b.toNat), 3) | _ => none
def dl_s2 (f : Int → Instr) (t : List UInt8) : Option (Instr × Nat) := match t with | a :: b :: _ => some (f (Reader.signed 16 (a.toNat * 256 + b.toNat)), 3) | _ => none
def dl_inc (t : List UInt8) : Option (Instr × Nat) := match t with | a :: b :: _ => some (.iinc a.toNat (Reader.signed 8 b.toNat), 3) | _ => none
def dl_na (t : List UInt8) : Option (Instr × Nat) := match t with | a :: _ => (match a.toNat with | 4 => some (.newarray .boolean, 2) | 8 => some (.newarray .byte, 2) | 10 => some (.newarray .int, 2) | 11 => some (.newarray .long, 2) | _ => none) | _ => none
def dl_c (i : Instr) (_ : List UInt8) : Option (Instr × Nat) := some (i, 1)
theorem dl_get {L t : List UInt8} {p : Nat} {b : UInt8} (h : L.drop p = b :: t) : ∃ hp : p < (ByteArray.mk ⟨L⟩).size, (ByteArray.mk ⟨L⟩)[p] = b := by
  have h1 : L[p]? = some b := by
    have := congrArg List.head? h
    simpa [List.head?_drop] using this
  have hp : p < L.length := (List.getElem?_eq_some_iff.mp h1).1
  refine ⟨hp, ?_⟩
  have h2 : L[p] = b := (List.getElem?_eq_some_iff.mp h1).2
  exact h2
theorem dl_u1_eq (c : ByteArray) (p : Nat) : (Reader.u1 : Decoder Nat) c p = if h : p < c.size then .ok (c[p].toNat, p + 1) else .error (.truncated p) := by
  show (dite (p < c.size) (fun h => ((do set (p + 1); Pure.pure c[p].toNat) : Decoder Nat)) (fun _ => throw (HasTruncated.truncated p))) c p = _
  split <;> rfl
theorem dl_u1_at {L t : List UInt8} {p : Nat} {b : UInt8} (h : L.drop p = b :: t) : (Reader.u1 : Decoder Nat) (ByteArray.mk ⟨L⟩) p = .ok (b.toNat, p + 1) := by
  obtain ⟨hp, hb⟩ := dl_get h
  rw [dl_u1_eq, dif_pos hp, hb]
theorem dl_drop {L t : List UInt8} {p : Nat} {b : UInt8} (h : L.drop p = b :: t) : L.drop (p + 1) = t := by
  rw [← List.drop_drop, h]; rfl
/-- binding in the reader -/
theorem dl_bind {α β : Type} (x : Decoder α) (f : α → Decoder β) (c : ByteArray) (p : Nat) : (x >>= f) c p = (match x c p with | .ok (a, q) => f a c q | .error e => .error e) := by
  show Except.bind (x c p) (fun v => f v.1 c v.2) = _
  cases x c p with
  | error e => rfl
  | ok v => rfl
theorem dl_decode {L t : List UInt8} {pc : Nat} {b : UInt8} (h : L.drop pc = b :: t) : decode (ByteArray.mk ⟨L⟩) pc = (match (Decoder.instr pc) (ByteArray.mk ⟨L⟩) pc with | .ok (i, q) => .ok (i, q - pc) | .error e => .error e) := by
  show Except.bind ((Decoder.instr pc) (ByteArray.mk ⟨L⟩) pc) (fun v => .ok (v.1, v.2 - pc)) = _
  cases (Decoder.instr pc) (ByteArray.mk ⟨L⟩) pc with
  | error e => rfl
  | ok v => rfl
theorem dl_u2_at {L t : List UInt8} {p : Nat} {a b : UInt8} (h : L.drop p = a :: b :: t) : (Reader.u2 : Decoder Nat) (ByteArray.mk ⟨L⟩) p = .ok (a.toNat * 256 + b.toNat, p + 2) := by
  unfold Reader.u2
  rw [dl_bind, dl_u1_at h]
  show ((Reader.u1 : Decoder Nat) >>= _) _ _ = _
  rw [dl_bind, dl_u1_at (dl_drop h)]
  rfl
theorem dl_map {α β : Type} (f : α → β) (x : Decoder α) (c : ByteArray) (p : Nat) : (f <$> x) c p = (match x c p with | .ok (a, q) => .ok (f a, q) | .error e => .error e) := by
  show Except.bind (x c p) (fun v => .ok (f v.1, v.2)) = _
  cases x c p with
  | error e => rfl
  | ok v => rfl
theorem dl_s2_at {L t : List UInt8} {p : Nat} {a b : UInt8} (h : L.drop p = a :: b :: t) : (Reader.s2 : Decoder Int) (ByteArray.mk ⟨L⟩) p = .ok (Reader.signed 16 (a.toNat * 256 + b.toNat), p + 2) := by
  unfold Reader.s2
  rw [dl_map, dl_u2_at h]
theorem dl_s1_at {L t : List UInt8} {p : Nat} {a : UInt8} (h : L.drop p = a :: t) : (Reader.s1 : Decoder Int) (ByteArray.mk ⟨L⟩) p = .ok (Reader.signed 8 a.toNat, p + 1) := by
  unfold Reader.s1
  rw [dl_map, dl_u1_at h]
/-- what a row of the table must be -/
def dl_G (q : Nat × (List UInt8 → Option (Instr × Nat))) : Prop := ∀ (L t : List UInt8) (pc : Nat) (b : UInt8) (i : Instr) (n : Nat), L.drop pc = b :: t → b.toNat = q.1 → q.2 t = some (i, n) → decode (ByteArray.mk ⟨L⟩) pc = .ok (i, n)
/-- the decoder behind its first byte -/
def dl_At (op : Nat) (K : Nat → Decoder Instr) : Prop := ∀ (pc : Nat) (c : ByteArray) (p q : Nat), (Reader.u1 : Decoder Nat) c p = .ok (op, q) → (Decoder.instr pc) c p = K pc c q
theorem dl_Gc {op : Nat} {i : Instr} (h : dl_At op (fun _ => Pure.pure i)) : dl_G (op, dl_c i) := by
  intro L t pc b i' n hd hb hi
  cases hi
  rw [dl_decode hd, h pc _ pc (pc + 1) (by rw [dl_u1_at hd, hb])]
  show Except.ok (i, pc + 1 - pc) = _
  rw [Nat.add_sub_cancel_left]
theorem dl_Gu1 {op : Nat} {f : Nat → Instr} (h : dl_At op (fun _ => Reader.u1 >>= fun n => Pure.pure (f n))) : dl_G (op, dl_u1 f) := by
  intro L t pc b i n hd hb hi
  rw [dl_decode hd, h pc _ pc (pc + 1) (by rw [dl_u1_at hd, hb])]
  dsimp only
  have ht := dl_drop hd
  cases t with
  | nil => cases hi
  | cons a t =>
    cases hi
    rw [dl_bind, dl_u1_at ht]
    show Except.ok (_, pc + 1 + 1 - pc) = _
    rw [show pc + 1 + 1 - pc = 2 by omega]
theorem dl_Gs1 {op : Nat} {f : Int → Instr} (h : dl_At op (fun _ => Reader.s1 >>= fun n => Pure.pure (f n))) : dl_G (op, dl_s1 f) := by
  intro L t pc b i n hd hb hi
  rw [dl_decode hd, h pc _ pc (pc + 1) (by rw [dl_u1_at hd, hb])]
  dsimp only
  have ht := dl_drop hd
  cases t with
  | nil => cases hi
  | cons a t =>
    cases hi
    rw [dl_bind, dl_s1_at ht]
    show Except.ok (_, pc + 1 + 1 - pc) = _
    rw [show pc + 1 + 1 - pc = 2 by omega]
theorem dl_Gu2 {op : Nat} {f : Nat → Instr} (h : dl_At op (fun _ => Reader.u2 >>= fun n => Pure.pure (f n))) : dl_G (op, dl_u2 f) := by
  intro L t pc b i n hd hb hi
  rw [dl_decode hd, h pc _ pc (pc + 1) (by rw [dl_u1_at hd, hb])]
  dsimp only
  have ht := dl_drop hd
  match t, hi, ht with
  | a :: b :: t, hi, ht =>
    cases hi
    rw [dl_bind, dl_u2_at ht]
    show Except.ok (_, pc + 1 + 2 - pc) = _
    rw [show pc + 1 + 2 - pc = 3 by omega]
theorem dl_Gs2 {op : Nat} {f : Int → Instr} (h : dl_At op (fun _ => Reader.s2 >>= fun n => Pure.pure (f n))) : dl_G (op, dl_s2 f) := by
  intro L t pc b i n hd hb hi
  rw [dl_decode hd, h pc _ pc (pc + 1) (by rw [dl_u1_at hd, hb])]
  dsimp only
  have ht := dl_drop hd
  match t, hi, ht with
  | a :: b :: t, hi, ht =>
    cases hi
    rw [dl_bind, dl_s2_at ht]
    show Except.ok (_, pc + 1 + 2 - pc) = _
    rw [show pc + 1 + 2 - pc = 3 by omega]
theorem dl_Ginc (h : dl_At 132 (fun _ => Reader.u1 >>= fun a => Reader.s1 >>= fun n => Pure.pure (.iinc a n))) : dl_G (132, dl_inc) := by
  intro L t pc b i n hd hb hi
  rw [dl_decode hd, h pc _ pc (pc + 1) (by rw [dl_u1_at hd, hb])]
  dsimp only
  have ht := dl_drop hd
  match t, hi, ht with
  | a :: b :: t, hi, ht =>
    cases hi
    rw [dl_bind, dl_u1_at ht]
    show (match ((Reader.s1 : Decoder Int) >>= fun n => Pure.pure (Instr.iinc a.toNat n)) _ (pc + 1 + 1) with | .ok (i, q) => Except.ok (i, q - pc) | .error e => .error e) = _
    rw [dl_bind, dl_s1_at (dl_drop ht)]
    show Except.ok (_, pc + 1 + 1 + 1 - pc) = _
    rw [show pc + 1 + 1 + 1 - pc = 3 by omega]
theorem dl_Gna (h : dl_At 188 (fun pc => Decoder.newarray pc)) : dl_G (188, dl_na) := by
  intro L t pc b i n hd hb hi
  rw [dl_decode hd, h pc _ pc (pc + 1) (by rw [dl_u1_at hd, hb])]
  dsimp only
  have ht := dl_drop hd
  cases t with
  | nil => cases hi
  | cons a t =>
    unfold Decoder.newarray
    rw [dl_bind, dl_u1_at ht]
    simp only [dl_na] at hi
    generalize a.toNat = o at hi ⊢
    split at hi
    all_goals first
      | (cases hi; show Except.ok (_, pc + 1 + 1 - pc) = _; rw [show pc + 1 + 1 - pc = 2 by omega])
      | cases hi
theorem dl_g1 : dl_G (1, dl_c (.aconst_null)) := dl_Gc (fun _ _ _ _ h => by show Except.bind ((Reader.u1 : Decoder Nat) _ _) _ = _; rw [h]; rfl)
theorem dl_g2 : dl_G (2, dl_c (.iconst (-1))) := dl_Gc (fun _ _ _ _ h => by show Except.bind ((Reader.u1 : Decoder Nat) _ _) _ = _; rw [h]; rfl)
theorem dl_g3 : dl_G (3, dl_c (.iconst 0)) := dl_Gc (fun _ _ _ _ h => by show Except.bind ((Reader.u1 : Decoder Nat) _ _) _ = _; rw [h]; rfl)
theorem dl_g4 : dl_G (4, dl_c (.iconst 1)) := dl_Gc (fun _ _ _ _ h => by show Except.bind ((Reader.u1 : Decoder Nat) _ _) _ = _; rw [h]; rfl)
theorem dl_g5 : dl_G (5, dl_c (.iconst 2)) := dl_Gc (fun _ _ _ _ h => by show Except.bind ((Reader.u1 : Decoder Nat) _ _) _ = _; rw [h]; rfl)
theorem dl_g6 : dl_G (6, dl_c (.iconst 3)) := dl_Gc (fun _ _ _ _ h => by show Except.bind ((Reader.u1 : Decoder Nat) _ _) _ = _; rw [h]; rfl)
theorem dl_g7 : dl_G (7, dl_c (.iconst 4)) := dl_Gc (fun _ _ _ _ h => by show Except.bind ((Reader.u1 : Decoder Nat) _ _) _ = _; rw [h]; rfl)
theorem dl_g8 : dl_G (8, dl_c (.iconst 5)) := dl_Gc (fun _ _ _ _ h => by show Except.bind ((Reader.u1 : Decoder Nat) _ _) _ = _; rw [h]; rfl)
theorem dl_g9 : dl_G (9, dl_c (.lconst 0)) := dl_Gc (fun _ _ _ _ h => by show Except.bind ((Reader.u1 : Decoder Nat) _ _) _ = _; rw [h]; rfl)
theorem dl_g10 : dl_G (10, dl_c (.lconst 1)) := dl_Gc (fun _ _ _ _ h => by show Except.bind ((Reader.u1 : Decoder Nat) _ _) _ = _; rw [h]; rfl)
theorem dl_g26 : dl_G (26, dl_c (.iload_n 0)) := dl_Gc (fun _ _ _ _ h => by show Except.bind ((Reader.u1 : Decoder Nat) _ _) _ = _; rw [h]; rfl)
theorem dl_g27 : dl_G (27, dl_c (.iload_n 1)) := dl_Gc (fun _ _ _ _ h => by show Except.bind ((Reader.u1 : Decoder Nat) _ _) _ = _; rw [h]; rfl)
theorem dl_g28 : dl_G (28, dl_c (.iload_n 2)) := dl_Gc (fun _ _ _ _ h => by show Except.bind ((Reader.u1 : Decoder Nat) _ _) _ = _; rw [h]; rfl)
theorem dl_g29 : dl_G (29, dl_c (.iload_n 3)) := dl_Gc (fun _ _ _ _ h => by show Except.bind ((Reader.u1 : Decoder Nat) _ _) _ = _; rw [h]; rfl)
theorem dl_g30 : dl_G (30, dl_c (.lload_n 0)) := dl_Gc (fun _ _ _ _ h => by show Except.bind ((Reader.u1 : Decoder Nat) _ _) _ = _; rw [h]; rfl)
theorem dl_g31 : dl_G (31, dl_c (.lload_n 1)) := dl_Gc (fun _ _ _ _ h => by show Except.bind ((Reader.u1 : Decoder Nat) _ _) _ = _; rw [h]; rfl)
theorem dl_g32 : dl_G (32, dl_c (.lload_n 2)) := dl_Gc (fun _ _ _ _ h => by show Except.bind ((Reader.u1 : Decoder Nat) _ _) _ = _; rw [h]; rfl)
theorem dl_g33 : dl_G (33, dl_c (.lload_n 3)) := dl_Gc (fun _ _ _ _ h => by show Except.bind ((Reader.u1 : Decoder Nat) _ _) _ = _; rw [h]; rfl)
theorem dl_g42 : dl_G (42, dl_c (.aload_n 0)) := dl_Gc (fun _ _ _ _ h => by show Except.bind ((Reader.u1 : Decoder Nat) _ _) _ = _; rw [h]; rfl)
theorem dl_g43 : dl_G (43, dl_c (.aload_n 1)) := dl_Gc (fun _ _ _ _ h => by show Except.bind ((Reader.u1 : Decoder Nat) _ _) _ = _; rw [h]; rfl)
theorem dl_g44 : dl_G (44, dl_c (.aload_n 2)) := dl_Gc (fun _ _ _ _ h => by show Except.bind ((Reader.u1 : Decoder Nat) _ _) _ = _; rw [h]; rfl)
theorem dl_g45 : dl_G (45, dl_c (.aload_n 3)) := dl_Gc (fun _ _ _ _ h => by show Except.bind ((Reader.u1 : Decoder Nat) _ _) _ = _; rw [h]; rfl)
theorem dl_g46 : dl_G (46, dl_c (.iaload)) := dl_Gc (fun _ _ _ _ h => by show Except.bind ((Reader.u1 : Decoder Nat) _ _) _ = _; rw [h]; rfl)
theorem dl_g47 : dl_G (47, dl_c (.laload)) := dl_Gc (fun _ _ _ _ h => by show Except.bind ((Reader.u1 : Decoder Nat) _ _) _ = _; rw [h]; rfl)
theorem dl_g50 : dl_G (50, dl_c (.aaload)) := dl_Gc (fun _ _ _ _ h => by show Except.bind ((Reader.u1 : Decoder Nat) _ _) _ = _; rw [h]; rfl)
theorem dl_g51 : dl_G (51, dl_c (.baload)) := dl_Gc (fun _ _ _ _ h => by show Except.bind ((Reader.u1 : Decoder Nat) _ _) _ = _; rw [h]; rfl)
theorem dl_g59 : dl_G (59, dl_c (.istore_n 0)) := dl_Gc (fun _ _ _ _ h => by show Except.bind ((Reader.u1 : Decoder Nat) _ _) _ = _; rw [h]; rfl)
theorem dl_g60 : dl_G (60, dl_c (.istore_n 1)) := dl_Gc (fun _ _ _ _ h => by show Except.bind ((Reader.u1 : Decoder Nat) _ _) _ = _; rw [h]; rfl)
theorem dl_g61 : dl_G (61, dl_c (.istore_n 2)) := dl_Gc (fun _ _ _ _ h => by show Except.bind ((Reader.u1 : Decoder Nat) _ _) _ = _; rw [h]; rfl)
theorem dl_g62 : dl_G (62, dl_c (.istore_n 3)) := dl_Gc (fun _ _ _ _ h => by show Except.bind ((Reader.u1 : Decoder Nat) _ _) _ = _; rw [h]; rfl)
theorem dl_g63 : dl_G (63, dl_c (.lstore_n 0)) := dl_Gc (fun _ _ _ _ h => by show Except.bind ((Reader.u1 : Decoder Nat) _ _) _ = _; rw [h]; rfl)
theorem dl_g64 : dl_G (64, dl_c (.lstore_n 1)) := dl_Gc (fun _ _ _ _ h => by show Except.bind ((Reader.u1 : Decoder Nat) _ _) _ = _; rw [h]; rfl)
theorem dl_g65 : dl_G (65, dl_c (.lstore_n 2)) := dl_Gc (fun _ _ _ _ h => by show Except.bind ((Reader.u1 : Decoder Nat) _ _) _ = _; rw [h]; rfl)
theorem dl_g66 : dl_G (66, dl_c (.lstore_n 3)) := dl_Gc (fun _ _ _ _ h => by show Except.bind ((Reader.u1 : Decoder Nat) _ _) _ = _; rw [h]; rfl)
theorem dl_g75 : dl_G (75, dl_c (.astore_n 0)) := dl_Gc (fun _ _ _ _ h => by show Except.bind ((Reader.u1 : Decoder Nat) _ _) _ = _; rw [h]; rfl)
theorem dl_g76 : dl_G (76, dl_c (.astore_n 1)) := dl_Gc (fun _ _ _ _ h => by show Except.bind ((Reader.u1 : Decoder Nat) _ _) _ = _; rw [h]; rfl)
theorem dl_g77 : dl_G (77, dl_c (.astore_n 2)) := dl_Gc (fun _ _ _ _ h => by show Except.bind ((Reader.u1 : Decoder Nat) _ _) _ = _; rw [h]; rfl)
theorem dl_g78 : dl_G (78, dl_c (.astore_n 3)) := dl_Gc (fun _ _ _ _ h => by show Except.bind ((Reader.u1 : Decoder Nat) _ _) _ = _; rw [h]; rfl)
theorem dl_g79 : dl_G (79, dl_c (.iastore)) := dl_Gc (fun _ _ _ _ h => by show Except.bind ((Reader.u1 : Decoder Nat) _ _) _ = _; rw [h]; rfl)
theorem dl_g80 : dl_G (80, dl_c (.lastore)) := dl_Gc (fun _ _ _ _ h => by show Except.bind ((Reader.u1 : Decoder Nat) _ _) _ = _; rw [h]; rfl)
theorem dl_g83 : dl_G (83, dl_c (.aastore)) := dl_Gc (fun _ _ _ _ h => by show Except.bind ((Reader.u1 : Decoder Nat) _ _) _ = _; rw [h]; rfl)
theorem dl_g84 : dl_G (84, dl_c (.bastore)) := dl_Gc (fun _ _ _ _ h => by show Except.bind ((Reader.u1 : Decoder Nat) _ _) _ = _; rw [h]; rfl)
theorem dl_g87 : dl_G (87, dl_c (.pop)) := dl_Gc (fun _ _ _ _ h => by show Except.bind ((Reader.u1 : Decoder Nat) _ _) _ = _; rw [h]; rfl)
theorem dl_g88 : dl_G (88, dl_c (.pop2)) := dl_Gc (fun _ _ _ _ h => by show Except.bind ((Reader.u1 : Decoder Nat) _ _) _ = _; rw [h]; rfl)
theorem dl_g89 : dl_G (89, dl_c (.dup)) := dl_Gc (fun _ _ _ _ h => by show Except.bind ((Reader.u1 : Decoder Nat) _ _) _ = _; rw [h]; rfl)
theorem dl_g90 : dl_G (90, dl_c (.dup_x1)) := dl_Gc (fun _ _ _ _ h => by show Except.bind ((Reader.u1 : Decoder Nat) _ _) _ = _; rw [h]; rfl)
theorem dl_g91 : dl_G (91, dl_c (.dup_x2)) := dl_Gc (fun _ _ _ _ h => by show Except.bind ((Reader.u1 : Decoder Nat) _ _) _ = _; rw [h]; rfl)
theorem dl_g92 : dl_G (92, dl_c (.dup2)) := dl_Gc (fun _ _ _ _ h => by show Except.bind ((Reader.u1 : Decoder Nat) _ _) _ = _; rw [h]; rfl)
theorem dl_g93 : dl_G (93, dl_c (.dup2_x1)) := dl_Gc (fun _ _ _ _ h => by show Except.bind ((Reader.u1 : Decoder Nat) _ _) _ = _; rw [h]; rfl)
theorem dl_g94 : dl_G (94, dl_c (.dup2_x2)) := dl_Gc (fun _ _ _ _ h => by show Except.bind ((Reader.u1 : Decoder Nat) _ _) _ = _; rw [h]; rfl)
theorem dl_g96 : dl_G (96, dl_c (.iadd)) := dl_Gc (fun _ _ _ _ h => by show Except.bind ((Reader.u1 : Decoder Nat) _ _) _ = _; rw [h]; rfl)
theorem dl_g97 : dl_G (97, dl_c (.ladd)) := dl_Gc (fun _ _ _ _ h => by show Except.bind ((Reader.u1 : Decoder Nat) _ _) _ = _; rw [h]; rfl)
theorem dl_g100 : dl_G (100, dl_c (.isub)) := dl_Gc (fun _ _ _ _ h => by show Except.bind ((Reader.u1 : Decoder Nat) _ _) _ = _; rw [h]; rfl)
theorem dl_g101 : dl_G (101, dl_c (.lsub)) := dl_Gc (fun _ _ _ _ h => by show Except.bind ((Reader.u1 : Decoder Nat) _ _) _ = _; rw [h]; rfl)
theorem dl_g104 : dl_G (104, dl_c (.imul)) := dl_Gc (fun _ _ _ _ h => by show Except.bind ((Reader.u1 : Decoder Nat) _ _) _ = _; rw [h]; rfl)
theorem dl_g105 : dl_G (105, dl_c (.lmul)) := dl_Gc (fun _ _ _ _ h => by show Except.bind ((Reader.u1 : Decoder Nat) _ _) _ = _; rw [h]; rfl)
theorem dl_g108 : dl_G (108, dl_c (.idiv)) := dl_Gc (fun _ _ _ _ h => by show Except.bind ((Reader.u1 : Decoder Nat) _ _) _ = _; rw [h]; rfl)
theorem dl_g109 : dl_G (109, dl_c (.ldiv)) := dl_Gc (fun _ _ _ _ h => by show Except.bind ((Reader.u1 : Decoder Nat) _ _) _ = _; rw [h]; rfl)
theorem dl_g112 : dl_G (112, dl_c (.irem)) := dl_Gc (fun _ _ _ _ h => by show Except.bind ((Reader.u1 : Decoder Nat) _ _) _ = _; rw [h]; rfl)
theorem dl_g113 : dl_G (113, dl_c (.lrem)) := dl_Gc (fun _ _ _ _ h => by show Except.bind ((Reader.u1 : Decoder Nat) _ _) _ = _; rw [h]; rfl)
theorem dl_g116 : dl_G (116, dl_c (.ineg)) := dl_Gc (fun _ _ _ _ h => by show Except.bind ((Reader.u1 : Decoder Nat) _ _) _ = _; rw [h]; rfl)
theorem dl_g117 : dl_G (117, dl_c (.lneg)) := dl_Gc (fun _ _ _ _ h => by show Except.bind ((Reader.u1 : Decoder Nat) _ _) _ = _; rw [h]; rfl)
theorem dl_g120 : dl_G (120, dl_c (.ishl)) := dl_Gc (fun _ _ _ _ h => by show Except.bind ((Reader.u1 : Decoder Nat) _ _) _ = _; rw [h]; rfl)
theorem dl_g121 : dl_G (121, dl_c (.lshl)) := dl_Gc (fun _ _ _ _ h => by show Except.bind ((Reader.u1 : Decoder Nat) _ _) _ = _; rw [h]; rfl)
theorem dl_g122 : dl_G (122, dl_c (.ishr)) := dl_Gc (fun _ _ _ _ h => by show Except.bind ((Reader.u1 : Decoder Nat) _ _) _ = _; rw [h]; rfl)
theorem dl_g123 : dl_G (123, dl_c (.lshr)) := dl_Gc (fun _ _ _ _ h => by show Except.bind ((Reader.u1 : Decoder Nat) _ _) _ = _; rw [h]; rfl)
theorem dl_g124 : dl_G (124, dl_c (.iushr)) := dl_Gc (fun _ _ _ _ h => by show Except.bind ((Reader.u1 : Decoder Nat) _ _) _ = _; rw [h]; rfl)
theorem dl_g125 : dl_G (125, dl_c (.lushr)) := dl_Gc (fun _ _ _ _ h => by show Except.bind ((Reader.u1 : Decoder Nat) _ _) _ = _; rw [h]; rfl)
theorem dl_g126 : dl_G (126, dl_c (.iand)) := dl_Gc (fun _ _ _ _ h => by show Except.bind ((Reader.u1 : Decoder Nat) _ _) _ = _; rw [h]; rfl)
theorem dl_g127 : dl_G (127, dl_c (.land)) := dl_Gc (fun _ _ _ _ h => by show Except.bind ((Reader.u1 : Decoder Nat) _ _) _ = _; rw [h]; rfl)
theorem dl_g128 : dl_G (128, dl_c (.ior)) := dl_Gc (fun _ _ _ _ h => by show Except.bind ((Reader.u1 : Decoder Nat) _ _) _ = _; rw [h]; rfl)
theorem dl_g129 : dl_G (129, dl_c (.lor)) := dl_Gc (fun _ _ _ _ h => by show Except.bind ((Reader.u1 : Decoder Nat) _ _) _ = _; rw [h]; rfl)
theorem dl_g130 : dl_G (130, dl_c (.ixor)) := dl_Gc (fun _ _ _ _ h => by show Except.bind ((Reader.u1 : Decoder Nat) _ _) _ = _; rw [h]; rfl)
theorem dl_g131 : dl_G (131, dl_c (.lxor)) := dl_Gc (fun _ _ _ _ h => by show Except.bind ((Reader.u1 : Decoder Nat) _ _) _ = _; rw [h]; rfl)
theorem dl_g133 : dl_G (133, dl_c (.i2l)) := dl_Gc (fun _ _ _ _ h => by show Except.bind ((Reader.u1 : Decoder Nat) _ _) _ = _; rw [h]; rfl)
theorem dl_g136 : dl_G (136, dl_c (.l2i)) := dl_Gc (fun _ _ _ _ h => by show Except.bind ((Reader.u1 : Decoder Nat) _ _) _ = _; rw [h]; rfl)
theorem dl_g145 : dl_G (145, dl_c (.i2b)) := dl_Gc (fun _ _ _ _ h => by show Except.bind ((Reader.u1 : Decoder Nat) _ _) _ = _; rw [h]; rfl)
theorem dl_g146 : dl_G (146, dl_c (.i2c)) := dl_Gc (fun _ _ _ _ h => by show Except.bind ((Reader.u1 : Decoder Nat) _ _) _ = _; rw [h]; rfl)
theorem dl_g147 : dl_G (147, dl_c (.i2s)) := dl_Gc (fun _ _ _ _ h => by show Except.bind ((Reader.u1 : Decoder Nat) _ _) _ = _; rw [h]; rfl)
theorem dl_g148 : dl_G (148, dl_c (.lcmp)) := dl_Gc (fun _ _ _ _ h => by show Except.bind ((Reader.u1 : Decoder Nat) _ _) _ = _; rw [h]; rfl)
theorem dl_g172 : dl_G (172, dl_c (.ireturn)) := dl_Gc (fun _ _ _ _ h => by show Except.bind ((Reader.u1 : Decoder Nat) _ _) _ = _; rw [h]; rfl)
theorem dl_g173 : dl_G (173, dl_c (.lreturn)) := dl_Gc (fun _ _ _ _ h => by show Except.bind ((Reader.u1 : Decoder Nat) _ _) _ = _; rw [h]; rfl)
theorem dl_g176 : dl_G (176, dl_c (.areturn)) := dl_Gc (fun _ _ _ _ h => by show Except.bind ((Reader.u1 : Decoder Nat) _ _) _ = _; rw [h]; rfl)
theorem dl_g177 : dl_G (177, dl_c (.return_)) := dl_Gc (fun _ _ _ _ h => by show Except.bind ((Reader.u1 : Decoder Nat) _ _) _ = _; rw [h]; rfl)
theorem dl_g190 : dl_G (190, dl_c (.arraylength)) := dl_Gc (fun _ _ _ _ h => by show Except.bind ((Reader.u1 : Decoder Nat) _ _) _ = _; rw [h]; rfl)
theorem dl_g191 : dl_G (191, dl_c (.athrow)) := dl_Gc (fun _ _ _ _ h => by show Except.bind ((Reader.u1 : Decoder Nat) _ _) _ = _; rw [h]; rfl)
theorem dl_g18 : dl_G (18, dl_u1 (fun n => .ldc n)) := dl_Gu1 (fun _ _ _ _ h => by show Except.bind ((Reader.u1 : Decoder Nat) _ _) _ = _; rw [h]; rfl)
theorem dl_g21 : dl_G (21, dl_u1 (fun n => .iload n)) := dl_Gu1 (fun _ _ _ _ h => by show Except.bind ((Reader.u1 : Decoder Nat) _ _) _ = _; rw [h]; rfl)
theorem dl_g22 : dl_G (22, dl_u1 (fun n => .lload n)) := dl_Gu1 (fun _ _ _ _ h => by show Except.bind ((Reader.u1 : Decoder Nat) _ _) _ = _; rw [h]; rfl)
theorem dl_g25 : dl_G (25, dl_u1 (fun n => .aload n)) := dl_Gu1 (fun _ _ _ _ h => by show Except.bind ((Reader.u1 : Decoder Nat) _ _) _ = _; rw [h]; rfl)
theorem dl_g54 : dl_G (54, dl_u1 (fun n => .istore n)) := dl_Gu1 (fun _ _ _ _ h => by show Except.bind ((Reader.u1 : Decoder Nat) _ _) _ = _; rw [h]; rfl)
theorem dl_g55 : dl_G (55, dl_u1 (fun n => .lstore n)) := dl_Gu1 (fun _ _ _ _ h => by show Except.bind ((Reader.u1 : Decoder Nat) _ _) _ = _; rw [h]; rfl)
theorem dl_g58 : dl_G (58, dl_u1 (fun n => .astore n)) := dl_Gu1 (fun _ _ _ _ h => by show Except.bind ((Reader.u1 : Decoder Nat) _ _) _ = _; rw [h]; rfl)
theorem dl_g16 : dl_G (16, dl_s1 (fun n => .bipush n)) := dl_Gs1 (fun _ _ _ _ h => by show Except.bind ((Reader.u1 : Decoder Nat) _ _) _ = _; rw [h]; rfl)
theorem dl_g17 : dl_G (17, dl_s2 (fun n => .sipush n)) := dl_Gs2 (fun _ _ _ _ h => by show Except.bind ((Reader.u1 : Decoder Nat) _ _) _ = _; rw [h]; rfl)
theorem dl_g153 : dl_G (153, dl_s2 (fun n => .ifCond .eq n)) := dl_Gs2 (fun _ _ _ _ h => by show Except.bind ((Reader.u1 : Decoder Nat) _ _) _ = _; rw [h]; rfl)
theorem dl_g154 : dl_G (154, dl_s2 (fun n => .ifCond .ne n)) := dl_Gs2 (fun _ _ _ _ h => by show Except.bind ((Reader.u1 : Decoder Nat) _ _) _ = _; rw [h]; rfl)
theorem dl_g155 : dl_G (155, dl_s2 (fun n => .ifCond .lt n)) := dl_Gs2 (fun _ _ _ _ h => by show Except.bind ((Reader.u1 : Decoder Nat) _ _) _ = _; rw [h]; rfl)
theorem dl_g156 : dl_G (156, dl_s2 (fun n => .ifCond .ge n)) := dl_Gs2 (fun _ _ _ _ h => by show Except.bind ((Reader.u1 : Decoder Nat) _ _) _ = _; rw [h]; rfl)
theorem dl_g157 : dl_G (157, dl_s2 (fun n => .ifCond .gt n)) := dl_Gs2 (fun _ _ _ _ h => by show Except.bind ((Reader.u1 : Decoder Nat) _ _) _ = _; rw [h]; rfl)
theorem dl_g158 : dl_G (158, dl_s2 (fun n => .ifCond .le n)) := dl_Gs2 (fun _ _ _ _ h => by show Except.bind ((Reader.u1 : Decoder Nat) _ _) _ = _; rw [h]; rfl)
theorem dl_g159 : dl_G (159, dl_s2 (fun n => .if_icmp .eq n)) := dl_Gs2 (fun _ _ _ _ h => by show Except.bind ((Reader.u1 : Decoder Nat) _ _) _ = _; rw [h]; rfl)
theorem dl_g160 : dl_G (160, dl_s2 (fun n => .if_icmp .ne n)) := dl_Gs2 (fun _ _ _ _ h => by show Except.bind ((Reader.u1 : Decoder Nat) _ _) _ = _; rw [h]; rfl)
theorem dl_g161 : dl_G (161, dl_s2 (fun n => .if_icmp .lt n)) := dl_Gs2 (fun _ _ _ _ h => by show Except.bind ((Reader.u1 : Decoder Nat) _ _) _ = _; rw [h]; rfl)
theorem dl_g162 : dl_G (162, dl_s2 (fun n => .if_icmp .ge n)) := dl_Gs2 (fun _ _ _ _ h => by show Except.bind ((Reader.u1 : Decoder Nat) _ _) _ = _; rw [h]; rfl)
theorem dl_g163 : dl_G (163, dl_s2 (fun n => .if_icmp .gt n)) := dl_Gs2 (fun _ _ _ _ h => by show Except.bind ((Reader.u1 : Decoder Nat) _ _) _ = _; rw [h]; rfl)
theorem dl_g164 : dl_G (164, dl_s2 (fun n => .if_icmp .le n)) := dl_Gs2 (fun _ _ _ _ h => by show Except.bind ((Reader.u1 : Decoder Nat) _ _) _ = _; rw [h]; rfl)
theorem dl_g165 : dl_G (165, dl_s2 (fun n => .if_acmp .eq n)) := dl_Gs2 (fun _ _ _ _ h => by show Except.bind ((Reader.u1 : Decoder Nat) _ _) _ = _; rw [h]; rfl)
theorem dl_g166 : dl_G (166, dl_s2 (fun n => .if_acmp .ne n)) := dl_Gs2 (fun _ _ _ _ h => by show Except.bind ((Reader.u1 : Decoder Nat) _ _) _ = _; rw [h]; rfl)
theorem dl_g167 : dl_G (167, dl_s2 (fun n => .goto n)) := dl_Gs2 (fun _ _ _ _ h => by show Except.bind ((Reader.u1 : Decoder Nat) _ _) _ = _; rw [h]; rfl)
theorem dl_g198 : dl_G (198, dl_s2 (fun n => .ifnull n)) := dl_Gs2 (fun _ _ _ _ h => by show Except.bind ((Reader.u1 : Decoder Nat) _ _) _ = _; rw [h]; rfl)
theorem dl_g199 : dl_G (199, dl_s2 (fun n => .ifnonnull n)) := dl_Gs2 (fun _ _ _ _ h => by show Except.bind ((Reader.u1 : Decoder Nat) _ _) _ = _; rw [h]; rfl)
theorem dl_g19 : dl_G (19, dl_u2 (fun n => .ldc_w n)) := dl_Gu2 (fun _ _ _ _ h => by show Except.bind ((Reader.u1 : Decoder Nat) _ _) _ = _; rw [h]; rfl)
theorem dl_g20 : dl_G (20, dl_u2 (fun n => .ldc2_w n)) := dl_Gu2 (fun _ _ _ _ h => by show Except.bind ((Reader.u1 : Decoder Nat) _ _) _ = _; rw [h]; rfl)
theorem dl_g178 : dl_G (178, dl_u2 (fun n => .getstatic n)) := dl_Gu2 (fun _ _ _ _ h => by show Except.bind ((Reader.u1 : Decoder Nat) _ _) _ = _; rw [h]; rfl)
theorem dl_g180 : dl_G (180, dl_u2 (fun n => .getfield n)) := dl_Gu2 (fun _ _ _ _ h => by show Except.bind ((Reader.u1 : Decoder Nat) _ _) _ = _; rw [h]; rfl)
theorem dl_g181 : dl_G (181, dl_u2 (fun n => .putfield n)) := dl_Gu2 (fun _ _ _ _ h => by show Except.bind ((Reader.u1 : Decoder Nat) _ _) _ = _; rw [h]; rfl)
theorem dl_g182 : dl_G (182, dl_u2 (fun n => .invokevirtual n)) := dl_Gu2 (fun _ _ _ _ h => by show Except.bind ((Reader.u1 : Decoder Nat) _ _) _ = _; rw [h]; rfl)
theorem dl_g183 : dl_G (183, dl_u2 (fun n => .invokespecial n)) := dl_Gu2 (fun _ _ _ _ h => by show Except.bind ((Reader.u1 : Decoder Nat) _ _) _ = _; rw [h]; rfl)
theorem dl_g184 : dl_G (184, dl_u2 (fun n => .invokestatic n)) := dl_Gu2 (fun _ _ _ _ h => by show Except.bind ((Reader.u1 : Decoder Nat) _ _) _ = _; rw [h]; rfl)
theorem dl_g187 : dl_G (187, dl_u2 (fun n => .new n)) := dl_Gu2 (fun _ _ _ _ h => by show Except.bind ((Reader.u1 : Decoder Nat) _ _) _ = _; rw [h]; rfl)
theorem dl_g189 : dl_G (189, dl_u2 (fun n => .anewarray n)) := dl_Gu2 (fun _ _ _ _ h => by show Except.bind ((Reader.u1 : Decoder Nat) _ _) _ = _; rw [h]; rfl)
theorem dl_g132 : dl_G (132, dl_inc) := dl_Ginc (fun _ _ _ _ h => by show Except.bind ((Reader.u1 : Decoder Nat) _ _) _ = _; rw [h]; rfl)
theorem dl_g188 : dl_G (188, dl_na) := dl_Gna (fun _ _ _ _ h => by show Except.bind ((Reader.u1 : Decoder Nat) _ _) _ = _; rw [h]; rfl)
def dl_tab : List (Nat × (List UInt8 → Option (Instr × Nat))) := [(42, dl_c (.aload_n 0)), (43, dl_c (.aload_n 1)), (44, dl_c (.aload_n 2)), (45, dl_c (.aload_n 3)), (25, dl_u1 (fun n => .aload n)), (21, dl_u1 (fun n => .iload n)), (26, dl_c (.iload_n 0)), (27, dl_c (.iload_n 1)), (28, dl_c (.iload_n 2)), (29, dl_c (.iload_n 3)), (180, dl_u2 (fun n => .getfield n)), (3, dl_c (.iconst 0)), (4, dl_c (.iconst 1)), (5, dl_c (.iconst 2)), (6, dl_c (.iconst 3)), (7, dl_c (.iconst 4)), (8, dl_c (.iconst 5)), (182, dl_u2 (fun n => .invokevirtual n)), (167, dl_s2 (fun n => .goto n)), (54, dl_u1 (fun n => .istore n)), (46, dl_c (.iaload)), (181, dl_u2 (fun n => .putfield n)), (172, dl_c (.ireturn)), (16, dl_s1 (fun n => .bipush n)), (96, dl_c (.iadd)), (17, dl_s2 (fun n => .sipush n)), (162, dl_s2 (fun n => .if_icmp .ge n)), (79, dl_c (.iastore)), (153, dl_s2 (fun n => .ifCond .eq n)), (132, dl_inc), (188, dl_na), (177, dl_c (.return_)), (160, dl_s2 (fun n => .if_icmp .ne n)), (154, dl_s2 (fun n => .ifCond .ne n)), (1, dl_c (.aconst_null)), (2, dl_c (.iconst (-1))), (9, dl_c (.lconst 0)), (10, dl_c (.lconst 1)), (18, dl_u1 (fun n => .ldc n)), (19, dl_u2 (fun n => .ldc_w n)), (20, dl_u2 (fun n => .ldc2_w n)), (22, dl_u1 (fun n => .lload n)), (30, dl_c (.lload_n 0)), (31, dl_c (.lload_n 1)), (32, dl_c (.lload_n 2)), (33, dl_c (.lload_n 3)), (47, dl_c (.laload)), (50, dl_c (.aaload)), (51, dl_c (.baload)), (55, dl_u1 (fun n => .lstore n)), (58, dl_u1 (fun n => .astore n)), (59, dl_c (.istore_n 0)), (60, dl_c (.istore_n 1)), (61, dl_c (.istore_n 2)), (62, dl_c (.istore_n 3)), (63, dl_c (.lstore_n 0)), (64, dl_c (.lstore_n 1)), (65, dl_c (.lstore_n 2)), (66, dl_c (.lstore_n 3)), (75, dl_c (.astore_n 0)), (76, dl_c (.astore_n 1)), (77, dl_c (.astore_n 2)), (78, dl_c (.astore_n 3)), (80, dl_c (.lastore)), (83, dl_c (.aastore)), (84, dl_c (.bastore)), (87, dl_c (.pop)), (88, dl_c (.pop2)), (89, dl_c (.dup)), (90, dl_c (.dup_x1)), (91, dl_c (.dup_x2)), (92, dl_c (.dup2)), (93, dl_c (.dup2_x1)), (94, dl_c (.dup2_x2)), (97, dl_c (.ladd)), (100, dl_c (.isub)), (101, dl_c (.lsub)), (104, dl_c (.imul)), (105, dl_c (.lmul)), (108, dl_c (.idiv)), (109, dl_c (.ldiv)), (112, dl_c (.irem)), (113, dl_c (.lrem)), (116, dl_c (.ineg)), (117, dl_c (.lneg)), (120, dl_c (.ishl)), (121, dl_c (.lshl)), (122, dl_c (.ishr)), (123, dl_c (.lshr)), (124, dl_c (.iushr)), (125, dl_c (.lushr)), (126, dl_c (.iand)), (127, dl_c (.land)), (128, dl_c (.ior)), (129, dl_c (.lor)), (130, dl_c (.ixor)), (131, dl_c (.lxor)), (133, dl_c (.i2l)), (136, dl_c (.l2i)), (145, dl_c (.i2b)), (146, dl_c (.i2c)), (147, dl_c (.i2s)), (148, dl_c (.lcmp)), (155, dl_s2 (fun n => .ifCond .lt n)), (156, dl_s2 (fun n => .ifCond .ge n)), (157, dl_s2 (fun n => .ifCond .gt n)), (158, dl_s2 (fun n => .ifCond .le n)), (159, dl_s2 (fun n => .if_icmp .eq n)), (161, dl_s2 (fun n => .if_icmp .lt n)), (163, dl_s2 (fun n => .if_icmp .gt n)), (164, dl_s2 (fun n => .if_icmp .le n)), (165, dl_s2 (fun n => .if_acmp .eq n)), (166, dl_s2 (fun n => .if_acmp .ne n)), (173, dl_c (.lreturn)), (176, dl_c (.areturn)), (178, dl_u2 (fun n => .getstatic n)), (183, dl_u2 (fun n => .invokespecial n)), (184, dl_u2 (fun n => .invokestatic n)), (187, dl_u2 (fun n => .new n)), (189, dl_u2 (fun n => .anewarray n)), (190, dl_c (.arraylength)), (191, dl_c (.athrow)), (198, dl_s2 (fun n => .ifnull n)), (199, dl_s2 (fun n => .ifnonnull n))]
theorem dl_tab_ok : ∀ q ∈ dl_tab, dl_G q := List.forall_mem_cons.mpr ⟨dl_g42, List.forall_mem_cons.mpr ⟨dl_g43, List.forall_mem_cons.mpr ⟨dl_g44, List.forall_mem_cons.mpr ⟨dl_g45, List.forall_mem_cons.mpr ⟨dl_g25, List.forall_mem_cons.mpr ⟨dl_g21, List.forall_mem_cons.mpr ⟨dl_g26, List.forall_mem_cons.mpr ⟨dl_g27, List.forall_mem_cons.mpr ⟨dl_g28, List.forall_mem_cons.mpr ⟨dl_g29, List.forall_mem_cons.mpr ⟨dl_g180, List.forall_mem_cons.mpr ⟨dl_g3, List.forall_mem_cons.mpr ⟨dl_g4, List.forall_mem_cons.mpr ⟨dl_g5, List.forall_mem_cons.mpr ⟨dl_g6, List.forall_mem_cons.mpr ⟨dl_g7, List.forall_mem_cons.mpr ⟨dl_g8, List.forall_mem_cons.mpr ⟨dl_g182, List.forall_mem_cons.mpr ⟨dl_g167, List.forall_mem_cons.mpr ⟨dl_g54, List.forall_mem_cons.mpr ⟨dl_g46, List.forall_mem_cons.mpr ⟨dl_g181, List.forall_mem_cons.mpr ⟨dl_g172, List.forall_mem_cons.mpr ⟨dl_g16, List.forall_mem_cons.mpr ⟨dl_g96, List.forall_mem_cons.mpr ⟨dl_g17, List.forall_mem_cons.mpr ⟨dl_g162, List.forall_mem_cons.mpr ⟨dl_g79, List.forall_mem_cons.mpr ⟨dl_g153, List.forall_mem_cons.mpr ⟨dl_g132, List.forall_mem_cons.mpr ⟨dl_g188, List.forall_mem_cons.mpr ⟨dl_g177, List.forall_mem_cons.mpr ⟨dl_g160, List.forall_mem_cons.mpr ⟨dl_g154, List.forall_mem_cons.mpr ⟨dl_g1, List.forall_mem_cons.mpr ⟨dl_g2, List.forall_mem_cons.mpr ⟨dl_g9, List.forall_mem_cons.mpr ⟨dl_g10, List.forall_mem_cons.mpr ⟨dl_g18, List.forall_mem_cons.mpr ⟨dl_g19, List.forall_mem_cons.mpr ⟨dl_g20, List.forall_mem_cons.mpr ⟨dl_g22, List.forall_mem_cons.mpr ⟨dl_g30, List.forall_mem_cons.mpr ⟨dl_g31, List.forall_mem_cons.mpr ⟨dl_g32, List.forall_mem_cons.mpr ⟨dl_g33, List.forall_mem_cons.mpr ⟨dl_g47, List.forall_mem_cons.mpr ⟨dl_g50, List.forall_mem_cons.mpr ⟨dl_g51, List.forall_mem_cons.mpr ⟨dl_g55, List.forall_mem_cons.mpr ⟨dl_g58, List.forall_mem_cons.mpr ⟨dl_g59, List.forall_mem_cons.mpr ⟨dl_g60, List.forall_mem_cons.mpr ⟨dl_g61, List.forall_mem_cons.mpr ⟨dl_g62, List.forall_mem_cons.mpr ⟨dl_g63, List.forall_mem_cons.mpr ⟨dl_g64, List.forall_mem_cons.mpr ⟨dl_g65, List.forall_mem_cons.mpr ⟨dl_g66, List.forall_mem_cons.mpr ⟨dl_g75, List.forall_mem_cons.mpr ⟨dl_g76, List.forall_mem_cons.mpr ⟨dl_g77, List.forall_mem_cons.mpr ⟨dl_g78, List.forall_mem_cons.mpr ⟨dl_g80, List.forall_mem_cons.mpr ⟨dl_g83, List.forall_mem_cons.mpr ⟨dl_g84, List.forall_mem_cons.mpr ⟨dl_g87, List.forall_mem_cons.mpr ⟨dl_g88, List.forall_mem_cons.mpr ⟨dl_g89, List.forall_mem_cons.mpr ⟨dl_g90, List.forall_mem_cons.mpr ⟨dl_g91, List.forall_mem_cons.mpr ⟨dl_g92, List.forall_mem_cons.mpr ⟨dl_g93, List.forall_mem_cons.mpr ⟨dl_g94, List.forall_mem_cons.mpr ⟨dl_g97, List.forall_mem_cons.mpr ⟨dl_g100, List.forall_mem_cons.mpr ⟨dl_g101, List.forall_mem_cons.mpr ⟨dl_g104, List.forall_mem_cons.mpr ⟨dl_g105, List.forall_mem_cons.mpr ⟨dl_g108, List.forall_mem_cons.mpr ⟨dl_g109, List.forall_mem_cons.mpr ⟨dl_g112, List.forall_mem_cons.mpr ⟨dl_g113, List.forall_mem_cons.mpr ⟨dl_g116, List.forall_mem_cons.mpr ⟨dl_g117, List.forall_mem_cons.mpr ⟨dl_g120, List.forall_mem_cons.mpr ⟨dl_g121, List.forall_mem_cons.mpr ⟨dl_g122, List.forall_mem_cons.mpr ⟨dl_g123, List.forall_mem_cons.mpr ⟨dl_g124, List.forall_mem_cons.mpr ⟨dl_g125, List.forall_mem_cons.mpr ⟨dl_g126, List.forall_mem_cons.mpr ⟨dl_g127, List.forall_mem_cons.mpr ⟨dl_g128, List.forall_mem_cons.mpr ⟨dl_g129, List.forall_mem_cons.mpr ⟨dl_g130, List.forall_mem_cons.mpr ⟨dl_g131, List.forall_mem_cons.mpr ⟨dl_g133, List.forall_mem_cons.mpr ⟨dl_g136, List.forall_mem_cons.mpr ⟨dl_g145, List.forall_mem_cons.mpr ⟨dl_g146, List.forall_mem_cons.mpr ⟨dl_g147, List.forall_mem_cons.mpr ⟨dl_g148, List.forall_mem_cons.mpr ⟨dl_g155, List.forall_mem_cons.mpr ⟨dl_g156, List.forall_mem_cons.mpr ⟨dl_g157, List.forall_mem_cons.mpr ⟨dl_g158, List.forall_mem_cons.mpr ⟨dl_g159, List.forall_mem_cons.mpr ⟨dl_g161, List.forall_mem_cons.mpr ⟨dl_g163, List.forall_mem_cons.mpr ⟨dl_g164, List.forall_mem_cons.mpr ⟨dl_g165, List.forall_mem_cons.mpr ⟨dl_g166, List.forall_mem_cons.mpr ⟨dl_g173, List.forall_mem_cons.mpr ⟨dl_g176, List.forall_mem_cons.mpr ⟨dl_g178, List.forall_mem_cons.mpr ⟨dl_g183, List.forall_mem_cons.mpr ⟨dl_g184, List.forall_mem_cons.mpr ⟨dl_g187, List.forall_mem_cons.mpr ⟨dl_g189, List.forall_mem_cons.mpr ⟨dl_g190, List.forall_mem_cons.mpr ⟨dl_g191, List.forall_mem_cons.mpr ⟨dl_g198, List.forall_mem_cons.mpr ⟨dl_g199, fun _ h => absurd h List.not_mem_nil⟩⟩⟩⟩⟩⟩⟩⟩⟩⟩⟩⟩⟩⟩⟩⟩⟩⟩⟩⟩⟩⟩⟩⟩⟩⟩⟩⟩⟩⟩⟩⟩⟩⟩⟩⟩⟩⟩⟩⟩⟩⟩⟩⟩⟩⟩⟩⟩⟩⟩⟩⟩⟩⟩⟩⟩⟩⟩⟩⟩⟩⟩⟩⟩⟩⟩⟩⟩⟩⟩⟩⟩⟩⟩⟩⟩⟩⟩⟩⟩⟩⟩⟩⟩⟩⟩⟩⟩⟩⟩⟩⟩⟩⟩⟩⟩⟩⟩⟩⟩⟩⟩⟩⟩⟩⟩⟩⟩⟩⟩⟩⟩⟩⟩⟩⟩⟩⟩⟩⟩⟩⟩⟩⟩
def dl_find (op : Nat) : List (Nat × (List UInt8 → Option (Instr × Nat))) → List UInt8 → Option (Instr × Nat)
  | [], _ => none
  | q :: r, t => if q.1 = op then q.2 t else dl_find op r t
theorem dl_find_ok {op : Nat} {tab : List (Nat × (List UInt8 → Option (Instr × Nat)))} {t : List UInt8} {x : Instr × Nat} (h : dl_find op tab t = some x) : ∃ q ∈ tab, q.1 = op ∧ q.2 t = some x := by
  induction tab with
  | nil => cases h
  | cons q r ih =>
    unfold dl_find at h
    split at h
    · rename_i e
      exact ⟨q, List.mem_cons_self, e, h⟩
    · obtain ⟨q', a, b, c⟩ := ih h
      exact ⟨q', List.mem_cons_of_mem _ a, b, c⟩
/-- one pass: the bytes from pc on are the instructions listed (a row: pc, instruction, length); a row that the table doesn't know is left out by its length 0 in 'sk' -/
def dl_chk : List UInt8 → Nat → List (Nat × Instr × Nat) → Bool
  | _, _, [] => true
  | bs, pc, (p, i, n) :: r => (match bs.drop (p - pc) with
    | [] => false
    | b :: t => decide (pc ≤ p) && decide (dl_find b.toNat dl_tab t = some (i, n)) && dl_chk (b :: t) p r)
theorem dl_chk_ok {L : List UInt8} : ∀ (r : List (Nat × Instr × Nat)) (bs : List UInt8) (pc : Nat), L.drop pc = bs → dl_chk bs pc r = true → ∀ q ∈ r, decode (ByteArray.mk ⟨L⟩) q.1 = .ok q.2 := by
  intro r
  induction r with
  | nil => intro bs pc _ _ q hq; cases hq
  | cons x r ih =>
    obtain ⟨p, i, n⟩ := x
    intro bs pc hL hc q hq
    unfold dl_chk at hc
    split at hc
    · cases hc
    · rename_i b t hd
      simp only [Bool.and_eq_true, decide_eq_true_eq] at hc
      obtain ⟨⟨h1, h2⟩, h3⟩ := hc
      have hp : L.drop p = b :: t := by
        rw [← hd, ← hL, List.drop_drop]
        congr 1
        omega
      rcases List.mem_cons.mp hq with rfl | hq
      · obtain ⟨q, hq1, hq2, hq3⟩ := dl_find_ok h2
        exact dl_tab_ok q hq1 L t p b i n hp hq2.symm hq3
      · exact ih (b :: t) p hp h3 q hq
/-- a method's decode rows, by their place in its table -/
theorem dl_at {c : ByteArray} {tab : List (Nat × Instr × Nat)} (h : ∀ q ∈ tab, decode c q.1 = .ok q.2) (k : Nat) {p : Nat} {i : Instr} {n : Nat} (hk : tab[k]? = some (p, i, n)) : decode c p = .ok (i, n) := h (p, i, n) (List.mem_of_getElem? hk)
theorem dl_all {c : ByteArray} {tab : List (Nat × Instr × Nat)} (h : dl_chk c.data.toList 0 tab = true) : ∀ q ∈ tab, decode c q.1 = .ok q.2 := by
  have h1 := dl_chk_ok (L := c.data.toList) tab c.data.toList 0 rfl h
  exact h1
