set_option maxRecDepth 100000
/-! the rows as the printer uses them: fields by a table, what is written and what is made gets a name -/
def eX1 : CE := (RX1, TX1, 23, tyX1, 23)
def eX2 : CE := (RX2, TX2, 8, tyX2, 8)
def eX3 : CE := (RX3, TX3, 29, tyX3, 29)
def eX4 : CE := (RX4, TX4, 6, tyX4, 6)
def eX5 : CE := (RX5, TX5, 2, tyX5, 2)
def eX6 : CE := (RX6, TX6, 30, tyX6, 30)
def eX7 : CE := (RX7, TX7, 21, tyX7, 21)
def eX8 : CE := (RX8, TX8, 5, tyX8, 5)
def eX9 : CE := (RX9, TX9, 19, tyX9, 19)
def eX10 : CE := (RX10, TX10, 19, tyX10, 19)
def eX11 : CE := (RX11, TX11, 3, tyX11, 3)
def eX12 : CE := (RX12, TX12, 7, tyX12, 7)
def eX13 : CE := (RX13, TX13, 4, tyX13, 4)
def eX14 : CE := (RX14, TX14, 67, tyX14, 67)
def eX15 : CE := (RX15, TX15, 16, tyX15, 16)
def eX16 : CE := (RX16, TX16, 10, tyX16, 10)
def eX17 : CE := (RX17, TX17, 3, tyX17, 3)
def eX28 : CE := (RX28, TX28, 21, tyX28, 21)
def eX18 : CE := (RX18, TX18, 23, tyX18, 23)
def eX19 : CE := (RX19, TX19, 9, tyX19, 9)
def eX20 : CE := (RX20, TX20, 8, tyX20, 8)
def eX21 : CE := (RX21, TX21, 14, tyX21, 14)
def eX22 : CE := (RX22, TX22, 28, tyX22, 28)
def eX23 : CE := (RX23, TX23, 28, tyX23, 28)
def eX24 : CE := (RX24, TX24, 30, tyX24, 30)
def eX25 : CE := (RX25, TX25, 141, tyX25, 141)
def eX26 : CE := (RX26, TX26e, 2, tyX26e, 7)
def eX27 : CE := (RX27, TX27e, 2, tyX27e, 7)
def eX29 : CE := (RX29, TX29e, 1, tyX29e, 6)
def eJ3 : CE := (RJ3, TJ3e, 1, tyJ3e, 6)
def eJ6 : CE := (RJ6, TJ6e, 1, tyJ6e, 6)
def eJ10 : CE := (RJ10, TJ10e, 1, tyJ10e, 6)
def eJ11 : CE := (RJ11, TJ11e, 1, tyJ11e, 6)
def eJ12 : CE := (RJ12, TJ12e, 1, tyJ12e, 6)
def eJ14 : CE := (RJ14, TJ14e, 1, tyJ14e, 6)
def FK (ci j : Nat) (q : CE) (jI : Int) (t : Nat) (K : Int) : Prop := clT[ci]? = some q ∧ j < q.2.2.1 ∧ (j : Int) = jI ∧ fcode (q.2.2.2.1 j) = t ∧ tyB (q.2.2.2.1 j) ∧ 16 * ((ci : Int) + 1) = K
def CK (ci : Nat) (q : CE) (K n : Int) : Prop := clT[ci]? = some q ∧ (∀ j, j < q.2.2.1 → tyB (q.2.2.2.1 j)) ∧ 16 * ((ci : Int) + 1) = K ∧ (q.2.2.2.2 : Int) = n
/-- a field's type: by its code -/
def tyBb (ty : FieldType) : Bool := match ty with
  | .int | .byte | .boolean | .long | .object _ | .array _ => true
  | _ => false
theorem tyB_of {ty : FieldType} (h : tyBb ty = true) : tyB ty := by
  unfold tyBb at h
  split at h
  · exact Or.inl rfl
  · exact Or.inr (Or.inl rfl)
  · exact Or.inr (Or.inr (Or.inl rfl))
  · exact Or.inr (Or.inr (Or.inr (Or.inl rfl)))
  · exact Or.inr (Or.inr (Or.inr (Or.inr rfl)))
  · exact Or.inr (Or.inr (Or.inr (Or.inr rfl)))
  · cases h
theorem tyB_all {q : CE} (h : (List.range q.2.2.1).all (fun j => tyBb (q.2.2.2.1 j)) = true) : ∀ j, j < q.2.2.1 → tyB (q.2.2.2.1 j) := fun j hj => tyB_of (List.all_eq_true.mp h j (List.mem_range.mpr hj))
theorem kX1 : CK 0 eX1 16 23 := ⟨rfl, tyB_all rfl, rfl, rfl⟩
theorem fX1_0 : FK 0 0 eX1 0 5 16 := ⟨rfl, Nat.le_of_ble_eq_true rfl, rfl, rfl, tyB_of rfl, rfl⟩
theorem fX1_1 : FK 0 1 eX1 1 1 16 := ⟨rfl, Nat.le_of_ble_eq_true rfl, rfl, rfl, tyB_of rfl, rfl⟩
theorem fX1_2 : FK 0 2 eX1 2 5 16 := ⟨rfl, Nat.le_of_ble_eq_true rfl, rfl, rfl, tyB_of rfl, rfl⟩
theorem fX1_3 : FK 0 3 eX1 3 5 16 := ⟨rfl, Nat.le_of_ble_eq_true rfl, rfl, rfl, tyB_of rfl, rfl⟩
theorem fX1_4 : FK 0 4 eX1 4 5 16 := ⟨rfl, Nat.le_of_ble_eq_true rfl, rfl, rfl, tyB_of rfl, rfl⟩
theorem fX1_5 : FK 0 5 eX1 5 5 16 := ⟨rfl, Nat.le_of_ble_eq_true rfl, rfl, rfl, tyB_of rfl, rfl⟩
theorem fX1_6 : FK 0 6 eX1 6 5 16 := ⟨rfl, Nat.le_of_ble_eq_true rfl, rfl, rfl, tyB_of rfl, rfl⟩
theorem fX1_7 : FK 0 7 eX1 7 5 16 := ⟨rfl, Nat.le_of_ble_eq_true rfl, rfl, rfl, tyB_of rfl, rfl⟩
theorem fX1_8 : FK 0 8 eX1 8 5 16 := ⟨rfl, Nat.le_of_ble_eq_true rfl, rfl, rfl, tyB_of rfl, rfl⟩
theorem fX1_9 : FK 0 9 eX1 9 5 16 := ⟨rfl, Nat.le_of_ble_eq_true rfl, rfl, rfl, tyB_of rfl, rfl⟩
theorem fX1_10 : FK 0 10 eX1 10 5 16 := ⟨rfl, Nat.le_of_ble_eq_true rfl, rfl, rfl, tyB_of rfl, rfl⟩
theorem fX1_11 : FK 0 11 eX1 11 5 16 := ⟨rfl, Nat.le_of_ble_eq_true rfl, rfl, rfl, tyB_of rfl, rfl⟩
theorem fX1_12 : FK 0 12 eX1 12 5 16 := ⟨rfl, Nat.le_of_ble_eq_true rfl, rfl, rfl, tyB_of rfl, rfl⟩
theorem fX1_13 : FK 0 13 eX1 13 3 16 := ⟨rfl, Nat.le_of_ble_eq_true rfl, rfl, rfl, tyB_of rfl, rfl⟩
theorem fX1_14 : FK 0 14 eX1 14 1 16 := ⟨rfl, Nat.le_of_ble_eq_true rfl, rfl, rfl, tyB_of rfl, rfl⟩
theorem fX1_15 : FK 0 15 eX1 15 5 16 := ⟨rfl, Nat.le_of_ble_eq_true rfl, rfl, rfl, tyB_of rfl, rfl⟩
theorem fX1_16 : FK 0 16 eX1 16 5 16 := ⟨rfl, Nat.le_of_ble_eq_true rfl, rfl, rfl, tyB_of rfl, rfl⟩
theorem fX1_17 : FK 0 17 eX1 17 5 16 := ⟨rfl, Nat.le_of_ble_eq_true rfl, rfl, rfl, tyB_of rfl, rfl⟩
theorem fX1_18 : FK 0 18 eX1 18 5 16 := ⟨rfl, Nat.le_of_ble_eq_true rfl, rfl, rfl, tyB_of rfl, rfl⟩
theorem fX1_19 : FK 0 19 eX1 19 1 16 := ⟨rfl, Nat.le_of_ble_eq_true rfl, rfl, rfl, tyB_of rfl, rfl⟩
theorem fX1_20 : FK 0 20 eX1 20 5 16 := ⟨rfl, Nat.le_of_ble_eq_true rfl, rfl, rfl, tyB_of rfl, rfl⟩
theorem fX1_21 : FK 0 21 eX1 21 5 16 := ⟨rfl, Nat.le_of_ble_eq_true rfl, rfl, rfl, tyB_of rfl, rfl⟩
theorem fX1_22 : FK 0 22 eX1 22 5 16 := ⟨rfl, Nat.le_of_ble_eq_true rfl, rfl, rfl, tyB_of rfl, rfl⟩
theorem kX2 : CK 1 eX2 32 8 := ⟨rfl, tyB_all rfl, rfl, rfl⟩
theorem fX2_0 : FK 1 0 eX2 0 5 32 := ⟨rfl, Nat.le_of_ble_eq_true rfl, rfl, rfl, tyB_of rfl, rfl⟩
theorem fX2_1 : FK 1 1 eX2 1 1 32 := ⟨rfl, Nat.le_of_ble_eq_true rfl, rfl, rfl, tyB_of rfl, rfl⟩
theorem fX2_2 : FK 1 2 eX2 2 1 32 := ⟨rfl, Nat.le_of_ble_eq_true rfl, rfl, rfl, tyB_of rfl, rfl⟩
theorem fX2_3 : FK 1 3 eX2 3 1 32 := ⟨rfl, Nat.le_of_ble_eq_true rfl, rfl, rfl, tyB_of rfl, rfl⟩
theorem fX2_4 : FK 1 4 eX2 4 1 32 := ⟨rfl, Nat.le_of_ble_eq_true rfl, rfl, rfl, tyB_of rfl, rfl⟩
theorem fX2_5 : FK 1 5 eX2 5 1 32 := ⟨rfl, Nat.le_of_ble_eq_true rfl, rfl, rfl, tyB_of rfl, rfl⟩
theorem fX2_6 : FK 1 6 eX2 6 1 32 := ⟨rfl, Nat.le_of_ble_eq_true rfl, rfl, rfl, tyB_of rfl, rfl⟩
theorem fX2_7 : FK 1 7 eX2 7 1 32 := ⟨rfl, Nat.le_of_ble_eq_true rfl, rfl, rfl, tyB_of rfl, rfl⟩
theorem kX3 : CK 2 eX3 48 29 := ⟨rfl, tyB_all rfl, rfl, rfl⟩
theorem fX3_0 : FK 2 0 eX3 0 5 48 := ⟨rfl, Nat.le_of_ble_eq_true rfl, rfl, rfl, tyB_of rfl, rfl⟩
theorem fX3_1 : FK 2 1 eX3 1 5 48 := ⟨rfl, Nat.le_of_ble_eq_true rfl, rfl, rfl, tyB_of rfl, rfl⟩
theorem fX3_2 : FK 2 2 eX3 2 5 48 := ⟨rfl, Nat.le_of_ble_eq_true rfl, rfl, rfl, tyB_of rfl, rfl⟩
theorem fX3_3 : FK 2 3 eX3 3 5 48 := ⟨rfl, Nat.le_of_ble_eq_true rfl, rfl, rfl, tyB_of rfl, rfl⟩
theorem fX3_4 : FK 2 4 eX3 4 5 48 := ⟨rfl, Nat.le_of_ble_eq_true rfl, rfl, rfl, tyB_of rfl, rfl⟩
theorem fX3_5 : FK 2 5 eX3 5 5 48 := ⟨rfl, Nat.le_of_ble_eq_true rfl, rfl, rfl, tyB_of rfl, rfl⟩
theorem fX3_6 : FK 2 6 eX3 6 1 48 := ⟨rfl, Nat.le_of_ble_eq_true rfl, rfl, rfl, tyB_of rfl, rfl⟩
theorem fX3_7 : FK 2 7 eX3 7 5 48 := ⟨rfl, Nat.le_of_ble_eq_true rfl, rfl, rfl, tyB_of rfl, rfl⟩
theorem fX3_8 : FK 2 8 eX3 8 5 48 := ⟨rfl, Nat.le_of_ble_eq_true rfl, rfl, rfl, tyB_of rfl, rfl⟩
theorem fX3_9 : FK 2 9 eX3 9 5 48 := ⟨rfl, Nat.le_of_ble_eq_true rfl, rfl, rfl, tyB_of rfl, rfl⟩
theorem fX3_10 : FK 2 10 eX3 10 5 48 := ⟨rfl, Nat.le_of_ble_eq_true rfl, rfl, rfl, tyB_of rfl, rfl⟩
theorem fX3_11 : FK 2 11 eX3 11 1 48 := ⟨rfl, Nat.le_of_ble_eq_true rfl, rfl, rfl, tyB_of rfl, rfl⟩
theorem fX3_12 : FK 2 12 eX3 12 5 48 := ⟨rfl, Nat.le_of_ble_eq_true rfl, rfl, rfl, tyB_of rfl, rfl⟩
theorem fX3_13 : FK 2 13 eX3 13 5 48 := ⟨rfl, Nat.le_of_ble_eq_true rfl, rfl, rfl, tyB_of rfl, rfl⟩
theorem fX3_14 : FK 2 14 eX3 14 5 48 := ⟨rfl, Nat.le_of_ble_eq_true rfl, rfl, rfl, tyB_of rfl, rfl⟩
theorem fX3_15 : FK 2 15 eX3 15 1 48 := ⟨rfl, Nat.le_of_ble_eq_true rfl, rfl, rfl, tyB_of rfl, rfl⟩
theorem fX3_16 : FK 2 16 eX3 16 5 48 := ⟨rfl, Nat.le_of_ble_eq_true rfl, rfl, rfl, tyB_of rfl, rfl⟩
theorem fX3_17 : FK 2 17 eX3 17 5 48 := ⟨rfl, Nat.le_of_ble_eq_true rfl, rfl, rfl, tyB_of rfl, rfl⟩
theorem fX3_18 : FK 2 18 eX3 18 5 48 := ⟨rfl, Nat.le_of_ble_eq_true rfl, rfl, rfl, tyB_of rfl, rfl⟩
theorem fX3_19 : FK 2 19 eX3 19 5 48 := ⟨rfl, Nat.le_of_ble_eq_true rfl, rfl, rfl, tyB_of rfl, rfl⟩
theorem fX3_20 : FK 2 20 eX3 20 1 48 := ⟨rfl, Nat.le_of_ble_eq_true rfl, rfl, rfl, tyB_of rfl, rfl⟩
theorem fX3_21 : FK 2 21 eX3 21 5 48 := ⟨rfl, Nat.le_of_ble_eq_true rfl, rfl, rfl, tyB_of rfl, rfl⟩
theorem fX3_22 : FK 2 22 eX3 22 1 48 := ⟨rfl, Nat.le_of_ble_eq_true rfl, rfl, rfl, tyB_of rfl, rfl⟩
theorem fX3_23 : FK 2 23 eX3 23 1 48 := ⟨rfl, Nat.le_of_ble_eq_true rfl, rfl, rfl, tyB_of rfl, rfl⟩
theorem fX3_24 : FK 2 24 eX3 24 1 48 := ⟨rfl, Nat.le_of_ble_eq_true rfl, rfl, rfl, tyB_of rfl, rfl⟩
theorem fX3_25 : FK 2 25 eX3 25 1 48 := ⟨rfl, Nat.le_of_ble_eq_true rfl, rfl, rfl, tyB_of rfl, rfl⟩
theorem fX3_26 : FK 2 26 eX3 26 1 48 := ⟨rfl, Nat.le_of_ble_eq_true rfl, rfl, rfl, tyB_of rfl, rfl⟩
theorem fX3_27 : FK 2 27 eX3 27 1 48 := ⟨rfl, Nat.le_of_ble_eq_true rfl, rfl, rfl, tyB_of rfl, rfl⟩
theorem fX3_28 : FK 2 28 eX3 28 1 48 := ⟨rfl, Nat.le_of_ble_eq_true rfl, rfl, rfl, tyB_of rfl, rfl⟩
theorem kX4 : CK 3 eX4 64 6 := ⟨rfl, tyB_all rfl, rfl, rfl⟩
theorem fX4_0 : FK 3 0 eX4 0 5 64 := ⟨rfl, Nat.le_of_ble_eq_true rfl, rfl, rfl, tyB_of rfl, rfl⟩
theorem fX4_1 : FK 3 1 eX4 1 1 64 := ⟨rfl, Nat.le_of_ble_eq_true rfl, rfl, rfl, tyB_of rfl, rfl⟩
theorem fX4_2 : FK 3 2 eX4 2 5 64 := ⟨rfl, Nat.le_of_ble_eq_true rfl, rfl, rfl, tyB_of rfl, rfl⟩
theorem fX4_3 : FK 3 3 eX4 3 1 64 := ⟨rfl, Nat.le_of_ble_eq_true rfl, rfl, rfl, tyB_of rfl, rfl⟩
theorem fX4_4 : FK 3 4 eX4 4 5 64 := ⟨rfl, Nat.le_of_ble_eq_true rfl, rfl, rfl, tyB_of rfl, rfl⟩
theorem fX4_5 : FK 3 5 eX4 5 5 64 := ⟨rfl, Nat.le_of_ble_eq_true rfl, rfl, rfl, tyB_of rfl, rfl⟩
theorem kX5 : CK 4 eX5 80 2 := ⟨rfl, tyB_all rfl, rfl, rfl⟩
theorem fX5_0 : FK 4 0 eX5 0 5 80 := ⟨rfl, Nat.le_of_ble_eq_true rfl, rfl, rfl, tyB_of rfl, rfl⟩
theorem fX5_1 : FK 4 1 eX5 1 1 80 := ⟨rfl, Nat.le_of_ble_eq_true rfl, rfl, rfl, tyB_of rfl, rfl⟩
theorem kX6 : CK 5 eX6 96 30 := ⟨rfl, tyB_all rfl, rfl, rfl⟩
theorem fX6_0 : FK 5 0 eX6 0 5 96 := ⟨rfl, Nat.le_of_ble_eq_true rfl, rfl, rfl, tyB_of rfl, rfl⟩
theorem fX6_1 : FK 5 1 eX6 1 1 96 := ⟨rfl, Nat.le_of_ble_eq_true rfl, rfl, rfl, tyB_of rfl, rfl⟩
theorem fX6_2 : FK 5 2 eX6 2 1 96 := ⟨rfl, Nat.le_of_ble_eq_true rfl, rfl, rfl, tyB_of rfl, rfl⟩
theorem fX6_3 : FK 5 3 eX6 3 5 96 := ⟨rfl, Nat.le_of_ble_eq_true rfl, rfl, rfl, tyB_of rfl, rfl⟩
theorem fX6_4 : FK 5 4 eX6 4 1 96 := ⟨rfl, Nat.le_of_ble_eq_true rfl, rfl, rfl, tyB_of rfl, rfl⟩
theorem fX6_5 : FK 5 5 eX6 5 5 96 := ⟨rfl, Nat.le_of_ble_eq_true rfl, rfl, rfl, tyB_of rfl, rfl⟩
theorem fX6_6 : FK 5 6 eX6 6 5 96 := ⟨rfl, Nat.le_of_ble_eq_true rfl, rfl, rfl, tyB_of rfl, rfl⟩
theorem fX6_7 : FK 5 7 eX6 7 5 96 := ⟨rfl, Nat.le_of_ble_eq_true rfl, rfl, rfl, tyB_of rfl, rfl⟩
theorem fX6_8 : FK 5 8 eX6 8 5 96 := ⟨rfl, Nat.le_of_ble_eq_true rfl, rfl, rfl, tyB_of rfl, rfl⟩
theorem fX6_9 : FK 5 9 eX6 9 5 96 := ⟨rfl, Nat.le_of_ble_eq_true rfl, rfl, rfl, tyB_of rfl, rfl⟩
theorem fX6_10 : FK 5 10 eX6 10 5 96 := ⟨rfl, Nat.le_of_ble_eq_true rfl, rfl, rfl, tyB_of rfl, rfl⟩
theorem fX6_11 : FK 5 11 eX6 11 5 96 := ⟨rfl, Nat.le_of_ble_eq_true rfl, rfl, rfl, tyB_of rfl, rfl⟩
theorem fX6_12 : FK 5 12 eX6 12 5 96 := ⟨rfl, Nat.le_of_ble_eq_true rfl, rfl, rfl, tyB_of rfl, rfl⟩
theorem fX6_13 : FK 5 13 eX6 13 5 96 := ⟨rfl, Nat.le_of_ble_eq_true rfl, rfl, rfl, tyB_of rfl, rfl⟩
theorem fX6_14 : FK 5 14 eX6 14 5 96 := ⟨rfl, Nat.le_of_ble_eq_true rfl, rfl, rfl, tyB_of rfl, rfl⟩
theorem fX6_15 : FK 5 15 eX6 15 5 96 := ⟨rfl, Nat.le_of_ble_eq_true rfl, rfl, rfl, tyB_of rfl, rfl⟩
theorem fX6_16 : FK 5 16 eX6 16 5 96 := ⟨rfl, Nat.le_of_ble_eq_true rfl, rfl, rfl, tyB_of rfl, rfl⟩
theorem fX6_17 : FK 5 17 eX6 17 5 96 := ⟨rfl, Nat.le_of_ble_eq_true rfl, rfl, rfl, tyB_of rfl, rfl⟩
theorem fX6_18 : FK 5 18 eX6 18 1 96 := ⟨rfl, Nat.le_of_ble_eq_true rfl, rfl, rfl, tyB_of rfl, rfl⟩
theorem fX6_19 : FK 5 19 eX6 19 1 96 := ⟨rfl, Nat.le_of_ble_eq_true rfl, rfl, rfl, tyB_of rfl, rfl⟩
theorem fX6_20 : FK 5 20 eX6 20 1 96 := ⟨rfl, Nat.le_of_ble_eq_true rfl, rfl, rfl, tyB_of rfl, rfl⟩
theorem fX6_21 : FK 5 21 eX6 21 5 96 := ⟨rfl, Nat.le_of_ble_eq_true rfl, rfl, rfl, tyB_of rfl, rfl⟩
theorem fX6_22 : FK 5 22 eX6 22 5 96 := ⟨rfl, Nat.le_of_ble_eq_true rfl, rfl, rfl, tyB_of rfl, rfl⟩
theorem fX6_23 : FK 5 23 eX6 23 5 96 := ⟨rfl, Nat.le_of_ble_eq_true rfl, rfl, rfl, tyB_of rfl, rfl⟩
theorem fX6_24 : FK 5 24 eX6 24 1 96 := ⟨rfl, Nat.le_of_ble_eq_true rfl, rfl, rfl, tyB_of rfl, rfl⟩
theorem fX6_25 : FK 5 25 eX6 25 5 96 := ⟨rfl, Nat.le_of_ble_eq_true rfl, rfl, rfl, tyB_of rfl, rfl⟩
theorem fX6_26 : FK 5 26 eX6 26 5 96 := ⟨rfl, Nat.le_of_ble_eq_true rfl, rfl, rfl, tyB_of rfl, rfl⟩
theorem fX6_27 : FK 5 27 eX6 27 5 96 := ⟨rfl, Nat.le_of_ble_eq_true rfl, rfl, rfl, tyB_of rfl, rfl⟩
theorem fX6_28 : FK 5 28 eX6 28 5 96 := ⟨rfl, Nat.le_of_ble_eq_true rfl, rfl, rfl, tyB_of rfl, rfl⟩
theorem fX6_29 : FK 5 29 eX6 29 1 96 := ⟨rfl, Nat.le_of_ble_eq_true rfl, rfl, rfl, tyB_of rfl, rfl⟩
theorem kX7 : CK 6 eX7 112 21 := ⟨rfl, tyB_all rfl, rfl, rfl⟩
theorem fX7_0 : FK 6 0 eX7 0 5 112 := ⟨rfl, Nat.le_of_ble_eq_true rfl, rfl, rfl, tyB_of rfl, rfl⟩
theorem fX7_1 : FK 6 1 eX7 1 5 112 := ⟨rfl, Nat.le_of_ble_eq_true rfl, rfl, rfl, tyB_of rfl, rfl⟩
theorem fX7_2 : FK 6 2 eX7 2 1 112 := ⟨rfl, Nat.le_of_ble_eq_true rfl, rfl, rfl, tyB_of rfl, rfl⟩
theorem fX7_3 : FK 6 3 eX7 3 5 112 := ⟨rfl, Nat.le_of_ble_eq_true rfl, rfl, rfl, tyB_of rfl, rfl⟩
theorem fX7_4 : FK 6 4 eX7 4 5 112 := ⟨rfl, Nat.le_of_ble_eq_true rfl, rfl, rfl, tyB_of rfl, rfl⟩
theorem fX7_5 : FK 6 5 eX7 5 5 112 := ⟨rfl, Nat.le_of_ble_eq_true rfl, rfl, rfl, tyB_of rfl, rfl⟩
theorem fX7_6 : FK 6 6 eX7 6 5 112 := ⟨rfl, Nat.le_of_ble_eq_true rfl, rfl, rfl, tyB_of rfl, rfl⟩
theorem fX7_7 : FK 6 7 eX7 7 5 112 := ⟨rfl, Nat.le_of_ble_eq_true rfl, rfl, rfl, tyB_of rfl, rfl⟩
theorem fX7_8 : FK 6 8 eX7 8 5 112 := ⟨rfl, Nat.le_of_ble_eq_true rfl, rfl, rfl, tyB_of rfl, rfl⟩
theorem fX7_9 : FK 6 9 eX7 9 5 112 := ⟨rfl, Nat.le_of_ble_eq_true rfl, rfl, rfl, tyB_of rfl, rfl⟩
theorem fX7_10 : FK 6 10 eX7 10 5 112 := ⟨rfl, Nat.le_of_ble_eq_true rfl, rfl, rfl, tyB_of rfl, rfl⟩
theorem fX7_11 : FK 6 11 eX7 11 5 112 := ⟨rfl, Nat.le_of_ble_eq_true rfl, rfl, rfl, tyB_of rfl, rfl⟩
theorem fX7_12 : FK 6 12 eX7 12 1 112 := ⟨rfl, Nat.le_of_ble_eq_true rfl, rfl, rfl, tyB_of rfl, rfl⟩
theorem fX7_13 : FK 6 13 eX7 13 5 112 := ⟨rfl, Nat.le_of_ble_eq_true rfl, rfl, rfl, tyB_of rfl, rfl⟩
theorem fX7_14 : FK 6 14 eX7 14 5 112 := ⟨rfl, Nat.le_of_ble_eq_true rfl, rfl, rfl, tyB_of rfl, rfl⟩
theorem fX7_15 : FK 6 15 eX7 15 5 112 := ⟨rfl, Nat.le_of_ble_eq_true rfl, rfl, rfl, tyB_of rfl, rfl⟩
theorem fX7_16 : FK 6 16 eX7 16 5 112 := ⟨rfl, Nat.le_of_ble_eq_true rfl, rfl, rfl, tyB_of rfl, rfl⟩
theorem fX7_17 : FK 6 17 eX7 17 5 112 := ⟨rfl, Nat.le_of_ble_eq_true rfl, rfl, rfl, tyB_of rfl, rfl⟩
theorem fX7_18 : FK 6 18 eX7 18 5 112 := ⟨rfl, Nat.le_of_ble_eq_true rfl, rfl, rfl, tyB_of rfl, rfl⟩
theorem fX7_19 : FK 6 19 eX7 19 1 112 := ⟨rfl, Nat.le_of_ble_eq_true rfl, rfl, rfl, tyB_of rfl, rfl⟩
theorem fX7_20 : FK 6 20 eX7 20 3 112 := ⟨rfl, Nat.le_of_ble_eq_true rfl, rfl, rfl, tyB_of rfl, rfl⟩
theorem kX8 : CK 7 eX8 128 5 := ⟨rfl, tyB_all rfl, rfl, rfl⟩
theorem fX8_0 : FK 7 0 eX8 0 5 128 := ⟨rfl, Nat.le_of_ble_eq_true rfl, rfl, rfl, tyB_of rfl, rfl⟩
theorem fX8_1 : FK 7 1 eX8 1 5 128 := ⟨rfl, Nat.le_of_ble_eq_true rfl, rfl, rfl, tyB_of rfl, rfl⟩
theorem fX8_2 : FK 7 2 eX8 2 5 128 := ⟨rfl, Nat.le_of_ble_eq_true rfl, rfl, rfl, tyB_of rfl, rfl⟩
theorem fX8_3 : FK 7 3 eX8 3 5 128 := ⟨rfl, Nat.le_of_ble_eq_true rfl, rfl, rfl, tyB_of rfl, rfl⟩
theorem fX8_4 : FK 7 4 eX8 4 1 128 := ⟨rfl, Nat.le_of_ble_eq_true rfl, rfl, rfl, tyB_of rfl, rfl⟩
theorem kX9 : CK 8 eX9 144 19 := ⟨rfl, tyB_all rfl, rfl, rfl⟩
theorem fX9_0 : FK 8 0 eX9 0 1 144 := ⟨rfl, Nat.le_of_ble_eq_true rfl, rfl, rfl, tyB_of rfl, rfl⟩
theorem fX9_1 : FK 8 1 eX9 1 1 144 := ⟨rfl, Nat.le_of_ble_eq_true rfl, rfl, rfl, tyB_of rfl, rfl⟩
theorem fX9_2 : FK 8 2 eX9 2 5 144 := ⟨rfl, Nat.le_of_ble_eq_true rfl, rfl, rfl, tyB_of rfl, rfl⟩
theorem fX9_3 : FK 8 3 eX9 3 5 144 := ⟨rfl, Nat.le_of_ble_eq_true rfl, rfl, rfl, tyB_of rfl, rfl⟩
theorem fX9_4 : FK 8 4 eX9 4 5 144 := ⟨rfl, Nat.le_of_ble_eq_true rfl, rfl, rfl, tyB_of rfl, rfl⟩
theorem fX9_5 : FK 8 5 eX9 5 5 144 := ⟨rfl, Nat.le_of_ble_eq_true rfl, rfl, rfl, tyB_of rfl, rfl⟩
theorem fX9_6 : FK 8 6 eX9 6 1 144 := ⟨rfl, Nat.le_of_ble_eq_true rfl, rfl, rfl, tyB_of rfl, rfl⟩
theorem fX9_7 : FK 8 7 eX9 7 5 144 := ⟨rfl, Nat.le_of_ble_eq_true rfl, rfl, rfl, tyB_of rfl, rfl⟩
theorem fX9_8 : FK 8 8 eX9 8 5 144 := ⟨rfl, Nat.le_of_ble_eq_true rfl, rfl, rfl, tyB_of rfl, rfl⟩
theorem fX9_9 : FK 8 9 eX9 9 1 144 := ⟨rfl, Nat.le_of_ble_eq_true rfl, rfl, rfl, tyB_of rfl, rfl⟩
theorem fX9_10 : FK 8 10 eX9 10 1 144 := ⟨rfl, Nat.le_of_ble_eq_true rfl, rfl, rfl, tyB_of rfl, rfl⟩
theorem fX9_11 : FK 8 11 eX9 11 5 144 := ⟨rfl, Nat.le_of_ble_eq_true rfl, rfl, rfl, tyB_of rfl, rfl⟩
theorem fX9_12 : FK 8 12 eX9 12 5 144 := ⟨rfl, Nat.le_of_ble_eq_true rfl, rfl, rfl, tyB_of rfl, rfl⟩
theorem fX9_13 : FK 8 13 eX9 13 5 144 := ⟨rfl, Nat.le_of_ble_eq_true rfl, rfl, rfl, tyB_of rfl, rfl⟩
theorem fX9_14 : FK 8 14 eX9 14 1 144 := ⟨rfl, Nat.le_of_ble_eq_true rfl, rfl, rfl, tyB_of rfl, rfl⟩
theorem fX9_15 : FK 8 15 eX9 15 5 144 := ⟨rfl, Nat.le_of_ble_eq_true rfl, rfl, rfl, tyB_of rfl, rfl⟩
theorem fX9_16 : FK 8 16 eX9 16 5 144 := ⟨rfl, Nat.le_of_ble_eq_true rfl, rfl, rfl, tyB_of rfl, rfl⟩
theorem fX9_17 : FK 8 17 eX9 17 5 144 := ⟨rfl, Nat.le_of_ble_eq_true rfl, rfl, rfl, tyB_of rfl, rfl⟩
theorem fX9_18 : FK 8 18 eX9 18 5 144 := ⟨rfl, Nat.le_of_ble_eq_true rfl, rfl, rfl, tyB_of rfl, rfl⟩
theorem kX10 : CK 9 eX10 160 19 := ⟨rfl, tyB_all rfl, rfl, rfl⟩
theorem fX10_0 : FK 9 0 eX10 0 5 160 := ⟨rfl, Nat.le_of_ble_eq_true rfl, rfl, rfl, tyB_of rfl, rfl⟩
theorem fX10_1 : FK 9 1 eX10 1 5 160 := ⟨rfl, Nat.le_of_ble_eq_true rfl, rfl, rfl, tyB_of rfl, rfl⟩
theorem fX10_2 : FK 9 2 eX10 2 5 160 := ⟨rfl, Nat.le_of_ble_eq_true rfl, rfl, rfl, tyB_of rfl, rfl⟩
theorem fX10_3 : FK 9 3 eX10 3 5 160 := ⟨rfl, Nat.le_of_ble_eq_true rfl, rfl, rfl, tyB_of rfl, rfl⟩
theorem fX10_4 : FK 9 4 eX10 4 5 160 := ⟨rfl, Nat.le_of_ble_eq_true rfl, rfl, rfl, tyB_of rfl, rfl⟩
theorem fX10_5 : FK 9 5 eX10 5 5 160 := ⟨rfl, Nat.le_of_ble_eq_true rfl, rfl, rfl, tyB_of rfl, rfl⟩
theorem fX10_6 : FK 9 6 eX10 6 5 160 := ⟨rfl, Nat.le_of_ble_eq_true rfl, rfl, rfl, tyB_of rfl, rfl⟩
theorem fX10_7 : FK 9 7 eX10 7 5 160 := ⟨rfl, Nat.le_of_ble_eq_true rfl, rfl, rfl, tyB_of rfl, rfl⟩
theorem fX10_8 : FK 9 8 eX10 8 5 160 := ⟨rfl, Nat.le_of_ble_eq_true rfl, rfl, rfl, tyB_of rfl, rfl⟩
theorem fX10_9 : FK 9 9 eX10 9 5 160 := ⟨rfl, Nat.le_of_ble_eq_true rfl, rfl, rfl, tyB_of rfl, rfl⟩
theorem fX10_10 : FK 9 10 eX10 10 5 160 := ⟨rfl, Nat.le_of_ble_eq_true rfl, rfl, rfl, tyB_of rfl, rfl⟩
theorem fX10_11 : FK 9 11 eX10 11 5 160 := ⟨rfl, Nat.le_of_ble_eq_true rfl, rfl, rfl, tyB_of rfl, rfl⟩
theorem fX10_12 : FK 9 12 eX10 12 5 160 := ⟨rfl, Nat.le_of_ble_eq_true rfl, rfl, rfl, tyB_of rfl, rfl⟩
theorem fX10_13 : FK 9 13 eX10 13 5 160 := ⟨rfl, Nat.le_of_ble_eq_true rfl, rfl, rfl, tyB_of rfl, rfl⟩
theorem fX10_14 : FK 9 14 eX10 14 5 160 := ⟨rfl, Nat.le_of_ble_eq_true rfl, rfl, rfl, tyB_of rfl, rfl⟩
theorem fX10_15 : FK 9 15 eX10 15 5 160 := ⟨rfl, Nat.le_of_ble_eq_true rfl, rfl, rfl, tyB_of rfl, rfl⟩
theorem fX10_16 : FK 9 16 eX10 16 5 160 := ⟨rfl, Nat.le_of_ble_eq_true rfl, rfl, rfl, tyB_of rfl, rfl⟩
theorem fX10_17 : FK 9 17 eX10 17 5 160 := ⟨rfl, Nat.le_of_ble_eq_true rfl, rfl, rfl, tyB_of rfl, rfl⟩
theorem fX10_18 : FK 9 18 eX10 18 1 160 := ⟨rfl, Nat.le_of_ble_eq_true rfl, rfl, rfl, tyB_of rfl, rfl⟩
theorem kX11 : CK 10 eX11 176 3 := ⟨rfl, tyB_all rfl, rfl, rfl⟩
theorem fX11_0 : FK 10 0 eX11 0 5 176 := ⟨rfl, Nat.le_of_ble_eq_true rfl, rfl, rfl, tyB_of rfl, rfl⟩
theorem fX11_1 : FK 10 1 eX11 1 5 176 := ⟨rfl, Nat.le_of_ble_eq_true rfl, rfl, rfl, tyB_of rfl, rfl⟩
theorem fX11_2 : FK 10 2 eX11 2 5 176 := ⟨rfl, Nat.le_of_ble_eq_true rfl, rfl, rfl, tyB_of rfl, rfl⟩
theorem kX12 : CK 11 eX12 192 7 := ⟨rfl, tyB_all rfl, rfl, rfl⟩
theorem fX12_0 : FK 11 0 eX12 0 5 192 := ⟨rfl, Nat.le_of_ble_eq_true rfl, rfl, rfl, tyB_of rfl, rfl⟩
theorem fX12_1 : FK 11 1 eX12 1 5 192 := ⟨rfl, Nat.le_of_ble_eq_true rfl, rfl, rfl, tyB_of rfl, rfl⟩
theorem fX12_2 : FK 11 2 eX12 2 5 192 := ⟨rfl, Nat.le_of_ble_eq_true rfl, rfl, rfl, tyB_of rfl, rfl⟩
theorem fX12_3 : FK 11 3 eX12 3 1 192 := ⟨rfl, Nat.le_of_ble_eq_true rfl, rfl, rfl, tyB_of rfl, rfl⟩
theorem fX12_4 : FK 11 4 eX12 4 3 192 := ⟨rfl, Nat.le_of_ble_eq_true rfl, rfl, rfl, tyB_of rfl, rfl⟩
theorem fX12_5 : FK 11 5 eX12 5 1 192 := ⟨rfl, Nat.le_of_ble_eq_true rfl, rfl, rfl, tyB_of rfl, rfl⟩
theorem fX12_6 : FK 11 6 eX12 6 3 192 := ⟨rfl, Nat.le_of_ble_eq_true rfl, rfl, rfl, tyB_of rfl, rfl⟩
theorem kX13 : CK 12 eX13 208 4 := ⟨rfl, tyB_all rfl, rfl, rfl⟩
theorem fX13_0 : FK 12 0 eX13 0 5 208 := ⟨rfl, Nat.le_of_ble_eq_true rfl, rfl, rfl, tyB_of rfl, rfl⟩
theorem fX13_1 : FK 12 1 eX13 1 5 208 := ⟨rfl, Nat.le_of_ble_eq_true rfl, rfl, rfl, tyB_of rfl, rfl⟩
theorem fX13_2 : FK 12 2 eX13 2 5 208 := ⟨rfl, Nat.le_of_ble_eq_true rfl, rfl, rfl, tyB_of rfl, rfl⟩
theorem fX13_3 : FK 12 3 eX13 3 1 208 := ⟨rfl, Nat.le_of_ble_eq_true rfl, rfl, rfl, tyB_of rfl, rfl⟩
theorem kX14 : CK 13 eX14 224 67 := ⟨rfl, tyB_all rfl, rfl, rfl⟩
theorem fX14_0 : FK 13 0 eX14 0 5 224 := ⟨rfl, Nat.le_of_ble_eq_true rfl, rfl, rfl, tyB_of rfl, rfl⟩
theorem fX14_1 : FK 13 1 eX14 1 5 224 := ⟨rfl, Nat.le_of_ble_eq_true rfl, rfl, rfl, tyB_of rfl, rfl⟩
theorem fX14_2 : FK 13 2 eX14 2 5 224 := ⟨rfl, Nat.le_of_ble_eq_true rfl, rfl, rfl, tyB_of rfl, rfl⟩
theorem fX14_3 : FK 13 3 eX14 3 5 224 := ⟨rfl, Nat.le_of_ble_eq_true rfl, rfl, rfl, tyB_of rfl, rfl⟩
theorem fX14_4 : FK 13 4 eX14 4 5 224 := ⟨rfl, Nat.le_of_ble_eq_true rfl, rfl, rfl, tyB_of rfl, rfl⟩
theorem fX14_5 : FK 13 5 eX14 5 5 224 := ⟨rfl, Nat.le_of_ble_eq_true rfl, rfl, rfl, tyB_of rfl, rfl⟩
theorem fX14_6 : FK 13 6 eX14 6 5 224 := ⟨rfl, Nat.le_of_ble_eq_true rfl, rfl, rfl, tyB_of rfl, rfl⟩
theorem fX14_7 : FK 13 7 eX14 7 5 224 := ⟨rfl, Nat.le_of_ble_eq_true rfl, rfl, rfl, tyB_of rfl, rfl⟩
theorem fX14_8 : FK 13 8 eX14 8 5 224 := ⟨rfl, Nat.le_of_ble_eq_true rfl, rfl, rfl, tyB_of rfl, rfl⟩
theorem fX14_9 : FK 13 9 eX14 9 1 224 := ⟨rfl, Nat.le_of_ble_eq_true rfl, rfl, rfl, tyB_of rfl, rfl⟩
theorem fX14_10 : FK 13 10 eX14 10 5 224 := ⟨rfl, Nat.le_of_ble_eq_true rfl, rfl, rfl, tyB_of rfl, rfl⟩
theorem fX14_11 : FK 13 11 eX14 11 1 224 := ⟨rfl, Nat.le_of_ble_eq_true rfl, rfl, rfl, tyB_of rfl, rfl⟩
theorem fX14_12 : FK 13 12 eX14 12 5 224 := ⟨rfl, Nat.le_of_ble_eq_true rfl, rfl, rfl, tyB_of rfl, rfl⟩
theorem fX14_13 : FK 13 13 eX14 13 5 224 := ⟨rfl, Nat.le_of_ble_eq_true rfl, rfl, rfl, tyB_of rfl, rfl⟩
theorem fX14_14 : FK 13 14 eX14 14 5 224 := ⟨rfl, Nat.le_of_ble_eq_true rfl, rfl, rfl, tyB_of rfl, rfl⟩
theorem fX14_15 : FK 13 15 eX14 15 5 224 := ⟨rfl, Nat.le_of_ble_eq_true rfl, rfl, rfl, tyB_of rfl, rfl⟩
theorem fX14_16 : FK 13 16 eX14 16 5 224 := ⟨rfl, Nat.le_of_ble_eq_true rfl, rfl, rfl, tyB_of rfl, rfl⟩
theorem fX14_17 : FK 13 17 eX14 17 5 224 := ⟨rfl, Nat.le_of_ble_eq_true rfl, rfl, rfl, tyB_of rfl, rfl⟩
theorem fX14_18 : FK 13 18 eX14 18 1 224 := ⟨rfl, Nat.le_of_ble_eq_true rfl, rfl, rfl, tyB_of rfl, rfl⟩
theorem fX14_19 : FK 13 19 eX14 19 5 224 := ⟨rfl, Nat.le_of_ble_eq_true rfl, rfl, rfl, tyB_of rfl, rfl⟩
theorem fX14_20 : FK 13 20 eX14 20 5 224 := ⟨rfl, Nat.le_of_ble_eq_true rfl, rfl, rfl, tyB_of rfl, rfl⟩
theorem fX14_21 : FK 13 21 eX14 21 5 224 := ⟨rfl, Nat.le_of_ble_eq_true rfl, rfl, rfl, tyB_of rfl, rfl⟩
theorem fX14_22 : FK 13 22 eX14 22 5 224 := ⟨rfl, Nat.le_of_ble_eq_true rfl, rfl, rfl, tyB_of rfl, rfl⟩
theorem fX14_23 : FK 13 23 eX14 23 1 224 := ⟨rfl, Nat.le_of_ble_eq_true rfl, rfl, rfl, tyB_of rfl, rfl⟩
theorem fX14_24 : FK 13 24 eX14 24 5 224 := ⟨rfl, Nat.le_of_ble_eq_true rfl, rfl, rfl, tyB_of rfl, rfl⟩
theorem fX14_25 : FK 13 25 eX14 25 5 224 := ⟨rfl, Nat.le_of_ble_eq_true rfl, rfl, rfl, tyB_of rfl, rfl⟩
theorem fX14_26 : FK 13 26 eX14 26 1 224 := ⟨rfl, Nat.le_of_ble_eq_true rfl, rfl, rfl, tyB_of rfl, rfl⟩
theorem fX14_27 : FK 13 27 eX14 27 1 224 := ⟨rfl, Nat.le_of_ble_eq_true rfl, rfl, rfl, tyB_of rfl, rfl⟩
theorem fX14_28 : FK 13 28 eX14 28 5 224 := ⟨rfl, Nat.le_of_ble_eq_true rfl, rfl, rfl, tyB_of rfl, rfl⟩
theorem fX14_29 : FK 13 29 eX14 29 5 224 := ⟨rfl, Nat.le_of_ble_eq_true rfl, rfl, rfl, tyB_of rfl, rfl⟩
theorem fX14_30 : FK 13 30 eX14 30 5 224 := ⟨rfl, Nat.le_of_ble_eq_true rfl, rfl, rfl, tyB_of rfl, rfl⟩
theorem fX14_31 : FK 13 31 eX14 31 5 224 := ⟨rfl, Nat.le_of_ble_eq_true rfl, rfl, rfl, tyB_of rfl, rfl⟩
theorem fX14_32 : FK 13 32 eX14 32 5 224 := ⟨rfl, Nat.le_of_ble_eq_true rfl, rfl, rfl, tyB_of rfl, rfl⟩
theorem fX14_33 : FK 13 33 eX14 33 5 224 := ⟨rfl, Nat.le_of_ble_eq_true rfl, rfl, rfl, tyB_of rfl, rfl⟩
theorem fX14_34 : FK 13 34 eX14 34 5 224 := ⟨rfl, Nat.le_of_ble_eq_true rfl, rfl, rfl, tyB_of rfl, rfl⟩
theorem fX14_35 : FK 13 35 eX14 35 5 224 := ⟨rfl, Nat.le_of_ble_eq_true rfl, rfl, rfl, tyB_of rfl, rfl⟩
theorem fX14_36 : FK 13 36 eX14 36 1 224 := ⟨rfl, Nat.le_of_ble_eq_true rfl, rfl, rfl, tyB_of rfl, rfl⟩
theorem fX14_37 : FK 13 37 eX14 37 5 224 := ⟨rfl, Nat.le_of_ble_eq_true rfl, rfl, rfl, tyB_of rfl, rfl⟩
theorem fX14_38 : FK 13 38 eX14 38 5 224 := ⟨rfl, Nat.le_of_ble_eq_true rfl, rfl, rfl, tyB_of rfl, rfl⟩
theorem fX14_39 : FK 13 39 eX14 39 1 224 := ⟨rfl, Nat.le_of_ble_eq_true rfl, rfl, rfl, tyB_of rfl, rfl⟩
theorem fX14_40 : FK 13 40 eX14 40 5 224 := ⟨rfl, Nat.le_of_ble_eq_true rfl, rfl, rfl, tyB_of rfl, rfl⟩
theorem fX14_41 : FK 13 41 eX14 41 5 224 := ⟨rfl, Nat.le_of_ble_eq_true rfl, rfl, rfl, tyB_of rfl, rfl⟩
theorem fX14_42 : FK 13 42 eX14 42 5 224 := ⟨rfl, Nat.le_of_ble_eq_true rfl, rfl, rfl, tyB_of rfl, rfl⟩
theorem fX14_43 : FK 13 43 eX14 43 5 224 := ⟨rfl, Nat.le_of_ble_eq_true rfl, rfl, rfl, tyB_of rfl, rfl⟩
theorem fX14_44 : FK 13 44 eX14 44 1 224 := ⟨rfl, Nat.le_of_ble_eq_true rfl, rfl, rfl, tyB_of rfl, rfl⟩
theorem fX14_45 : FK 13 45 eX14 45 1 224 := ⟨rfl, Nat.le_of_ble_eq_true rfl, rfl, rfl, tyB_of rfl, rfl⟩
theorem fX14_46 : FK 13 46 eX14 46 3 224 := ⟨rfl, Nat.le_of_ble_eq_true rfl, rfl, rfl, tyB_of rfl, rfl⟩
theorem fX14_47 : FK 13 47 eX14 47 3 224 := ⟨rfl, Nat.le_of_ble_eq_true rfl, rfl, rfl, tyB_of rfl, rfl⟩
theorem fX14_48 : FK 13 48 eX14 48 1 224 := ⟨rfl, Nat.le_of_ble_eq_true rfl, rfl, rfl, tyB_of rfl, rfl⟩
theorem fX14_49 : FK 13 49 eX14 49 1 224 := ⟨rfl, Nat.le_of_ble_eq_true rfl, rfl, rfl, tyB_of rfl, rfl⟩
theorem fX14_50 : FK 13 50 eX14 50 5 224 := ⟨rfl, Nat.le_of_ble_eq_true rfl, rfl, rfl, tyB_of rfl, rfl⟩
theorem fX14_51 : FK 13 51 eX14 51 5 224 := ⟨rfl, Nat.le_of_ble_eq_true rfl, rfl, rfl, tyB_of rfl, rfl⟩
theorem fX14_52 : FK 13 52 eX14 52 5 224 := ⟨rfl, Nat.le_of_ble_eq_true rfl, rfl, rfl, tyB_of rfl, rfl⟩
theorem fX14_53 : FK 13 53 eX14 53 1 224 := ⟨rfl, Nat.le_of_ble_eq_true rfl, rfl, rfl, tyB_of rfl, rfl⟩
theorem fX14_54 : FK 13 54 eX14 54 5 224 := ⟨rfl, Nat.le_of_ble_eq_true rfl, rfl, rfl, tyB_of rfl, rfl⟩
theorem fX14_55 : FK 13 55 eX14 55 5 224 := ⟨rfl, Nat.le_of_ble_eq_true rfl, rfl, rfl, tyB_of rfl, rfl⟩
theorem fX14_56 : FK 13 56 eX14 56 5 224 := ⟨rfl, Nat.le_of_ble_eq_true rfl, rfl, rfl, tyB_of rfl, rfl⟩
theorem fX14_57 : FK 13 57 eX14 57 1 224 := ⟨rfl, Nat.le_of_ble_eq_true rfl, rfl, rfl, tyB_of rfl, rfl⟩
theorem fX14_58 : FK 13 58 eX14 58 1 224 := ⟨rfl, Nat.le_of_ble_eq_true rfl, rfl, rfl, tyB_of rfl, rfl⟩
theorem fX14_59 : FK 13 59 eX14 59 5 224 := ⟨rfl, Nat.le_of_ble_eq_true rfl, rfl, rfl, tyB_of rfl, rfl⟩
theorem fX14_60 : FK 13 60 eX14 60 5 224 := ⟨rfl, Nat.le_of_ble_eq_true rfl, rfl, rfl, tyB_of rfl, rfl⟩
theorem fX14_61 : FK 13 61 eX14 61 5 224 := ⟨rfl, Nat.le_of_ble_eq_true rfl, rfl, rfl, tyB_of rfl, rfl⟩
theorem fX14_62 : FK 13 62 eX14 62 5 224 := ⟨rfl, Nat.le_of_ble_eq_true rfl, rfl, rfl, tyB_of rfl, rfl⟩
theorem fX14_63 : FK 13 63 eX14 63 5 224 := ⟨rfl, Nat.le_of_ble_eq_true rfl, rfl, rfl, tyB_of rfl, rfl⟩
theorem fX14_64 : FK 13 64 eX14 64 5 224 := ⟨rfl, Nat.le_of_ble_eq_true rfl, rfl, rfl, tyB_of rfl, rfl⟩
theorem fX14_65 : FK 13 65 eX14 65 5 224 := ⟨rfl, Nat.le_of_ble_eq_true rfl, rfl, rfl, tyB_of rfl, rfl⟩
theorem fX14_66 : FK 13 66 eX14 66 5 224 := ⟨rfl, Nat.le_of_ble_eq_true rfl, rfl, rfl, tyB_of rfl, rfl⟩
theorem kX15 : CK 14 eX15 240 16 := ⟨rfl, tyB_all rfl, rfl, rfl⟩
theorem fX15_0 : FK 14 0 eX15 0 5 240 := ⟨rfl, Nat.le_of_ble_eq_true rfl, rfl, rfl, tyB_of rfl, rfl⟩
theorem fX15_1 : FK 14 1 eX15 1 5 240 := ⟨rfl, Nat.le_of_ble_eq_true rfl, rfl, rfl, tyB_of rfl, rfl⟩
theorem fX15_2 : FK 14 2 eX15 2 5 240 := ⟨rfl, Nat.le_of_ble_eq_true rfl, rfl, rfl, tyB_of rfl, rfl⟩
theorem fX15_3 : FK 14 3 eX15 3 1 240 := ⟨rfl, Nat.le_of_ble_eq_true rfl, rfl, rfl, tyB_of rfl, rfl⟩
theorem fX15_4 : FK 14 4 eX15 4 5 240 := ⟨rfl, Nat.le_of_ble_eq_true rfl, rfl, rfl, tyB_of rfl, rfl⟩
theorem fX15_5 : FK 14 5 eX15 5 5 240 := ⟨rfl, Nat.le_of_ble_eq_true rfl, rfl, rfl, tyB_of rfl, rfl⟩
theorem fX15_6 : FK 14 6 eX15 6 5 240 := ⟨rfl, Nat.le_of_ble_eq_true rfl, rfl, rfl, tyB_of rfl, rfl⟩
theorem fX15_7 : FK 14 7 eX15 7 5 240 := ⟨rfl, Nat.le_of_ble_eq_true rfl, rfl, rfl, tyB_of rfl, rfl⟩
theorem fX15_8 : FK 14 8 eX15 8 5 240 := ⟨rfl, Nat.le_of_ble_eq_true rfl, rfl, rfl, tyB_of rfl, rfl⟩
theorem fX15_9 : FK 14 9 eX15 9 5 240 := ⟨rfl, Nat.le_of_ble_eq_true rfl, rfl, rfl, tyB_of rfl, rfl⟩
theorem fX15_10 : FK 14 10 eX15 10 5 240 := ⟨rfl, Nat.le_of_ble_eq_true rfl, rfl, rfl, tyB_of rfl, rfl⟩
theorem fX15_11 : FK 14 11 eX15 11 5 240 := ⟨rfl, Nat.le_of_ble_eq_true rfl, rfl, rfl, tyB_of rfl, rfl⟩
theorem fX15_12 : FK 14 12 eX15 12 1 240 := ⟨rfl, Nat.le_of_ble_eq_true rfl, rfl, rfl, tyB_of rfl, rfl⟩
theorem fX15_13 : FK 14 13 eX15 13 5 240 := ⟨rfl, Nat.le_of_ble_eq_true rfl, rfl, rfl, tyB_of rfl, rfl⟩
theorem fX15_14 : FK 14 14 eX15 14 5 240 := ⟨rfl, Nat.le_of_ble_eq_true rfl, rfl, rfl, tyB_of rfl, rfl⟩
theorem fX15_15 : FK 14 15 eX15 15 1 240 := ⟨rfl, Nat.le_of_ble_eq_true rfl, rfl, rfl, tyB_of rfl, rfl⟩
theorem kX16 : CK 15 eX16 256 10 := ⟨rfl, tyB_all rfl, rfl, rfl⟩
theorem fX16_0 : FK 15 0 eX16 0 5 256 := ⟨rfl, Nat.le_of_ble_eq_true rfl, rfl, rfl, tyB_of rfl, rfl⟩
theorem fX16_1 : FK 15 1 eX16 1 5 256 := ⟨rfl, Nat.le_of_ble_eq_true rfl, rfl, rfl, tyB_of rfl, rfl⟩
theorem fX16_2 : FK 15 2 eX16 2 5 256 := ⟨rfl, Nat.le_of_ble_eq_true rfl, rfl, rfl, tyB_of rfl, rfl⟩
theorem fX16_3 : FK 15 3 eX16 3 1 256 := ⟨rfl, Nat.le_of_ble_eq_true rfl, rfl, rfl, tyB_of rfl, rfl⟩
theorem fX16_4 : FK 15 4 eX16 4 5 256 := ⟨rfl, Nat.le_of_ble_eq_true rfl, rfl, rfl, tyB_of rfl, rfl⟩
theorem fX16_5 : FK 15 5 eX16 5 5 256 := ⟨rfl, Nat.le_of_ble_eq_true rfl, rfl, rfl, tyB_of rfl, rfl⟩
theorem fX16_6 : FK 15 6 eX16 6 5 256 := ⟨rfl, Nat.le_of_ble_eq_true rfl, rfl, rfl, tyB_of rfl, rfl⟩
theorem fX16_7 : FK 15 7 eX16 7 5 256 := ⟨rfl, Nat.le_of_ble_eq_true rfl, rfl, rfl, tyB_of rfl, rfl⟩
theorem fX16_8 : FK 15 8 eX16 8 5 256 := ⟨rfl, Nat.le_of_ble_eq_true rfl, rfl, rfl, tyB_of rfl, rfl⟩
theorem fX16_9 : FK 15 9 eX16 9 1 256 := ⟨rfl, Nat.le_of_ble_eq_true rfl, rfl, rfl, tyB_of rfl, rfl⟩
theorem kX17 : CK 16 eX17 272 3 := ⟨rfl, tyB_all rfl, rfl, rfl⟩
theorem fX17_0 : FK 16 0 eX17 0 5 272 := ⟨rfl, Nat.le_of_ble_eq_true rfl, rfl, rfl, tyB_of rfl, rfl⟩
theorem fX17_1 : FK 16 1 eX17 1 5 272 := ⟨rfl, Nat.le_of_ble_eq_true rfl, rfl, rfl, tyB_of rfl, rfl⟩
theorem fX17_2 : FK 16 2 eX17 2 5 272 := ⟨rfl, Nat.le_of_ble_eq_true rfl, rfl, rfl, tyB_of rfl, rfl⟩
theorem kX28 : CK 17 eX28 288 21 := ⟨rfl, tyB_all rfl, rfl, rfl⟩
theorem fX28_0 : FK 17 0 eX28 0 5 288 := ⟨rfl, Nat.le_of_ble_eq_true rfl, rfl, rfl, tyB_of rfl, rfl⟩
theorem fX28_1 : FK 17 1 eX28 1 1 288 := ⟨rfl, Nat.le_of_ble_eq_true rfl, rfl, rfl, tyB_of rfl, rfl⟩
theorem fX28_2 : FK 17 2 eX28 2 1 288 := ⟨rfl, Nat.le_of_ble_eq_true rfl, rfl, rfl, tyB_of rfl, rfl⟩
theorem fX28_3 : FK 17 3 eX28 3 1 288 := ⟨rfl, Nat.le_of_ble_eq_true rfl, rfl, rfl, tyB_of rfl, rfl⟩
theorem fX28_4 : FK 17 4 eX28 4 1 288 := ⟨rfl, Nat.le_of_ble_eq_true rfl, rfl, rfl, tyB_of rfl, rfl⟩
theorem fX28_5 : FK 17 5 eX28 5 1 288 := ⟨rfl, Nat.le_of_ble_eq_true rfl, rfl, rfl, tyB_of rfl, rfl⟩
theorem fX28_6 : FK 17 6 eX28 6 1 288 := ⟨rfl, Nat.le_of_ble_eq_true rfl, rfl, rfl, tyB_of rfl, rfl⟩
theorem fX28_7 : FK 17 7 eX28 7 1 288 := ⟨rfl, Nat.le_of_ble_eq_true rfl, rfl, rfl, tyB_of rfl, rfl⟩
theorem fX28_8 : FK 17 8 eX28 8 1 288 := ⟨rfl, Nat.le_of_ble_eq_true rfl, rfl, rfl, tyB_of rfl, rfl⟩
theorem fX28_9 : FK 17 9 eX28 9 1 288 := ⟨rfl, Nat.le_of_ble_eq_true rfl, rfl, rfl, tyB_of rfl, rfl⟩
theorem fX28_10 : FK 17 10 eX28 10 1 288 := ⟨rfl, Nat.le_of_ble_eq_true rfl, rfl, rfl, tyB_of rfl, rfl⟩
theorem fX28_11 : FK 17 11 eX28 11 1 288 := ⟨rfl, Nat.le_of_ble_eq_true rfl, rfl, rfl, tyB_of rfl, rfl⟩
theorem fX28_12 : FK 17 12 eX28 12 3 288 := ⟨rfl, Nat.le_of_ble_eq_true rfl, rfl, rfl, tyB_of rfl, rfl⟩
theorem fX28_13 : FK 17 13 eX28 13 3 288 := ⟨rfl, Nat.le_of_ble_eq_true rfl, rfl, rfl, tyB_of rfl, rfl⟩
theorem fX28_14 : FK 17 14 eX28 14 3 288 := ⟨rfl, Nat.le_of_ble_eq_true rfl, rfl, rfl, tyB_of rfl, rfl⟩
theorem fX28_15 : FK 17 15 eX28 15 1 288 := ⟨rfl, Nat.le_of_ble_eq_true rfl, rfl, rfl, tyB_of rfl, rfl⟩
theorem fX28_16 : FK 17 16 eX28 16 1 288 := ⟨rfl, Nat.le_of_ble_eq_true rfl, rfl, rfl, tyB_of rfl, rfl⟩
theorem fX28_17 : FK 17 17 eX28 17 1 288 := ⟨rfl, Nat.le_of_ble_eq_true rfl, rfl, rfl, tyB_of rfl, rfl⟩
theorem fX28_18 : FK 17 18 eX28 18 1 288 := ⟨rfl, Nat.le_of_ble_eq_true rfl, rfl, rfl, tyB_of rfl, rfl⟩
theorem fX28_19 : FK 17 19 eX28 19 4 288 := ⟨rfl, Nat.le_of_ble_eq_true rfl, rfl, rfl, tyB_of rfl, rfl⟩
theorem fX28_20 : FK 17 20 eX28 20 1 288 := ⟨rfl, Nat.le_of_ble_eq_true rfl, rfl, rfl, tyB_of rfl, rfl⟩
theorem kX18 : CK 18 eX18 304 23 := ⟨rfl, tyB_all rfl, rfl, rfl⟩
theorem fX18_0 : FK 18 0 eX18 0 1 304 := ⟨rfl, Nat.le_of_ble_eq_true rfl, rfl, rfl, tyB_of rfl, rfl⟩
theorem fX18_1 : FK 18 1 eX18 1 1 304 := ⟨rfl, Nat.le_of_ble_eq_true rfl, rfl, rfl, tyB_of rfl, rfl⟩
theorem fX18_2 : FK 18 2 eX18 2 5 304 := ⟨rfl, Nat.le_of_ble_eq_true rfl, rfl, rfl, tyB_of rfl, rfl⟩
theorem fX18_3 : FK 18 3 eX18 3 1 304 := ⟨rfl, Nat.le_of_ble_eq_true rfl, rfl, rfl, tyB_of rfl, rfl⟩
theorem fX18_4 : FK 18 4 eX18 4 5 304 := ⟨rfl, Nat.le_of_ble_eq_true rfl, rfl, rfl, tyB_of rfl, rfl⟩
theorem fX18_5 : FK 18 5 eX18 5 5 304 := ⟨rfl, Nat.le_of_ble_eq_true rfl, rfl, rfl, tyB_of rfl, rfl⟩
theorem fX18_6 : FK 18 6 eX18 6 5 304 := ⟨rfl, Nat.le_of_ble_eq_true rfl, rfl, rfl, tyB_of rfl, rfl⟩
theorem fX18_7 : FK 18 7 eX18 7 5 304 := ⟨rfl, Nat.le_of_ble_eq_true rfl, rfl, rfl, tyB_of rfl, rfl⟩
theorem fX18_8 : FK 18 8 eX18 8 5 304 := ⟨rfl, Nat.le_of_ble_eq_true rfl, rfl, rfl, tyB_of rfl, rfl⟩
theorem fX18_9 : FK 18 9 eX18 9 5 304 := ⟨rfl, Nat.le_of_ble_eq_true rfl, rfl, rfl, tyB_of rfl, rfl⟩
theorem fX18_10 : FK 18 10 eX18 10 5 304 := ⟨rfl, Nat.le_of_ble_eq_true rfl, rfl, rfl, tyB_of rfl, rfl⟩
theorem fX18_11 : FK 18 11 eX18 11 5 304 := ⟨rfl, Nat.le_of_ble_eq_true rfl, rfl, rfl, tyB_of rfl, rfl⟩
theorem fX18_12 : FK 18 12 eX18 12 5 304 := ⟨rfl, Nat.le_of_ble_eq_true rfl, rfl, rfl, tyB_of rfl, rfl⟩
theorem fX18_13 : FK 18 13 eX18 13 5 304 := ⟨rfl, Nat.le_of_ble_eq_true rfl, rfl, rfl, tyB_of rfl, rfl⟩
theorem fX18_14 : FK 18 14 eX18 14 3 304 := ⟨rfl, Nat.le_of_ble_eq_true rfl, rfl, rfl, tyB_of rfl, rfl⟩
theorem fX18_15 : FK 18 15 eX18 15 5 304 := ⟨rfl, Nat.le_of_ble_eq_true rfl, rfl, rfl, tyB_of rfl, rfl⟩
theorem fX18_16 : FK 18 16 eX18 16 5 304 := ⟨rfl, Nat.le_of_ble_eq_true rfl, rfl, rfl, tyB_of rfl, rfl⟩
theorem fX18_17 : FK 18 17 eX18 17 3 304 := ⟨rfl, Nat.le_of_ble_eq_true rfl, rfl, rfl, tyB_of rfl, rfl⟩
theorem fX18_18 : FK 18 18 eX18 18 5 304 := ⟨rfl, Nat.le_of_ble_eq_true rfl, rfl, rfl, tyB_of rfl, rfl⟩
theorem fX18_19 : FK 18 19 eX18 19 1 304 := ⟨rfl, Nat.le_of_ble_eq_true rfl, rfl, rfl, tyB_of rfl, rfl⟩
theorem fX18_20 : FK 18 20 eX18 20 5 304 := ⟨rfl, Nat.le_of_ble_eq_true rfl, rfl, rfl, tyB_of rfl, rfl⟩
theorem fX18_21 : FK 18 21 eX18 21 1 304 := ⟨rfl, Nat.le_of_ble_eq_true rfl, rfl, rfl, tyB_of rfl, rfl⟩
theorem fX18_22 : FK 18 22 eX18 22 5 304 := ⟨rfl, Nat.le_of_ble_eq_true rfl, rfl, rfl, tyB_of rfl, rfl⟩
theorem kX19 : CK 19 eX19 320 9 := ⟨rfl, tyB_all rfl, rfl, rfl⟩
theorem fX19_0 : FK 19 0 eX19 0 5 320 := ⟨rfl, Nat.le_of_ble_eq_true rfl, rfl, rfl, tyB_of rfl, rfl⟩
theorem fX19_1 : FK 19 1 eX19 1 5 320 := ⟨rfl, Nat.le_of_ble_eq_true rfl, rfl, rfl, tyB_of rfl, rfl⟩
theorem fX19_2 : FK 19 2 eX19 2 1 320 := ⟨rfl, Nat.le_of_ble_eq_true rfl, rfl, rfl, tyB_of rfl, rfl⟩
theorem fX19_3 : FK 19 3 eX19 3 1 320 := ⟨rfl, Nat.le_of_ble_eq_true rfl, rfl, rfl, tyB_of rfl, rfl⟩
theorem fX19_4 : FK 19 4 eX19 4 5 320 := ⟨rfl, Nat.le_of_ble_eq_true rfl, rfl, rfl, tyB_of rfl, rfl⟩
theorem fX19_5 : FK 19 5 eX19 5 5 320 := ⟨rfl, Nat.le_of_ble_eq_true rfl, rfl, rfl, tyB_of rfl, rfl⟩
theorem fX19_6 : FK 19 6 eX19 6 5 320 := ⟨rfl, Nat.le_of_ble_eq_true rfl, rfl, rfl, tyB_of rfl, rfl⟩
theorem fX19_7 : FK 19 7 eX19 7 5 320 := ⟨rfl, Nat.le_of_ble_eq_true rfl, rfl, rfl, tyB_of rfl, rfl⟩
theorem fX19_8 : FK 19 8 eX19 8 5 320 := ⟨rfl, Nat.le_of_ble_eq_true rfl, rfl, rfl, tyB_of rfl, rfl⟩
theorem kX20 : CK 20 eX20 336 8 := ⟨rfl, tyB_all rfl, rfl, rfl⟩
theorem fX20_0 : FK 20 0 eX20 0 5 336 := ⟨rfl, Nat.le_of_ble_eq_true rfl, rfl, rfl, tyB_of rfl, rfl⟩
theorem fX20_1 : FK 20 1 eX20 1 1 336 := ⟨rfl, Nat.le_of_ble_eq_true rfl, rfl, rfl, tyB_of rfl, rfl⟩
theorem fX20_2 : FK 20 2 eX20 2 1 336 := ⟨rfl, Nat.le_of_ble_eq_true rfl, rfl, rfl, tyB_of rfl, rfl⟩
theorem fX20_3 : FK 20 3 eX20 3 1 336 := ⟨rfl, Nat.le_of_ble_eq_true rfl, rfl, rfl, tyB_of rfl, rfl⟩
theorem fX20_4 : FK 20 4 eX20 4 1 336 := ⟨rfl, Nat.le_of_ble_eq_true rfl, rfl, rfl, tyB_of rfl, rfl⟩
theorem fX20_5 : FK 20 5 eX20 5 1 336 := ⟨rfl, Nat.le_of_ble_eq_true rfl, rfl, rfl, tyB_of rfl, rfl⟩
theorem fX20_6 : FK 20 6 eX20 6 1 336 := ⟨rfl, Nat.le_of_ble_eq_true rfl, rfl, rfl, tyB_of rfl, rfl⟩
theorem fX20_7 : FK 20 7 eX20 7 1 336 := ⟨rfl, Nat.le_of_ble_eq_true rfl, rfl, rfl, tyB_of rfl, rfl⟩
theorem kX21 : CK 21 eX21 352 14 := ⟨rfl, tyB_all rfl, rfl, rfl⟩
theorem fX21_0 : FK 21 0 eX21 0 1 352 := ⟨rfl, Nat.le_of_ble_eq_true rfl, rfl, rfl, tyB_of rfl, rfl⟩
theorem fX21_1 : FK 21 1 eX21 1 1 352 := ⟨rfl, Nat.le_of_ble_eq_true rfl, rfl, rfl, tyB_of rfl, rfl⟩
theorem fX21_2 : FK 21 2 eX21 2 1 352 := ⟨rfl, Nat.le_of_ble_eq_true rfl, rfl, rfl, tyB_of rfl, rfl⟩
theorem fX21_3 : FK 21 3 eX21 3 1 352 := ⟨rfl, Nat.le_of_ble_eq_true rfl, rfl, rfl, tyB_of rfl, rfl⟩
theorem fX21_4 : FK 21 4 eX21 4 5 352 := ⟨rfl, Nat.le_of_ble_eq_true rfl, rfl, rfl, tyB_of rfl, rfl⟩
theorem fX21_5 : FK 21 5 eX21 5 5 352 := ⟨rfl, Nat.le_of_ble_eq_true rfl, rfl, rfl, tyB_of rfl, rfl⟩
theorem fX21_6 : FK 21 6 eX21 6 5 352 := ⟨rfl, Nat.le_of_ble_eq_true rfl, rfl, rfl, tyB_of rfl, rfl⟩
theorem fX21_7 : FK 21 7 eX21 7 5 352 := ⟨rfl, Nat.le_of_ble_eq_true rfl, rfl, rfl, tyB_of rfl, rfl⟩
theorem fX21_8 : FK 21 8 eX21 8 5 352 := ⟨rfl, Nat.le_of_ble_eq_true rfl, rfl, rfl, tyB_of rfl, rfl⟩
theorem fX21_9 : FK 21 9 eX21 9 5 352 := ⟨rfl, Nat.le_of_ble_eq_true rfl, rfl, rfl, tyB_of rfl, rfl⟩
theorem fX21_10 : FK 21 10 eX21 10 5 352 := ⟨rfl, Nat.le_of_ble_eq_true rfl, rfl, rfl, tyB_of rfl, rfl⟩
theorem fX21_11 : FK 21 11 eX21 11 5 352 := ⟨rfl, Nat.le_of_ble_eq_true rfl, rfl, rfl, tyB_of rfl, rfl⟩
theorem fX21_12 : FK 21 12 eX21 12 1 352 := ⟨rfl, Nat.le_of_ble_eq_true rfl, rfl, rfl, tyB_of rfl, rfl⟩
theorem fX21_13 : FK 21 13 eX21 13 5 352 := ⟨rfl, Nat.le_of_ble_eq_true rfl, rfl, rfl, tyB_of rfl, rfl⟩
theorem kX22 : CK 22 eX22 368 28 := ⟨rfl, tyB_all rfl, rfl, rfl⟩
theorem fX22_0 : FK 22 0 eX22 0 5 368 := ⟨rfl, Nat.le_of_ble_eq_true rfl, rfl, rfl, tyB_of rfl, rfl⟩
theorem fX22_1 : FK 22 1 eX22 1 5 368 := ⟨rfl, Nat.le_of_ble_eq_true rfl, rfl, rfl, tyB_of rfl, rfl⟩
theorem fX22_2 : FK 22 2 eX22 2 5 368 := ⟨rfl, Nat.le_of_ble_eq_true rfl, rfl, rfl, tyB_of rfl, rfl⟩
theorem fX22_3 : FK 22 3 eX22 3 1 368 := ⟨rfl, Nat.le_of_ble_eq_true rfl, rfl, rfl, tyB_of rfl, rfl⟩
theorem fX22_4 : FK 22 4 eX22 4 1 368 := ⟨rfl, Nat.le_of_ble_eq_true rfl, rfl, rfl, tyB_of rfl, rfl⟩
theorem fX22_5 : FK 22 5 eX22 5 1 368 := ⟨rfl, Nat.le_of_ble_eq_true rfl, rfl, rfl, tyB_of rfl, rfl⟩
theorem fX22_6 : FK 22 6 eX22 6 1 368 := ⟨rfl, Nat.le_of_ble_eq_true rfl, rfl, rfl, tyB_of rfl, rfl⟩
theorem fX22_7 : FK 22 7 eX22 7 1 368 := ⟨rfl, Nat.le_of_ble_eq_true rfl, rfl, rfl, tyB_of rfl, rfl⟩
theorem fX22_8 : FK 22 8 eX22 8 1 368 := ⟨rfl, Nat.le_of_ble_eq_true rfl, rfl, rfl, tyB_of rfl, rfl⟩
theorem fX22_9 : FK 22 9 eX22 9 5 368 := ⟨rfl, Nat.le_of_ble_eq_true rfl, rfl, rfl, tyB_of rfl, rfl⟩
theorem fX22_10 : FK 22 10 eX22 10 5 368 := ⟨rfl, Nat.le_of_ble_eq_true rfl, rfl, rfl, tyB_of rfl, rfl⟩
theorem fX22_11 : FK 22 11 eX22 11 5 368 := ⟨rfl, Nat.le_of_ble_eq_true rfl, rfl, rfl, tyB_of rfl, rfl⟩
theorem fX22_12 : FK 22 12 eX22 12 5 368 := ⟨rfl, Nat.le_of_ble_eq_true rfl, rfl, rfl, tyB_of rfl, rfl⟩
theorem fX22_13 : FK 22 13 eX22 13 5 368 := ⟨rfl, Nat.le_of_ble_eq_true rfl, rfl, rfl, tyB_of rfl, rfl⟩
theorem fX22_14 : FK 22 14 eX22 14 5 368 := ⟨rfl, Nat.le_of_ble_eq_true rfl, rfl, rfl, tyB_of rfl, rfl⟩
theorem fX22_15 : FK 22 15 eX22 15 5 368 := ⟨rfl, Nat.le_of_ble_eq_true rfl, rfl, rfl, tyB_of rfl, rfl⟩
theorem fX22_16 : FK 22 16 eX22 16 5 368 := ⟨rfl, Nat.le_of_ble_eq_true rfl, rfl, rfl, tyB_of rfl, rfl⟩
theorem fX22_17 : FK 22 17 eX22 17 5 368 := ⟨rfl, Nat.le_of_ble_eq_true rfl, rfl, rfl, tyB_of rfl, rfl⟩
theorem fX22_18 : FK 22 18 eX22 18 5 368 := ⟨rfl, Nat.le_of_ble_eq_true rfl, rfl, rfl, tyB_of rfl, rfl⟩
theorem fX22_19 : FK 22 19 eX22 19 5 368 := ⟨rfl, Nat.le_of_ble_eq_true rfl, rfl, rfl, tyB_of rfl, rfl⟩
theorem fX22_20 : FK 22 20 eX22 20 5 368 := ⟨rfl, Nat.le_of_ble_eq_true rfl, rfl, rfl, tyB_of rfl, rfl⟩
theorem fX22_21 : FK 22 21 eX22 21 5 368 := ⟨rfl, Nat.le_of_ble_eq_true rfl, rfl, rfl, tyB_of rfl, rfl⟩
theorem fX22_22 : FK 22 22 eX22 22 5 368 := ⟨rfl, Nat.le_of_ble_eq_true rfl, rfl, rfl, tyB_of rfl, rfl⟩
theorem fX22_23 : FK 22 23 eX22 23 5 368 := ⟨rfl, Nat.le_of_ble_eq_true rfl, rfl, rfl, tyB_of rfl, rfl⟩
theorem fX22_24 : FK 22 24 eX22 24 5 368 := ⟨rfl, Nat.le_of_ble_eq_true rfl, rfl, rfl, tyB_of rfl, rfl⟩
theorem fX22_25 : FK 22 25 eX22 25 5 368 := ⟨rfl, Nat.le_of_ble_eq_true rfl, rfl, rfl, tyB_of rfl, rfl⟩
theorem fX22_26 : FK 22 26 eX22 26 5 368 := ⟨rfl, Nat.le_of_ble_eq_true rfl, rfl, rfl, tyB_of rfl, rfl⟩
theorem fX22_27 : FK 22 27 eX22 27 5 368 := ⟨rfl, Nat.le_of_ble_eq_true rfl, rfl, rfl, tyB_of rfl, rfl⟩
theorem kX23 : CK 23 eX23 384 28 := ⟨rfl, tyB_all rfl, rfl, rfl⟩
theorem fX23_0 : FK 23 0 eX23 0 5 384 := ⟨rfl, Nat.le_of_ble_eq_true rfl, rfl, rfl, tyB_of rfl, rfl⟩
theorem fX23_1 : FK 23 1 eX23 1 1 384 := ⟨rfl, Nat.le_of_ble_eq_true rfl, rfl, rfl, tyB_of rfl, rfl⟩
theorem fX23_2 : FK 23 2 eX23 2 1 384 := ⟨rfl, Nat.le_of_ble_eq_true rfl, rfl, rfl, tyB_of rfl, rfl⟩
theorem fX23_3 : FK 23 3 eX23 3 1 384 := ⟨rfl, Nat.le_of_ble_eq_true rfl, rfl, rfl, tyB_of rfl, rfl⟩
theorem fX23_4 : FK 23 4 eX23 4 1 384 := ⟨rfl, Nat.le_of_ble_eq_true rfl, rfl, rfl, tyB_of rfl, rfl⟩
theorem fX23_5 : FK 23 5 eX23 5 3 384 := ⟨rfl, Nat.le_of_ble_eq_true rfl, rfl, rfl, tyB_of rfl, rfl⟩
theorem fX23_6 : FK 23 6 eX23 6 5 384 := ⟨rfl, Nat.le_of_ble_eq_true rfl, rfl, rfl, tyB_of rfl, rfl⟩
theorem fX23_7 : FK 23 7 eX23 7 5 384 := ⟨rfl, Nat.le_of_ble_eq_true rfl, rfl, rfl, tyB_of rfl, rfl⟩
theorem fX23_8 : FK 23 8 eX23 8 5 384 := ⟨rfl, Nat.le_of_ble_eq_true rfl, rfl, rfl, tyB_of rfl, rfl⟩
theorem fX23_9 : FK 23 9 eX23 9 5 384 := ⟨rfl, Nat.le_of_ble_eq_true rfl, rfl, rfl, tyB_of rfl, rfl⟩
theorem fX23_10 : FK 23 10 eX23 10 5 384 := ⟨rfl, Nat.le_of_ble_eq_true rfl, rfl, rfl, tyB_of rfl, rfl⟩
theorem fX23_11 : FK 23 11 eX23 11 5 384 := ⟨rfl, Nat.le_of_ble_eq_true rfl, rfl, rfl, tyB_of rfl, rfl⟩
theorem fX23_12 : FK 23 12 eX23 12 5 384 := ⟨rfl, Nat.le_of_ble_eq_true rfl, rfl, rfl, tyB_of rfl, rfl⟩
theorem fX23_13 : FK 23 13 eX23 13 5 384 := ⟨rfl, Nat.le_of_ble_eq_true rfl, rfl, rfl, tyB_of rfl, rfl⟩
theorem fX23_14 : FK 23 14 eX23 14 5 384 := ⟨rfl, Nat.le_of_ble_eq_true rfl, rfl, rfl, tyB_of rfl, rfl⟩
theorem fX23_15 : FK 23 15 eX23 15 5 384 := ⟨rfl, Nat.le_of_ble_eq_true rfl, rfl, rfl, tyB_of rfl, rfl⟩
theorem fX23_16 : FK 23 16 eX23 16 5 384 := ⟨rfl, Nat.le_of_ble_eq_true rfl, rfl, rfl, tyB_of rfl, rfl⟩
theorem fX23_17 : FK 23 17 eX23 17 5 384 := ⟨rfl, Nat.le_of_ble_eq_true rfl, rfl, rfl, tyB_of rfl, rfl⟩
theorem fX23_18 : FK 23 18 eX23 18 5 384 := ⟨rfl, Nat.le_of_ble_eq_true rfl, rfl, rfl, tyB_of rfl, rfl⟩
theorem fX23_19 : FK 23 19 eX23 19 5 384 := ⟨rfl, Nat.le_of_ble_eq_true rfl, rfl, rfl, tyB_of rfl, rfl⟩
theorem fX23_20 : FK 23 20 eX23 20 5 384 := ⟨rfl, Nat.le_of_ble_eq_true rfl, rfl, rfl, tyB_of rfl, rfl⟩
theorem fX23_21 : FK 23 21 eX23 21 5 384 := ⟨rfl, Nat.le_of_ble_eq_true rfl, rfl, rfl, tyB_of rfl, rfl⟩
theorem fX23_22 : FK 23 22 eX23 22 5 384 := ⟨rfl, Nat.le_of_ble_eq_true rfl, rfl, rfl, tyB_of rfl, rfl⟩
theorem fX23_23 : FK 23 23 eX23 23 5 384 := ⟨rfl, Nat.le_of_ble_eq_true rfl, rfl, rfl, tyB_of rfl, rfl⟩
theorem fX23_24 : FK 23 24 eX23 24 5 384 := ⟨rfl, Nat.le_of_ble_eq_true rfl, rfl, rfl, tyB_of rfl, rfl⟩
theorem fX23_25 : FK 23 25 eX23 25 1 384 := ⟨rfl, Nat.le_of_ble_eq_true rfl, rfl, rfl, tyB_of rfl, rfl⟩
theorem fX23_26 : FK 23 26 eX23 26 1 384 := ⟨rfl, Nat.le_of_ble_eq_true rfl, rfl, rfl, tyB_of rfl, rfl⟩
theorem fX23_27 : FK 23 27 eX23 27 1 384 := ⟨rfl, Nat.le_of_ble_eq_true rfl, rfl, rfl, tyB_of rfl, rfl⟩
theorem kX24 : CK 24 eX24 400 30 := ⟨rfl, tyB_all rfl, rfl, rfl⟩
theorem fX24_0 : FK 24 0 eX24 0 5 400 := ⟨rfl, Nat.le_of_ble_eq_true rfl, rfl, rfl, tyB_of rfl, rfl⟩
theorem fX24_1 : FK 24 1 eX24 1 5 400 := ⟨rfl, Nat.le_of_ble_eq_true rfl, rfl, rfl, tyB_of rfl, rfl⟩
theorem fX24_2 : FK 24 2 eX24 2 5 400 := ⟨rfl, Nat.le_of_ble_eq_true rfl, rfl, rfl, tyB_of rfl, rfl⟩
theorem fX24_3 : FK 24 3 eX24 3 5 400 := ⟨rfl, Nat.le_of_ble_eq_true rfl, rfl, rfl, tyB_of rfl, rfl⟩
theorem fX24_4 : FK 24 4 eX24 4 5 400 := ⟨rfl, Nat.le_of_ble_eq_true rfl, rfl, rfl, tyB_of rfl, rfl⟩
theorem fX24_5 : FK 24 5 eX24 5 5 400 := ⟨rfl, Nat.le_of_ble_eq_true rfl, rfl, rfl, tyB_of rfl, rfl⟩
theorem fX24_6 : FK 24 6 eX24 6 5 400 := ⟨rfl, Nat.le_of_ble_eq_true rfl, rfl, rfl, tyB_of rfl, rfl⟩
theorem fX24_7 : FK 24 7 eX24 7 5 400 := ⟨rfl, Nat.le_of_ble_eq_true rfl, rfl, rfl, tyB_of rfl, rfl⟩
theorem fX24_8 : FK 24 8 eX24 8 5 400 := ⟨rfl, Nat.le_of_ble_eq_true rfl, rfl, rfl, tyB_of rfl, rfl⟩
theorem fX24_9 : FK 24 9 eX24 9 5 400 := ⟨rfl, Nat.le_of_ble_eq_true rfl, rfl, rfl, tyB_of rfl, rfl⟩
theorem fX24_10 : FK 24 10 eX24 10 5 400 := ⟨rfl, Nat.le_of_ble_eq_true rfl, rfl, rfl, tyB_of rfl, rfl⟩
theorem fX24_11 : FK 24 11 eX24 11 5 400 := ⟨rfl, Nat.le_of_ble_eq_true rfl, rfl, rfl, tyB_of rfl, rfl⟩
theorem fX24_12 : FK 24 12 eX24 12 5 400 := ⟨rfl, Nat.le_of_ble_eq_true rfl, rfl, rfl, tyB_of rfl, rfl⟩
theorem fX24_13 : FK 24 13 eX24 13 5 400 := ⟨rfl, Nat.le_of_ble_eq_true rfl, rfl, rfl, tyB_of rfl, rfl⟩
theorem fX24_14 : FK 24 14 eX24 14 5 400 := ⟨rfl, Nat.le_of_ble_eq_true rfl, rfl, rfl, tyB_of rfl, rfl⟩
theorem fX24_15 : FK 24 15 eX24 15 5 400 := ⟨rfl, Nat.le_of_ble_eq_true rfl, rfl, rfl, tyB_of rfl, rfl⟩
theorem fX24_16 : FK 24 16 eX24 16 5 400 := ⟨rfl, Nat.le_of_ble_eq_true rfl, rfl, rfl, tyB_of rfl, rfl⟩
theorem fX24_17 : FK 24 17 eX24 17 5 400 := ⟨rfl, Nat.le_of_ble_eq_true rfl, rfl, rfl, tyB_of rfl, rfl⟩
theorem fX24_18 : FK 24 18 eX24 18 5 400 := ⟨rfl, Nat.le_of_ble_eq_true rfl, rfl, rfl, tyB_of rfl, rfl⟩
theorem fX24_19 : FK 24 19 eX24 19 5 400 := ⟨rfl, Nat.le_of_ble_eq_true rfl, rfl, rfl, tyB_of rfl, rfl⟩
theorem fX24_20 : FK 24 20 eX24 20 5 400 := ⟨rfl, Nat.le_of_ble_eq_true rfl, rfl, rfl, tyB_of rfl, rfl⟩
theorem fX24_21 : FK 24 21 eX24 21 5 400 := ⟨rfl, Nat.le_of_ble_eq_true rfl, rfl, rfl, tyB_of rfl, rfl⟩
theorem fX24_22 : FK 24 22 eX24 22 5 400 := ⟨rfl, Nat.le_of_ble_eq_true rfl, rfl, rfl, tyB_of rfl, rfl⟩
theorem fX24_23 : FK 24 23 eX24 23 5 400 := ⟨rfl, Nat.le_of_ble_eq_true rfl, rfl, rfl, tyB_of rfl, rfl⟩
theorem fX24_24 : FK 24 24 eX24 24 5 400 := ⟨rfl, Nat.le_of_ble_eq_true rfl, rfl, rfl, tyB_of rfl, rfl⟩
theorem fX24_25 : FK 24 25 eX24 25 5 400 := ⟨rfl, Nat.le_of_ble_eq_true rfl, rfl, rfl, tyB_of rfl, rfl⟩
theorem fX24_26 : FK 24 26 eX24 26 5 400 := ⟨rfl, Nat.le_of_ble_eq_true rfl, rfl, rfl, tyB_of rfl, rfl⟩
theorem fX24_27 : FK 24 27 eX24 27 5 400 := ⟨rfl, Nat.le_of_ble_eq_true rfl, rfl, rfl, tyB_of rfl, rfl⟩
theorem fX24_28 : FK 24 28 eX24 28 1 400 := ⟨rfl, Nat.le_of_ble_eq_true rfl, rfl, rfl, tyB_of rfl, rfl⟩
theorem fX24_29 : FK 24 29 eX24 29 3 400 := ⟨rfl, Nat.le_of_ble_eq_true rfl, rfl, rfl, tyB_of rfl, rfl⟩
theorem kX25 : CK 25 eX25 416 141 := ⟨rfl, tyB_all rfl, rfl, rfl⟩
theorem fX25_0 : FK 25 0 eX25 0 5 416 := ⟨rfl, Nat.le_of_ble_eq_true rfl, rfl, rfl, tyB_of rfl, rfl⟩
theorem fX25_1 : FK 25 1 eX25 1 5 416 := ⟨rfl, Nat.le_of_ble_eq_true rfl, rfl, rfl, tyB_of rfl, rfl⟩
theorem fX25_2 : FK 25 2 eX25 2 5 416 := ⟨rfl, Nat.le_of_ble_eq_true rfl, rfl, rfl, tyB_of rfl, rfl⟩
theorem fX25_3 : FK 25 3 eX25 3 5 416 := ⟨rfl, Nat.le_of_ble_eq_true rfl, rfl, rfl, tyB_of rfl, rfl⟩
theorem fX25_4 : FK 25 4 eX25 4 1 416 := ⟨rfl, Nat.le_of_ble_eq_true rfl, rfl, rfl, tyB_of rfl, rfl⟩
theorem fX25_5 : FK 25 5 eX25 5 5 416 := ⟨rfl, Nat.le_of_ble_eq_true rfl, rfl, rfl, tyB_of rfl, rfl⟩
theorem fX25_6 : FK 25 6 eX25 6 5 416 := ⟨rfl, Nat.le_of_ble_eq_true rfl, rfl, rfl, tyB_of rfl, rfl⟩
theorem fX25_7 : FK 25 7 eX25 7 5 416 := ⟨rfl, Nat.le_of_ble_eq_true rfl, rfl, rfl, tyB_of rfl, rfl⟩
theorem fX25_8 : FK 25 8 eX25 8 1 416 := ⟨rfl, Nat.le_of_ble_eq_true rfl, rfl, rfl, tyB_of rfl, rfl⟩
theorem fX25_9 : FK 25 9 eX25 9 1 416 := ⟨rfl, Nat.le_of_ble_eq_true rfl, rfl, rfl, tyB_of rfl, rfl⟩
theorem fX25_10 : FK 25 10 eX25 10 5 416 := ⟨rfl, Nat.le_of_ble_eq_true rfl, rfl, rfl, tyB_of rfl, rfl⟩
theorem fX25_11 : FK 25 11 eX25 11 5 416 := ⟨rfl, Nat.le_of_ble_eq_true rfl, rfl, rfl, tyB_of rfl, rfl⟩
theorem fX25_12 : FK 25 12 eX25 12 5 416 := ⟨rfl, Nat.le_of_ble_eq_true rfl, rfl, rfl, tyB_of rfl, rfl⟩
theorem fX25_13 : FK 25 13 eX25 13 5 416 := ⟨rfl, Nat.le_of_ble_eq_true rfl, rfl, rfl, tyB_of rfl, rfl⟩
theorem fX25_14 : FK 25 14 eX25 14 5 416 := ⟨rfl, Nat.le_of_ble_eq_true rfl, rfl, rfl, tyB_of rfl, rfl⟩
theorem fX25_15 : FK 25 15 eX25 15 5 416 := ⟨rfl, Nat.le_of_ble_eq_true rfl, rfl, rfl, tyB_of rfl, rfl⟩
theorem fX25_16 : FK 25 16 eX25 16 5 416 := ⟨rfl, Nat.le_of_ble_eq_true rfl, rfl, rfl, tyB_of rfl, rfl⟩
theorem fX25_17 : FK 25 17 eX25 17 5 416 := ⟨rfl, Nat.le_of_ble_eq_true rfl, rfl, rfl, tyB_of rfl, rfl⟩
theorem fX25_18 : FK 25 18 eX25 18 5 416 := ⟨rfl, Nat.le_of_ble_eq_true rfl, rfl, rfl, tyB_of rfl, rfl⟩
theorem fX25_19 : FK 25 19 eX25 19 5 416 := ⟨rfl, Nat.le_of_ble_eq_true rfl, rfl, rfl, tyB_of rfl, rfl⟩
theorem fX25_20 : FK 25 20 eX25 20 5 416 := ⟨rfl, Nat.le_of_ble_eq_true rfl, rfl, rfl, tyB_of rfl, rfl⟩
theorem fX25_21 : FK 25 21 eX25 21 5 416 := ⟨rfl, Nat.le_of_ble_eq_true rfl, rfl, rfl, tyB_of rfl, rfl⟩
theorem fX25_22 : FK 25 22 eX25 22 5 416 := ⟨rfl, Nat.le_of_ble_eq_true rfl, rfl, rfl, tyB_of rfl, rfl⟩
theorem fX25_23 : FK 25 23 eX25 23 5 416 := ⟨rfl, Nat.le_of_ble_eq_true rfl, rfl, rfl, tyB_of rfl, rfl⟩
theorem fX25_24 : FK 25 24 eX25 24 5 416 := ⟨rfl, Nat.le_of_ble_eq_true rfl, rfl, rfl, tyB_of rfl, rfl⟩
theorem fX25_25 : FK 25 25 eX25 25 5 416 := ⟨rfl, Nat.le_of_ble_eq_true rfl, rfl, rfl, tyB_of rfl, rfl⟩
theorem fX25_26 : FK 25 26 eX25 26 5 416 := ⟨rfl, Nat.le_of_ble_eq_true rfl, rfl, rfl, tyB_of rfl, rfl⟩
theorem fX25_27 : FK 25 27 eX25 27 5 416 := ⟨rfl, Nat.le_of_ble_eq_true rfl, rfl, rfl, tyB_of rfl, rfl⟩
theorem fX25_28 : FK 25 28 eX25 28 5 416 := ⟨rfl, Nat.le_of_ble_eq_true rfl, rfl, rfl, tyB_of rfl, rfl⟩
theorem fX25_29 : FK 25 29 eX25 29 5 416 := ⟨rfl, Nat.le_of_ble_eq_true rfl, rfl, rfl, tyB_of rfl, rfl⟩
theorem fX25_30 : FK 25 30 eX25 30 1 416 := ⟨rfl, Nat.le_of_ble_eq_true rfl, rfl, rfl, tyB_of rfl, rfl⟩
theorem fX25_31 : FK 25 31 eX25 31 5 416 := ⟨rfl, Nat.le_of_ble_eq_true rfl, rfl, rfl, tyB_of rfl, rfl⟩
theorem fX25_32 : FK 25 32 eX25 32 5 416 := ⟨rfl, Nat.le_of_ble_eq_true rfl, rfl, rfl, tyB_of rfl, rfl⟩
theorem fX25_33 : FK 25 33 eX25 33 5 416 := ⟨rfl, Nat.le_of_ble_eq_true rfl, rfl, rfl, tyB_of rfl, rfl⟩
theorem fX25_34 : FK 25 34 eX25 34 5 416 := ⟨rfl, Nat.le_of_ble_eq_true rfl, rfl, rfl, tyB_of rfl, rfl⟩
theorem fX25_35 : FK 25 35 eX25 35 5 416 := ⟨rfl, Nat.le_of_ble_eq_true rfl, rfl, rfl, tyB_of rfl, rfl⟩
theorem fX25_36 : FK 25 36 eX25 36 5 416 := ⟨rfl, Nat.le_of_ble_eq_true rfl, rfl, rfl, tyB_of rfl, rfl⟩
theorem fX25_37 : FK 25 37 eX25 37 5 416 := ⟨rfl, Nat.le_of_ble_eq_true rfl, rfl, rfl, tyB_of rfl, rfl⟩
theorem fX25_38 : FK 25 38 eX25 38 5 416 := ⟨rfl, Nat.le_of_ble_eq_true rfl, rfl, rfl, tyB_of rfl, rfl⟩
theorem fX25_39 : FK 25 39 eX25 39 5 416 := ⟨rfl, Nat.le_of_ble_eq_true rfl, rfl, rfl, tyB_of rfl, rfl⟩
theorem fX25_40 : FK 25 40 eX25 40 5 416 := ⟨rfl, Nat.le_of_ble_eq_true rfl, rfl, rfl, tyB_of rfl, rfl⟩
theorem fX25_41 : FK 25 41 eX25 41 5 416 := ⟨rfl, Nat.le_of_ble_eq_true rfl, rfl, rfl, tyB_of rfl, rfl⟩
theorem fX25_42 : FK 25 42 eX25 42 1 416 := ⟨rfl, Nat.le_of_ble_eq_true rfl, rfl, rfl, tyB_of rfl, rfl⟩
theorem fX25_43 : FK 25 43 eX25 43 5 416 := ⟨rfl, Nat.le_of_ble_eq_true rfl, rfl, rfl, tyB_of rfl, rfl⟩
theorem fX25_44 : FK 25 44 eX25 44 5 416 := ⟨rfl, Nat.le_of_ble_eq_true rfl, rfl, rfl, tyB_of rfl, rfl⟩
theorem fX25_45 : FK 25 45 eX25 45 5 416 := ⟨rfl, Nat.le_of_ble_eq_true rfl, rfl, rfl, tyB_of rfl, rfl⟩
theorem fX25_46 : FK 25 46 eX25 46 5 416 := ⟨rfl, Nat.le_of_ble_eq_true rfl, rfl, rfl, tyB_of rfl, rfl⟩
theorem fX25_47 : FK 25 47 eX25 47 5 416 := ⟨rfl, Nat.le_of_ble_eq_true rfl, rfl, rfl, tyB_of rfl, rfl⟩
theorem fX25_48 : FK 25 48 eX25 48 5 416 := ⟨rfl, Nat.le_of_ble_eq_true rfl, rfl, rfl, tyB_of rfl, rfl⟩
theorem fX25_49 : FK 25 49 eX25 49 5 416 := ⟨rfl, Nat.le_of_ble_eq_true rfl, rfl, rfl, tyB_of rfl, rfl⟩
theorem fX25_50 : FK 25 50 eX25 50 5 416 := ⟨rfl, Nat.le_of_ble_eq_true rfl, rfl, rfl, tyB_of rfl, rfl⟩
theorem fX25_51 : FK 25 51 eX25 51 5 416 := ⟨rfl, Nat.le_of_ble_eq_true rfl, rfl, rfl, tyB_of rfl, rfl⟩
theorem fX25_52 : FK 25 52 eX25 52 5 416 := ⟨rfl, Nat.le_of_ble_eq_true rfl, rfl, rfl, tyB_of rfl, rfl⟩
theorem fX25_53 : FK 25 53 eX25 53 1 416 := ⟨rfl, Nat.le_of_ble_eq_true rfl, rfl, rfl, tyB_of rfl, rfl⟩
theorem fX25_54 : FK 25 54 eX25 54 1 416 := ⟨rfl, Nat.le_of_ble_eq_true rfl, rfl, rfl, tyB_of rfl, rfl⟩
theorem fX25_55 : FK 25 55 eX25 55 5 416 := ⟨rfl, Nat.le_of_ble_eq_true rfl, rfl, rfl, tyB_of rfl, rfl⟩
theorem fX25_56 : FK 25 56 eX25 56 5 416 := ⟨rfl, Nat.le_of_ble_eq_true rfl, rfl, rfl, tyB_of rfl, rfl⟩
theorem fX25_57 : FK 25 57 eX25 57 5 416 := ⟨rfl, Nat.le_of_ble_eq_true rfl, rfl, rfl, tyB_of rfl, rfl⟩
theorem fX25_58 : FK 25 58 eX25 58 5 416 := ⟨rfl, Nat.le_of_ble_eq_true rfl, rfl, rfl, tyB_of rfl, rfl⟩
theorem fX25_59 : FK 25 59 eX25 59 5 416 := ⟨rfl, Nat.le_of_ble_eq_true rfl, rfl, rfl, tyB_of rfl, rfl⟩
theorem fX25_60 : FK 25 60 eX25 60 5 416 := ⟨rfl, Nat.le_of_ble_eq_true rfl, rfl, rfl, tyB_of rfl, rfl⟩
theorem fX25_61 : FK 25 61 eX25 61 5 416 := ⟨rfl, Nat.le_of_ble_eq_true rfl, rfl, rfl, tyB_of rfl, rfl⟩
theorem fX25_62 : FK 25 62 eX25 62 5 416 := ⟨rfl, Nat.le_of_ble_eq_true rfl, rfl, rfl, tyB_of rfl, rfl⟩
theorem fX25_63 : FK 25 63 eX25 63 5 416 := ⟨rfl, Nat.le_of_ble_eq_true rfl, rfl, rfl, tyB_of rfl, rfl⟩
theorem fX25_64 : FK 25 64 eX25 64 5 416 := ⟨rfl, Nat.le_of_ble_eq_true rfl, rfl, rfl, tyB_of rfl, rfl⟩
theorem fX25_65 : FK 25 65 eX25 65 5 416 := ⟨rfl, Nat.le_of_ble_eq_true rfl, rfl, rfl, tyB_of rfl, rfl⟩
theorem fX25_66 : FK 25 66 eX25 66 1 416 := ⟨rfl, Nat.le_of_ble_eq_true rfl, rfl, rfl, tyB_of rfl, rfl⟩
theorem fX25_67 : FK 25 67 eX25 67 5 416 := ⟨rfl, Nat.le_of_ble_eq_true rfl, rfl, rfl, tyB_of rfl, rfl⟩
theorem fX25_68 : FK 25 68 eX25 68 5 416 := ⟨rfl, Nat.le_of_ble_eq_true rfl, rfl, rfl, tyB_of rfl, rfl⟩
theorem fX25_69 : FK 25 69 eX25 69 5 416 := ⟨rfl, Nat.le_of_ble_eq_true rfl, rfl, rfl, tyB_of rfl, rfl⟩
theorem fX25_70 : FK 25 70 eX25 70 5 416 := ⟨rfl, Nat.le_of_ble_eq_true rfl, rfl, rfl, tyB_of rfl, rfl⟩
theorem fX25_71 : FK 25 71 eX25 71 5 416 := ⟨rfl, Nat.le_of_ble_eq_true rfl, rfl, rfl, tyB_of rfl, rfl⟩
theorem fX25_72 : FK 25 72 eX25 72 5 416 := ⟨rfl, Nat.le_of_ble_eq_true rfl, rfl, rfl, tyB_of rfl, rfl⟩
theorem fX25_73 : FK 25 73 eX25 73 1 416 := ⟨rfl, Nat.le_of_ble_eq_true rfl, rfl, rfl, tyB_of rfl, rfl⟩
theorem fX25_74 : FK 25 74 eX25 74 5 416 := ⟨rfl, Nat.le_of_ble_eq_true rfl, rfl, rfl, tyB_of rfl, rfl⟩
theorem fX25_75 : FK 25 75 eX25 75 5 416 := ⟨rfl, Nat.le_of_ble_eq_true rfl, rfl, rfl, tyB_of rfl, rfl⟩
theorem fX25_76 : FK 25 76 eX25 76 5 416 := ⟨rfl, Nat.le_of_ble_eq_true rfl, rfl, rfl, tyB_of rfl, rfl⟩
theorem fX25_77 : FK 25 77 eX25 77 5 416 := ⟨rfl, Nat.le_of_ble_eq_true rfl, rfl, rfl, tyB_of rfl, rfl⟩
theorem fX25_78 : FK 25 78 eX25 78 5 416 := ⟨rfl, Nat.le_of_ble_eq_true rfl, rfl, rfl, tyB_of rfl, rfl⟩
theorem fX25_79 : FK 25 79 eX25 79 5 416 := ⟨rfl, Nat.le_of_ble_eq_true rfl, rfl, rfl, tyB_of rfl, rfl⟩
theorem fX25_80 : FK 25 80 eX25 80 5 416 := ⟨rfl, Nat.le_of_ble_eq_true rfl, rfl, rfl, tyB_of rfl, rfl⟩
theorem fX25_81 : FK 25 81 eX25 81 5 416 := ⟨rfl, Nat.le_of_ble_eq_true rfl, rfl, rfl, tyB_of rfl, rfl⟩
theorem fX25_82 : FK 25 82 eX25 82 5 416 := ⟨rfl, Nat.le_of_ble_eq_true rfl, rfl, rfl, tyB_of rfl, rfl⟩
theorem fX25_83 : FK 25 83 eX25 83 5 416 := ⟨rfl, Nat.le_of_ble_eq_true rfl, rfl, rfl, tyB_of rfl, rfl⟩
theorem fX25_84 : FK 25 84 eX25 84 5 416 := ⟨rfl, Nat.le_of_ble_eq_true rfl, rfl, rfl, tyB_of rfl, rfl⟩
theorem fX25_85 : FK 25 85 eX25 85 5 416 := ⟨rfl, Nat.le_of_ble_eq_true rfl, rfl, rfl, tyB_of rfl, rfl⟩
theorem fX25_86 : FK 25 86 eX25 86 5 416 := ⟨rfl, Nat.le_of_ble_eq_true rfl, rfl, rfl, tyB_of rfl, rfl⟩
theorem fX25_87 : FK 25 87 eX25 87 5 416 := ⟨rfl, Nat.le_of_ble_eq_true rfl, rfl, rfl, tyB_of rfl, rfl⟩
theorem fX25_88 : FK 25 88 eX25 88 1 416 := ⟨rfl, Nat.le_of_ble_eq_true rfl, rfl, rfl, tyB_of rfl, rfl⟩
theorem fX25_89 : FK 25 89 eX25 89 5 416 := ⟨rfl, Nat.le_of_ble_eq_true rfl, rfl, rfl, tyB_of rfl, rfl⟩
theorem fX25_90 : FK 25 90 eX25 90 5 416 := ⟨rfl, Nat.le_of_ble_eq_true rfl, rfl, rfl, tyB_of rfl, rfl⟩
theorem fX25_91 : FK 25 91 eX25 91 5 416 := ⟨rfl, Nat.le_of_ble_eq_true rfl, rfl, rfl, tyB_of rfl, rfl⟩
theorem fX25_92 : FK 25 92 eX25 92 5 416 := ⟨rfl, Nat.le_of_ble_eq_true rfl, rfl, rfl, tyB_of rfl, rfl⟩
theorem fX25_93 : FK 25 93 eX25 93 5 416 := ⟨rfl, Nat.le_of_ble_eq_true rfl, rfl, rfl, tyB_of rfl, rfl⟩
theorem fX25_94 : FK 25 94 eX25 94 1 416 := ⟨rfl, Nat.le_of_ble_eq_true rfl, rfl, rfl, tyB_of rfl, rfl⟩
theorem fX25_95 : FK 25 95 eX25 95 1 416 := ⟨rfl, Nat.le_of_ble_eq_true rfl, rfl, rfl, tyB_of rfl, rfl⟩
theorem fX25_96 : FK 25 96 eX25 96 1 416 := ⟨rfl, Nat.le_of_ble_eq_true rfl, rfl, rfl, tyB_of rfl, rfl⟩
theorem fX25_97 : FK 25 97 eX25 97 1 416 := ⟨rfl, Nat.le_of_ble_eq_true rfl, rfl, rfl, tyB_of rfl, rfl⟩
theorem fX25_98 : FK 25 98 eX25 98 1 416 := ⟨rfl, Nat.le_of_ble_eq_true rfl, rfl, rfl, tyB_of rfl, rfl⟩
theorem fX25_99 : FK 25 99 eX25 99 5 416 := ⟨rfl, Nat.le_of_ble_eq_true rfl, rfl, rfl, tyB_of rfl, rfl⟩
theorem fX25_100 : FK 25 100 eX25 100 1 416 := ⟨rfl, Nat.le_of_ble_eq_true rfl, rfl, rfl, tyB_of rfl, rfl⟩
theorem fX25_101 : FK 25 101 eX25 101 1 416 := ⟨rfl, Nat.le_of_ble_eq_true rfl, rfl, rfl, tyB_of rfl, rfl⟩
theorem fX25_102 : FK 25 102 eX25 102 5 416 := ⟨rfl, Nat.le_of_ble_eq_true rfl, rfl, rfl, tyB_of rfl, rfl⟩
theorem fX25_103 : FK 25 103 eX25 103 1 416 := ⟨rfl, Nat.le_of_ble_eq_true rfl, rfl, rfl, tyB_of rfl, rfl⟩
theorem fX25_104 : FK 25 104 eX25 104 5 416 := ⟨rfl, Nat.le_of_ble_eq_true rfl, rfl, rfl, tyB_of rfl, rfl⟩
theorem fX25_105 : FK 25 105 eX25 105 5 416 := ⟨rfl, Nat.le_of_ble_eq_true rfl, rfl, rfl, tyB_of rfl, rfl⟩
theorem fX25_106 : FK 25 106 eX25 106 5 416 := ⟨rfl, Nat.le_of_ble_eq_true rfl, rfl, rfl, tyB_of rfl, rfl⟩
theorem fX25_107 : FK 25 107 eX25 107 5 416 := ⟨rfl, Nat.le_of_ble_eq_true rfl, rfl, rfl, tyB_of rfl, rfl⟩
theorem fX25_108 : FK 25 108 eX25 108 5 416 := ⟨rfl, Nat.le_of_ble_eq_true rfl, rfl, rfl, tyB_of rfl, rfl⟩
theorem fX25_109 : FK 25 109 eX25 109 5 416 := ⟨rfl, Nat.le_of_ble_eq_true rfl, rfl, rfl, tyB_of rfl, rfl⟩
theorem fX25_110 : FK 25 110 eX25 110 5 416 := ⟨rfl, Nat.le_of_ble_eq_true rfl, rfl, rfl, tyB_of rfl, rfl⟩
theorem fX25_111 : FK 25 111 eX25 111 5 416 := ⟨rfl, Nat.le_of_ble_eq_true rfl, rfl, rfl, tyB_of rfl, rfl⟩
theorem fX25_112 : FK 25 112 eX25 112 4 416 := ⟨rfl, Nat.le_of_ble_eq_true rfl, rfl, rfl, tyB_of rfl, rfl⟩
theorem fX25_113 : FK 25 113 eX25 113 4 416 := ⟨rfl, Nat.le_of_ble_eq_true rfl, rfl, rfl, tyB_of rfl, rfl⟩
theorem fX25_114 : FK 25 114 eX25 114 4 416 := ⟨rfl, Nat.le_of_ble_eq_true rfl, rfl, rfl, tyB_of rfl, rfl⟩
theorem fX25_115 : FK 25 115 eX25 115 4 416 := ⟨rfl, Nat.le_of_ble_eq_true rfl, rfl, rfl, tyB_of rfl, rfl⟩
theorem fX25_116 : FK 25 116 eX25 116 4 416 := ⟨rfl, Nat.le_of_ble_eq_true rfl, rfl, rfl, tyB_of rfl, rfl⟩
theorem fX25_117 : FK 25 117 eX25 117 1 416 := ⟨rfl, Nat.le_of_ble_eq_true rfl, rfl, rfl, tyB_of rfl, rfl⟩
theorem fX25_118 : FK 25 118 eX25 118 1 416 := ⟨rfl, Nat.le_of_ble_eq_true rfl, rfl, rfl, tyB_of rfl, rfl⟩
theorem fX25_119 : FK 25 119 eX25 119 1 416 := ⟨rfl, Nat.le_of_ble_eq_true rfl, rfl, rfl, tyB_of rfl, rfl⟩
theorem fX25_120 : FK 25 120 eX25 120 3 416 := ⟨rfl, Nat.le_of_ble_eq_true rfl, rfl, rfl, tyB_of rfl, rfl⟩
theorem fX25_121 : FK 25 121 eX25 121 5 416 := ⟨rfl, Nat.le_of_ble_eq_true rfl, rfl, rfl, tyB_of rfl, rfl⟩
theorem fX25_122 : FK 25 122 eX25 122 5 416 := ⟨rfl, Nat.le_of_ble_eq_true rfl, rfl, rfl, tyB_of rfl, rfl⟩
theorem fX25_123 : FK 25 123 eX25 123 5 416 := ⟨rfl, Nat.le_of_ble_eq_true rfl, rfl, rfl, tyB_of rfl, rfl⟩
theorem fX25_124 : FK 25 124 eX25 124 5 416 := ⟨rfl, Nat.le_of_ble_eq_true rfl, rfl, rfl, tyB_of rfl, rfl⟩
theorem fX25_125 : FK 25 125 eX25 125 5 416 := ⟨rfl, Nat.le_of_ble_eq_true rfl, rfl, rfl, tyB_of rfl, rfl⟩
theorem fX25_126 : FK 25 126 eX25 126 1 416 := ⟨rfl, Nat.le_of_ble_eq_true rfl, rfl, rfl, tyB_of rfl, rfl⟩
theorem fX25_127 : FK 25 127 eX25 127 5 416 := ⟨rfl, Nat.le_of_ble_eq_true rfl, rfl, rfl, tyB_of rfl, rfl⟩
theorem fX25_128 : FK 25 128 eX25 128 5 416 := ⟨rfl, Nat.le_of_ble_eq_true rfl, rfl, rfl, tyB_of rfl, rfl⟩
theorem fX25_129 : FK 25 129 eX25 129 5 416 := ⟨rfl, Nat.le_of_ble_eq_true rfl, rfl, rfl, tyB_of rfl, rfl⟩
theorem fX25_130 : FK 25 130 eX25 130 5 416 := ⟨rfl, Nat.le_of_ble_eq_true rfl, rfl, rfl, tyB_of rfl, rfl⟩
theorem fX25_131 : FK 25 131 eX25 131 5 416 := ⟨rfl, Nat.le_of_ble_eq_true rfl, rfl, rfl, tyB_of rfl, rfl⟩
theorem fX25_132 : FK 25 132 eX25 132 5 416 := ⟨rfl, Nat.le_of_ble_eq_true rfl, rfl, rfl, tyB_of rfl, rfl⟩
theorem fX25_133 : FK 25 133 eX25 133 1 416 := ⟨rfl, Nat.le_of_ble_eq_true rfl, rfl, rfl, tyB_of rfl, rfl⟩
theorem fX25_134 : FK 25 134 eX25 134 1 416 := ⟨rfl, Nat.le_of_ble_eq_true rfl, rfl, rfl, tyB_of rfl, rfl⟩
theorem fX25_135 : FK 25 135 eX25 135 1 416 := ⟨rfl, Nat.le_of_ble_eq_true rfl, rfl, rfl, tyB_of rfl, rfl⟩
theorem fX25_136 : FK 25 136 eX25 136 1 416 := ⟨rfl, Nat.le_of_ble_eq_true rfl, rfl, rfl, tyB_of rfl, rfl⟩
theorem fX25_137 : FK 25 137 eX25 137 4 416 := ⟨rfl, Nat.le_of_ble_eq_true rfl, rfl, rfl, tyB_of rfl, rfl⟩
theorem fX25_138 : FK 25 138 eX25 138 5 416 := ⟨rfl, Nat.le_of_ble_eq_true rfl, rfl, rfl, tyB_of rfl, rfl⟩
theorem fX25_139 : FK 25 139 eX25 139 5 416 := ⟨rfl, Nat.le_of_ble_eq_true rfl, rfl, rfl, tyB_of rfl, rfl⟩
theorem fX25_140 : FK 25 140 eX25 140 5 416 := ⟨rfl, Nat.le_of_ble_eq_true rfl, rfl, rfl, tyB_of rfl, rfl⟩
theorem kX26 : CK 26 eX26 432 7 := ⟨rfl, tyB_all rfl, rfl, rfl⟩
theorem fX26_0 : FK 26 0 eX26 0 1 432 := ⟨rfl, Nat.le_of_ble_eq_true rfl, rfl, rfl, tyB_of rfl, rfl⟩
theorem fX26_1 : FK 26 1 eX26 1 5 432 := ⟨rfl, Nat.le_of_ble_eq_true rfl, rfl, rfl, tyB_of rfl, rfl⟩
theorem kX27 : CK 27 eX27 448 7 := ⟨rfl, tyB_all rfl, rfl, rfl⟩
theorem fX27_0 : FK 27 0 eX27 0 1 448 := ⟨rfl, Nat.le_of_ble_eq_true rfl, rfl, rfl, tyB_of rfl, rfl⟩
theorem fX27_1 : FK 27 1 eX27 1 5 448 := ⟨rfl, Nat.le_of_ble_eq_true rfl, rfl, rfl, tyB_of rfl, rfl⟩
theorem kX29 : CK 28 eX29 464 6 := ⟨rfl, tyB_all rfl, rfl, rfl⟩
theorem fX29_0 : FK 28 0 eX29 0 5 464 := ⟨rfl, Nat.le_of_ble_eq_true rfl, rfl, rfl, tyB_of rfl, rfl⟩
theorem kJ3 : CK 29 eJ3 480 6 := ⟨rfl, tyB_all rfl, rfl, rfl⟩
theorem fJ3_0 : FK 29 0 eJ3 0 5 480 := ⟨rfl, Nat.le_of_ble_eq_true rfl, rfl, rfl, tyB_of rfl, rfl⟩
theorem kJ6 : CK 30 eJ6 496 6 := ⟨rfl, tyB_all rfl, rfl, rfl⟩
theorem fJ6_0 : FK 30 0 eJ6 0 5 496 := ⟨rfl, Nat.le_of_ble_eq_true rfl, rfl, rfl, tyB_of rfl, rfl⟩
theorem kJ10 : CK 31 eJ10 512 6 := ⟨rfl, tyB_all rfl, rfl, rfl⟩
theorem fJ10_0 : FK 31 0 eJ10 0 5 512 := ⟨rfl, Nat.le_of_ble_eq_true rfl, rfl, rfl, tyB_of rfl, rfl⟩
theorem kJ11 : CK 32 eJ11 528 6 := ⟨rfl, tyB_all rfl, rfl, rfl⟩
theorem fJ11_0 : FK 32 0 eJ11 0 5 528 := ⟨rfl, Nat.le_of_ble_eq_true rfl, rfl, rfl, tyB_of rfl, rfl⟩
theorem kJ12 : CK 33 eJ12 544 6 := ⟨rfl, tyB_all rfl, rfl, rfl⟩
theorem fJ12_0 : FK 33 0 eJ12 0 5 544 := ⟨rfl, Nat.le_of_ble_eq_true rfl, rfl, rfl, tyB_of rfl, rfl⟩
theorem kJ14 : CK 34 eJ14 560 6 := ⟨rfl, tyB_all rfl, rfl, rfl⟩
theorem fJ14_0 : FK 34 0 eJ14 0 5 560 := ⟨rfl, Nat.le_of_ble_eq_true rfl, rfl, rfl, tyB_of rfl, rfl⟩
section GP
variable {p : Program} {l : Launch} {e : Env} {R : Room} {s : State} {m : MethodId} {args : Array Value} {below : List Frame} {meth : Method} {c : Code} {D : SD} {h0 : Hp} {nL : Nat} {cc : ByteArray} {own : String} {ret : Option FieldType} {pc : Nat} {ls : List (Nat × Value)} {st : List Value} {h : Hp}
variable {α : Type} {Φ : α → (State → Prop) → Prop} {k : Option α}
def pt (h : Hp) (a i v : Int) (f : Hp → Option α) : Option α := f (up h a i v)
def al (h : Hp) (K n : Int) (f : Int → Hp → Option α) : Option α := if 0 ≤ n ∧ n ≤ 16777216 ∧ h 0 0 < 130538 ∧ h 0 1 + n ≤ 8696812 then f (h 0 0 + 1) (nw h K n) else none
theorem r_geti (X : CX D p R s m args meth c h0 cc own nL ret) {ci j index : Nat} {q : CE} {a jI K : Int} (F : FK ci j q jI 1 K) (hk : h a (-2) = K) (hw : Cond.fieldLink own index (q.2.1 j).1 (q.2.1 j).2.1 (q.2.1 j).2.2.1 ∈ lw_all) (hd : decode cc pc = .ok (.getfield index, 3)) (g : r32 (h a jI) → G p l e R s m args below meth c D h0 nL Φ (pc + 3) ls (iv (h a jI) :: st) h k) : G p l e R s m args below meth c D h0 nL Φ pc ls (rv D a :: st) h k :=
  g_geti X F.1 F.2.1 F.2.2.1 F.2.2.2.1 (hk.trans F.2.2.2.2.2.symm) hw hd g
theorem r_puti (X : CX D p R s m args meth c h0 cc own nL ret) {ci j index : Nat} {q : CE} {a jI K v : Int} {f : Hp → Option α} (F : FK ci j q jI 1 K) (hk : h a (-2) = K) (hw : Cond.fieldLink own index (q.2.1 j).1 (q.2.1 j).2.1 (q.2.1 j).2.2.1 ∈ lw_all) (hfin : (q.2.1 j).2.2.2 = false) (hd : decode cc pc = .ok (.putfield index, 3)) (hv : r32 v) (g : ∀ h1, Ext h h1 → G p l e R s m args below meth c D h0 nL Φ (pc + 3) ls st h1 (f h1)) : G p l e R s m args below meth c D h0 nL Φ pc ls (iv v :: rv D a :: st) h (pt h a jI v f) :=
  g_puti X F.1 F.2.1 F.2.2.1 F.2.2.2.1 F.2.2.2.2.1 (hk.trans F.2.2.2.2.2.symm) hw hfin hd hv (g _ (Ext.up (by rw [← F.2.2.1]; omega)))
theorem r_getiN (X : CX D p R s m args meth c h0 cc own nL ret) {ci j index : Nat} {q : CE} {a jI K : Int} (F : FK ci j q jI 1 K) (hk : h a (-2) = K) {host : String} (hw : Cond.fieldLinkNest own index (q.2.1 j).1 (q.2.1 j).2.1 (q.2.1 j).2.2.1 host ∈ nwT) (hd : decode cc pc = .ok (.getfield index, 3)) (g : r32 (h a jI) → G p l e R s m args below meth c D h0 nL Φ (pc + 3) ls (iv (h a jI) :: st) h k) : G p l e R s m args below meth c D h0 nL Φ pc ls (rv D a :: st) h k :=
  g_getiN X F.1 F.2.1 F.2.2.1 F.2.2.2.1 (hk.trans F.2.2.2.2.2.symm) hw hd g
theorem r_putiN (X : CX D p R s m args meth c h0 cc own nL ret) {ci j index : Nat} {q : CE} {a jI K v : Int} {f : Hp → Option α} (F : FK ci j q jI 1 K) (hk : h a (-2) = K) {host : String} (hw : Cond.fieldLinkNest own index (q.2.1 j).1 (q.2.1 j).2.1 (q.2.1 j).2.2.1 host ∈ nwT) (hfin : (q.2.1 j).2.2.2 = false) (hd : decode cc pc = .ok (.putfield index, 3)) (hv : r32 v) (g : ∀ h1, Ext h h1 → G p l e R s m args below meth c D h0 nL Φ (pc + 3) ls st h1 (f h1)) : G p l e R s m args below meth c D h0 nL Φ pc ls (iv v :: rv D a :: st) h (pt h a jI v f) :=
  g_putiN X F.1 F.2.1 F.2.2.1 F.2.2.2.1 F.2.2.2.2.1 (hk.trans F.2.2.2.2.2.symm) hw hfin hd hv (g _ (Ext.up (by rw [← F.2.2.1]; omega)))
theorem r_putiF (X : CX D p R s m args meth c h0 cc own nL ret) {ci j index : Nat} {q : CE} {a jI K v : Int} {f : Hp → Option α} (hin : meth.name = "<init>") (F : FK ci j q jI 1 K) (hk : h a (-2) = K) (hw : Cond.fieldLink own index (q.2.1 j).1 (q.2.1 j).2.1 (q.2.1 j).2.2.1 ∈ lw_all) (hfin : (q.2.1 j).2.2.2 = true) (hown : (q.2.1 j).1 = own) (hd : decode cc pc = .ok (.putfield index, 3)) (hv : r32 v) (g : ∀ h1, Ext h h1 → G p l e R s m args below meth c D h0 nL Φ (pc + 3) ls st h1 (f h1)) : G p l e R s m args below meth c D h0 nL Φ pc ls (iv v :: rv D a :: st) h (pt h a jI v f) :=
  g_putiF X hin F.1 F.2.1 F.2.2.1 F.2.2.2.1 F.2.2.2.2.1 (hk.trans F.2.2.2.2.2.symm) hw hfin hown hd hv (g _ (Ext.up (by rw [← F.2.2.1]; omega)))
theorem r_getz (X : CX D p R s m args meth c h0 cc own nL ret) {ci j index : Nat} {q : CE} {a jI K : Int} (F : FK ci j q jI 3 K) (hk : h a (-2) = K) (hw : Cond.fieldLink own index (q.2.1 j).1 (q.2.1 j).2.1 (q.2.1 j).2.2.1 ∈ lw_all) (hd : decode cc pc = .ok (.getfield index, 3)) (g : h a jI = 0 ∨ h a jI = 1 → G p l e R s m args below meth c D h0 nL Φ (pc + 3) ls (iv (h a jI) :: st) h k) : G p l e R s m args below meth c D h0 nL Φ pc ls (rv D a :: st) h k :=
  g_getz X F.1 F.2.1 F.2.2.1 F.2.2.2.1 (hk.trans F.2.2.2.2.2.symm) hw hd g
theorem r_putz (X : CX D p R s m args meth c h0 cc own nL ret) {ci j index : Nat} {q : CE} {a jI K v : Int} {f : Hp → Option α} (F : FK ci j q jI 3 K) (hk : h a (-2) = K) (hw : Cond.fieldLink own index (q.2.1 j).1 (q.2.1 j).2.1 (q.2.1 j).2.2.1 ∈ lw_all) (hfin : (q.2.1 j).2.2.2 = false) (hd : decode cc pc = .ok (.putfield index, 3)) (hv : v = 0 ∨ v = 1) (g : ∀ h1, Ext h h1 → G p l e R s m args below meth c D h0 nL Φ (pc + 3) ls st h1 (f h1)) : G p l e R s m args below meth c D h0 nL Φ pc ls (iv v :: rv D a :: st) h (pt h a jI v f) :=
  g_putz X F.1 F.2.1 F.2.2.1 F.2.2.2.1 F.2.2.2.2.1 (hk.trans F.2.2.2.2.2.symm) hw hfin hd hv (g _ (Ext.up (by rw [← F.2.2.1]; omega)))
theorem r_getzN (X : CX D p R s m args meth c h0 cc own nL ret) {ci j index : Nat} {q : CE} {a jI K : Int} (F : FK ci j q jI 3 K) (hk : h a (-2) = K) {host : String} (hw : Cond.fieldLinkNest own index (q.2.1 j).1 (q.2.1 j).2.1 (q.2.1 j).2.2.1 host ∈ nwT) (hd : decode cc pc = .ok (.getfield index, 3)) (g : h a jI = 0 ∨ h a jI = 1 → G p l e R s m args below meth c D h0 nL Φ (pc + 3) ls (iv (h a jI) :: st) h k) : G p l e R s m args below meth c D h0 nL Φ pc ls (rv D a :: st) h k :=
  g_getzN X F.1 F.2.1 F.2.2.1 F.2.2.2.1 (hk.trans F.2.2.2.2.2.symm) hw hd g
theorem r_putzN (X : CX D p R s m args meth c h0 cc own nL ret) {ci j index : Nat} {q : CE} {a jI K v : Int} {f : Hp → Option α} (F : FK ci j q jI 3 K) (hk : h a (-2) = K) {host : String} (hw : Cond.fieldLinkNest own index (q.2.1 j).1 (q.2.1 j).2.1 (q.2.1 j).2.2.1 host ∈ nwT) (hfin : (q.2.1 j).2.2.2 = false) (hd : decode cc pc = .ok (.putfield index, 3)) (hv : v = 0 ∨ v = 1) (g : ∀ h1, Ext h h1 → G p l e R s m args below meth c D h0 nL Φ (pc + 3) ls st h1 (f h1)) : G p l e R s m args below meth c D h0 nL Φ pc ls (iv v :: rv D a :: st) h (pt h a jI v f) :=
  g_putzN X F.1 F.2.1 F.2.2.1 F.2.2.2.1 F.2.2.2.2.1 (hk.trans F.2.2.2.2.2.symm) hw hfin hd hv (g _ (Ext.up (by rw [← F.2.2.1]; omega)))
theorem r_putzF (X : CX D p R s m args meth c h0 cc own nL ret) {ci j index : Nat} {q : CE} {a jI K v : Int} {f : Hp → Option α} (hin : meth.name = "<init>") (F : FK ci j q jI 3 K) (hk : h a (-2) = K) (hw : Cond.fieldLink own index (q.2.1 j).1 (q.2.1 j).2.1 (q.2.1 j).2.2.1 ∈ lw_all) (hfin : (q.2.1 j).2.2.2 = true) (hown : (q.2.1 j).1 = own) (hd : decode cc pc = .ok (.putfield index, 3)) (hv : v = 0 ∨ v = 1) (g : ∀ h1, Ext h h1 → G p l e R s m args below meth c D h0 nL Φ (pc + 3) ls st h1 (f h1)) : G p l e R s m args below meth c D h0 nL Φ pc ls (iv v :: rv D a :: st) h (pt h a jI v f) :=
  g_putzF X hin F.1 F.2.1 F.2.2.1 F.2.2.2.1 F.2.2.2.2.1 (hk.trans F.2.2.2.2.2.symm) hw hfin hown hd hv (g _ (Ext.up (by rw [← F.2.2.1]; omega)))
theorem r_getl (X : CX D p R s m args meth c h0 cc own nL ret) {ci j index : Nat} {q : CE} {a jI K : Int} (F : FK ci j q jI 4 K) (hk : h a (-2) = K) (hw : Cond.fieldLink own index (q.2.1 j).1 (q.2.1 j).2.1 (q.2.1 j).2.2.1 ∈ lw_all) (hd : decode cc pc = .ok (.getfield index, 3)) (g : r64 (h a jI) → G p l e R s m args below meth c D h0 nL Φ (pc + 3) ls (jv (h a jI) :: st) h k) : G p l e R s m args below meth c D h0 nL Φ pc ls (rv D a :: st) h k :=
  g_getl X F.1 F.2.1 F.2.2.1 F.2.2.2.1 (hk.trans F.2.2.2.2.2.symm) hw hd g
theorem r_putl (X : CX D p R s m args meth c h0 cc own nL ret) {ci j index : Nat} {q : CE} {a jI K v : Int} {f : Hp → Option α} (F : FK ci j q jI 4 K) (hk : h a (-2) = K) (hw : Cond.fieldLink own index (q.2.1 j).1 (q.2.1 j).2.1 (q.2.1 j).2.2.1 ∈ lw_all) (hfin : (q.2.1 j).2.2.2 = false) (hd : decode cc pc = .ok (.putfield index, 3)) (hv : r64 v) (g : ∀ h1, Ext h h1 → G p l e R s m args below meth c D h0 nL Φ (pc + 3) ls st h1 (f h1)) : G p l e R s m args below meth c D h0 nL Φ pc ls (jv v :: rv D a :: st) h (pt h a jI v f) :=
  g_putl X F.1 F.2.1 F.2.2.1 F.2.2.2.1 F.2.2.2.2.1 (hk.trans F.2.2.2.2.2.symm) hw hfin hd hv (g _ (Ext.up (by rw [← F.2.2.1]; omega)))
theorem r_getlN (X : CX D p R s m args meth c h0 cc own nL ret) {ci j index : Nat} {q : CE} {a jI K : Int} (F : FK ci j q jI 4 K) (hk : h a (-2) = K) {host : String} (hw : Cond.fieldLinkNest own index (q.2.1 j).1 (q.2.1 j).2.1 (q.2.1 j).2.2.1 host ∈ nwT) (hd : decode cc pc = .ok (.getfield index, 3)) (g : r64 (h a jI) → G p l e R s m args below meth c D h0 nL Φ (pc + 3) ls (jv (h a jI) :: st) h k) : G p l e R s m args below meth c D h0 nL Φ pc ls (rv D a :: st) h k :=
  g_getlN X F.1 F.2.1 F.2.2.1 F.2.2.2.1 (hk.trans F.2.2.2.2.2.symm) hw hd g
theorem r_putlN (X : CX D p R s m args meth c h0 cc own nL ret) {ci j index : Nat} {q : CE} {a jI K v : Int} {f : Hp → Option α} (F : FK ci j q jI 4 K) (hk : h a (-2) = K) {host : String} (hw : Cond.fieldLinkNest own index (q.2.1 j).1 (q.2.1 j).2.1 (q.2.1 j).2.2.1 host ∈ nwT) (hfin : (q.2.1 j).2.2.2 = false) (hd : decode cc pc = .ok (.putfield index, 3)) (hv : r64 v) (g : ∀ h1, Ext h h1 → G p l e R s m args below meth c D h0 nL Φ (pc + 3) ls st h1 (f h1)) : G p l e R s m args below meth c D h0 nL Φ pc ls (jv v :: rv D a :: st) h (pt h a jI v f) :=
  g_putlN X F.1 F.2.1 F.2.2.1 F.2.2.2.1 F.2.2.2.2.1 (hk.trans F.2.2.2.2.2.symm) hw hfin hd hv (g _ (Ext.up (by rw [← F.2.2.1]; omega)))
theorem r_putlF (X : CX D p R s m args meth c h0 cc own nL ret) {ci j index : Nat} {q : CE} {a jI K v : Int} {f : Hp → Option α} (hin : meth.name = "<init>") (F : FK ci j q jI 4 K) (hk : h a (-2) = K) (hw : Cond.fieldLink own index (q.2.1 j).1 (q.2.1 j).2.1 (q.2.1 j).2.2.1 ∈ lw_all) (hfin : (q.2.1 j).2.2.2 = true) (hown : (q.2.1 j).1 = own) (hd : decode cc pc = .ok (.putfield index, 3)) (hv : r64 v) (g : ∀ h1, Ext h h1 → G p l e R s m args below meth c D h0 nL Φ (pc + 3) ls st h1 (f h1)) : G p l e R s m args below meth c D h0 nL Φ pc ls (jv v :: rv D a :: st) h (pt h a jI v f) :=
  g_putlF X hin F.1 F.2.1 F.2.2.1 F.2.2.2.1 F.2.2.2.2.1 (hk.trans F.2.2.2.2.2.symm) hw hfin hown hd hv (g _ (Ext.up (by rw [← F.2.2.1]; omega)))
theorem r_getr (X : CX D p R s m args meth c h0 cc own nL ret) {ci j index : Nat} {q : CE} {a jI K : Int} (F : FK ci j q jI 5 K) (hk : h a (-2) = K) (hw : Cond.fieldLink own index (q.2.1 j).1 (q.2.1 j).2.1 (q.2.1 j).2.2.1 ∈ lw_all) (hd : decode cc pc = .ok (.getfield index, 3)) (g : G p l e R s m args below meth c D h0 nL Φ (pc + 3) ls (rv D (h a jI) :: st) h k) : G p l e R s m args below meth c D h0 nL Φ pc ls (rv D a :: st) h k :=
  g_getr X F.1 F.2.1 F.2.2.1 F.2.2.2.1 (hk.trans F.2.2.2.2.2.symm) hw hd g
theorem r_putr (X : CX D p R s m args meth c h0 cc own nL ret) {ci j index : Nat} {q : CE} {a jI K v : Int} {f : Hp → Option α} (F : FK ci j q jI 5 K) (hk : h a (-2) = K) (hw : Cond.fieldLink own index (q.2.1 j).1 (q.2.1 j).2.1 (q.2.1 j).2.2.1 ∈ lw_all) (hfin : (q.2.1 j).2.2.2 = false) (hd : decode cc pc = .ok (.putfield index, 3))  (g : ∀ h1, Ext h h1 → G p l e R s m args below meth c D h0 nL Φ (pc + 3) ls st h1 (f h1)) : G p l e R s m args below meth c D h0 nL Φ pc ls (rv D v :: rv D a :: st) h (pt h a jI v f) :=
  g_putr X F.1 F.2.1 F.2.2.1 F.2.2.2.1 F.2.2.2.2.1 (hk.trans F.2.2.2.2.2.symm) hw hfin hd  (g _ (Ext.up (by rw [← F.2.2.1]; omega)))
theorem r_getrN (X : CX D p R s m args meth c h0 cc own nL ret) {ci j index : Nat} {q : CE} {a jI K : Int} (F : FK ci j q jI 5 K) (hk : h a (-2) = K) {host : String} (hw : Cond.fieldLinkNest own index (q.2.1 j).1 (q.2.1 j).2.1 (q.2.1 j).2.2.1 host ∈ nwT) (hd : decode cc pc = .ok (.getfield index, 3)) (g : G p l e R s m args below meth c D h0 nL Φ (pc + 3) ls (rv D (h a jI) :: st) h k) : G p l e R s m args below meth c D h0 nL Φ pc ls (rv D a :: st) h k :=
  g_getrN X F.1 F.2.1 F.2.2.1 F.2.2.2.1 (hk.trans F.2.2.2.2.2.symm) hw hd g
theorem r_putrN (X : CX D p R s m args meth c h0 cc own nL ret) {ci j index : Nat} {q : CE} {a jI K v : Int} {f : Hp → Option α} (F : FK ci j q jI 5 K) (hk : h a (-2) = K) {host : String} (hw : Cond.fieldLinkNest own index (q.2.1 j).1 (q.2.1 j).2.1 (q.2.1 j).2.2.1 host ∈ nwT) (hfin : (q.2.1 j).2.2.2 = false) (hd : decode cc pc = .ok (.putfield index, 3))  (g : ∀ h1, Ext h h1 → G p l e R s m args below meth c D h0 nL Φ (pc + 3) ls st h1 (f h1)) : G p l e R s m args below meth c D h0 nL Φ pc ls (rv D v :: rv D a :: st) h (pt h a jI v f) :=
  g_putrN X F.1 F.2.1 F.2.2.1 F.2.2.2.1 F.2.2.2.2.1 (hk.trans F.2.2.2.2.2.symm) hw hfin hd  (g _ (Ext.up (by rw [← F.2.2.1]; omega)))
theorem r_putrF (X : CX D p R s m args meth c h0 cc own nL ret) {ci j index : Nat} {q : CE} {a jI K v : Int} {f : Hp → Option α} (hin : meth.name = "<init>") (F : FK ci j q jI 5 K) (hk : h a (-2) = K) (hw : Cond.fieldLink own index (q.2.1 j).1 (q.2.1 j).2.1 (q.2.1 j).2.2.1 ∈ lw_all) (hfin : (q.2.1 j).2.2.2 = true) (hown : (q.2.1 j).1 = own) (hd : decode cc pc = .ok (.putfield index, 3))  (g : ∀ h1, Ext h h1 → G p l e R s m args below meth c D h0 nL Φ (pc + 3) ls st h1 (f h1)) : G p l e R s m args below meth c D h0 nL Φ pc ls (rv D v :: rv D a :: st) h (pt h a jI v f) :=
  g_putrF X hin F.1 F.2.1 F.2.2.1 F.2.2.2.1 F.2.2.2.2.1 (hk.trans F.2.2.2.2.2.symm) hw hfin hown hd  (g _ (Ext.up (by rw [← F.2.2.1]; omega)))
theorem r_iast (X : CX D p R s m args meth c h0 cc own nL ret) {a i v : Int} {f : Hp → Option α} (ri : r32 i) (hv : r32 v) (hk : h a (-2) % 16 = 1 ∧ 0 ≤ i ∧ i < h a (-1)) (hd : decode cc pc = .ok (.iastore, 1)) (g : ∀ h1, Ext h h1 → G p l e R s m args below meth c D h0 nL Φ (pc + 1) ls st h1 (f h1)) : G p l e R s m args below meth c D h0 nL Φ pc ls (iv v :: iv i :: rv D a :: st) h (pt h a i v f) :=
  g_iast X ri hv hk hd (g _ (Ext.up hk.2.1))
theorem r_bast (X : CX D p R s m args meth c h0 cc own nL ret) {a i v : Int} {f : Hp → Option α} (ri : r32 i) (hv : r32 v) (hk : h a (-2) % 16 = 2 ∧ 0 ≤ i ∧ i < h a (-1)) (hd : decode cc pc = .ok (.bastore, 1)) (g : ∀ h1, Ext h h1 → G p l e R s m args below meth c D h0 nL Φ (pc + 1) ls st h1 (f h1)) : G p l e R s m args below meth c D h0 nL Φ pc ls (iv v :: iv i :: rv D a :: st) h (pt h a i (w8 v) f) :=
  g_bast X ri hv hk hd (g _ (Ext.up hk.2.1))
theorem r_zast (X : CX D p R s m args meth c h0 cc own nL ret) {a i v : Int} {f : Hp → Option α} (ri : r32 i) (hv : v = 0 ∨ v = 1) (hk : h a (-2) % 16 = 3 ∧ 0 ≤ i ∧ i < h a (-1)) (hd : decode cc pc = .ok (.bastore, 1)) (g : ∀ h1, Ext h h1 → G p l e R s m args below meth c D h0 nL Φ (pc + 1) ls st h1 (f h1)) : G p l e R s m args below meth c D h0 nL Φ pc ls (iv v :: iv i :: rv D a :: st) h (pt h a i v f) :=
  g_zast X ri hv hk hd (g _ (Ext.up hk.2.1))
theorem r_last (X : CX D p R s m args meth c h0 cc own nL ret) {a i v : Int} {f : Hp → Option α} (ri : r32 i) (hv : r64 v) (hk : h a (-2) % 16 = 4 ∧ 0 ≤ i ∧ i < h a (-1)) (hd : decode cc pc = .ok (.lastore, 1)) (g : ∀ h1, Ext h h1 → G p l e R s m args below meth c D h0 nL Φ (pc + 1) ls st h1 (f h1)) : G p l e R s m args below meth c D h0 nL Φ pc ls (jv v :: iv i :: rv D a :: st) h (pt h a i v f) :=
  g_last X ri hv hk hd (g _ (Ext.up hk.2.1))
theorem r_bastB (X : CX D p R s m args meth c h0 cc own nL ret) {a i v : Int} {f : Hp → Option α} (ri : r32 i) (hv : -128 ≤ v ∧ v < 128) (hk : h a (-2) % 16 = 2 ∧ 0 ≤ i ∧ i < h a (-1)) (hd : decode cc pc = .ok (.bastore, 1)) (g : ∀ h1, Ext h h1 → G p l e R s m args below meth c D h0 nL Φ (pc + 1) ls st h1 (f h1)) : G p l e R s m args below meth c D h0 nL Φ pc ls (iv v :: iv i :: rv D a :: st) h (pt h a i v f) :=
  g_bastB X ri hv hk hd (g _ (Ext.up hk.2.1))
theorem r_aast (X : CX D p R s m args meth c h0 cc own nL ret) (t : Nat) (ht5 : 5 ≤ t) (ht9 : t ≤ 9) {a i v K : Int} {f : Hp → Option α} (ri : r32 i) {tI : Int} (htI : (t : Int) = tI) (hK : 16 * ((acls t : Int) + 1) = K) (hv : h v (-2) = K) (hk : h a (-2) % 16 = tI ∧ 0 ≤ i ∧ i < h a (-1)) (hd : decode cc pc = .ok (.aastore, 1)) (g : ∀ h1, Ext h h1 → G p l e R s m args below meth c D h0 nL Φ (pc + 1) ls st h1 (f h1)) : G p l e R s m args below meth c D h0 nL Φ pc ls (rv D v :: iv i :: rv D a :: st) h (pt h a i v f) :=
  g_aast X t ht5 ht9 ri htI (hv.trans hK.symm) hk hd (g _ (Ext.up hk.2.1))
theorem nw_ext {K : Int} {n : Int} (hb : ∀ a : Int, h a (-2) ≠ 0 → 1 ≤ a ∧ a ≤ h 0 0) : Ext h (nw h K n) := by
  intro a ha
  have hp := hb a ha
  unfold nw
  rw [if_neg (by omega), if_neg (fun q => by omega), if_neg (fun q => by omega), if_neg (by omega), if_neg (fun q => by omega), if_neg (fun q => by omega)]
  exact ⟨rfl, rfl⟩
theorem r_new (X : CX D p R s m args meth c h0 cc own nL ret) {ci index : Nat} {q : CE} {K n : Int} {f : Int → Hp → Option α} (F : CK ci q K n) (hw : Cond.classLink own index q.1 ∈ lw_all) (hd : decode cc pc = .ok (.new index, 3)) (g : ∀ a h1, 0 < a → h1 a (-2) = K → Ext h h1 → G p l e R s m args below meth c D h0 nL Φ (pc + 3) ls (rv D a :: st) h1 (f a h1)) : G p l e R s m args below meth c D h0 nL Φ pc ls st h (al h K n f) := by
  intro x Q hx hQ H locs lsA hR hL hl
  unfold al at hx
  split at hx
  · rename_i hal
    have hb := hR.1.1
    exact a_new X F.1 F.2.1 (X.2.2.2.2.2.1 _ hw) F.2.2.1 F.2.2.2 ⟨hal.2.2.1, hal.2.2.2⟩ hd (g _ _ (by omega) (by rw [nw_row, if_pos rfl]) (nw_ext (fun a ha => hR.1.pos ha)) x Q hx hQ) H locs lsA hR hL hl
  · cases hx
theorem r_newa (X : CX D p R s m args meth c h0 cc own nL ret) (t st_ : Nat) (ht1 : 1 ≤ t) (ht4 : t ≤ 4) {atype : ArrayType} {f : Int → Hp → Option α} (hat : newarray.typeOf atype = aty t) (harr : Cond.arrayClass (aty t) ∈ lw_all) {n K : Int} (rn : r32 n) (hK : 16 * (st_ : Int) + t = K) (hd : decode cc pc = .ok (.newarray atype, 2)) (g : ∀ a h1, 0 < a → h1 a (-2) = K → h1 a (-1) = n → Ext h h1 → G p l e R s m args below meth c D h0 nL Φ (pc + 2) ls (rv D a :: st) h1 (f a h1)) : G p l e R s m args below meth c D h0 nL Φ pc ls (iv n :: st) h (al h K n f) := by
  intro x Q hx hQ H locs lsA hR hL hl
  unfold al at hx
  split at hx
  · rename_i hal
    have hb := hR.1.1
    exact a_newa X t st_ ht1 ht4 hat (X.2.2.2.2.2.1 _ harr) rn hK hal hd (g _ _ (by omega) (by rw [nw_row, if_pos rfl]) (by rw [nw_row, if_neg (by omega), if_pos rfl]) (nw_ext (fun a ha => hR.1.pos ha)) x Q hx hQ) H locs lsA hR hL hl
  · cases hx
theorem r_anew (X : CX D p R s m args meth c h0 cc own nL ret) (t st_ : Nat) (ht5 : 5 ≤ t) (ht9 : t ≤ 9) {index : Nat} {CC : String} {f : Int → Hp → Option α} (hC : aty t = .object CC) (hw : Cond.classLink own index CC ∈ lw_all) {n K : Int} (rn : r32 n) (hK : 16 * (st_ : Int) + t = K) (hd : decode cc pc = .ok (.anewarray index, 3)) (g : ∀ a h1, 0 < a → h1 a (-2) = K → h1 a (-1) = n → Ext h h1 → G p l e R s m args below meth c D h0 nL Φ (pc + 3) ls (rv D a :: st) h1 (f a h1)) : G p l e R s m args below meth c D h0 nL Φ pc ls (iv n :: st) h (al h K n f) := by
  intro x Q hx hQ H locs lsA hR hL hl
  unfold al at hx
  split at hx
  · rename_i hal
    have hb := hR.1.1
    exact a_anew X t st_ ht5 ht9 hC (X.2.2.2.2.2.1 _ hw) rn hK hal hd (g _ _ (by omega) (by rw [nw_row, if_pos rfl]) (by rw [nw_row, if_neg (by omega), if_pos rfl]) (nw_ext (fun a ha => hR.1.pos ha)) x Q hx hQ) H locs lsA hR hL hl
  · cases hx
theorem r_oinit (X : CX D p R s m args meth c h0 cc own nL ret) {a : Int} {index : Nat} (ha : a ≠ 0) (hlink : Cond.methodLink own index Lib.objectInit ∈ lw_all) (hinst : Cond.instanceMethod Lib.objectInit ∈ lw_all) (hcode : Cond.code Lib.objectInit ⟨#[0xb1]⟩ 1 none ∈ lw_all) (hfr : 1 ≤ R.frames) (hlo : (st.map fun v => v.category).sum + 12 ≤ R.locals) (hd : decode cc pc = .ok (.invokespecial index, 3)) (g : G p l e R s m args below meth c D h0 nL Φ (pc + 3) ls st h k) : G p l e R s m args below meth c D h0 nL Φ pc ls (rv D a :: st) h k :=
  G.lift (fun Q a2 H locs lsA hR hL hl => by
    rw [rv_ref ha]
    exact W.objInit X.1 X.2.1 X.2.2.2.2.1 (X.2.2.2.2.2.1 _ hlink) (X.2.2.2.2.2.1 _ hinst) (X.2.2.2.2.2.1 _ hcode) rfl (by rw [X.2.2.2.1]; exact hl.1) rfl hd hfr (by show 2 * 0 + (st.map fun v => v.category).sum + 12 ≤ _; omega) (a2 H locs lsA hR hL hl)) g
theorem pos_kind {a K : Int} (hK : K ≠ 0) (hk : h a (-2) = K) : h a (-2) ≠ 0 := by rw [hk]; exact hK
theorem noh {y : MethodName} {b : ByteArray} {maxL : Nat} {rt : Option FieldType} (h1 : (Cond.code y b maxL rt).before args s = true) (hn : s.methodNamed? y = some m) (hm : s.vm.method? m = some meth) (hc : meth.code = some c) : ∀ pc, ∀ q ∈ c.exceptionTable.toList, covers q pc = false := by
  obtain ⟨meth', c', hm', hc', -, -, -, -, he', -⟩ := Cond.code_spec hn h1
  cases hm.symm.trans hm'
  cases hc.symm.trans hc'
  intro pc q hq
  have : c.exceptionTable.toList = [] := by simpa using he'
  rw [this] at hq
  cases hq
theorem cwS_code {y : MethodName} {b : ByteArray} {maxL : Nat} {rt : Option FieldType} : ∀ (a : Array Value) (U : State) (mk : MethodId), (Cond.code y b maxL rt).before a U = true → U.methodNamed? y = some mk → ∃ meth c, U.vm.method? mk = some meth ∧ meth.code = some c ∧ c.code = b ∧ c.maxLocals = maxL ∧ meth.sig.returnType = rt ∧ meth.locks = false := fun a U mk h1 hn => by
  obtain ⟨meth, c, h1, h2, h3, h4, h5, h6, -, -⟩ := Cond.code_spec hn h1
  exact ⟨meth, c, h1, h2, h3, h4, h5, h6⟩
theorem cwS_with {y : MethodName} {b : ByteArray} {maxL : Nat} {rt : Option FieldType} {hh : List (Nat × Nat × Nat × Nat)} : ∀ (a : Array Value) (U : State) (mk : MethodId), (Cond.codeWith y b maxL rt hh).before a U = true → U.methodNamed? y = some mk → ∃ meth c, U.vm.method? mk = some meth ∧ meth.code = some c ∧ c.code = b ∧ c.maxLocals = maxL ∧ meth.sig.returnType = rt ∧ meth.locks = false := fun a U mk h1 hn => by
  obtain ⟨m', meth, c, h0, h1, h2, h3, h4, -, h5, h6, -⟩ := Cond.codeWith_spec h1
  cases h0.symm.trans hn
  exact ⟨meth, c, h1, h2, h3, h4, h5, h6⟩
end GP
