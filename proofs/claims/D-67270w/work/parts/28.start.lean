set_option maxRecDepth 100000
/-! THE START: what the tables and the premises say at the law's entry -/
theorem lw_sub {w : Cond} (h : w ∈ lw_all) : w ∈ lw_tbl := (List.mem_filter.mp h).1
abbrev flN : List Cond := flatC (Jvm.Cond.and given_1 narrow_1)
/-- the premises of one string constant -/
def nrS (q : String × Nat × String) (b : List Int) : List Cond :=
  Cond.exactly (.string q.1 q.2.1) "java/lang/String" :: Cond.eq (.field (.string q.1 q.2.1) "java/lang/String" "coder" "B") (.int 0) :: Cond.arrayOf (.field (.string q.1 q.2.1) "java/lang/String" "value" "[B") .byte :: Cond.eq (.length (.field (.string q.1 q.2.1) "java/lang/String" "value" "[B")) (.int (Int32.ofNat b.length)) ::
  (List.range b.length).map (fun j => Cond.eq (.elem (.field (.string q.1 q.2.1) "java/lang/String" "value" "[B") (.int (Int32.ofNat j))) (.int (Int32.ofInt (b.getD j 0))))
def nrK (k : Nat) : List Cond := nrS (srT.getD k ("", 0, "")) (srB.getD k [])
def nrO : List Nat := [12, 13, 14, 18, 21, 22, 23, 24, 25, 26, 19, 20, 27, 28, 29, 30, 31, 33, 34, 35, 36, 37, 38, 39, 40, 41, 42, 43, 44, 45, 46, 47, 48, 49, 50, 51, 32, 58, 59, 60, 61, 62, 63, 64, 65, 66, 67, 68, 52, 53, 54, 55, 56, 57, 15, 16, 11, 0, 17, 1, 2, 3, 4, 5, 6, 7, 8, 9, 10, 70, 71, 69, 72, 87, 88, 89, 90, 91, 92, 93, 94, 95, 96, 97, 98, 99, 100, 101, 84, 85, 73, 102, 74, 75, 86, 76, 77, 78, 79, 80, 81, 82, 83]
theorem nr_sub : List.Sublist (nrO.flatMap nrK) flN := by decide +kernel
theorem nr_all : ∀ k, k < 103 → k ∈ nrO := by decide +kernel
theorem nr_len : srT.length = 103 ∧ srB.length = 103 := by decide +kernel
theorem nr_in {k : Nat} {q : String × Nat × String} {b : List Int} (hq : srT[k]? = some q) (hb : srB[k]? = some b) : ∀ w ∈ nrS q b, w ∈ flN := by
  intro w hw
  refine nr_sub.subset (List.mem_flatMap.mpr ⟨k, nr_all k ?_, ?_⟩)
  · have := (List.getElem?_eq_some_iff.mp hq).1
    rw [nr_len.1] at this; exact this
  · unfold nrK
    rw [List.getD_eq_getElem?_getD, List.getD_eq_getElem?_getD, hq, hb]
    exact hw
theorem srT_in : ∀ q ∈ srT, Cond.stringRef q.1 q.2.1 q.2.2 ∈ lw_tbl := List.forall_mem_cons.mpr ⟨q2705, List.forall_mem_cons.mpr ⟨q2722, List.forall_mem_cons.mpr ⟨q2762, List.forall_mem_cons.mpr ⟨q2763, List.forall_mem_cons.mpr ⟨q2764, List.forall_mem_cons.mpr ⟨q2769, List.forall_mem_cons.mpr ⟨q2770, List.forall_mem_cons.mpr ⟨q2772, List.forall_mem_cons.mpr ⟨q2773, List.forall_mem_cons.mpr ⟨q2774, List.forall_mem_cons.mpr ⟨q2775, List.forall_mem_cons.mpr ⟨q2390, List.forall_mem_cons.mpr ⟨q1762, List.forall_mem_cons.mpr ⟨q1863, List.forall_mem_cons.mpr ⟨q1872, List.forall_mem_cons.mpr ⟨q2175, List.forall_mem_cons.mpr ⟨q2182, List.forall_mem_cons.mpr ⟨q2711, List.forall_mem_cons.mpr ⟨q1963, List.forall_mem_cons.mpr ⟨q1989, List.forall_mem_cons.mpr ⟨q1990, List.forall_mem_cons.mpr ⟨q1979, List.forall_mem_cons.mpr ⟨q1980, List.forall_mem_cons.mpr ⟨q1981, List.forall_mem_cons.mpr ⟨q1982, List.forall_mem_cons.mpr ⟨q1983, List.forall_mem_cons.mpr ⟨q1984, List.forall_mem_cons.mpr ⟨q2044, List.forall_mem_cons.mpr ⟨q2045, List.forall_mem_cons.mpr ⟨q2046, List.forall_mem_cons.mpr ⟨q2047, List.forall_mem_cons.mpr ⟨q2048, List.forall_mem_cons.mpr ⟨q2091, List.forall_mem_cons.mpr ⟨q2060, List.forall_mem_cons.mpr ⟨q2061, List.forall_mem_cons.mpr ⟨q2062, List.forall_mem_cons.mpr ⟨q2063, List.forall_mem_cons.mpr ⟨q2064, List.forall_mem_cons.mpr ⟨q2065, List.forall_mem_cons.mpr ⟨q2066, List.forall_mem_cons.mpr ⟨q2067, List.forall_mem_cons.mpr ⟨q2068, List.forall_mem_cons.mpr ⟨q2069, List.forall_mem_cons.mpr ⟨q2070, List.forall_mem_cons.mpr ⟨q2071, List.forall_mem_cons.mpr ⟨q2072, List.forall_mem_cons.mpr ⟨q2073, List.forall_mem_cons.mpr ⟨q2074, List.forall_mem_cons.mpr ⟨q2075, List.forall_mem_cons.mpr ⟨q2076, List.forall_mem_cons.mpr ⟨q2077, List.forall_mem_cons.mpr ⟨q2078, List.forall_mem_cons.mpr ⟨q2114, List.forall_mem_cons.mpr ⟨q2115, List.forall_mem_cons.mpr ⟨q2116, List.forall_mem_cons.mpr ⟨q2117, List.forall_mem_cons.mpr ⟨q2118, List.forall_mem_cons.mpr ⟨q2119, List.forall_mem_cons.mpr ⟨q2103, List.forall_mem_cons.mpr ⟨q2104, List.forall_mem_cons.mpr ⟨q2105, List.forall_mem_cons.mpr ⟨q2106, List.forall_mem_cons.mpr ⟨q2107, List.forall_mem_cons.mpr ⟨q2108, List.forall_mem_cons.mpr ⟨q2109, List.forall_mem_cons.mpr ⟨q2110, List.forall_mem_cons.mpr ⟨q2111, List.forall_mem_cons.mpr ⟨q2112, List.forall_mem_cons.mpr ⟨q2113, List.forall_mem_cons.mpr ⟨q4422, List.forall_mem_cons.mpr ⟨q4360, List.forall_mem_cons.mpr ⟨q4412, List.forall_mem_cons.mpr ⟨q4455, List.forall_mem_cons.mpr ⟨q4731, List.forall_mem_cons.mpr ⟨q4900, List.forall_mem_cons.mpr ⟨q4901, List.forall_mem_cons.mpr ⟨q4916, List.forall_mem_cons.mpr ⟨q4922, List.forall_mem_cons.mpr ⟨q4923, List.forall_mem_cons.mpr ⟨q4924, List.forall_mem_cons.mpr ⟨q4925, List.forall_mem_cons.mpr ⟨q4926, List.forall_mem_cons.mpr ⟨q4927, List.forall_mem_cons.mpr ⟨q4942, List.forall_mem_cons.mpr ⟨q4583, List.forall_mem_cons.mpr ⟨q4585, List.forall_mem_cons.mpr ⟨q4910, List.forall_mem_cons.mpr ⟨q4479, List.forall_mem_cons.mpr ⟨q4488, List.forall_mem_cons.mpr ⟨q4489, List.forall_mem_cons.mpr ⟨q4490, List.forall_mem_cons.mpr ⟨q4491, List.forall_mem_cons.mpr ⟨q4492, List.forall_mem_cons.mpr ⟨q4493, List.forall_mem_cons.mpr ⟨q4498, List.forall_mem_cons.mpr ⟨q4527, List.forall_mem_cons.mpr ⟨q4536, List.forall_mem_cons.mpr ⟨q4541, List.forall_mem_cons.mpr ⟨q4550, List.forall_mem_cons.mpr ⟨q4551, List.forall_mem_cons.mpr ⟨q4556, List.forall_mem_cons.mpr ⟨q4558, List.forall_mem_cons.mpr ⟨q4756, fun _ h => absurd h List.not_mem_nil⟩⟩⟩⟩⟩⟩⟩⟩⟩⟩⟩⟩⟩⟩⟩⟩⟩⟩⟩⟩⟩⟩⟩⟩⟩⟩⟩⟩⟩⟩⟩⟩⟩⟩⟩⟩⟩⟩⟩⟩⟩⟩⟩⟩⟩⟩⟩⟩⟩⟩⟩⟩⟩⟩⟩⟩⟩⟩⟩⟩⟩⟩⟩⟩⟩⟩⟩⟩⟩⟩⟩⟩⟩⟩⟩⟩⟩⟩⟩⟩⟩⟩⟩⟩⟩⟩⟩⟩⟩⟩⟩⟩⟩⟩⟩⟩⟩⟩⟩⟩⟩⟩⟩
def CSok (q : Nat × String × Bool) : Prop := ∃ cq cj : CE, ∃ j : Nat, clT[q.1]? = some cq ∧ clT[j]? = some cj ∧ cj.1 = q.2.1 ∧ ((q.2.2 = true ∧ Cond.castable cq.1 q.2.1 ∈ lw_tbl) ∨ (q.2.2 = false ∧ Cond.not (Cond.castable cq.1 q.2.1) ∈ flN))
theorem cs_X26_X26 : CSok (26, "ScholarsPress$Broken", true) := ⟨_, _, 26, rfl, rfl, rfl, Or.inl ⟨rfl, q1828⟩⟩
theorem cs_X26_X27 : CSok (26, "ScholarsPressModel$Broken", false) := ⟨_, _, 27, rfl, rfl, rfl, Or.inr ⟨rfl, by decide +kernel⟩⟩
theorem cs_X26_X29 : CSok (26, "ScholarsPressModel$Beyond", false) := ⟨_, _, 28, rfl, rfl, rfl, Or.inr ⟨rfl, by decide +kernel⟩⟩
theorem cs_X26_J3 : CSok (26, "java/lang/IndexOutOfBoundsException", false) := ⟨_, _, 29, rfl, rfl, rfl, Or.inr ⟨rfl, by decide +kernel⟩⟩
theorem cs_X26_J6 : CSok (26, "java/lang/IllegalArgumentException", false) := ⟨_, _, 30, rfl, rfl, rfl, Or.inr ⟨rfl, by decide +kernel⟩⟩
theorem cs_X26_J10 : CSok (26, "java/lang/UnsupportedOperationException", true) := ⟨_, _, 31, rfl, rfl, rfl, Or.inl ⟨rfl, q5252⟩⟩
theorem cs_X26_J11 : CSok (26, "java/lang/IllegalStateException", false) := ⟨_, _, 32, rfl, rfl, rfl, Or.inr ⟨rfl, by decide +kernel⟩⟩
theorem cs_X26_J12 : CSok (26, "java/lang/ArithmeticException", false) := ⟨_, _, 33, rfl, rfl, rfl, Or.inr ⟨rfl, by decide +kernel⟩⟩
theorem cs_X26_J14 : CSok (26, "java/util/NoSuchElementException", false) := ⟨_, _, 34, rfl, rfl, rfl, Or.inr ⟨rfl, by decide +kernel⟩⟩
theorem cs_X27_X26 : CSok (27, "ScholarsPress$Broken", false) := ⟨_, _, 26, rfl, rfl, rfl, Or.inr ⟨rfl, by decide +kernel⟩⟩
theorem cs_X27_X27 : CSok (27, "ScholarsPressModel$Broken", true) := ⟨_, _, 27, rfl, rfl, rfl, Or.inl ⟨rfl, q4389⟩⟩
theorem cs_X27_X29 : CSok (27, "ScholarsPressModel$Beyond", false) := ⟨_, _, 28, rfl, rfl, rfl, Or.inr ⟨rfl, by decide +kernel⟩⟩
theorem cs_X27_J3 : CSok (27, "java/lang/IndexOutOfBoundsException", false) := ⟨_, _, 29, rfl, rfl, rfl, Or.inr ⟨rfl, by decide +kernel⟩⟩
theorem cs_X27_J6 : CSok (27, "java/lang/IllegalArgumentException", false) := ⟨_, _, 30, rfl, rfl, rfl, Or.inr ⟨rfl, by decide +kernel⟩⟩
theorem cs_X27_J10 : CSok (27, "java/lang/UnsupportedOperationException", false) := ⟨_, _, 31, rfl, rfl, rfl, Or.inr ⟨rfl, by decide +kernel⟩⟩
theorem cs_X27_J11 : CSok (27, "java/lang/IllegalStateException", false) := ⟨_, _, 32, rfl, rfl, rfl, Or.inr ⟨rfl, by decide +kernel⟩⟩
theorem cs_X27_J12 : CSok (27, "java/lang/ArithmeticException", false) := ⟨_, _, 33, rfl, rfl, rfl, Or.inr ⟨rfl, by decide +kernel⟩⟩
theorem cs_X27_J14 : CSok (27, "java/util/NoSuchElementException", false) := ⟨_, _, 34, rfl, rfl, rfl, Or.inr ⟨rfl, by decide +kernel⟩⟩
theorem cs_X29_X26 : CSok (28, "ScholarsPress$Broken", false) := ⟨_, _, 26, rfl, rfl, rfl, Or.inr ⟨rfl, by decide +kernel⟩⟩
theorem cs_X29_X27 : CSok (28, "ScholarsPressModel$Broken", false) := ⟨_, _, 27, rfl, rfl, rfl, Or.inr ⟨rfl, by decide +kernel⟩⟩
theorem cs_X29_X29 : CSok (28, "ScholarsPressModel$Beyond", true) := ⟨_, _, 28, rfl, rfl, rfl, Or.inl ⟨rfl, q4793⟩⟩
theorem cs_X29_J3 : CSok (28, "java/lang/IndexOutOfBoundsException", false) := ⟨_, _, 29, rfl, rfl, rfl, Or.inr ⟨rfl, by decide +kernel⟩⟩
theorem cs_X29_J6 : CSok (28, "java/lang/IllegalArgumentException", false) := ⟨_, _, 30, rfl, rfl, rfl, Or.inr ⟨rfl, by decide +kernel⟩⟩
theorem cs_X29_J10 : CSok (28, "java/lang/UnsupportedOperationException", false) := ⟨_, _, 31, rfl, rfl, rfl, Or.inr ⟨rfl, by decide +kernel⟩⟩
theorem cs_X29_J11 : CSok (28, "java/lang/IllegalStateException", false) := ⟨_, _, 32, rfl, rfl, rfl, Or.inr ⟨rfl, by decide +kernel⟩⟩
theorem cs_X29_J12 : CSok (28, "java/lang/ArithmeticException", false) := ⟨_, _, 33, rfl, rfl, rfl, Or.inr ⟨rfl, by decide +kernel⟩⟩
theorem cs_X29_J14 : CSok (28, "java/util/NoSuchElementException", false) := ⟨_, _, 34, rfl, rfl, rfl, Or.inr ⟨rfl, by decide +kernel⟩⟩
theorem cs_J3_X26 : CSok (29, "ScholarsPress$Broken", false) := ⟨_, _, 26, rfl, rfl, rfl, Or.inr ⟨rfl, by decide +kernel⟩⟩
theorem cs_J3_X27 : CSok (29, "ScholarsPressModel$Broken", false) := ⟨_, _, 27, rfl, rfl, rfl, Or.inr ⟨rfl, by decide +kernel⟩⟩
theorem cs_J3_X29 : CSok (29, "ScholarsPressModel$Beyond", false) := ⟨_, _, 28, rfl, rfl, rfl, Or.inr ⟨rfl, by decide +kernel⟩⟩
theorem cs_J3_J3 : CSok (29, "java/lang/IndexOutOfBoundsException", true) := ⟨_, _, 29, rfl, rfl, rfl, Or.inl ⟨rfl, q1656⟩⟩
theorem cs_J3_J6 : CSok (29, "java/lang/IllegalArgumentException", false) := ⟨_, _, 30, rfl, rfl, rfl, Or.inr ⟨rfl, by decide +kernel⟩⟩
theorem cs_J3_J10 : CSok (29, "java/lang/UnsupportedOperationException", false) := ⟨_, _, 31, rfl, rfl, rfl, Or.inr ⟨rfl, by decide +kernel⟩⟩
theorem cs_J3_J11 : CSok (29, "java/lang/IllegalStateException", false) := ⟨_, _, 32, rfl, rfl, rfl, Or.inr ⟨rfl, by decide +kernel⟩⟩
theorem cs_J3_J12 : CSok (29, "java/lang/ArithmeticException", false) := ⟨_, _, 33, rfl, rfl, rfl, Or.inr ⟨rfl, by decide +kernel⟩⟩
theorem cs_J3_J14 : CSok (29, "java/util/NoSuchElementException", false) := ⟨_, _, 34, rfl, rfl, rfl, Or.inr ⟨rfl, by decide +kernel⟩⟩
theorem cs_J6_X26 : CSok (30, "ScholarsPress$Broken", false) := ⟨_, _, 26, rfl, rfl, rfl, Or.inr ⟨rfl, by decide +kernel⟩⟩
theorem cs_J6_X27 : CSok (30, "ScholarsPressModel$Broken", false) := ⟨_, _, 27, rfl, rfl, rfl, Or.inr ⟨rfl, by decide +kernel⟩⟩
theorem cs_J6_X29 : CSok (30, "ScholarsPressModel$Beyond", false) := ⟨_, _, 28, rfl, rfl, rfl, Or.inr ⟨rfl, by decide +kernel⟩⟩
theorem cs_J6_J3 : CSok (30, "java/lang/IndexOutOfBoundsException", false) := ⟨_, _, 29, rfl, rfl, rfl, Or.inr ⟨rfl, by decide +kernel⟩⟩
theorem cs_J6_J6 : CSok (30, "java/lang/IllegalArgumentException", true) := ⟨_, _, 30, rfl, rfl, rfl, Or.inl ⟨rfl, q1692⟩⟩
theorem cs_J6_J10 : CSok (30, "java/lang/UnsupportedOperationException", false) := ⟨_, _, 31, rfl, rfl, rfl, Or.inr ⟨rfl, by decide +kernel⟩⟩
theorem cs_J6_J11 : CSok (30, "java/lang/IllegalStateException", false) := ⟨_, _, 32, rfl, rfl, rfl, Or.inr ⟨rfl, by decide +kernel⟩⟩
theorem cs_J6_J12 : CSok (30, "java/lang/ArithmeticException", false) := ⟨_, _, 33, rfl, rfl, rfl, Or.inr ⟨rfl, by decide +kernel⟩⟩
theorem cs_J6_J14 : CSok (30, "java/util/NoSuchElementException", false) := ⟨_, _, 34, rfl, rfl, rfl, Or.inr ⟨rfl, by decide +kernel⟩⟩
theorem cs_J10_X26 : CSok (31, "ScholarsPress$Broken", false) := ⟨_, _, 26, rfl, rfl, rfl, Or.inr ⟨rfl, by decide +kernel⟩⟩
theorem cs_J10_X27 : CSok (31, "ScholarsPressModel$Broken", false) := ⟨_, _, 27, rfl, rfl, rfl, Or.inr ⟨rfl, by decide +kernel⟩⟩
theorem cs_J10_X29 : CSok (31, "ScholarsPressModel$Beyond", false) := ⟨_, _, 28, rfl, rfl, rfl, Or.inr ⟨rfl, by decide +kernel⟩⟩
theorem cs_J10_J3 : CSok (31, "java/lang/IndexOutOfBoundsException", false) := ⟨_, _, 29, rfl, rfl, rfl, Or.inr ⟨rfl, by decide +kernel⟩⟩
theorem cs_J10_J6 : CSok (31, "java/lang/IllegalArgumentException", false) := ⟨_, _, 30, rfl, rfl, rfl, Or.inr ⟨rfl, by decide +kernel⟩⟩
theorem cs_J10_J10 : CSok (31, "java/lang/UnsupportedOperationException", true) := ⟨_, _, 31, rfl, rfl, rfl, Or.inl ⟨rfl, q1884⟩⟩
theorem cs_J10_J11 : CSok (31, "java/lang/IllegalStateException", false) := ⟨_, _, 32, rfl, rfl, rfl, Or.inr ⟨rfl, by decide +kernel⟩⟩
theorem cs_J10_J12 : CSok (31, "java/lang/ArithmeticException", false) := ⟨_, _, 33, rfl, rfl, rfl, Or.inr ⟨rfl, by decide +kernel⟩⟩
theorem cs_J10_J14 : CSok (31, "java/util/NoSuchElementException", false) := ⟨_, _, 34, rfl, rfl, rfl, Or.inr ⟨rfl, by decide +kernel⟩⟩
theorem cs_J11_X26 : CSok (32, "ScholarsPress$Broken", false) := ⟨_, _, 26, rfl, rfl, rfl, Or.inr ⟨rfl, by decide +kernel⟩⟩
theorem cs_J11_X27 : CSok (32, "ScholarsPressModel$Broken", false) := ⟨_, _, 27, rfl, rfl, rfl, Or.inr ⟨rfl, by decide +kernel⟩⟩
theorem cs_J11_X29 : CSok (32, "ScholarsPressModel$Beyond", false) := ⟨_, _, 28, rfl, rfl, rfl, Or.inr ⟨rfl, by decide +kernel⟩⟩
theorem cs_J11_J3 : CSok (32, "java/lang/IndexOutOfBoundsException", false) := ⟨_, _, 29, rfl, rfl, rfl, Or.inr ⟨rfl, by decide +kernel⟩⟩
theorem cs_J11_J6 : CSok (32, "java/lang/IllegalArgumentException", false) := ⟨_, _, 30, rfl, rfl, rfl, Or.inr ⟨rfl, by decide +kernel⟩⟩
theorem cs_J11_J10 : CSok (32, "java/lang/UnsupportedOperationException", false) := ⟨_, _, 31, rfl, rfl, rfl, Or.inr ⟨rfl, by decide +kernel⟩⟩
theorem cs_J11_J11 : CSok (32, "java/lang/IllegalStateException", true) := ⟨_, _, 32, rfl, rfl, rfl, Or.inl ⟨rfl, q2247⟩⟩
theorem cs_J11_J12 : CSok (32, "java/lang/ArithmeticException", false) := ⟨_, _, 33, rfl, rfl, rfl, Or.inr ⟨rfl, by decide +kernel⟩⟩
theorem cs_J11_J14 : CSok (32, "java/util/NoSuchElementException", false) := ⟨_, _, 34, rfl, rfl, rfl, Or.inr ⟨rfl, by decide +kernel⟩⟩
theorem cs_J12_X26 : CSok (33, "ScholarsPress$Broken", false) := ⟨_, _, 26, rfl, rfl, rfl, Or.inr ⟨rfl, by decide +kernel⟩⟩
theorem cs_J12_X27 : CSok (33, "ScholarsPressModel$Broken", false) := ⟨_, _, 27, rfl, rfl, rfl, Or.inr ⟨rfl, by decide +kernel⟩⟩
theorem cs_J12_X29 : CSok (33, "ScholarsPressModel$Beyond", false) := ⟨_, _, 28, rfl, rfl, rfl, Or.inr ⟨rfl, by decide +kernel⟩⟩
theorem cs_J12_J3 : CSok (33, "java/lang/IndexOutOfBoundsException", false) := ⟨_, _, 29, rfl, rfl, rfl, Or.inr ⟨rfl, by decide +kernel⟩⟩
theorem cs_J12_J6 : CSok (33, "java/lang/IllegalArgumentException", false) := ⟨_, _, 30, rfl, rfl, rfl, Or.inr ⟨rfl, by decide +kernel⟩⟩
theorem cs_J12_J10 : CSok (33, "java/lang/UnsupportedOperationException", false) := ⟨_, _, 31, rfl, rfl, rfl, Or.inr ⟨rfl, by decide +kernel⟩⟩
theorem cs_J12_J11 : CSok (33, "java/lang/IllegalStateException", false) := ⟨_, _, 32, rfl, rfl, rfl, Or.inr ⟨rfl, by decide +kernel⟩⟩
theorem cs_J12_J12 : CSok (33, "java/lang/ArithmeticException", true) := ⟨_, _, 33, rfl, rfl, rfl, Or.inl ⟨rfl, q2275⟩⟩
theorem cs_J12_J14 : CSok (33, "java/util/NoSuchElementException", false) := ⟨_, _, 34, rfl, rfl, rfl, Or.inr ⟨rfl, by decide +kernel⟩⟩
theorem cs_J14_X26 : CSok (34, "ScholarsPress$Broken", false) := ⟨_, _, 26, rfl, rfl, rfl, Or.inr ⟨rfl, by decide +kernel⟩⟩
theorem cs_J14_X27 : CSok (34, "ScholarsPressModel$Broken", false) := ⟨_, _, 27, rfl, rfl, rfl, Or.inr ⟨rfl, by decide +kernel⟩⟩
theorem cs_J14_X29 : CSok (34, "ScholarsPressModel$Beyond", false) := ⟨_, _, 28, rfl, rfl, rfl, Or.inr ⟨rfl, by decide +kernel⟩⟩
theorem cs_J14_J3 : CSok (34, "java/lang/IndexOutOfBoundsException", false) := ⟨_, _, 29, rfl, rfl, rfl, Or.inr ⟨rfl, by decide +kernel⟩⟩
theorem cs_J14_J6 : CSok (34, "java/lang/IllegalArgumentException", false) := ⟨_, _, 30, rfl, rfl, rfl, Or.inr ⟨rfl, by decide +kernel⟩⟩
theorem cs_J14_J10 : CSok (34, "java/lang/UnsupportedOperationException", false) := ⟨_, _, 31, rfl, rfl, rfl, Or.inr ⟨rfl, by decide +kernel⟩⟩
theorem cs_J14_J11 : CSok (34, "java/lang/IllegalStateException", false) := ⟨_, _, 32, rfl, rfl, rfl, Or.inr ⟨rfl, by decide +kernel⟩⟩
theorem cs_J14_J12 : CSok (34, "java/lang/ArithmeticException", false) := ⟨_, _, 33, rfl, rfl, rfl, Or.inr ⟨rfl, by decide +kernel⟩⟩
theorem cs_J14_J14 : CSok (34, "java/util/NoSuchElementException", true) := ⟨_, _, 34, rfl, rfl, rfl, Or.inl ⟨rfl, q3162⟩⟩
theorem csT_ok : ∀ q ∈ csT, CSok q := List.forall_mem_cons.mpr ⟨cs_X26_X26, List.forall_mem_cons.mpr ⟨cs_X26_X27, List.forall_mem_cons.mpr ⟨cs_X26_X29, List.forall_mem_cons.mpr ⟨cs_X26_J3, List.forall_mem_cons.mpr ⟨cs_X26_J6, List.forall_mem_cons.mpr ⟨cs_X26_J10, List.forall_mem_cons.mpr ⟨cs_X26_J11, List.forall_mem_cons.mpr ⟨cs_X26_J12, List.forall_mem_cons.mpr ⟨cs_X26_J14, List.forall_mem_cons.mpr ⟨cs_X27_X26, List.forall_mem_cons.mpr ⟨cs_X27_X27, List.forall_mem_cons.mpr ⟨cs_X27_X29, List.forall_mem_cons.mpr ⟨cs_X27_J3, List.forall_mem_cons.mpr ⟨cs_X27_J6, List.forall_mem_cons.mpr ⟨cs_X27_J10, List.forall_mem_cons.mpr ⟨cs_X27_J11, List.forall_mem_cons.mpr ⟨cs_X27_J12, List.forall_mem_cons.mpr ⟨cs_X27_J14, List.forall_mem_cons.mpr ⟨cs_X29_X26, List.forall_mem_cons.mpr ⟨cs_X29_X27, List.forall_mem_cons.mpr ⟨cs_X29_X29, List.forall_mem_cons.mpr ⟨cs_X29_J3, List.forall_mem_cons.mpr ⟨cs_X29_J6, List.forall_mem_cons.mpr ⟨cs_X29_J10, List.forall_mem_cons.mpr ⟨cs_X29_J11, List.forall_mem_cons.mpr ⟨cs_X29_J12, List.forall_mem_cons.mpr ⟨cs_X29_J14, List.forall_mem_cons.mpr ⟨cs_J3_X26, List.forall_mem_cons.mpr ⟨cs_J3_X27, List.forall_mem_cons.mpr ⟨cs_J3_X29, List.forall_mem_cons.mpr ⟨cs_J3_J3, List.forall_mem_cons.mpr ⟨cs_J3_J6, List.forall_mem_cons.mpr ⟨cs_J3_J10, List.forall_mem_cons.mpr ⟨cs_J3_J11, List.forall_mem_cons.mpr ⟨cs_J3_J12, List.forall_mem_cons.mpr ⟨cs_J3_J14, List.forall_mem_cons.mpr ⟨cs_J6_X26, List.forall_mem_cons.mpr ⟨cs_J6_X27, List.forall_mem_cons.mpr ⟨cs_J6_X29, List.forall_mem_cons.mpr ⟨cs_J6_J3, List.forall_mem_cons.mpr ⟨cs_J6_J6, List.forall_mem_cons.mpr ⟨cs_J6_J10, List.forall_mem_cons.mpr ⟨cs_J6_J11, List.forall_mem_cons.mpr ⟨cs_J6_J12, List.forall_mem_cons.mpr ⟨cs_J6_J14, List.forall_mem_cons.mpr ⟨cs_J10_X26, List.forall_mem_cons.mpr ⟨cs_J10_X27, List.forall_mem_cons.mpr ⟨cs_J10_X29, List.forall_mem_cons.mpr ⟨cs_J10_J3, List.forall_mem_cons.mpr ⟨cs_J10_J6, List.forall_mem_cons.mpr ⟨cs_J10_J10, List.forall_mem_cons.mpr ⟨cs_J10_J11, List.forall_mem_cons.mpr ⟨cs_J10_J12, List.forall_mem_cons.mpr ⟨cs_J10_J14, List.forall_mem_cons.mpr ⟨cs_J11_X26, List.forall_mem_cons.mpr ⟨cs_J11_X27, List.forall_mem_cons.mpr ⟨cs_J11_X29, List.forall_mem_cons.mpr ⟨cs_J11_J3, List.forall_mem_cons.mpr ⟨cs_J11_J6, List.forall_mem_cons.mpr ⟨cs_J11_J10, List.forall_mem_cons.mpr ⟨cs_J11_J11, List.forall_mem_cons.mpr ⟨cs_J11_J12, List.forall_mem_cons.mpr ⟨cs_J11_J14, List.forall_mem_cons.mpr ⟨cs_J12_X26, List.forall_mem_cons.mpr ⟨cs_J12_X27, List.forall_mem_cons.mpr ⟨cs_J12_X29, List.forall_mem_cons.mpr ⟨cs_J12_J3, List.forall_mem_cons.mpr ⟨cs_J12_J6, List.forall_mem_cons.mpr ⟨cs_J12_J10, List.forall_mem_cons.mpr ⟨cs_J12_J11, List.forall_mem_cons.mpr ⟨cs_J12_J12, List.forall_mem_cons.mpr ⟨cs_J12_J14, List.forall_mem_cons.mpr ⟨cs_J14_X26, List.forall_mem_cons.mpr ⟨cs_J14_X27, List.forall_mem_cons.mpr ⟨cs_J14_X29, List.forall_mem_cons.mpr ⟨cs_J14_J3, List.forall_mem_cons.mpr ⟨cs_J14_J6, List.forall_mem_cons.mpr ⟨cs_J14_J10, List.forall_mem_cons.mpr ⟨cs_J14_J11, List.forall_mem_cons.mpr ⟨cs_J14_J12, List.forall_mem_cons.mpr ⟨cs_J14_J14, fun _ h => absurd h List.not_mem_nil⟩⟩⟩⟩⟩⟩⟩⟩⟩⟩⟩⟩⟩⟩⟩⟩⟩⟩⟩⟩⟩⟩⟩⟩⟩⟩⟩⟩⟩⟩⟩⟩⟩⟩⟩⟩⟩⟩⟩⟩⟩⟩⟩⟩⟩⟩⟩⟩⟩⟩⟩⟩⟩⟩⟩⟩⟩⟩⟩⟩⟩⟩⟩⟩⟩⟩⟩⟩⟩⟩⟩⟩⟩⟩⟩⟩⟩⟩⟩⟩⟩
theorem not_cast {X Y : String} {s : State} {args : Array Value} {c t : ClassId} (h : (Cond.not (Cond.castable X Y)).before args s = true) (hX : s.vm.findClass X = some c) (hY : s.vm.findClass Y = some t) : s.vm.assignable c t = false := by
  simpa [Cond.before, Cond.holds, Cond.value, hX, hY] using h
theorem nwK_on {w : Cond} (h : nwK w = true) : w.onTables = true := by
  unfold nwK at h
  split at h
  · rfl
  · rfl
  · rfl
  · cases h
theorem ar_prim {ty : FieldType} {s : State} {args : Array Value} (h : (Cond.arrayClass ty).before args s = true) : ∃ cA : ClassId, ArrOfT s cA ty ∧ s.vm.findClass ("[" ++ ty.toString) = some cA := by
  obtain ⟨c, k, comp, a1, a2, a3⟩ := Cond.arrayClass_spec h
  exact ⟨c, fun n z => ⟨fun k h => (by cases h), k, a2, comp, a3⟩, a1⟩
theorem ar_ref {C : String} {s : State} {args : Array Value} (h : (Cond.arrayOver (.object C)).before args s = true) : ∃ cA : ClassId, ArrOfT s cA (.object C) ∧ va_RA s cA (.object C) := by
  obtain ⟨comp, c, k, b1, b2, b3, b4, b5⟩ := Cond.arrayOver_spec h
  exact ⟨c, fun n z => ⟨fun k h => (by cases h), k, b3, comp, b4⟩, ⟨k, comp, b3, b4, b1, b5⟩⟩
theorem zs_start {D : SD} {s : State} {args : Array Value} {C n d : String} (hD : D.base = s.heap.size) (hH : D.H0 = s.heap) (h1 : (Cond.laysStatic C n d).before args s = true) (h2 : (Cond.isRef (.static C n d)).before args s = true) : ZS D C n d s := by
  obtain ⟨c, k, i, f, a, cell, hc, hi, hst, ha, hcell, hs, hcls, hlt, hty⟩ := Cond.laysStatic_spec h1
  obtain ⟨v, ev, hv⟩ := Cond.isRef_spec h2
  obtain ⟨-, a', cell', ha', hcell', -, hslot⟩ := Term.static_spec hi ev
  cases ha.symm.trans ha'
  cases hcell.symm.trans hcell'
  exact ⟨c, k, i, f, a, cell, v, hc, hi, hst, ha, by rw [hD]; exact (Array.getElem?_eq_some_iff.mp hcell).1, by rw [hH]; exact hcell, hs, hcls, hlt, hty, hslot, hv⟩
theorem kv_start {s : State} {b : Nat} (hts : ∀ w ∈ lw_tbl, w.before #[Value.ref b] s = true) (hg : (Jvm.Cond.and given_1 narrow_1).before #[Value.ref b] s = true) : ∃ D : SD, D.base = s.heap.size ∧ D.H0 = s.heap ∧ D.scr = b ∧ KV D s := by
  have hn : ∀ w ∈ flN, w.before #[Value.ref b] s = true := flat_of_before _ hg
  have h1 : ∀ c : Nat, ∃ r : ClassId × (Nat → Nat), ∀ q, clT[c]? = some q → u_Kn s q.1 q.2.1 q.2.2.1 r.1 r.2 := by
    intro c
    cases hc : clT[c]? with
    | none => exact ⟨((default : Nat), fun _ => 0), fun q h => by cases h⟩
    | some q =>
      have hok := clT_ok q (List.mem_of_getElem? hc)
      obtain ⟨cC, iS, h⟩ := u_known (ws := lw_all) (fun w hw => hts w (lw_sub hw)) hok.1 (hts _ (lw_sub hok.2.2.2.1))
      exact ⟨(cC, iS), fun q' h' => by cases h'; exact h⟩
  obtain ⟨f1, hf1⟩ := Classical.axiomOfChoice h1
  have h2 : ∀ t : Nat, ∃ cA : ClassId, 1 ≤ t → t ≤ 9 → ArrOfT s cA (aty t) ∧ va_RA s cA (aty t) := by
    intro t
    rcases t with _ | _ | _ | _ | _ | _ | _ | _ | _ | _ | t
    · exact ⟨(default : Nat), fun h => absurd h (by decide)⟩
    · obtain ⟨cA, x, y⟩ := ar_prim (hts _ (lw_sub q492)); exact ⟨cA, fun _ _ => ⟨x, y⟩⟩
    · obtain ⟨cA, x, y⟩ := ar_prim (hts _ (lw_sub q449)); exact ⟨cA, fun _ _ => ⟨x, y⟩⟩
    · obtain ⟨cA, x, y⟩ := ar_prim (hts _ (lw_sub q635)); exact ⟨cA, fun _ _ => ⟨x, y⟩⟩
    · obtain ⟨cA, x, y⟩ := ar_prim (hts _ (lw_sub q978)); exact ⟨cA, fun _ _ => ⟨x, y⟩⟩
    · obtain ⟨cA, x, y⟩ := ar_ref (hts _ q451); exact ⟨cA, fun _ _ => ⟨x, y⟩⟩
    · obtain ⟨cA, x, y⟩ := ar_ref (hts _ q637); exact ⟨cA, fun _ _ => ⟨x, y⟩⟩
    · obtain ⟨cA, x, y⟩ := ar_ref (hts _ q770); exact ⟨cA, fun _ _ => ⟨x, y⟩⟩
    · obtain ⟨cA, x, y⟩ := ar_ref (hts _ q1115); exact ⟨cA, fun _ _ => ⟨x, y⟩⟩
    · obtain ⟨cA, x, y⟩ := ar_ref (hts _ q1196); exact ⟨cA, fun _ _ => ⟨x, y⟩⟩
    · exact ⟨(default : Nat), fun _ h => absurd h (by omega)⟩
  obtain ⟨f2, hf2⟩ := Classical.axiomOfChoice h2
  have hA : ∀ a : Nat, a < s.heap.size → ¬ s.heap.size ≤ a := fun a h1 h2 => absurd h1 (Nat.not_lt.mpr h2)
  have h3 : ∀ k : Nat, ∃ r : Nat × Nat, ∀ (q : String × Nat × String) (bs : List Int), srT[k]? = some q → srB[k]? = some bs → (Term.string q.1 q.2.1).eval #[Value.ref b] s none [] s = some (.ref r.1) ∧ va_O "java/lang/String" r.1 (fun q => s.heap.size ≤ q) s s.heap ∧ va_OF "java/lang/String" "coder" "B" (.int 0) r.1 (fun q => s.heap.size ≤ q) s s.heap ∧ va_OF "java/lang/String" "value" "[B" (.ref r.2) r.1 (fun q => s.heap.size ≤ q) s s.heap ∧ va_T .byte r.2 bs.length (fun j => iv (bs.getD j 0)) (fun q => s.heap.size ≤ q) s s.heap := by
    intro k
    cases hq : srT[k]? with
    | none => exact ⟨(0, 0), fun q bs h => by cases h⟩
    | some q =>
      cases hb : srB[k]? with
      | none => exact ⟨(0, 0), fun q bs _ h => by cases h⟩
      | some bs =>
        have hin := nr_in hq hb
        obtain ⟨hl, -⟩ := srB_at hb
        obtain ⟨a, c, cA, kA, q1, q2, q3, q4, q5, q6, -⟩ := Cond.exactly_spec (args := #[Value.ref b]) (first := s) (o := none) (s := s) (idx := []) (t := .string q.1 q.2.1) (cls := "java/lang/String") (hn _ (hin _ List.mem_cons_self))
        obtain ⟨t, ht, hT⟩ := va_Tof (tm := .field (.string q.1 q.2.1) "java/lang/String" "value" "[B") (f := fun j => iv (bs.getD j 0)) (N := bs.length) (A := fun q => s.heap.size ≤ q) (by omega) (hn _ (hin _ (List.mem_cons_of_mem _ (List.mem_cons_of_mem _ List.mem_cons_self)))) (va_eqt (hn _ (hin _ (List.mem_cons_of_mem _ (List.mem_cons_of_mem _ (List.mem_cons_of_mem _ List.mem_cons_self)))))) (fun j hj => va_eqt (hn _ (hin _ (List.mem_cons_of_mem _ (List.mem_cons_of_mem _ (List.mem_cons_of_mem _ (List.mem_cons_of_mem _ (List.mem_map.mpr ⟨j, List.mem_range.mpr hj, rfl⟩)))))))) hA
        refine ⟨(a, t), fun q' bs' e1 e2 => ?_⟩
        cases e1
        cases e2
        exact ⟨q1, ⟨cA, q3, q5, by rw [q6]; exact q2, hA a (Array.getElem?_eq_some_iff.mp q3).1⟩, vk_OFof q1 (va_eqt (hn _ (hin _ (List.mem_cons_of_mem _ List.mem_cons_self)))) hA, vk_OFof q1 ht hA, hT⟩
  obtain ⟨f3, hf3⟩ := Classical.axiomOfChoice h3
  refine ⟨(s.heap.size, s.heap, fun c => (f1 c).1, fun c => (f1 c).2, f2, b, fun k => (f3 k).1, fun k => (f3 k).2), rfl, rfl, rfl, fun c q hq => hf1 c q hq, fun t h1 h2 => hf2 t h1 h2, fun w hw => va_Nw.of (nwK_on (List.mem_filter.mp hw).2) (hts w (List.mem_filter.mp hw).1), ?_, ?_⟩
  · intro t h5 h9 C hC
    rcases t with _ | _ | _ | _ | _ | _ | _ | _ | _ | _ | t
    · omega
    · omega
    · omega
    · omega
    · omega
    · cases hC; exact va_AO.of (hts _ q451)
    · cases hC; exact va_AO.of (hts _ q637)
    · cases hC; exact va_AO.of (hts _ q770)
    · cases hC; exact va_AO.of (hts _ q1115)
    · cases hC; exact va_AO.of (hts _ q1196)
    · omega
  · refine ⟨fun q hq => ?_, fun k q hq => ?_, fun k bs hb => ?_, ?_, ?_, ?_, ?_⟩
    · obtain ⟨cq, cj, j, e1, e2, e3, e4⟩ := csT_ok q hq
      have k1 : s.vm.findClass cq.1 = some (f1 q.1).1 := (hf1 q.1 cq e1).2.1
      have k2 : s.vm.findClass q.2.1 = some (f1 j).1 := by rw [← e3]; exact (hf1 j cj e2).2.1
      refine ⟨(f1 j).1, k2, ?_⟩
      show s.vm.assignable (f1 q.1).1 (f1 j).1 = _
      rcases e4 with ⟨ht, hc⟩ | ⟨hf, hc⟩
      · obtain ⟨c3, c4, g1, g2, g3⟩ := Cond.castable_spec (hts _ hc)
        cases k1.symm.trans g1
        cases k2.symm.trans g2
        rw [ht]; exact g3
      · rw [hf]; exact not_cast (hn _ hc) k1 k2
    · have hk : k < 103 := by
        have := (List.getElem?_eq_some_iff.mp hq).1
        rw [nr_len.1] at this; exact this
      obtain ⟨bs, hb⟩ : ∃ bs, srB[k]? = some bs := ⟨_, List.getElem?_eq_getElem (by rw [nr_len.2]; exact hk)⟩
      exact vk_R.of (hts _ (srT_in q (List.mem_of_getElem? hq))) (hf3 k q bs hq hb).1
    · have hk : k < 103 := by
        have := (List.getElem?_eq_some_iff.mp hb).1
        rw [nr_len.2] at this; exact this
      obtain ⟨q, hq⟩ : ∃ q, srT[k]? = some q := ⟨_, List.getElem?_eq_getElem (by rw [nr_len.1]; exact hk)⟩
      exact (hf3 k q bs hq hb).2
    · exact va_Zof (hts _ q1776) (hts _ (lw_sub q385)) (va_eqi (hn _ (by decide +kernel))) hA
    · rcases va_Zqof (A := fun q => s.heap.size ≤ q) (hts _ q1792) (hts _ (lw_sub q388)) (hn _ (by decide +kernel)) hA with h | ⟨t, h⟩
      · exact ⟨.null, rfl, h⟩
      · exact ⟨.ref t, rfl, h⟩
    · exact zs_start rfl rfl (hts _ q1583) (hn _ (by decide +kernel))
    · exact zs_start rfl rfl (hts _ q1585) (hn _ (by decide +kernel))
/-- the empty picture -/
def st0 : Hp := fun _ _ => 0
theorem rel_start {D : SD} {s : State} (hD : D.base = s.heap.size) (hH : D.H0 = s.heap) : Rel D st0 s.heap := by
  refine ⟨⟨by decide, by decide, by decide, by decide⟩, by rw [hD]; rfl, ?_, fun q _ => by rw [hH], fun a h => absurd rfl h⟩
  unfold slotSum
  rw [hD, List.drop_eq_nil_of_le (by rw [Array.length_toList]; exact Nat.le_refl _)]
  rfl
theorem sc_start {D : SD} {s : State} {b L : Nat} {xs : Nat → Int32} (hL : L ≤ 384) (hD : D.base = s.heap.size) (hH : D.H0 = s.heap) (hb : D.scr = b) (hX : va_X b L xs s s.heap) : SC D s (L : Int) (fun i => (xs i.toNat).toInt) := by
  obtain ⟨scr, h1, h2, h3, h4, h5⟩ := hX
  refine ⟨⟨by omega, by omega⟩, fun i => r32_toInt _, scr, by rw [hH, hb]; exact h1, h2, h3, by rw [h4]; omega, by rw [h4]; show Int32.ofNat L = _; congr 1, fun j hj => ?_, fun z => ?_⟩
  · rw [h5 j (by omega)]
    show _ = some (Value.int (Int32.ofInt (xs ((j : Int).toNat)).toInt))
    rw [Int32.ofInt_toInt, Int.toNat_natCast]
  · have hz : D.base ≤ D.scr := z
    rw [hD, hb] at hz
    have := (Array.getElem?_eq_some_iff.mp h1).1
    omega
/-! THE CLAIM OUT OF ONE WALK OF THE LAW'S BODY. Your part is whole_start (and what it stands on); all else here is the same for every law, but numbers. -/
def R_law : String := "ScholarsPressLaw"
def lw_P (b : Addr) (xs : List Int32) (args : Array Value) (s : State) : Prop := args = #[.ref b] ∧ s.IntsAt b xs ∧ xs.length ≤ 384 ∧ (Jvm.Cond.and given_1 narrow_1).before args s = true
def lw_Q (_ : Array Value) (s : State) (o : Outcome) (t : State) : Prop := o = .returned (some (.int 1)) ∧ Framed s o t [] 130538 8696812
def lw_Z (below : List Frame) (a : Array Value) (s : State) : State → Prop := fun t => ∃ o, t.status = .running ∧ Ended t below o ∧ lw_Q a s o t
/-- the law's own end, with 1 on the stack, nothing written that was there before, its room as the claim has it -/
theorem lw_ret {p : Program} {l : Launch} {e : Env} {s : State} {m : MethodId} {below : List Frame} {meth : Method} {c : Code} {b : Nat} (hx : p.tables.exec = Jvm.exec) (hb : c.code = code) (hr : meth.sig.returnType = ret) (hlocks : meth.locks = false) {pc : Nat} {H : Heap} {ls : Array Slot} (hdg : decode code pc = .ok (.ireturn, 1)) : W p l e room_1 s m #[Value.ref b] below meth c H [] 130538 8696812 (lw_Z below #[Value.ref b] s) (F0 m pc ls [.int 1]) := by
  intro T hT X
  obtain ⟨fs, hret, hrun, hended, hW, hframe⟩ := X.leave (v := some (.int 1)) (hlocks := hlocks) (fun h => by rw [hr] at h; cases h)
  have hmeth' : T.vm.method? m = some meth := X.method'
  refine ⟨T.setFrames fs, ?_, .returned (some (.int 1)), hrun, hended, rfl, ⟨_, rfl⟩, hW, hframe⟩
  jvm_step X.here [X.here.top, hx, hb, hdg, hmeth', hr, ret, narrow_b1]
  (try refine ⟨rfl, ?_⟩); (try refine ⟨rfl, ?_⟩)
  first | (intro acts; rw [hret _ acts rfl rfl rfl]) | rw [hret _ _ rfl rfl rfl]
  exact Steps.refl _
/-- what holds at the law's entry: the machine, the code, the tables' words (any of lw_tbl by 'hts w (by decide +kernel)'), the script of L ints xs at the cell b, what the Statement gives of the start (any of its parts by flat_of_before) -/
def lw_At (p : Program) (s : State) (m : MethodId) (meth : Method) (c : Code) (b L : Nat) (xs : Nat → Int32) : Prop :=
  p.tables.exec = Jvm.exec ∧ c.code = code ∧ meth.sig.returnType = ret ∧ c.maxLocals = 8 ∧ s.vm.findClass R_law = some m.cls ∧ (∀ w ∈ lw_tbl, w.before #[Value.ref b] s = true) ∧ va_X b L xs s s.heap ∧ b < s.heap.size ∧ meth.locks = false ∧ (Jvm.Cond.and given_1 narrow_1).before #[Value.ref b] s = true
def LawTrue : Prop := ∀ (sn : Int) (sc : Int → Int), 0 ≤ sn → sn ≤ 384 → (∀ i, r32 (sc i)) → ∃ h' : Hp, m_L_law sn sc st0 = some (1, h')
theorem whole_start (hlaw : LawTrue) {p : Program} {e : Env} {s : State} {m : MethodId} {below : List Frame} {meth : Method} {c : Code} (l : Launch) (hl : l.stackTraces = false) {b L : Nat} {xs : Nat → Int32} (hL : L ≤ 384) (C0 : lw_At p s m meth c b L xs) : W p l e room_1 s m #[Value.ref b] below meth c s.heap [] 0 0 (lw_Z below #[Value.ref b] s) (entryFrame m ([Value.ref b] : List Value).toArray 8) := by
  obtain ⟨c1, c2, c3, c4, c5, c6, c7, c8, c9, c10⟩ := C0
  obtain ⟨D, hD, hH, hb, hKV⟩ := kv_start c6 c10
  have hR := rel_start hD hH
  have hS := sc_start hL hD hH hb c7
  have X : CX D p room_1 s m #[Value.ref b] meth c st0 code "ScholarsPressLaw" 8 (some .boolean) := ⟨c1, c2, c9, c4, c5, fun w hw => c6 w (lw_sub hw), hKV, hR, c3, rfl, rfl⟩
  have i : NoTr l := ⟨⟨hl⟩⟩
  obtain ⟨h', hm⟩ := hlaw (L : Int) (fun i => (xs i.toNat).toInt) (by omega) (by omega) hS.2.1
  have hg := s_L_law (l := l) (below := below) (e := e) X hS (1, h') (lw_Z below #[Value.ref b] s) hm (fun T hT => by
    obtain ⟨o, r1, r2, r3, -, r5, Ls, r6, r7⟩ := hT
    refine ⟨o, r1, r2, ?_⟩
    have ho : o = .returned (some (.int 1)) := by
      rcases r3 with ⟨-, ⟨hq, -⟩ | ⟨-, -, hq⟩⟩ | ⟨hq, -⟩
      · exact absurd hq (by decide)
      · exact hq
      · exact absurd hq (show ¬ (0 : Int) = 1 by decide)
    refine ⟨ho, ⟨_, ho⟩, r5, r7.weaken (fun y hy hlt => ?_) (Nat.le_refl _) (Nat.le_refl _)⟩
    have h1 := r6 y hy
    rw [hD] at h1
    exact absurd hlt (Nat.not_lt.mpr h1))
  have hl2 := lv_entry [Value.ref b] (n := 8) (Nat.le_of_ble_eq_true rfl)
  have hls : lv_args 0 [Value.ref b] = [(0, rv D (-1))] := by
    rw [rv_sc, hb]; rfl
  rw [hls] at hl2
  have hw := hg s.heap [] _ ⟨hR, Ext.refl st0⟩ (fun q hq => absurd hq List.not_mem_nil) hl2
  rw [lg_entry_eq]
  exact hw
set_option maxHeartbeats 4000000 in
theorem lw_walk (hlaw : LawTrue) (l : Launch) (hl : l.stackTraces = false) (b : Addr) (xs : List Int32) : MetFree l x (headSpec (Jvm.Cond.code x code maxLocals ret :: tables_1) room_1) (lw_P b xs) (fun _ _ _ _ _ => True) lw_Q := by
  refine MetFree.of_bodyS (code := code) (maxLocals := maxLocals) (ret := ret) (by decide) ?_ ?_
  · intro args s m h hn
    obtain ⟨meth, c, h1, h2, h3, h4, h5, h6, -, -⟩ := Cond.code_spec hn (atoms_spec (ws := Jvm.Cond.code x code maxLocals ret :: tables_1) h _ List.mem_cons_self)
    exact ⟨meth, c, h1, h2, h3, h4, h5, h6⟩
  · intro p e s m args below meth c s₁ B hml0 hP _
    obtain ⟨rfl, hx, hbd, hgv⟩ := hP
    obtain ⟨scr, harrAt, hlist, hof, hsmall⟩ := hx
    obtain ⟨hcb, hkn, -, -⟩ := State.arrayAt?_spec harrAt
    have hown : s.vm.findClass R_law = some m.cls := findClass_of_methodNamed B.named
    have hts0 : ∀ c ∈ (Jvm.Cond.code x code maxLocals ret :: tables_1), c.before #[Value.ref b] s = true := atoms_spec (ws := Jvm.Cond.code x code maxLocals ret :: tables_1) B.pre
    have hts : ∀ w ∈ lw_tbl, w.before #[Value.ref b] s = true := k2_hts_sels lw_privs (fun w hw => hts0 w (List.mem_cons_of_mem _ hw)) lw_privs_ok
    have hml : c.maxLocals = 8 := B.maxLocals_eq (hts0 _ List.mem_cons_self)
    have X₀ : Stand p l e room_1 s m #[Value.ref b] below meth c s₁ [] 0 0 := Stand.of_body B
    have hh0 : s₁.heap = s.heap := by rw [B.state]; rfl
    have hsz : scr.slots.size = xs.length := by rw [← Array.length_toList, hlist, List.length_map]
    have hval : ∀ j : Nat, j < xs.length → scr.slots[j]? = some (.int (xs.getD j 0)) := fun j hj => by
      rw [← Array.getElem?_toList, hlist]
      simp [hj]
    have hbl : b < s.heap.size := (Array.getElem?_eq_some_iff.mp hcb).1
    have hX : va_X b xs.length (fun j => xs.getD j 0) s s.heap := ⟨scr, hcb, hof, hkn, hsz, hval⟩
    have K : W p l e room_1 s m #[Value.ref b] below meth c s₁.heap [] 0 0 (lw_Z below #[Value.ref b] s) (entryFrame m ([Value.ref b] : List Value).toArray 8) := by
      rw [hh0]
      exact whole_start hlaw l hl hbd ⟨B.exec, B.bytes, B.returns, hml, hown, hts, hX, hbl, B.notSynchronized, hgv⟩
    obtain ⟨t, a1, o, b1, b2, b3⟩ := K s₁ rfl X₀
    exact ⟨t, o, a1, b1, b2, b3⟩
theorem lw_pre_spec {args : Array Value} {s : State} (h : (Jvm.Cond.and given_1 narrow_1).before args s = true) (hr : rest_1_c.before args s = true) : ∃ (b : Addr) (xs : List Int32), lw_P b xs args s := by
  have hs := flat_of_before _ h
  have hq := flat_of_before _ hr
  have hc : (Cond.count 1).before args s = true := hs _ (by decide +kernel)
  have harr : (Cond.arrayOf (.arg 0) .int).before args s = true := hs _ (by decide +kernel)
  have hle : (Cond.le (.length (.arg 0)) (.int 384)).before args s = true := hs _ (by decide +kernel)
  have hlen : (Cond.isInt (.length (.arg 0))).before args s = true := hq _ (by decide +kernel)
  have hall : (Cond.all (.arg 0) (.isInt (.elem (.arg 0) (.index 0)))).before args s = true := hq _ (by decide +kernel)
  obtain ⟨b, xs, hb, hx⟩ := State.ints_of_pre rfl harr hlen hall
  have hsm : xs.length < 2 ^ 31 := hx.choose_spec.2.2.2
  have hev : (Term.length (.arg 0)).eval args s none [] s = some (.int xs.length.toInt32) := hx.length_eval hb
  have hv := Cond.le_ints hev (show (Term.int 384).eval args s none [] s = some (.int 384) from rfl)
  have hd : xs.length.toInt32 ≤ 384 := by
    simpa [Cond.before, Cond.holds, hv] using hle
  have hN : xs.length ≤ 384 := (Int32.ofNat_le_ofNat hsm (by decide)).mp (show Int32.ofNat xs.length ≤ Int32.ofNat 384 from hd)
  exact ⟨b, xs, Cond.one_arg hc (show args[0]? = some (.ref b) from hb), hx, hN, h⟩
theorem lw_comes (hlaw : LawTrue) (l : Launch) (hl : l.stackTraces = false) : Comes l x (Jvm.Cond.code x code maxLocals ret :: tables_1) room_1 (fun tb e args s => Calls_1 tb e args s ∧ rest_1 tb e args s ∧ Pre_1 tb e args s)
    (fun _ _ args s o t => lw_Q args s o t) := by
  intro p e ha hc hk s m args below hf hfit hheap happ hpre
  obtain ⟨b, xs, hP⟩ := lw_pre_spec hpre.2.2 hpre.2.1
  obtain ⟨k, o, h1, h2, h3, hQ⟩ := lw_walk hlaw l hl b xs p e ha hc hk s m args below hf ((Spec.applies_iff_loose hf).mp happ).1 hP trivial
  exact ⟨k, o, h1, h2, h3, hQ⟩
theorem lw_frame {s t : State} {o : Outcome} {args : Array Value} (h : Framed s o t [] 130538 8696812) :
    Framed s o t (fieldLocs frame_1_writes args s ++ arrayLocs frame_1_arrays args s ++ staticLocs frame_1_statics s) 130538 8696812 := h
theorem lw_limb (hlaw : LawTrue) (L : Cond) (hL : ∀ (args : Array Value) (s t : State), L.after args s (.returned (some (.int 1))) t = true) :
    ArmFor flags0 classFile x code maxLocals ret World_1 tables_1 room_1 Calls_1 rest_1 Pre_1
      (fun tb e a s o t => postC L tb e a s o t ∧ Framed s o t (fieldLocs frame_1_writes a s ++ arrayLocs frame_1_arrays a s ++ staticLocs frame_1_statics s) 130538 8696812) := by
  intro l hfl _ _ p e ha hc hk s m args below hf hfit hheap happ hpre
  obtain ⟨k, o, h1, h2, h3, rfl, hF⟩ := lw_comes hlaw l (by unfold Launch.stackTraces; rw [hfl]; decide +kernel) p e ha hc hk s m args below hf hfit hheap happ hpre
  exact ⟨k, _, h1, h2, h3, hL args s _, lw_frame hF⟩
theorem i_vc_of (hlaw : LawTrue) : Claimed_1_1 ∧ Claimed_1_2 := ⟨lw_limb hlaw limb_1_1 (fun args s t => by simp [limb_1_1, Cond.after, Cond.holds, Cond.value]), lw_limb hlaw limb_1_2 (fun args s t => Cond.after_iff.mpr (by
  first | (rw [show limb_1_2 = Cond.eq .result (.int 1) from rfl, Cond.eq_ints (x := 1) (y := 1) rfl rfl]; simp; done) | (simp [limb_1_2, Cond.value, Term.eval]; done)))⟩
