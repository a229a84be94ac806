/-! whole numbers for the machine's: an int is its value, kept in range -/
def w32 (x : Int) : Int := (x + 2147483648) % 4294967296 - 2147483648
def w64 (x : Int) : Int := (x + 9223372036854775808) % 18446744073709551616 - 9223372036854775808
def w8 (x : Int) : Int := (x + 128) % 256 - 128
def r32 (x : Int) : Prop := -2147483648 ≤ x ∧ x < 2147483648
def r64 (x : Int) : Prop := -9223372036854775808 ≤ x ∧ x < 9223372036854775808
theorem r32_w (x : Int) : r32 (w32 x) := by unfold r32 w32; omega
theorem w32_id {x : Int} (h : r32 x) : w32 x = x := by unfold r32 at h; unfold w32; omega
theorem r64_w (x : Int) : r64 (w64 x) := by unfold r64 w64; omega
theorem w64_id {x : Int} (h : r64 x) : w64 x = x := by unfold r64 at h; unfold w64; omega
theorem r64_of {x : Int} (h : r32 x) : r64 x := by unfold r32 at h; unfold r64; omega
theorem r32_w8 (x : Int) : r32 (w8 x) := by unfold r32 w8; omega
theorem i_toInt {x : Int} (h : r32 x) : (Int32.ofInt x).toInt = x := by
  unfold r32 at h
  rw [Int32.toInt_ofInt, Int.bmod_def, show ((Int32.size : Nat) : Int) = 4294967296 from rfl]
  split <;> omega
theorem l_toInt {x : Int} (h : r64 x) : (Int64.ofInt x).toInt = x := by
  unfold r64 at h
  rw [Int64.toInt_ofInt, Int.bmod_def, show ((Int64.size : Nat) : Int) = 18446744073709551616 from rfl]
  split <;> omega
theorem r32_toInt (x : Int32) : r32 x.toInt := by
  have h1 := Int32.le_toInt x
  have h2 := Int32.toInt_lt x
  unfold r32; omega
theorem r64_toInt (x : Int64) : r64 x.toInt := by
  have h1 := Int64.le_toInt x
  have h2 := Int64.toInt_lt x
  unfold r64; omega
theorem i_eq {x : Int} {y : Int32} (h : y.toInt = w32 x) : y = Int32.ofInt x := by
  apply Int32.toInt_inj.mp
  rw [h, Int32.toInt_ofInt, Int.bmod_def, show ((Int32.size : Nat) : Int) = 4294967296 from rfl]
  unfold w32
  split <;> omega
theorem l_eq {x : Int} {y : Int64} (h : y.toInt = w64 x) : y = Int64.ofInt x := by
  apply Int64.toInt_inj.mp
  rw [h, Int64.toInt_ofInt, Int.bmod_def, show ((Int64.size : Nat) : Int) = 18446744073709551616 from rfl]
  unfold w64
  split <;> omega
theorem i_w (x : Int) : Int32.ofInt (w32 x) = Int32.ofInt x := (i_eq (by rw [i_toInt (r32_w x)]))
theorem l_w (x : Int) : Int64.ofInt (w64 x) = Int64.ofInt x := (l_eq (by rw [l_toInt (r64_w x)]))
theorem bm32 (x : Int) : Int.bmod x 4294967296 = w32 x := by
  rw [Int.bmod_def]; unfold w32; split <;> omega
theorem bm64 (x : Int) : Int.bmod x 18446744073709551616 = w64 x := by
  rw [Int.bmod_def]; unfold w64; split <;> omega
theorem i_add {x y : Int} (hx : r32 x) (hy : r32 y) : Int32.ofInt x + Int32.ofInt y = Int32.ofInt (w32 (x + y)) := by
  rw [i_w]; apply i_eq; rw [Int32.toInt_add, i_toInt hx, i_toInt hy]; exact bm32 _
theorem i_sub {x y : Int} (hx : r32 x) (hy : r32 y) : Int32.ofInt x - Int32.ofInt y = Int32.ofInt (w32 (x - y)) := by
  rw [i_w]; apply i_eq; rw [Int32.toInt_sub, i_toInt hx, i_toInt hy]; exact bm32 _
theorem i_mul {x y : Int} (hx : r32 x) (hy : r32 y) : Int32.ofInt x * Int32.ofInt y = Int32.ofInt (w32 (x * y)) := by
  rw [i_w]; apply i_eq; rw [Int32.toInt_mul, i_toInt hx, i_toInt hy]; exact bm32 _
theorem i_neg {x : Int} (hx : r32 x) : -Int32.ofInt x = Int32.ofInt (w32 (-x)) := by
  rw [i_w]; apply i_eq; rw [Int32.toInt_neg, i_toInt hx]; exact bm32 _
theorem l_add {x y : Int} (hx : r64 x) (hy : r64 y) : Int64.ofInt x + Int64.ofInt y = Int64.ofInt (w64 (x + y)) := by
  rw [l_w]; apply l_eq; rw [Int64.toInt_add, l_toInt hx, l_toInt hy]; exact bm64 _
theorem l_sub {x y : Int} (hx : r64 x) (hy : r64 y) : Int64.ofInt x - Int64.ofInt y = Int64.ofInt (w64 (x - y)) := by
  rw [l_w]; apply l_eq; rw [Int64.toInt_sub, l_toInt hx, l_toInt hy]; exact bm64 _
theorem l_mul {x y : Int} (hx : r64 x) (hy : r64 y) : Int64.ofInt x * Int64.ofInt y = Int64.ofInt (w64 (x * y)) := by
  rw [l_w]; apply l_eq; rw [Int64.toInt_mul, l_toInt hx, l_toInt hy]; exact bm64 _
theorem l_neg {x : Int} (hx : r64 x) : -Int64.ofInt x = Int64.ofInt (w64 (-x)) := by
  rw [l_w]; apply l_eq; rw [Int64.toInt_neg, l_toInt hx]; exact bm64 _
theorem i_div {x y : Int} (hx : r32 x) (hy : r32 y) : Int32.ofInt x / Int32.ofInt y = Int32.ofInt (w32 (x.tdiv y)) := by
  rw [i_w]; apply i_eq; rw [Int32.toInt_div, i_toInt hx, i_toInt hy]; exact bm32 _
theorem l_div {x y : Int} (hx : r64 x) (hy : r64 y) : Int64.ofInt x / Int64.ofInt y = Int64.ofInt (w64 (x.tdiv y)) := by
  rw [l_w]; apply l_eq; rw [Int64.toInt_div, l_toInt hx, l_toInt hy]; exact bm64 _
theorem r32_tmod {x y : Int} (hx : r32 x) : r32 (x.tmod y) := by
  unfold r32 at *
  have h1 := Int.natAbs_tmod x y
  have h2 := Nat.mod_le x.natAbs y.natAbs
  rcases Int.lt_or_le x 0 with hn | hn
  · have h3 := Int.tmod_nonneg y (show 0 ≤ -x by omega)
    rw [Int.neg_tmod] at h3
    omega
  · have h3 := Int.tmod_nonneg y hn
    omega
theorem i_lt {x y : Int} (hx : r32 x) (hy : r32 y) : Int32.ofInt x < Int32.ofInt y ↔ x < y := by
  rw [Int32.lt_iff_toInt_lt, i_toInt hx, i_toInt hy]
theorem i_le {x y : Int} (hx : r32 x) (hy : r32 y) : Int32.ofInt x ≤ Int32.ofInt y ↔ x ≤ y := by
  rw [Int32.le_iff_toInt_le, i_toInt hx, i_toInt hy]
theorem i_inj {x y : Int} (hx : r32 x) (hy : r32 y) : Int32.ofInt x = Int32.ofInt y ↔ x = y := by
  rw [← Int32.toInt_inj, i_toInt hx, i_toInt hy]
theorem l_lt {x y : Int} (hx : r64 x) (hy : r64 y) : Int64.ofInt x < Int64.ofInt y ↔ x < y := by
  rw [Int64.lt_iff_toInt_lt, l_toInt hx, l_toInt hy]
theorem l_inj {x y : Int} (hx : r64 x) (hy : r64 y) : Int64.ofInt x = Int64.ofInt y ↔ x = y := by
  rw [← Int64.toInt_inj, l_toInt hx, l_toInt hy]
theorem i2l_ {x : Int} (hx : r32 x) : (Int32.ofInt x).toInt64 = Int64.ofInt x := by
  apply l_eq; rw [Int32.toInt_toInt64, i_toInt hx, w64_id (r64_of hx)]
theorem l2i_ {x : Int} (hx : r64 x) : (Int64.ofInt x).toInt32 = Int32.ofInt (w32 x) := by
  rw [i_w]; apply i_eq; rw [Int64.toInt_toInt32, l_toInt hx]; exact bm32 _
theorem i2b_ {x : Int} (hx : r32 x) : (Int32.ofInt x).toInt8.toInt32 = Int32.ofInt (w8 x) := by
  apply i_eq
  rw [Int8.toInt_toInt32, Int32.toInt_toInt8, i_toInt hx, w32_id (r32_w8 x)]
  rw [Int.bmod_def]; unfold w8; split <;> omega
theorem r64_tmod {x y : Int} (hx : r64 x) : r64 (x.tmod y) := by
  unfold r64 at *
  have h1 := Int.natAbs_tmod x y
  have h2 := Nat.mod_le x.natAbs y.natAbs
  rcases Int.lt_or_le x 0 with hn | hn
  · have h3 := Int.tmod_nonneg y (show 0 ≤ -x by omega)
    rw [Int.neg_tmod] at h3
    omega
  · have h3 := Int.tmod_nonneg y hn
    omega
theorem i_rem {x y : Int} (hx : r32 x) (hy : r32 y) : Int32.ofInt x - Int32.ofInt x / Int32.ofInt y * Int32.ofInt y = Int32.ofInt (x.tmod y) := by
  rw [i_div hx hy, i_w, ← Int32.ofInt_mul, ← Int32.ofInt_sub]
  congr 1
  have := Int.tmod_add_tdiv_mul x y
  omega
theorem l_rem {x y : Int} (hx : r64 x) (hy : r64 y) : Int64.ofInt x - Int64.ofInt x / Int64.ofInt y * Int64.ofInt y = Int64.ofInt (x.tmod y) := by
  rw [l_div hx hy, l_w, ← Int64.ofInt_mul, ← Int64.ofInt_sub]
  congr 1
  have := Int.tmod_add_tdiv_mul x y
  omega
/-! bits: by the machine's own words -/
def iand_ (x y : Int) : Int := (Int32.ofInt x &&& Int32.ofInt y).toInt
def ixor_ (x y : Int) : Int := (Int32.ofInt x ^^^ Int32.ofInt y).toInt
def ishr_ (x y : Int) : Int := (Int32.ofInt x >>> (Int32.ofInt y &&& 31)).toInt
def iushr_ (x y : Int) : Int := ((Int32.ofInt x).toUInt32 >>> ((Int32.ofInt y).toUInt32 &&& Int32.toUInt32 31)).toInt32.toInt
def land_ (x y : Int) : Int := (Int64.ofInt x &&& Int64.ofInt y).toInt
def lor_ (x y : Int) : Int := (Int64.ofInt x ||| Int64.ofInt y).toInt
def lshl_ (x y : Int) : Int := (Int64.ofInt x <<< ((Int32.ofInt y).toInt64 &&& 63)).toInt
theorem iand_eq (x y : Int) : Int32.ofInt x &&& Int32.ofInt y = Int32.ofInt (iand_ x y) := (Int32.ofInt_toInt _).symm
theorem ixor_eq (x y : Int) : Int32.ofInt x ^^^ Int32.ofInt y = Int32.ofInt (ixor_ x y) := (Int32.ofInt_toInt _).symm
theorem ishr_eq (x y : Int) : Int32.ofInt x >>> (Int32.ofInt y &&& 31) = Int32.ofInt (ishr_ x y) := (Int32.ofInt_toInt _).symm
theorem iushr_eq (x y : Int) : ((Int32.ofInt x).toUInt32 >>> ((Int32.ofInt y).toUInt32 &&& Int32.toUInt32 31)).toInt32 = Int32.ofInt (iushr_ x y) := (Int32.ofInt_toInt _).symm
theorem land_eq (x y : Int) : Int64.ofInt x &&& Int64.ofInt y = Int64.ofInt (land_ x y) := (Int64.ofInt_toInt _).symm
theorem lor_eq (x y : Int) : Int64.ofInt x ||| Int64.ofInt y = Int64.ofInt (lor_ x y) := (Int64.ofInt_toInt _).symm
theorem lshl_eq (x y : Int) : Int64.ofInt x <<< ((Int32.ofInt y).toInt64 &&& 63) = Int64.ofInt (lshl_ x y) := (Int64.ofInt_toInt _).symm
theorem r32_iand (x y : Int) : r32 (iand_ x y) := r32_toInt _
theorem r32_ixor (x y : Int) : r32 (ixor_ x y) := r32_toInt _
theorem r32_ishr (x y : Int) : r32 (ishr_ x y) := r32_toInt _
theorem r32_iushr (x y : Int) : r32 (iushr_ x y) := r32_toInt _
theorem r64_land (x y : Int) : r64 (land_ x y) := r64_toInt _
theorem r64_lor (x y : Int) : r64 (lor_ x y) := r64_toInt _
theorem r64_lshl (x y : Int) : r64 (lshl_ x y) := r64_toInt _
theorem r32_c {x : Int} (h : (decide (-2147483648 ≤ x) && decide (x < 2147483648)) = true) : r32 x := by
  simp only [Bool.and_eq_true, decide_eq_true_eq] at h
  exact h
theorem r64_c {x : Int} (h : (decide (-9223372036854775808 ≤ x) && decide (x < 9223372036854775808)) = true) : r64 x := by
  simp only [Bool.and_eq_true, decide_eq_true_eq] at h
  exact h
