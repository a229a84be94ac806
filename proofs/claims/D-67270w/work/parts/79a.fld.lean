set_option maxRecDepth 100000
/-! WHERE THE FIELDS POINT, one by one: g_Xn_k for field k of class Xn; g_Xn for its kind -/
theorem g_X1 {h : Hp} (hL : LAY h) : h 1 (-2) = 16 := (ly_X1 hL).1
theorem g_X1_0 {h : Hp} (hL : LAY h) : h 1 0 = 2 ∧ h 2 (-2) = 2482 ∧ h 2 (-1) = 16384 := (ly_X1 hL).2.1
theorem g_X1_2 {h : Hp} (hL : LAY h) : h 1 2 = 3 ∧ h 3 (-2) = 32 ∧ h 3 (-1) = 8 := (ly_X1 hL).2.2.1
theorem g_X1_3 {h : Hp} (hL : LAY h) : h 1 3 = 4 ∧ h 4 (-2) = 2501 ∧ h 4 (-1) = 3 := (ly_X1 hL).2.2.2.1
theorem g_X1_4 {h : Hp} (hL : LAY h) : h 1 4 = 89 ∧ h 89 (-2) = 2518 ∧ h 89 (-1) = 3 := (ly_X1 hL).2.2.2.2.1
theorem g_X1_5 {h : Hp} (hL : LAY h) : h 1 5 = 183 ∧ h 183 (-2) = 2535 ∧ h 183 (-1) = 2 := (ly_X1 hL).2.2.2.2.2.1
theorem g_X1_15 {h : Hp} (hL : LAY h) : h 1 15 = 256 ∧ h 256 (-2) = 160 ∧ h 256 (-1) = 19 := (ly_X1 hL).2.2.2.2.2.2.1
theorem g_X1_16 {h : Hp} (hL : LAY h) : h 1 16 = 291 ∧ h 291 (-2) = 2552 ∧ h 291 (-1) = 3 := (ly_X1 hL).2.2.2.2.2.2.2.1
theorem g_X1_17 {h : Hp} (hL : LAY h) : h 1 17 = 487 ∧ h 487 (-2) = 272 ∧ h 487 (-1) = 3 := (ly_X1 hL).2.2.2.2.2.2.2.2.1
theorem g_X1_22 {h : Hp} (hL : LAY h) : h 1 22 = 494 ∧ h 494 (-2) = 2561 ∧ h 494 (-1) = 600 := (ly_X1 hL).2.2.2.2.2.2.2.2.2
theorem g_X2 {h : Hp} (hL : LAY h) : h 3 (-2) = 32 := (ly_X2 hL).1
theorem g_X2_0 {h : Hp} (hL : LAY h) : h 3 0 = 2 ∧ h 2 (-2) = 2482 ∧ h 2 (-1) = 16384 := (ly_X2 hL).2
theorem g_X3 {h : Hp} {a : Int} (hL : LAY h) (ha : a ∈ in_aX3) : h a (-2) = 48 := (ly_X3 hL ha).1
theorem g_X3_0 {h : Hp} {a : Int} (hL : LAY h) (ha : a ∈ in_aX3) : h a 0 = (a + 1) ∧ h (a + 1) (-2) = 64 ∧ h (a + 1) (-1) = 6 := (ly_X3 hL ha).2.1
theorem g_X3_1 {h : Hp} {a : Int} (hL : LAY h) (ha : a ∈ in_aX3) : h a 1 = (a + 6) ∧ h (a + 6) (-2) = 64 ∧ h (a + 6) (-1) = 6 := (ly_X3 hL ha).2.2.1
theorem g_X3_2 {h : Hp} {a : Int} (hL : LAY h) (ha : a ∈ in_aX3) : h a 2 = (a + 11) ∧ h (a + 11) (-2) = 80 ∧ h (a + 11) (-1) = 2 := (ly_X3 hL ha).2.2.2.1
theorem g_X3_3 {h : Hp} {a : Int} (hL : LAY h) (ha : a ∈ in_aX3) : h a 3 = (a + 13) ∧ h (a + 13) (-2) = 97 ∧ h (a + 13) (-1) = 960 := (ly_X3 hL ha).2.2.2.2.1
theorem g_X3_4 {h : Hp} {a : Int} (hL : LAY h) (ha : a ∈ in_aX3) : h a 4 = (a + 14) ∧ h (a + 14) (-2) = 113 ∧ h (a + 14) (-1) = 960 := (ly_X3 hL ha).2.2.2.2.2.1
theorem g_X3_5 {h : Hp} {a : Int} (hL : LAY h) (ha : a ∈ in_aX3) : h a 5 = (a + 15) ∧ h (a + 15) (-2) = 129 ∧ h (a + 15) (-1) = 961 := (ly_X3 hL ha).2.2.2.2.2.2.1
theorem g_X3_7 {h : Hp} {a : Int} (hL : LAY h) (ha : a ∈ in_aX3) : h a 7 = (a + 16) ∧ h (a + 16) (-2) = 145 ∧ h (a + 16) (-1) = 3840 := (ly_X3 hL ha).2.2.2.2.2.2.2.1
theorem g_X3_8 {h : Hp} {a : Int} (hL : LAY h) (ha : a ∈ in_aX3) : h a 8 = (a + 17) ∧ h (a + 17) (-2) = 161 ∧ h (a + 17) (-1) = 3840 := (ly_X3 hL ha).2.2.2.2.2.2.2.2.1
theorem g_X3_9 {h : Hp} {a : Int} (hL : LAY h) (ha : a ∈ in_aX3) : h a 9 = (a + 18) ∧ h (a + 18) (-2) = 177 ∧ h (a + 18) (-1) = 3840 := (ly_X3 hL ha).2.2.2.2.2.2.2.2.2.1
theorem g_X3_10 {h : Hp} {a : Int} (hL : LAY h) (ha : a ∈ in_aX3) : h a 10 = (a + 19) ∧ h (a + 19) (-2) = 193 ∧ h (a + 19) (-1) = 3840 := (ly_X3 hL ha).2.2.2.2.2.2.2.2.2.2.1
theorem g_X3_12 {h : Hp} {a : Int} (hL : LAY h) (ha : a ∈ in_aX3) : h a 12 = (a + 20) ∧ h (a + 20) (-2) = 209 ∧ h (a + 20) (-1) = 121 := (ly_X3 hL ha).2.2.2.2.2.2.2.2.2.2.2.1
theorem g_X3_13 {h : Hp} {a : Int} (hL : LAY h) (ha : a ∈ in_aX3) : h a 13 = (a + 21) ∧ h (a + 21) (-2) = 225 ∧ h (a + 21) (-1) = 120 := (ly_X3 hL ha).2.2.2.2.2.2.2.2.2.2.2.2.1
theorem g_X3_14 {h : Hp} {a : Int} (hL : LAY h) (ha : a ∈ in_aX3) : h a 14 = (a + 22) ∧ h (a + 22) (-2) = 241 ∧ h (a + 22) (-1) = 120 := (ly_X3 hL ha).2.2.2.2.2.2.2.2.2.2.2.2.2.1
theorem g_X3_16 {h : Hp} {a : Int} (hL : LAY h) (ha : a ∈ in_aX3) : h a 16 = (a + 23) ∧ h (a + 23) (-2) = 257 ∧ h (a + 23) (-1) = 600 := (ly_X3 hL ha).2.2.2.2.2.2.2.2.2.2.2.2.2.2.1
theorem g_X3_17 {h : Hp} {a : Int} (hL : LAY h) (ha : a ∈ in_aX3) : h a 17 = (a + 24) ∧ h (a + 24) (-2) = 273 ∧ h (a + 24) (-1) = 600 := (ly_X3 hL ha).2.2.2.2.2.2.2.2.2.2.2.2.2.2.2.1
theorem g_X3_18 {h : Hp} {a : Int} (hL : LAY h) (ha : a ∈ in_aX3) : h a 18 = (a + 25) ∧ h (a + 25) (-2) = 289 ∧ h (a + 25) (-1) = 600 := (ly_X3 hL ha).2.2.2.2.2.2.2.2.2.2.2.2.2.2.2.2.1
theorem g_X3_19 {h : Hp} {a : Int} (hL : LAY h) (ha : a ∈ in_aX3) : h a 19 = (a + 26) ∧ h (a + 26) (-2) = 307 ∧ h (a + 26) (-1) = 600 := (ly_X3 hL ha).2.2.2.2.2.2.2.2.2.2.2.2.2.2.2.2.2.1
theorem g_X3_21 {h : Hp} {a : Int} (hL : LAY h) (ha : a ∈ in_aX3) : h a 21 = (a + 27) ∧ h (a + 27) (-2) = 321 ∧ h (a + 27) (-1) = 121 := (ly_X3 hL ha).2.2.2.2.2.2.2.2.2.2.2.2.2.2.2.2.2.2
theorem g_X4 {h : Hp} {a : Int} (hL : LAY h) (ha : a ∈ in_aX4) : h a (-2) = 64 := (ly_X4 hL ha).1
theorem g_X4_0 {h : Hp} {a : Int} (hL : LAY h) (ha : a ∈ in_aX4) : h a 0 = (a + 1) ∧ h (a + 1) (-2) = 18 ∧ h (a + 1) (-1) = 16384 := (ly_X4 hL ha).2.1
theorem g_X4_2 {h : Hp} {a : Int} (hL : LAY h) (ha : a ∈ in_aX4) : h a 2 = (a + 3) ∧ h (a + 3) (-2) = 49 := (ly_X4 hL ha).2.2.1
theorem g_X4_4 {h : Hp} {a : Int} (hL : LAY h) (ha : a ∈ in_aX4) : h a 4 = (a + 2) ∧ h (a + 2) (-2) = 33 ∧ h (a + 2) (-1) = 128 := (ly_X4 hL ha).2.2.2.1
theorem g_X4_5 {h : Hp} {a : Int} (hL : LAY h) (ha : a ∈ in_aX4) : h a 5 = (a + 4) ∧ h (a + 4) (-2) = 65 := (ly_X4 hL ha).2.2.2.2
theorem g_X5 {h : Hp} {a : Int} (hL : LAY h) (ha : a ∈ in_aX5) : h a (-2) = 80 := (ly_X5 hL ha).1
theorem g_X5_0 {h : Hp} {a : Int} (hL : LAY h) (ha : a ∈ in_aX5) : h a 0 = (a + 1) ∧ h (a + 1) (-2) = 82 := (ly_X5 hL ha).2
theorem g_X6 {h : Hp} {a : Int} (hL : LAY h) (ha : a ∈ in_aX6) : h a (-2) = 96 := (ly_X6 hL ha).1
theorem g_X6_0 {h : Hp} {a : Int} (hL : LAY h) (ha : a ∈ in_aX6) : h a 0 = (a + 1) ∧ h (a + 1) (-2) = 338 ∧ h (a + 1) (-1) = 16384 := (ly_X6 hL ha).2.1
theorem g_X6_3 {h : Hp} {a : Int} (hL : LAY h) (ha : a ∈ in_aX6) : h a 3 = (a + 2) ∧ h (a + 2) (-2) = 64 ∧ h (a + 2) (-1) = 6 := (ly_X6 hL ha).2.2.1
theorem g_X6_5 {h : Hp} {a : Int} (hL : LAY h) (ha : a ∈ in_aX6) : h a 5 = (a + 7) ∧ h (a + 7) (-2) = 353 ∧ h (a + 7) (-1) = 500 := (ly_X6 hL ha).2.2.2.1
theorem g_X6_6 {h : Hp} {a : Int} (hL : LAY h) (ha : a ∈ in_aX6) : h a 6 = (a + 8) ∧ h (a + 8) (-2) = 369 ∧ h (a + 8) (-1) = 500 := (ly_X6 hL ha).2.2.2.2.1
theorem g_X6_7 {h : Hp} {a : Int} (hL : LAY h) (ha : a ∈ in_aX6) : h a 7 = (a + 9) ∧ h (a + 9) (-2) = 385 ∧ h (a + 9) (-1) = 500 := (ly_X6 hL ha).2.2.2.2.2.1
theorem g_X6_8 {h : Hp} {a : Int} (hL : LAY h) (ha : a ∈ in_aX6) : h a 8 = (a + 10) ∧ h (a + 10) (-2) = 401 ∧ h (a + 10) (-1) = 500 := (ly_X6 hL ha).2.2.2.2.2.2.1
theorem g_X6_9 {h : Hp} {a : Int} (hL : LAY h) (ha : a ∈ in_aX6) : h a 9 = (a + 11) ∧ h (a + 11) (-2) = 417 ∧ h (a + 11) (-1) = 500 := (ly_X6 hL ha).2.2.2.2.2.2.2.1
theorem g_X6_10 {h : Hp} {a : Int} (hL : LAY h) (ha : a ∈ in_aX6) : h a 10 = (a + 12) ∧ h (a + 12) (-2) = 433 ∧ h (a + 12) (-1) = 500 := (ly_X6 hL ha).2.2.2.2.2.2.2.2.1
theorem g_X6_11 {h : Hp} {a : Int} (hL : LAY h) (ha : a ∈ in_aX6) : h a 11 = (a + 13) ∧ h (a + 13) (-2) = 449 ∧ h (a + 13) (-1) = 500 := (ly_X6 hL ha).2.2.2.2.2.2.2.2.2.1
theorem g_X6_12 {h : Hp} {a : Int} (hL : LAY h) (ha : a ∈ in_aX6) : h a 12 = (a + 14) ∧ h (a + 14) (-2) = 465 ∧ h (a + 14) (-1) = 500 := (ly_X6 hL ha).2.2.2.2.2.2.2.2.2.2.1
theorem g_X6_13 {h : Hp} {a : Int} (hL : LAY h) (ha : a ∈ in_aX6) : h a 13 = (a + 15) ∧ h (a + 15) (-2) = 483 ∧ h (a + 15) (-1) = 500 := (ly_X6 hL ha).2.2.2.2.2.2.2.2.2.2.2.1
theorem g_X6_14 {h : Hp} {a : Int} (hL : LAY h) (ha : a ∈ in_aX6) : h a 14 = (a + 16) ∧ h (a + 16) (-2) = 497 ∧ h (a + 16) (-1) = 501 := (ly_X6 hL ha).2.2.2.2.2.2.2.2.2.2.2.2.1
theorem g_X6_15 {h : Hp} {a : Int} (hL : LAY h) (ha : a ∈ in_aX6) : h a 15 = (a + 17) ∧ h (a + 17) (-2) = 513 ∧ h (a + 17) (-1) = 3000 := (ly_X6 hL ha).2.2.2.2.2.2.2.2.2.2.2.2.2.1
theorem g_X6_16 {h : Hp} {a : Int} (hL : LAY h) (ha : a ∈ in_aX6) : h a 16 = (a + 18) ∧ h (a + 18) (-2) = 529 ∧ h (a + 18) (-1) = 3000 := (ly_X6 hL ha).2.2.2.2.2.2.2.2.2.2.2.2.2.2.1
theorem g_X6_17 {h : Hp} {a : Int} (hL : LAY h) (ha : a ∈ in_aX6) : h a 17 = (a + 19) ∧ h (a + 19) (-2) = 545 ∧ h (a + 19) (-1) = 3000 := (ly_X6 hL ha).2.2.2.2.2.2.2.2.2.2.2.2.2.2.2.1
theorem g_X6_21 {h : Hp} {a : Int} (hL : LAY h) (ha : a ∈ in_aX6) : h a 21 = (a + 20) ∧ h (a + 20) (-2) = 561 ∧ h (a + 20) (-1) = 16385 := (ly_X6 hL ha).2.2.2.2.2.2.2.2.2.2.2.2.2.2.2.2.1
theorem g_X6_22 {h : Hp} {a : Int} (hL : LAY h) (ha : a ∈ in_aX6) : h a 22 = (a + 21) ∧ h (a + 21) (-2) = 577 ∧ h (a + 21) (-1) = 16385 := (ly_X6 hL ha).2.2.2.2.2.2.2.2.2.2.2.2.2.2.2.2.2.1
theorem g_X6_23 {h : Hp} {a : Int} (hL : LAY h) (ha : a ∈ in_aX6) : h a 23 = (a + 22) ∧ h (a + 22) (-2) = 593 ∧ h (a + 22) (-1) = 16385 := (ly_X6 hL ha).2.2.2.2.2.2.2.2.2.2.2.2.2.2.2.2.2.2.1
theorem g_X6_25 {h : Hp} {a : Int} (hL : LAY h) (ha : a ∈ in_aX6) : h a 25 = (a + 23) ∧ h (a + 23) (-2) = 64 ∧ h (a + 23) (-1) = 6 := (ly_X6 hL ha).2.2.2.2.2.2.2.2.2.2.2.2.2.2.2.2.2.2.2.1
theorem g_X6_26 {h : Hp} {a : Int} (hL : LAY h) (ha : a ∈ in_aX6) : h a 26 = (a + 28) ∧ h (a + 28) (-2) = 609 ∧ h (a + 28) (-1) = 40 := (ly_X6 hL ha).2.2.2.2.2.2.2.2.2.2.2.2.2.2.2.2.2.2.2.2.1
theorem g_X6_27 {h : Hp} {a : Int} (hL : LAY h) (ha : a ∈ in_aX6) : h a 27 = (a + 29) ∧ h (a + 29) (-2) = 625 ∧ h (a + 29) (-1) = 40 := (ly_X6 hL ha).2.2.2.2.2.2.2.2.2.2.2.2.2.2.2.2.2.2.2.2.2.1
theorem g_X6_28 {h : Hp} {a : Int} (hL : LAY h) (ha : a ∈ in_aX6) : h a 28 = (a + 30) ∧ h (a + 30) (-2) = 641 ∧ h (a + 30) (-1) = 20 := (ly_X6 hL ha).2.2.2.2.2.2.2.2.2.2.2.2.2.2.2.2.2.2.2.2.2.2
theorem g_X7 {h : Hp} {a : Int} (hL : LAY h) (ha : a ∈ in_aX7) : h a (-2) = 112 := (ly_X7 hL ha).1
theorem g_X7_3 {h : Hp} {a : Int} (hL : LAY h) (ha : a ∈ in_aX7) : h a 3 = (a + 1) ∧ h (a + 1) (-2) = 657 ∧ h (a + 1) (-1) = 4800 := (ly_X7 hL ha).2.1
theorem g_X7_4 {h : Hp} {a : Int} (hL : LAY h) (ha : a ∈ in_aX7) : h a 4 = (a + 2) ∧ h (a + 2) (-2) = 673 ∧ h (a + 2) (-1) = 11000 := (ly_X7 hL ha).2.2.1
theorem g_X7_5 {h : Hp} {a : Int} (hL : LAY h) (ha : a ∈ in_aX7) : h a 5 = (a + 3) ∧ h (a + 3) (-2) = 689 ∧ h (a + 3) (-1) = 500 := (ly_X7 hL ha).2.2.2.1
theorem g_X7_6 {h : Hp} {a : Int} (hL : LAY h) (ha : a ∈ in_aX7) : h a 6 = (a + 4) ∧ h (a + 4) (-2) = 707 ∧ h (a + 4) (-1) = 500 := (ly_X7 hL ha).2.2.2.2.1
theorem g_X7_7 {h : Hp} {a : Int} (hL : LAY h) (ha : a ∈ in_aX7) : h a 7 = (a + 5) ∧ h (a + 5) (-2) = 723 ∧ h (a + 5) (-1) = 500 := (ly_X7 hL ha).2.2.2.2.2.1
theorem g_X7_8 {h : Hp} {a : Int} (hL : LAY h) (ha : a ∈ in_aX7) : h a 8 = (a + 6) ∧ h (a + 6) (-2) = 737 ∧ h (a + 6) (-1) = 500 := (ly_X7 hL ha).2.2.2.2.2.2.1
theorem g_X7_9 {h : Hp} {a : Int} (hL : LAY h) (ha : a ∈ in_aX7) : h a 9 = (a + 7) ∧ h (a + 7) (-2) = 753 ∧ h (a + 7) (-1) = 500 := (ly_X7 hL ha).2.2.2.2.2.2.2.1
theorem g_X7_10 {h : Hp} {a : Int} (hL : LAY h) (ha : a ∈ in_aX7) : h a 10 = (a + 8) ∧ h (a + 8) (-2) = 769 ∧ h (a + 8) (-1) = 500 := (ly_X7 hL ha).2.2.2.2.2.2.2.2.1
theorem g_X7_11 {h : Hp} {a : Int} (hL : LAY h) (ha : a ∈ in_aX7) : h a 11 = (a + 9) ∧ h (a + 9) (-2) = 785 ∧ h (a + 9) (-1) = 4000 := (ly_X7 hL ha).2.2.2.2.2.2.2.2.2.1
theorem g_X7_13 {h : Hp} {a : Int} (hL : LAY h) (ha : a ∈ in_aX7) : h a 13 = (a + 10) ∧ h (a + 10) (-2) = 801 ∧ h (a + 10) (-1) = 22 := (ly_X7 hL ha).2.2.2.2.2.2.2.2.2.2.1
theorem g_X7_14 {h : Hp} {a : Int} (hL : LAY h) (ha : a ∈ in_aX7) : h a 14 = (a + 11) ∧ h (a + 11) (-2) = 817 ∧ h (a + 11) (-1) = 22 := (ly_X7 hL ha).2.2.2.2.2.2.2.2.2.2.2.1
theorem g_X7_15 {h : Hp} {a : Int} (hL : LAY h) (ha : a ∈ in_aX7) : h a 15 = (a + 12) ∧ h (a + 12) (-2) = 833 ∧ h (a + 12) (-1) = 13 := (ly_X7 hL ha).2.2.2.2.2.2.2.2.2.2.2.2.1
theorem g_X7_16 {h : Hp} {a : Int} (hL : LAY h) (ha : a ∈ in_aX7) : h a 16 = (a + 13) ∧ h (a + 13) (-2) = 849 ∧ h (a + 13) (-1) = 500 := (ly_X7 hL ha).2.2.2.2.2.2.2.2.2.2.2.2.2.1
theorem g_X7_17 {h : Hp} {a : Int} (hL : LAY h) (ha : a ∈ in_aX7) : h a 17 = (a + 14) ∧ h (a + 14) (-2) = 865 ∧ h (a + 14) (-1) = 16385 := (ly_X7 hL ha).2.2.2.2.2.2.2.2.2.2.2.2.2.2.1
theorem g_X7_18 {h : Hp} {a : Int} (hL : LAY h) (ha : a ∈ in_aX7) : h a 18 = (a + 15) ∧ h (a + 15) (-2) = 80 ∧ h (a + 15) (-1) = 2 := (ly_X7 hL ha).2.2.2.2.2.2.2.2.2.2.2.2.2.2.2
theorem g_X8 {h : Hp} {a : Int} (hL : LAY h) (ha : a ∈ in_aX8) : h a (-2) = 128 := (ly_X8 hL ha).1
theorem g_X8_0 {h : Hp} {a : Int} (hL : LAY h) (ha : a ∈ in_aX8) : h a 0 = (a + 1) ∧ h (a + 1) (-2) = 881 ∧ h (a + 1) (-1) = 128 := (ly_X8 hL ha).2.1
theorem g_X8_1 {h : Hp} {a : Int} (hL : LAY h) (ha : a ∈ in_aX8) : h a 1 = (a + 2) ∧ h (a + 2) (-2) = 899 ∧ h (a + 2) (-1) = 128 := (ly_X8 hL ha).2.2.1
theorem g_X8_2 {h : Hp} {a : Int} (hL : LAY h) (ha : a ∈ in_aX8) : h a 2 = (a + 3) ∧ h (a + 3) (-2) = 913 ∧ h (a + 3) (-1) = 16384 := (ly_X8 hL ha).2.2.2.1
theorem g_X8_3 {h : Hp} {a : Int} (hL : LAY h) (ha : a ∈ in_aX8) : h a 3 = (a + 4) ∧ h (a + 4) (-2) = 929 ∧ h (a + 4) (-1) = 16384 := (ly_X8 hL ha).2.2.2.2
theorem g_X9 {h : Hp} {a : Int} (hL : LAY h) (ha : a ∈ in_aX9) : h a (-2) = 144 := (ly_X9 hL ha).1
theorem g_X9_2 {h : Hp} {a : Int} (hL : LAY h) (ha : a ∈ in_aX9) : h a 2 = (a + 1) ∧ h (a + 1) (-2) = 945 ∧ h (a + 1) (-1) = 4216 := (ly_X9 hL ha).2.1
theorem g_X9_3 {h : Hp} {a : Int} (hL : LAY h) (ha : a ∈ in_aX9) : h a 3 = (a + 2) ∧ h (a + 2) (-2) = 961 ∧ h (a + 2) (-1) = 4216 := (ly_X9 hL ha).2.2.1
theorem g_X9_4 {h : Hp} {a : Int} (hL : LAY h) (ha : a ∈ in_aX9) : h a 4 = (a + 3) ∧ h (a + 3) (-2) = 977 ∧ h (a + 3) (-1) = 4216 := (ly_X9 hL ha).2.2.2.1
theorem g_X9_5 {h : Hp} {a : Int} (hL : LAY h) (ha : a ∈ in_aX9) : h a 5 = (a + 4) ∧ h (a + 4) (-2) = 993 ∧ h (a + 4) (-1) = 4216 := (ly_X9 hL ha).2.2.2.2.1
theorem g_X9_7 {h : Hp} {a : Int} (hL : LAY h) (ha : a ∈ in_aX9) : h a 7 = (a + 5) ∧ h (a + 5) (-2) = 1009 ∧ h (a + 5) (-1) = 300 := (ly_X9 hL ha).2.2.2.2.2.1
theorem g_X9_8 {h : Hp} {a : Int} (hL : LAY h) (ha : a ∈ in_aX9) : h a 8 = (a + 6) ∧ h (a + 6) (-2) = 1026 ∧ h (a + 6) (-1) = 3900 := (ly_X9 hL ha).2.2.2.2.2.2.1
theorem g_X9_11 {h : Hp} {a : Int} (hL : LAY h) (ha : a ∈ in_aX9) : h a 11 = (a + 7) ∧ h (a + 7) (-2) = 1042 ∧ h (a + 7) (-1) = 1800 := (ly_X9 hL ha).2.2.2.2.2.2.2.1
theorem g_X9_12 {h : Hp} {a : Int} (hL : LAY h) (ha : a ∈ in_aX9) : h a 12 = (a + 8) ∧ h (a + 8) (-2) = 1059 ∧ h (a + 8) (-1) = 1860 := (ly_X9 hL ha).2.2.2.2.2.2.2.2.1
theorem g_X9_13 {h : Hp} {a : Int} (hL : LAY h) (ha : a ∈ in_aX9) : h a 13 = (a + 9) ∧ h (a + 9) (-2) = 1073 ∧ h (a + 9) (-1) = 60 := (ly_X9 hL ha).2.2.2.2.2.2.2.2.2.1
theorem g_X9_15 {h : Hp} {a : Int} (hL : LAY h) (ha : a ∈ in_aX9) : h a 15 = (a + 10) ∧ h (a + 10) (-2) = 1090 ∧ h (a + 10) (-1) = 30 := (ly_X9 hL ha).2.2.2.2.2.2.2.2.2.2.1
theorem g_X9_16 {h : Hp} {a : Int} (hL : LAY h) (ha : a ∈ in_aX9) : h a 16 = (a + 11) ∧ h (a + 11) (-2) = 1107 ∧ h (a + 11) (-1) = 31 := (ly_X9 hL ha).2.2.2.2.2.2.2.2.2.2.2.1
theorem g_X9_17 {h : Hp} {a : Int} (hL : LAY h) (ha : a ∈ in_aX9) : h a 17 = (a + 12) ∧ h (a + 12) (-2) = 1122 ∧ h (a + 12) (-1) = 13 := (ly_X9 hL ha).2.2.2.2.2.2.2.2.2.2.2.2.1
theorem g_X9_18 {h : Hp} {a : Int} (hL : LAY h) (ha : a ∈ in_aX9) : h a 18 = (a + 13) ∧ h (a + 13) (-2) = 1137 ∧ h (a + 13) (-1) = 24001 := (ly_X9 hL ha).2.2.2.2.2.2.2.2.2.2.2.2.2
theorem g_X10 {h : Hp} (hL : LAY h) : h 256 (-2) = 160 := (ly_X10 hL).1
theorem g_X10_0 {h : Hp} (hL : LAY h) : h 256 0 = 257 ∧ h 257 (-2) = 176 ∧ h 257 (-1) = 3 := (ly_X10 hL).2.1
theorem g_X10_1 {h : Hp} (hL : LAY h) : h 256 1 = 261 ∧ h 261 (-2) = 192 ∧ h 261 (-1) = 7 := (ly_X10 hL).2.2.1
theorem g_X10_2 {h : Hp} (hL : LAY h) : h 256 2 = 265 ∧ h 265 (-2) = 192 ∧ h 265 (-1) = 7 := (ly_X10 hL).2.2.2.1
theorem g_X10_3 {h : Hp} (hL : LAY h) : h 256 3 = 269 ∧ h 269 (-2) = 192 ∧ h 269 (-1) = 7 := (ly_X10 hL).2.2.2.2.1
theorem g_X10_4 {h : Hp} (hL : LAY h) : h 256 4 = 273 ∧ h 273 (-2) = 80 ∧ h 273 (-1) = 2 := (ly_X10 hL).2.2.2.2.2.1
theorem g_X10_5 {h : Hp} (hL : LAY h) : h 256 5 = 275 ∧ h 275 (-2) = 208 ∧ h 275 (-1) = 4 := (ly_X10 hL).2.2.2.2.2.2.1
theorem g_X10_6 {h : Hp} (hL : LAY h) : h 256 6 = 279 ∧ h 279 (-2) = 1297 ∧ h 279 (-1) = 21 := (ly_X10 hL).2.2.2.2.2.2.2.1
theorem g_X10_7 {h : Hp} (hL : LAY h) : h 256 7 = 280 ∧ h 280 (-2) = 1313 ∧ h 280 (-1) = 500 := (ly_X10 hL).2.2.2.2.2.2.2.2.1
theorem g_X10_8 {h : Hp} (hL : LAY h) : h 256 8 = 281 ∧ h 281 (-2) = 1329 ∧ h 281 (-1) = 500 := (ly_X10 hL).2.2.2.2.2.2.2.2.2.1
theorem g_X10_9 {h : Hp} (hL : LAY h) : h 256 9 = 282 ∧ h 282 (-2) = 1345 ∧ h 282 (-1) = 9 := (ly_X10 hL).2.2.2.2.2.2.2.2.2.2.1
theorem g_X10_10 {h : Hp} (hL : LAY h) : h 256 10 = 283 ∧ h 283 (-2) = 1361 ∧ h 283 (-1) = 20000 := (ly_X10 hL).2.2.2.2.2.2.2.2.2.2.2.1
theorem g_X10_11 {h : Hp} (hL : LAY h) : h 256 11 = 284 ∧ h 284 (-2) = 1377 ∧ h 284 (-1) = 20000 := (ly_X10 hL).2.2.2.2.2.2.2.2.2.2.2.2.1
theorem g_X10_12 {h : Hp} (hL : LAY h) : h 256 12 = 285 ∧ h 285 (-2) = 1393 ∧ h 285 (-1) = 20000 := (ly_X10 hL).2.2.2.2.2.2.2.2.2.2.2.2.2.1
theorem g_X10_13 {h : Hp} (hL : LAY h) : h 256 13 = 286 ∧ h 286 (-2) = 1412 ∧ h 286 (-1) = 20000 := (ly_X10 hL).2.2.2.2.2.2.2.2.2.2.2.2.2.2.1
theorem g_X10_14 {h : Hp} (hL : LAY h) : h 256 14 = 287 ∧ h 287 (-2) = 1425 ∧ h 287 (-1) = 20000 := (ly_X10 hL).2.2.2.2.2.2.2.2.2.2.2.2.2.2.2.1
theorem g_X10_15 {h : Hp} (hL : LAY h) : h 256 15 = 288 ∧ h 288 (-2) = 1441 ∧ h 288 (-1) = 20000 := (ly_X10 hL).2.2.2.2.2.2.2.2.2.2.2.2.2.2.2.2.1
theorem g_X10_16 {h : Hp} (hL : LAY h) : h 256 16 = 289 ∧ h 289 (-2) = 1457 ∧ h 289 (-1) = 1501 := (ly_X10 hL).2.2.2.2.2.2.2.2.2.2.2.2.2.2.2.2.2.1
theorem g_X10_17 {h : Hp} (hL : LAY h) : h 256 17 = 290 ∧ h 290 (-2) = 1473 ∧ h 290 (-1) = 1501 := (ly_X10 hL).2.2.2.2.2.2.2.2.2.2.2.2.2.2.2.2.2.2
theorem g_X11 {h : Hp} (hL : LAY h) : h 257 (-2) = 176 := (ly_X11 hL).1
theorem g_X11_0 {h : Hp} (hL : LAY h) : h 257 0 = 258 ∧ h 258 (-2) = 1155 ∧ h 258 (-1) = 24001 := (ly_X11 hL).2.1
theorem g_X11_1 {h : Hp} (hL : LAY h) : h 257 1 = 259 ∧ h 259 (-2) = 1172 ∧ h 259 (-1) = 2404 := (ly_X11 hL).2.2.1
theorem g_X11_2 {h : Hp} (hL : LAY h) : h 257 2 = 260 ∧ h 260 (-2) = 1185 ∧ h 260 (-1) = 2404 := (ly_X11 hL).2.2.2
theorem g_X12 {h : Hp} {a : Int} (hL : LAY h) (ha : a ∈ in_aX12) : h a (-2) = 192 := (ly_X12 hL ha).1
theorem g_X12_0 {h : Hp} {a : Int} (hL : LAY h) (ha : a ∈ in_aX12) : h a 0 = (a + 1) ∧ h (a + 1) (-2) = 1202 ∧ h (a + 1) (-1) = 24001 := (ly_X12 hL ha).2.1
theorem g_X12_1 {h : Hp} {a : Int} (hL : LAY h) (ha : a ∈ in_aX12) : h a 1 = (a + 2) ∧ h (a + 2) (-2) = 1217 ∧ h (a + 2) (-1) = 24001 := (ly_X12 hL ha).2.2.1
theorem g_X12_2 {h : Hp} {a : Int} (hL : LAY h) (ha : a ∈ in_aX12) : h a 2 = (a + 3) ∧ h (a + 3) (-2) = 1233 ∧ h (a + 3) (-1) = 24001 := (ly_X12 hL ha).2.2.2
theorem g_X13 {h : Hp} (hL : LAY h) : h 275 (-2) = 208 := (ly_X13 hL).1
theorem g_X13_0 {h : Hp} (hL : LAY h) : h 275 0 = 276 ∧ h 276 (-2) = 1252 ∧ h 276 (-1) = 8 := (ly_X13 hL).2.1
theorem g_X13_1 {h : Hp} (hL : LAY h) : h 275 1 = 277 ∧ h 277 (-2) = 1268 ∧ h 277 (-1) = 8 := (ly_X13 hL).2.2.1
theorem g_X13_2 {h : Hp} (hL : LAY h) : h 275 2 = 278 ∧ h 278 (-2) = 1281 ∧ h 278 (-1) = 8 := (ly_X13 hL).2.2.2
theorem g_X14 {h : Hp} {a : Int} (hL : LAY h) (ha : a ∈ in_aX14) : h a (-2) = 224 := (ly_X14 hL ha).1
theorem g_X14_0 {h : Hp} {a : Int} (hL : LAY h) (ha : a ∈ in_aX14) : h a 0 = 256 ∧ h 256 (-2) = 160 ∧ h 256 (-1) = 19 := (ly_X14 hL ha).2.1
theorem g_X14_1 {h : Hp} {a : Int} (hL : LAY h) (ha : a ∈ in_aX14) : h a 1 = (a + 1) ∧ h (a + 1) (-2) = 240 ∧ h (a + 1) (-1) = 16 := (ly_X14 hL ha).2.2.1
theorem g_X14_8 {h : Hp} {a : Int} (hL : LAY h) (ha : a ∈ in_aX14) : h a 8 = (a + 15) ∧ h (a + 15) (-2) = 1801 ∧ h (a + 15) (-1) = 1200 := (ly_X14 hL ha).2.2.2.1
theorem g_X14_10 {h : Hp} {a : Int} (hL : LAY h) (ha : a ∈ in_aX14) : h a 10 = (a + 16) ∧ h (a + 16) (-2) = 1817 ∧ h (a + 16) (-1) = 1200 := (ly_X14 hL ha).2.2.2.2.1
theorem g_X14_12 {h : Hp} {a : Int} (hL : LAY h) (ha : a ∈ in_aX14) : h a 12 = (a + 17) ∧ h (a + 17) (-2) = 1825 ∧ h (a + 17) (-1) = 1500 := (ly_X14 hL ha).2.2.2.2.2.1
theorem g_X14_13 {h : Hp} {a : Int} (hL : LAY h) (ha : a ∈ in_aX14) : h a 13 = (a + 18) ∧ h (a + 18) (-2) = 1841 ∧ h (a + 18) (-1) = 1500 := (ly_X14 hL ha).2.2.2.2.2.2.1
theorem g_X14_14 {h : Hp} {a : Int} (hL : LAY h) (ha : a ∈ in_aX14) : h a 14 = (a + 19) ∧ h (a + 19) (-2) = 1857 ∧ h (a + 19) (-1) = 1500 := (ly_X14 hL ha).2.2.2.2.2.2.2.1
theorem g_X14_15 {h : Hp} {a : Int} (hL : LAY h) (ha : a ∈ in_aX14) : h a 15 = (a + 20) ∧ h (a + 20) (-2) = 1873 ∧ h (a + 20) (-1) = 1500 := (ly_X14 hL ha).2.2.2.2.2.2.2.2.1
theorem g_X14_16 {h : Hp} {a : Int} (hL : LAY h) (ha : a ∈ in_aX14) : h a 16 = (a + 21) ∧ h (a + 21) (-2) = 1891 ∧ h (a + 21) (-1) = 1500 := (ly_X14 hL ha).2.2.2.2.2.2.2.2.2.1
theorem g_X14_17 {h : Hp} {a : Int} (hL : LAY h) (ha : a ∈ in_aX14) : h a 17 = (a + 22) ∧ h (a + 22) (-2) = 1905 ∧ h (a + 22) (-1) = 1500 := (ly_X14 hL ha).2.2.2.2.2.2.2.2.2.2.1
theorem g_X14_19 {h : Hp} {a : Int} (hL : LAY h) (ha : a ∈ in_aX14) : h a 19 = (a + 23) ∧ h (a + 23) (-2) = 1921 ∧ h (a + 23) (-1) = 500 := (ly_X14 hL ha).2.2.2.2.2.2.2.2.2.2.2.1
theorem g_X14_20 {h : Hp} {a : Int} (hL : LAY h) (ha : a ∈ in_aX14) : h a 20 = (a + 24) ∧ h (a + 24) (-2) = 1937 ∧ h (a + 24) (-1) = 4000 := (ly_X14 hL ha).2.2.2.2.2.2.2.2.2.2.2.2.1
theorem g_X14_21 {h : Hp} {a : Int} (hL : LAY h) (ha : a ∈ in_aX14) : h a 21 = (a + 25) ∧ h (a + 25) (-2) = 1953 ∧ h (a + 25) (-1) = 500 := (ly_X14 hL ha).2.2.2.2.2.2.2.2.2.2.2.2.2.1
theorem g_X14_22 {h : Hp} {a : Int} (hL : LAY h) (ha : a ∈ in_aX14) : h a 22 = (a + 26) ∧ h (a + 26) (-2) = 1969 ∧ h (a + 26) (-1) = 500 := (ly_X14 hL ha).2.2.2.2.2.2.2.2.2.2.2.2.2.2.1
theorem g_X14_24 {h : Hp} {a : Int} (hL : LAY h) (ha : a ∈ in_aX14) : h a 24 = (a + 27) ∧ h (a + 27) (-2) = 1985 ∧ h (a + 27) (-1) = 1700 := (ly_X14 hL ha).2.2.2.2.2.2.2.2.2.2.2.2.2.2.2.1
theorem g_X14_25 {h : Hp} {a : Int} (hL : LAY h) (ha : a ∈ in_aX14) : h a 25 = (a + 28) ∧ h (a + 28) (-2) = 2001 ∧ h (a + 28) (-1) = 1700 := (ly_X14 hL ha).2.2.2.2.2.2.2.2.2.2.2.2.2.2.2.2.1
theorem g_X14_28 {h : Hp} {a : Int} (hL : LAY h) (ha : a ∈ in_aX14) : h a 28 = (a + 29) ∧ h (a + 29) (-2) = 2017 ∧ h (a + 29) (-1) = 24000 := (ly_X14 hL ha).2.2.2.2.2.2.2.2.2.2.2.2.2.2.2.2.2.1
theorem g_X14_29 {h : Hp} {a : Int} (hL : LAY h) (ha : a ∈ in_aX14) : h a 29 = (a + 30) ∧ h (a + 30) (-2) = 2033 ∧ h (a + 30) (-1) = 500 := (ly_X14 hL ha).2.2.2.2.2.2.2.2.2.2.2.2.2.2.2.2.2.2.1
theorem g_X14_30 {h : Hp} {a : Int} (hL : LAY h) (ha : a ∈ in_aX14) : h a 30 = (a + 31) ∧ h (a + 31) (-2) = 2049 ∧ h (a + 31) (-1) = 500 := (ly_X14 hL ha).2.2.2.2.2.2.2.2.2.2.2.2.2.2.2.2.2.2.2.1
theorem g_X14_31 {h : Hp} {a : Int} (hL : LAY h) (ha : a ∈ in_aX14) : h a 31 = (a + 32) ∧ h (a + 32) (-2) = 2065 ∧ h (a + 32) (-1) = 500 := (ly_X14 hL ha).2.2.2.2.2.2.2.2.2.2.2.2.2.2.2.2.2.2.2.2.1
theorem g_X14_32 {h : Hp} {a : Int} (hL : LAY h) (ha : a ∈ in_aX14) : h a 32 = (a + 33) ∧ h (a + 33) (-2) = 2081 ∧ h (a + 33) (-1) = 500 := (ly_X14 hL ha).2.2.2.2.2.2.2.2.2.2.2.2.2.2.2.2.2.2.2.2.2.1
theorem g_X14_33 {h : Hp} {a : Int} (hL : LAY h) (ha : a ∈ in_aX14) : h a 33 = (a + 34) ∧ h (a + 34) (-2) = 2097 ∧ h (a + 34) (-1) = 120 := (ly_X14 hL ha).2.2.2.2.2.2.2.2.2.2.2.2.2.2.2.2.2.2.2.2.2.2.1
theorem g_X14_34 {h : Hp} {a : Int} (hL : LAY h) (ha : a ∈ in_aX14) : h a 34 = (a + 35) ∧ h (a + 35) (-2) = 2121 ∧ h (a + 35) (-1) = 120 := (ly_X14 hL ha).2.2.2.2.2.2.2.2.2.2.2.2.2.2.2.2.2.2.2.2.2.2.2.1
theorem g_X14_35 {h : Hp} {a : Int} (hL : LAY h) (ha : a ∈ in_aX14) : h a 35 = (a + 36) ∧ h (a + 36) (-2) = 2129 ∧ h (a + 36) (-1) = 120 := (ly_X14 hL ha).2.2.2.2.2.2.2.2.2.2.2.2.2.2.2.2.2.2.2.2.2.2.2.2.1
theorem g_X14_37 {h : Hp} {a : Int} (hL : LAY h) (ha : a ∈ in_aX14) : h a 37 = (a + 37) ∧ h (a + 37) (-2) = 2145 ∧ h (a + 37) (-1) = 40 := (ly_X14 hL ha).2.2.2.2.2.2.2.2.2.2.2.2.2.2.2.2.2.2.2.2.2.2.2.2.2.1
theorem g_X14_38 {h : Hp} {a : Int} (hL : LAY h) (ha : a ∈ in_aX14) : h a 38 = (a + 38) ∧ h (a + 38) (-2) = 2161 ∧ h (a + 38) (-1) = 40 := (ly_X14 hL ha).2.2.2.2.2.2.2.2.2.2.2.2.2.2.2.2.2.2.2.2.2.2.2.2.2.2.1
theorem g_X14_40 {h : Hp} {a : Int} (hL : LAY h) (ha : a ∈ in_aX14) : h a 40 = (a + 39) ∧ h (a + 39) (-2) = 2177 ∧ h (a + 39) (-1) = 500 := (ly_X14 hL ha).2.2.2.2.2.2.2.2.2.2.2.2.2.2.2.2.2.2.2.2.2.2.2.2.2.2.2.1
theorem g_X14_41 {h : Hp} {a : Int} (hL : LAY h) (ha : a ∈ in_aX14) : h a 41 = (a + 40) ∧ h (a + 40) (-2) = 2193 ∧ h (a + 40) (-1) = 500 := (ly_X14 hL ha).2.2.2.2.2.2.2.2.2.2.2.2.2.2.2.2.2.2.2.2.2.2.2.2.2.2.2.2.1
theorem g_X14_42 {h : Hp} {a : Int} (hL : LAY h) (ha : a ∈ in_aX14) : h a 42 = (a + 41) ∧ h (a + 41) (-2) = 2209 ∧ h (a + 41) (-1) = 500 := (ly_X14 hL ha).2.2.2.2.2.2.2.2.2.2.2.2.2.2.2.2.2.2.2.2.2.2.2.2.2.2.2.2.2.1
theorem g_X14_43 {h : Hp} {a : Int} (hL : LAY h) (ha : a ∈ in_aX14) : h a 43 = (a + 42) ∧ h (a + 42) (-2) = 256 ∧ h (a + 42) (-1) = 10 := (ly_X14 hL ha).2.2.2.2.2.2.2.2.2.2.2.2.2.2.2.2.2.2.2.2.2.2.2.2.2.2.2.2.2.2.1
theorem g_X14_50 {h : Hp} {a : Int} (hL : LAY h) (ha : a ∈ in_aX14) : h a 50 = (a + 51) ∧ h (a + 51) (-2) = 2225 ∧ h (a + 51) (-1) = 2320 := (ly_X14 hL ha).2.2.2.2.2.2.2.2.2.2.2.2.2.2.2.2.2.2.2.2.2.2.2.2.2.2.2.2.2.2.2.1
theorem g_X14_51 {h : Hp} {a : Int} (hL : LAY h) (ha : a ∈ in_aX14) : h a 51 = (a + 52) ∧ h (a + 52) (-2) = 2241 ∧ h (a + 52) (-1) = 2320 := (ly_X14 hL ha).2.2.2.2.2.2.2.2.2.2.2.2.2.2.2.2.2.2.2.2.2.2.2.2.2.2.2.2.2.2.2.2.1
theorem g_X14_52 {h : Hp} {a : Int} (hL : LAY h) (ha : a ∈ in_aX14) : h a 52 = (a + 53) ∧ h (a + 53) (-2) = 2257 ∧ h (a + 53) (-1) = 2320 := (ly_X14 hL ha).2.2.2.2.2.2.2.2.2.2.2.2.2.2.2.2.2.2.2.2.2.2.2.2.2.2.2.2.2.2.2.2.2.1
theorem g_X14_54 {h : Hp} {a : Int} (hL : LAY h) (ha : a ∈ in_aX14) : h a 54 = (a + 54) ∧ h (a + 54) (-2) = 2273 ∧ h (a + 54) (-1) = 121 := (ly_X14 hL ha).2.2.2.2.2.2.2.2.2.2.2.2.2.2.2.2.2.2.2.2.2.2.2.2.2.2.2.2.2.2.2.2.2.2.1
theorem g_X14_55 {h : Hp} {a : Int} (hL : LAY h) (ha : a ∈ in_aX14) : h a 55 = (a + 55) ∧ h (a + 55) (-2) = 2292 ∧ h (a + 55) (-1) = 26401 := (ly_X14 hL ha).2.2.2.2.2.2.2.2.2.2.2.2.2.2.2.2.2.2.2.2.2.2.2.2.2.2.2.2.2.2.2.2.2.2.2.1
theorem g_X14_56 {h : Hp} {a : Int} (hL : LAY h) (ha : a ∈ in_aX14) : h a 56 = (a + 56) ∧ h (a + 56) (-2) = 2305 ∧ h (a + 56) (-1) = 26400 := (ly_X14 hL ha).2.2.2.2.2.2.2.2.2.2.2.2.2.2.2.2.2.2.2.2.2.2.2.2.2.2.2.2.2.2.2.2.2.2.2.2.1
theorem g_X14_59 {h : Hp} {a : Int} (hL : LAY h) (ha : a ∈ in_aX14) : h a 59 = (a + 57) ∧ h (a + 57) (-2) = 2321 ∧ h (a + 57) (-1) = 1500 := (ly_X14 hL ha).2.2.2.2.2.2.2.2.2.2.2.2.2.2.2.2.2.2.2.2.2.2.2.2.2.2.2.2.2.2.2.2.2.2.2.2.2.1
theorem g_X14_60 {h : Hp} {a : Int} (hL : LAY h) (ha : a ∈ in_aX14) : h a 60 = (a + 58) ∧ h (a + 58) (-2) = 2337 ∧ h (a + 58) (-1) = 1500 := (ly_X14 hL ha).2.2.2.2.2.2.2.2.2.2.2.2.2.2.2.2.2.2.2.2.2.2.2.2.2.2.2.2.2.2.2.2.2.2.2.2.2.2.1
theorem g_X14_61 {h : Hp} {a : Int} (hL : LAY h) (ha : a ∈ in_aX14) : h a 61 = (a + 59) ∧ h (a + 59) (-2) = 2353 ∧ h (a + 59) (-1) = 1500 := (ly_X14 hL ha).2.2.2.2.2.2.2.2.2.2.2.2.2.2.2.2.2.2.2.2.2.2.2.2.2.2.2.2.2.2.2.2.2.2.2.2.2.2.2.1
theorem g_X14_62 {h : Hp} {a : Int} (hL : LAY h) (ha : a ∈ in_aX14) : h a 62 = (a + 60) ∧ h (a + 60) (-2) = 2369 ∧ h (a + 60) (-1) = 1500 := (ly_X14 hL ha).2.2.2.2.2.2.2.2.2.2.2.2.2.2.2.2.2.2.2.2.2.2.2.2.2.2.2.2.2.2.2.2.2.2.2.2.2.2.2.2.1
theorem g_X14_63 {h : Hp} {a : Int} (hL : LAY h) (ha : a ∈ in_aX14) : h a 63 = (a + 61) ∧ h (a + 61) (-2) = 2385 ∧ h (a + 61) (-1) = 1500 := (ly_X14 hL ha).2.2.2.2.2.2.2.2.2.2.2.2.2.2.2.2.2.2.2.2.2.2.2.2.2.2.2.2.2.2.2.2.2.2.2.2.2.2.2.2.2.1
theorem g_X14_64 {h : Hp} {a : Int} (hL : LAY h) (ha : a ∈ in_aX14) : h a 64 = (a + 62) ∧ h (a + 62) (-2) = 2401 ∧ h (a + 62) (-1) = 1500 := (ly_X14 hL ha).2.2.2.2.2.2.2.2.2.2.2.2.2.2.2.2.2.2.2.2.2.2.2.2.2.2.2.2.2.2.2.2.2.2.2.2.2.2.2.2.2.2.1
theorem g_X14_65 {h : Hp} {a : Int} (hL : LAY h) (ha : a ∈ in_aX14) : h a 65 = (a + 63) ∧ h (a + 63) (-2) = 2417 ∧ h (a + 63) (-1) = 1500 := (ly_X14 hL ha).2.2.2.2.2.2.2.2.2.2.2.2.2.2.2.2.2.2.2.2.2.2.2.2.2.2.2.2.2.2.2.2.2.2.2.2.2.2.2.2.2.2.2.1
theorem g_X14_66 {h : Hp} {a : Int} (hL : LAY h) (ha : a ∈ in_aX14) : h a 66 = (a + 64) ∧ h (a + 64) (-2) = 2433 ∧ h (a + 64) (-1) = 1500 := (ly_X14 hL ha).2.2.2.2.2.2.2.2.2.2.2.2.2.2.2.2.2.2.2.2.2.2.2.2.2.2.2.2.2.2.2.2.2.2.2.2.2.2.2.2.2.2.2.2
theorem g_X15 {h : Hp} {a : Int} (hL : LAY h) (ha : a ∈ in_aX15) : h a (-2) = 240 := (ly_X15 hL ha).1
theorem g_X15_0 {h : Hp} {a : Int} (hL : LAY h) (ha : a ∈ in_aX15) : h a 0 = (a + 1) ∧ h (a + 1) (-2) = 1490 ∧ h (a + 1) (-1) = 24000 := (ly_X15 hL ha).2.1
theorem g_X15_1 {h : Hp} {a : Int} (hL : LAY h) (ha : a ∈ in_aX15) : h a 1 = (a + 2) ∧ h (a + 2) (-2) = 1505 ∧ h (a + 2) (-1) = 24000 := (ly_X15 hL ha).2.2.1
theorem g_X15_2 {h : Hp} {a : Int} (hL : LAY h) (ha : a ∈ in_aX15) : h a 2 = (a + 3) ∧ h (a + 3) (-2) = 1521 ∧ h (a + 3) (-1) = 24000 := (ly_X15 hL ha).2.2.2.1
theorem g_X15_4 {h : Hp} {a : Int} (hL : LAY h) (ha : a ∈ in_aX15) : h a 4 = (a + 4) ∧ h (a + 4) (-2) = 1537 ∧ h (a + 4) (-1) = 26400 := (ly_X15 hL ha).2.2.2.2.1
theorem g_X15_5 {h : Hp} {a : Int} (hL : LAY h) (ha : a ∈ in_aX15) : h a 5 = (a + 5) ∧ h (a + 5) (-2) = 1553 ∧ h (a + 5) (-1) = 26400 := (ly_X15 hL ha).2.2.2.2.2.1
theorem g_X15_6 {h : Hp} {a : Int} (hL : LAY h) (ha : a ∈ in_aX15) : h a 6 = (a + 6) ∧ h (a + 6) (-2) = 1569 ∧ h (a + 6) (-1) = 26400 := (ly_X15 hL ha).2.2.2.2.2.2.1
theorem g_X15_7 {h : Hp} {a : Int} (hL : LAY h) (ha : a ∈ in_aX15) : h a 7 = (a + 7) ∧ h (a + 7) (-2) = 1585 ∧ h (a + 7) (-1) = 26400 := (ly_X15 hL ha).2.2.2.2.2.2.2.1
theorem g_X15_8 {h : Hp} {a : Int} (hL : LAY h) (ha : a ∈ in_aX15) : h a 8 = (a + 8) ∧ h (a + 8) (-2) = 1604 ∧ h (a + 8) (-1) = 26400 := (ly_X15 hL ha).2.2.2.2.2.2.2.2.1
theorem g_X15_9 {h : Hp} {a : Int} (hL : LAY h) (ha : a ∈ in_aX15) : h a 9 = (a + 9) ∧ h (a + 9) (-2) = 1620 ∧ h (a + 9) (-1) = 26400 := (ly_X15 hL ha).2.2.2.2.2.2.2.2.2.1
theorem g_X15_10 {h : Hp} {a : Int} (hL : LAY h) (ha : a ∈ in_aX15) : h a 10 = (a + 10) ∧ h (a + 10) (-2) = 1636 ∧ h (a + 10) (-1) = 26400 := (ly_X15 hL ha).2.2.2.2.2.2.2.2.2.2.1
theorem g_X15_11 {h : Hp} {a : Int} (hL : LAY h) (ha : a ∈ in_aX15) : h a 11 = (a + 11) ∧ h (a + 11) (-2) = 1652 ∧ h (a + 11) (-1) = 26400 := (ly_X15 hL ha).2.2.2.2.2.2.2.2.2.2.2.1
theorem g_X15_13 {h : Hp} {a : Int} (hL : LAY h) (ha : a ∈ in_aX15) : h a 13 = (a + 12) ∧ h (a + 12) (-2) = 1665 ∧ h (a + 12) (-1) = 26400 := (ly_X15 hL ha).2.2.2.2.2.2.2.2.2.2.2.2.1
theorem g_X15_14 {h : Hp} {a : Int} (hL : LAY h) (ha : a ∈ in_aX15) : h a 14 = (a + 13) ∧ h (a + 13) (-2) = 1681 ∧ h (a + 13) (-1) = 26400 := (ly_X15 hL ha).2.2.2.2.2.2.2.2.2.2.2.2.2
theorem g_X16 {h : Hp} {a : Int} (hL : LAY h) (ha : a ∈ in_aX16) : h a (-2) = 256 := (ly_X16 hL ha).1
theorem g_X16_1 {h : Hp} {a : Int} (hL : LAY h) (ha : a ∈ in_aX16) : h a 1 = (a + 1) ∧ h (a + 1) (-2) = 1697 ∧ h (a + 1) (-1) = 500 := (ly_X16 hL ha).2.1
theorem g_X16_2 {h : Hp} {a : Int} (hL : LAY h) (ha : a ∈ in_aX16) : h a 2 = (a + 2) ∧ h (a + 2) (-2) = 1713 ∧ h (a + 2) (-1) = 500 := (ly_X16 hL ha).2.2.1
theorem g_X16_4 {h : Hp} {a : Int} (hL : LAY h) (ha : a ∈ in_aX16) : h a 4 = (a + 3) ∧ h (a + 3) (-2) = 80 ∧ h (a + 3) (-1) = 2 := (ly_X16 hL ha).2.2.2.1
theorem g_X16_5 {h : Hp} {a : Int} (hL : LAY h) (ha : a ∈ in_aX16) : h a 5 = (a + 5) ∧ h (a + 5) (-2) = 1729 ∧ h (a + 5) (-1) = 301 := (ly_X16 hL ha).2.2.2.2.1
theorem g_X16_6 {h : Hp} {a : Int} (hL : LAY h) (ha : a ∈ in_aX16) : h a 6 = (a + 6) ∧ h (a + 6) (-2) = 1745 ∧ h (a + 6) (-1) = 301 := (ly_X16 hL ha).2.2.2.2.2.1
theorem g_X16_7 {h : Hp} {a : Int} (hL : LAY h) (ha : a ∈ in_aX16) : h a 7 = (a + 7) ∧ h (a + 7) (-2) = 1761 ∧ h (a + 7) (-1) = 300 := (ly_X16 hL ha).2.2.2.2.2.2.1
theorem g_X16_8 {h : Hp} {a : Int} (hL : LAY h) (ha : a ∈ in_aX16) : h a 8 = (a + 8) ∧ h (a + 8) (-2) = 1777 ∧ h (a + 8) (-1) = 500 := (ly_X16 hL ha).2.2.2.2.2.2.2
theorem g_X17 {h : Hp} (hL : LAY h) : h 487 (-2) = 272 := (ly_X17 hL).1
theorem g_X17_1 {h : Hp} (hL : LAY h) : h 487 1 = 488 ∧ h 488 (-2) = 2449 ∧ h 488 (-1) = 1200 := (ly_X17 hL).2.1
theorem g_X17_2 {h : Hp} (hL : LAY h) : h 487 2 = 489 ∧ h 489 (-2) = 2465 ∧ h 489 (-1) = 256 := (ly_X17 hL).2.2
theorem g_X18 {h : Hp} (hL : LAY h) : h 495 (-2) = 304 := (ly_X18 hL).1
theorem g_X18_2 {h : Hp} (hL : LAY h) : h 495 2 = 496 ∧ h 496 (-2) = 5570 ∧ h 496 (-1) = 16384 := (ly_X18 hL).2.1
theorem g_X18_12 {h : Hp} (hL : LAY h) : h 495 12 = 621 ∧ h 621 (-2) = 5586 ∧ h 621 (-1) = 16384 := (ly_X18 hL).2.2.1
theorem g_X18_13 {h : Hp} (hL : LAY h) : h 495 13 = 622 ∧ h 622 (-2) = 400 ∧ h 622 (-1) = 30 := (ly_X18 hL).2.2.2.1
theorem g_X18_22 {h : Hp} (hL : LAY h) : h 495 22 = 981 ∧ h 981 (-2) = 5633 ∧ h 981 (-1) = 700 := (ly_X18 hL).2.2.2.2
theorem g_X19 {h : Hp} {a : Int} (hL : LAY h) (ha : a ∈ in_aX19) : h a (-2) = 320 := (ly_X19 hL ha).1
theorem g_X19_0 {h : Hp} {a : Int} (hL : LAY h) (ha : a ∈ in_aX19) : h a 0 = (a + 1) ∧ h (a + 1) (-2) = 2577 ∧ h (a + 1) (-1) = 256 := (ly_X19 hL ha).2.1
theorem g_X19_1 {h : Hp} {a : Int} (hL : LAY h) (ha : a ∈ in_aX19) : h a 1 = (a + 2) ∧ h (a + 2) (-2) = 2595 ∧ h (a + 2) (-1) = 256 := (ly_X19 hL ha).2.2.1
theorem g_X19_4 {h : Hp} {a : Int} (hL : LAY h) (ha : a ∈ in_aX19) : h a 4 = (a + 3) ∧ h (a + 3) (-2) = 2609 ∧ h (a + 3) (-1) = 200 := (ly_X19 hL ha).2.2.2.1
theorem g_X19_5 {h : Hp} {a : Int} (hL : LAY h) (ha : a ∈ in_aX19) : h a 5 = (a + 4) ∧ h (a + 4) (-2) = 2625 ∧ h (a + 4) (-1) = 200 := (ly_X19 hL ha).2.2.2.2.1
theorem g_X19_6 {h : Hp} {a : Int} (hL : LAY h) (ha : a ∈ in_aX19) : h a 6 = (a + 5) ∧ h (a + 5) (-2) = 2641 ∧ h (a + 5) (-1) = 60 := (ly_X19 hL ha).2.2.2.2.2.1
theorem g_X19_7 {h : Hp} {a : Int} (hL : LAY h) (ha : a ∈ in_aX19) : h a 7 = (a + 6) ∧ h (a + 6) (-2) = 2657 ∧ h (a + 6) (-1) = 60 := (ly_X19 hL ha).2.2.2.2.2.2.1
theorem g_X19_8 {h : Hp} {a : Int} (hL : LAY h) (ha : a ∈ in_aX19) : h a 8 = (a + 7) ∧ h (a + 7) (-2) = 336 ∧ h (a + 7) (-1) = 8 := (ly_X19 hL ha).2.2.2.2.2.2.2
theorem g_X20 {h : Hp} {a : Int} (hL : LAY h) (ha : a ∈ in_aX20) : h a (-2) = 336 := (ly_X20 hL ha)
theorem g_X21 {h : Hp} {a : Int} (hL : LAY h) (ha : a ∈ in_aX21) : h a (-2) = 352 := (ly_X21 hL ha).1
theorem g_X21_4 {h : Hp} {a : Int} (hL : LAY h) (ha : a ∈ in_aX21) : h a 4 = (a + 1) ∧ h (a + 1) (-2) = 2674 ∧ h (a + 1) (-1) = 4200 := (ly_X21 hL ha).2.1
theorem g_X21_5 {h : Hp} {a : Int} (hL : LAY h) (ha : a ∈ in_aX21) : h a 5 = (a + 2) ∧ h (a + 2) (-2) = 2689 ∧ h (a + 2) (-1) = 300 := (ly_X21 hL ha).2.2.1
theorem g_X21_6 {h : Hp} {a : Int} (hL : LAY h) (ha : a ∈ in_aX21) : h a 6 = (a + 3) ∧ h (a + 3) (-2) = 2706 ∧ h (a + 3) (-1) = 4800 := (ly_X21 hL ha).2.2.2.1
theorem g_X21_7 {h : Hp} {a : Int} (hL : LAY h) (ha : a ∈ in_aX21) : h a 7 = (a + 4) ∧ h (a + 4) (-2) = 2722 ∧ h (a + 4) (-1) = 1800 := (ly_X21 hL ha).2.2.2.2.1
theorem g_X21_8 {h : Hp} {a : Int} (hL : LAY h) (ha : a ∈ in_aX21) : h a 8 = (a + 5) ∧ h (a + 5) (-2) = 2737 ∧ h (a + 5) (-1) = 60 := (ly_X21 hL ha).2.2.2.2.2.1
theorem g_X21_9 {h : Hp} {a : Int} (hL : LAY h) (ha : a ∈ in_aX21) : h a 9 = (a + 6) ∧ h (a + 6) (-2) = 2755 ∧ h (a + 6) (-1) = 1860 := (ly_X21 hL ha).2.2.2.2.2.2.1
theorem g_X21_10 {h : Hp} {a : Int} (hL : LAY h) (ha : a ∈ in_aX21) : h a 10 = (a + 7) ∧ h (a + 7) (-2) = 2770 ∧ h (a + 7) (-1) = 64 := (ly_X21 hL ha).2.2.2.2.2.2.2.1
theorem g_X21_11 {h : Hp} {a : Int} (hL : LAY h) (ha : a ∈ in_aX21) : h a 11 = (a + 8) ∧ h (a + 8) (-2) = 2786 ∧ h (a + 8) (-1) = 64 := (ly_X21 hL ha).2.2.2.2.2.2.2.2.1
theorem g_X21_13 {h : Hp} {a : Int} (hL : LAY h) (ha : a ∈ in_aX21) : h a 13 = (a + 9) ∧ h (a + 9) (-2) = 2803 ∧ h (a + 9) (-1) = 64 := (ly_X21 hL ha).2.2.2.2.2.2.2.2.2
theorem g_X22 {h : Hp} {a : Int} (hL : LAY h) (ha : a ∈ in_aX22) : h a (-2) = 368 := (ly_X22 hL ha).1
theorem g_X22_0 {h : Hp} {a : Int} (hL : LAY h) (ha : a ∈ in_aX22) : h a 0 = (a + 1) ∧ h (a + 1) (-2) = 2818 ∧ h (a + 1) (-1) = 16384 := (ly_X22 hL ha).2.1
theorem g_X22_1 {h : Hp} {a : Int} (hL : LAY h) (ha : a ∈ in_aX22) : h a 1 = (a + 2) ∧ h (a + 2) (-2) = 336 ∧ h (a + 2) (-1) = 8 := (ly_X22 hL ha).2.2.1
theorem g_X22_2 {h : Hp} {a : Int} (hL : LAY h) (ha : a ∈ in_aX22) : h a 2 = (a + 3) ∧ h (a + 3) (-2) = 2833 ∧ h (a + 3) (-1) = 6 := (ly_X22 hL ha).2.2.2.1
theorem g_X22_9 {h : Hp} {a : Int} (hL : LAY h) (ha : a ∈ in_aX22) : h a 9 = (a + 4) ∧ h (a + 4) (-2) = 2849 ∧ h (a + 4) (-1) = 121 := (ly_X22 hL ha).2.2.2.2.1
theorem g_X22_10 {h : Hp} {a : Int} (hL : LAY h) (ha : a ∈ in_aX22) : h a 10 = (a + 5) ∧ h (a + 5) (-2) = 2865 ∧ h (a + 5) (-1) = 121 := (ly_X22 hL ha).2.2.2.2.2.1
theorem g_X22_11 {h : Hp} {a : Int} (hL : LAY h) (ha : a ∈ in_aX22) : h a 11 = (a + 6) ∧ h (a + 6) (-2) = 2881 ∧ h (a + 6) (-1) = 970 := (ly_X22 hL ha).2.2.2.2.2.2.1
theorem g_X22_12 {h : Hp} {a : Int} (hL : LAY h) (ha : a ∈ in_aX22) : h a 12 = (a + 7) ∧ h (a + 7) (-2) = 2897 ∧ h (a + 7) (-1) = 970 := (ly_X22 hL ha).2.2.2.2.2.2.2.1
theorem g_X22_13 {h : Hp} {a : Int} (hL : LAY h) (ha : a ∈ in_aX22) : h a 13 = (a + 8) ∧ h (a + 8) (-2) = 2913 ∧ h (a + 8) (-1) = 970 := (ly_X22 hL ha).2.2.2.2.2.2.2.2.1
theorem g_X22_14 {h : Hp} {a : Int} (hL : LAY h) (ha : a ∈ in_aX22) : h a 14 = (a + 9) ∧ h (a + 9) (-2) = 2929 ∧ h (a + 9) (-1) = 971 := (ly_X22 hL ha).2.2.2.2.2.2.2.2.2.1
theorem g_X22_15 {h : Hp} {a : Int} (hL : LAY h) (ha : a ∈ in_aX22) : h a 15 = (a + 10) ∧ h (a + 10) (-2) = 2945 ∧ h (a + 10) (-1) = 3850 := (ly_X22 hL ha).2.2.2.2.2.2.2.2.2.2.1
theorem g_X22_16 {h : Hp} {a : Int} (hL : LAY h) (ha : a ∈ in_aX22) : h a 16 = (a + 11) ∧ h (a + 11) (-2) = 2961 ∧ h (a + 11) (-1) = 3850 := (ly_X22 hL ha).2.2.2.2.2.2.2.2.2.2.2.1
theorem g_X22_17 {h : Hp} {a : Int} (hL : LAY h) (ha : a ∈ in_aX22) : h a 17 = (a + 12) ∧ h (a + 12) (-2) = 2977 ∧ h (a + 12) (-1) = 3850 := (ly_X22 hL ha).2.2.2.2.2.2.2.2.2.2.2.2.1
theorem g_X22_18 {h : Hp} {a : Int} (hL : LAY h) (ha : a ∈ in_aX22) : h a 18 = (a + 13) ∧ h (a + 13) (-2) = 2993 ∧ h (a + 13) (-1) = 3850 := (ly_X22 hL ha).2.2.2.2.2.2.2.2.2.2.2.2.2.1
theorem g_X22_19 {h : Hp} {a : Int} (hL : LAY h) (ha : a ∈ in_aX22) : h a 19 = (a + 14) ∧ h (a + 14) (-2) = 3009 ∧ h (a + 14) (-1) = 3850 := (ly_X22 hL ha).2.2.2.2.2.2.2.2.2.2.2.2.2.2.1
theorem g_X22_20 {h : Hp} {a : Int} (hL : LAY h) (ha : a ∈ in_aX22) : h a 20 = (a + 15) ∧ h (a + 15) (-2) = 3025 ∧ h (a + 15) (-1) = 3850 := (ly_X22 hL ha).2.2.2.2.2.2.2.2.2.2.2.2.2.2.2.1
theorem g_X22_21 {h : Hp} {a : Int} (hL : LAY h) (ha : a ∈ in_aX22) : h a 21 = (a + 16) ∧ h (a + 16) (-2) = 3041 ∧ h (a + 16) (-1) = 130 := (ly_X22 hL ha).2.2.2.2.2.2.2.2.2.2.2.2.2.2.2.2.1
theorem g_X22_22 {h : Hp} {a : Int} (hL : LAY h) (ha : a ∈ in_aX22) : h a 22 = (a + 17) ∧ h (a + 17) (-2) = 3057 ∧ h (a + 17) (-1) = 600 := (ly_X22 hL ha).2.2.2.2.2.2.2.2.2.2.2.2.2.2.2.2.2.1
theorem g_X22_23 {h : Hp} {a : Int} (hL : LAY h) (ha : a ∈ in_aX22) : h a 23 = (a + 18) ∧ h (a + 18) (-2) = 3073 ∧ h (a + 18) (-1) = 600 := (ly_X22 hL ha).2.2.2.2.2.2.2.2.2.2.2.2.2.2.2.2.2.2.1
theorem g_X22_24 {h : Hp} {a : Int} (hL : LAY h) (ha : a ∈ in_aX22) : h a 24 = (a + 19) ∧ h (a + 19) (-2) = 3089 ∧ h (a + 19) (-1) = 600 := (ly_X22 hL ha).2.2.2.2.2.2.2.2.2.2.2.2.2.2.2.2.2.2.2.1
theorem g_X22_25 {h : Hp} {a : Int} (hL : LAY h) (ha : a ∈ in_aX22) : h a 25 = (a + 20) ∧ h (a + 20) (-2) = 3105 ∧ h (a + 20) (-1) = 600 := (ly_X22 hL ha).2.2.2.2.2.2.2.2.2.2.2.2.2.2.2.2.2.2.2.2.1
theorem g_X22_26 {h : Hp} {a : Int} (hL : LAY h) (ha : a ∈ in_aX22) : h a 26 = (a + 21) ∧ h (a + 21) (-2) = 3121 ∧ h (a + 21) (-1) = 12 := (ly_X22 hL ha).2.2.2.2.2.2.2.2.2.2.2.2.2.2.2.2.2.2.2.2.2.1
theorem g_X22_27 {h : Hp} {a : Int} (hL : LAY h) (ha : a ∈ in_aX22) : h a 27 = (a + 22) ∧ h (a + 22) (-2) = 3137 ∧ h (a + 22) (-1) = 12 := (ly_X22 hL ha).2.2.2.2.2.2.2.2.2.2.2.2.2.2.2.2.2.2.2.2.2.2
theorem g_X23 {h : Hp} {a : Int} (hL : LAY h) (ha : a ∈ in_aX23) : h a (-2) = 384 := (ly_X23 hL ha).1
theorem g_X23_0 {h : Hp} {a : Int} (hL : LAY h) (ha : a ∈ in_aX23) : h a 0 = (a + 1) ∧ h (a + 1) (-2) = 3154 ∧ h (a + 1) (-1) = 16384 := (ly_X23 hL ha).2.1
theorem g_X23_6 {h : Hp} {a : Int} (hL : LAY h) (ha : a ∈ in_aX23) : h a 6 = (a + 2) ∧ h (a + 2) (-2) = 3169 ∧ h (a + 2) (-1) = 16392 := (ly_X23 hL ha).2.2.1
theorem g_X23_7 {h : Hp} {a : Int} (hL : LAY h) (ha : a ∈ in_aX23) : h a 7 = (a + 3) ∧ h (a + 3) (-2) = 3185 ∧ h (a + 3) (-1) = 16392 := (ly_X23 hL ha).2.2.2.1
theorem g_X23_8 {h : Hp} {a : Int} (hL : LAY h) (ha : a ∈ in_aX23) : h a 8 = (a + 4) ∧ h (a + 4) (-2) = 3201 ∧ h (a + 4) (-1) = 16392 := (ly_X23 hL ha).2.2.2.2.1
theorem g_X23_9 {h : Hp} {a : Int} (hL : LAY h) (ha : a ∈ in_aX23) : h a 9 = (a + 5) ∧ h (a + 5) (-2) = 3217 ∧ h (a + 5) (-1) = 500 := (ly_X23 hL ha).2.2.2.2.2.1
theorem g_X23_10 {h : Hp} {a : Int} (hL : LAY h) (ha : a ∈ in_aX23) : h a 10 = (a + 6) ∧ h (a + 6) (-2) = 3233 ∧ h (a + 6) (-1) = 500 := (ly_X23 hL ha).2.2.2.2.2.2.1
theorem g_X23_11 {h : Hp} {a : Int} (hL : LAY h) (ha : a ∈ in_aX23) : h a 11 = (a + 7) ∧ h (a + 7) (-2) = 3249 ∧ h (a + 7) (-1) = 500 := (ly_X23 hL ha).2.2.2.2.2.2.2.1
theorem g_X23_12 {h : Hp} {a : Int} (hL : LAY h) (ha : a ∈ in_aX23) : h a 12 = (a + 8) ∧ h (a + 8) (-2) = 3265 ∧ h (a + 8) (-1) = 500 := (ly_X23 hL ha).2.2.2.2.2.2.2.2.1
theorem g_X23_13 {h : Hp} {a : Int} (hL : LAY h) (ha : a ∈ in_aX23) : h a 13 = (a + 9) ∧ h (a + 9) (-2) = 3281 ∧ h (a + 9) (-1) = 500 := (ly_X23 hL ha).2.2.2.2.2.2.2.2.2.1
theorem g_X23_14 {h : Hp} {a : Int} (hL : LAY h) (ha : a ∈ in_aX23) : h a 14 = (a + 10) ∧ h (a + 10) (-2) = 3297 ∧ h (a + 10) (-1) = 500 := (ly_X23 hL ha).2.2.2.2.2.2.2.2.2.2.1
theorem g_X23_15 {h : Hp} {a : Int} (hL : LAY h) (ha : a ∈ in_aX23) : h a 15 = (a + 11) ∧ h (a + 11) (-2) = 3313 ∧ h (a + 11) (-1) = 500 := (ly_X23 hL ha).2.2.2.2.2.2.2.2.2.2.2.1
theorem g_X23_16 {h : Hp} {a : Int} (hL : LAY h) (ha : a ∈ in_aX23) : h a 16 = (a + 12) ∧ h (a + 12) (-2) = 3329 ∧ h (a + 12) (-1) = 500 := (ly_X23 hL ha).2.2.2.2.2.2.2.2.2.2.2.2.1
theorem g_X23_17 {h : Hp} {a : Int} (hL : LAY h) (ha : a ∈ in_aX23) : h a 17 = (a + 13) ∧ h (a + 13) (-2) = 3345 ∧ h (a + 13) (-1) = 3000 := (ly_X23 hL ha).2.2.2.2.2.2.2.2.2.2.2.2.2.1
theorem g_X23_18 {h : Hp} {a : Int} (hL : LAY h) (ha : a ∈ in_aX23) : h a 18 = (a + 14) ∧ h (a + 14) (-2) = 3361 ∧ h (a + 14) (-1) = 3000 := (ly_X23 hL ha).2.2.2.2.2.2.2.2.2.2.2.2.2.2.1
theorem g_X23_19 {h : Hp} {a : Int} (hL : LAY h) (ha : a ∈ in_aX23) : h a 19 = (a + 15) ∧ h (a + 15) (-2) = 3377 ∧ h (a + 15) (-1) = 3000 := (ly_X23 hL ha).2.2.2.2.2.2.2.2.2.2.2.2.2.2.2.1
theorem g_X23_20 {h : Hp} {a : Int} (hL : LAY h) (ha : a ∈ in_aX23) : h a 20 = (a + 16) ∧ h (a + 16) (-2) = 3393 ∧ h (a + 16) (-1) = 3000 := (ly_X23 hL ha).2.2.2.2.2.2.2.2.2.2.2.2.2.2.2.2.1
theorem g_X23_21 {h : Hp} {a : Int} (hL : LAY h) (ha : a ∈ in_aX23) : h a 21 = (a + 17) ∧ h (a + 17) (-2) = 3409 ∧ h (a + 17) (-1) = 40 := (ly_X23 hL ha).2.2.2.2.2.2.2.2.2.2.2.2.2.2.2.2.2.1
theorem g_X23_22 {h : Hp} {a : Int} (hL : LAY h) (ha : a ∈ in_aX23) : h a 22 = (a + 18) ∧ h (a + 18) (-2) = 3425 ∧ h (a + 18) (-1) = 40 := (ly_X23 hL ha).2.2.2.2.2.2.2.2.2.2.2.2.2.2.2.2.2.2.1
theorem g_X23_23 {h : Hp} {a : Int} (hL : LAY h) (ha : a ∈ in_aX23) : h a 23 = (a + 19) ∧ h (a + 19) (-2) = 3441 ∧ h (a + 19) (-1) = 40 := (ly_X23 hL ha).2.2.2.2.2.2.2.2.2.2.2.2.2.2.2.2.2.2.2.1
theorem g_X23_24 {h : Hp} {a : Int} (hL : LAY h) (ha : a ∈ in_aX23) : h a 24 = (a + 20) ∧ h (a + 20) (-2) = 3457 ∧ h (a + 20) (-1) = 40 := (ly_X23 hL ha).2.2.2.2.2.2.2.2.2.2.2.2.2.2.2.2.2.2.2.2
theorem g_X24 {h : Hp} {a : Int} (hL : LAY h) (ha : a ∈ in_aX24) : h a (-2) = 400 := (ly_X24 hL ha).1
theorem g_X24_0 {h : Hp} {a : Int} (hL : LAY h) (ha : a ∈ in_aX24) : h a 0 = (a + 1) ∧ h (a + 1) (-2) = 384 ∧ h (a + 1) (-1) = 28 := (ly_X24 hL ha).2.1
theorem g_X24_1 {h : Hp} {a : Int} (hL : LAY h) (ha : a ∈ in_aX24) : h a 1 = (a + 22) ∧ h (a + 22) (-2) = 3474 ∧ h (a + 22) (-1) = 16384 := (ly_X24 hL ha).2.2.1
theorem g_X24_2 {h : Hp} {a : Int} (hL : LAY h) (ha : a ∈ in_aX24) : h a 2 = (a + 23) ∧ h (a + 23) (-2) = 3489 ∧ h (a + 23) (-1) = 6 := (ly_X24 hL ha).2.2.2.1
theorem g_X24_3 {h : Hp} {a : Int} (hL : LAY h) (ha : a ∈ in_aX24) : h a 3 = (a + 24) ∧ h (a + 24) (-2) = 3505 ∧ h (a + 24) (-1) = 11000 := (ly_X24 hL ha).2.2.2.2.1
theorem g_X24_4 {h : Hp} {a : Int} (hL : LAY h) (ha : a ∈ in_aX24) : h a 4 = (a + 25) ∧ h (a + 25) (-2) = 3521 ∧ h (a + 25) (-1) = 500 := (ly_X24 hL ha).2.2.2.2.2.1
theorem g_X24_5 {h : Hp} {a : Int} (hL : LAY h) (ha : a ∈ in_aX24) : h a 5 = (a + 26) ∧ h (a + 26) (-2) = 3537 ∧ h (a + 26) (-1) = 500 := (ly_X24 hL ha).2.2.2.2.2.2.1
theorem g_X24_6 {h : Hp} {a : Int} (hL : LAY h) (ha : a ∈ in_aX24) : h a 6 = (a + 27) ∧ h (a + 27) (-2) = 3553 ∧ h (a + 27) (-1) = 500 := (ly_X24 hL ha).2.2.2.2.2.2.2.1
theorem g_X24_7 {h : Hp} {a : Int} (hL : LAY h) (ha : a ∈ in_aX24) : h a 7 = (a + 28) ∧ h (a + 28) (-2) = 3569 ∧ h (a + 28) (-1) = 500 := (ly_X24 hL ha).2.2.2.2.2.2.2.2.1
theorem g_X24_8 {h : Hp} {a : Int} (hL : LAY h) (ha : a ∈ in_aX24) : h a 8 = (a + 29) ∧ h (a + 29) (-2) = 3585 ∧ h (a + 29) (-1) = 500 := (ly_X24 hL ha).2.2.2.2.2.2.2.2.2.1
theorem g_X24_9 {h : Hp} {a : Int} (hL : LAY h) (ha : a ∈ in_aX24) : h a 9 = (a + 30) ∧ h (a + 30) (-2) = 3603 ∧ h (a + 30) (-1) = 500 := (ly_X24 hL ha).2.2.2.2.2.2.2.2.2.2.1
theorem g_X24_10 {h : Hp} {a : Int} (hL : LAY h) (ha : a ∈ in_aX24) : h a 10 = (a + 31) ∧ h (a + 31) (-2) = 3619 ∧ h (a + 31) (-1) = 500 := (ly_X24 hL ha).2.2.2.2.2.2.2.2.2.2.2.1
theorem g_X24_11 {h : Hp} {a : Int} (hL : LAY h) (ha : a ∈ in_aX24) : h a 11 = (a + 32) ∧ h (a + 32) (-2) = 3635 ∧ h (a + 32) (-1) = 500 := (ly_X24 hL ha).2.2.2.2.2.2.2.2.2.2.2.2.1
theorem g_X24_12 {h : Hp} {a : Int} (hL : LAY h) (ha : a ∈ in_aX24) : h a 12 = (a + 33) ∧ h (a + 33) (-2) = 3651 ∧ h (a + 33) (-1) = 500 := (ly_X24 hL ha).2.2.2.2.2.2.2.2.2.2.2.2.2.1
theorem g_X24_13 {h : Hp} {a : Int} (hL : LAY h) (ha : a ∈ in_aX24) : h a 13 = (a + 34) ∧ h (a + 34) (-2) = 3667 ∧ h (a + 34) (-1) = 500 := (ly_X24 hL ha).2.2.2.2.2.2.2.2.2.2.2.2.2.2.1
theorem g_X24_14 {h : Hp} {a : Int} (hL : LAY h) (ha : a ∈ in_aX24) : h a 14 = (a + 35) ∧ h (a + 35) (-2) = 3683 ∧ h (a + 35) (-1) = 500 := (ly_X24 hL ha).2.2.2.2.2.2.2.2.2.2.2.2.2.2.2.1
theorem g_X24_15 {h : Hp} {a : Int} (hL : LAY h) (ha : a ∈ in_aX24) : h a 15 = (a + 36) ∧ h (a + 36) (-2) = 3699 ∧ h (a + 36) (-1) = 500 := (ly_X24 hL ha).2.2.2.2.2.2.2.2.2.2.2.2.2.2.2.2.1
theorem g_X24_16 {h : Hp} {a : Int} (hL : LAY h) (ha : a ∈ in_aX24) : h a 16 = (a + 37) ∧ h (a + 37) (-2) = 3713 ∧ h (a + 37) (-1) = 11000 := (ly_X24 hL ha).2.2.2.2.2.2.2.2.2.2.2.2.2.2.2.2.2.1
theorem g_X24_17 {h : Hp} {a : Int} (hL : LAY h) (ha : a ∈ in_aX24) : h a 17 = (a + 38) ∧ h (a + 38) (-2) = 3731 ∧ h (a + 38) (-1) = 500 := (ly_X24 hL ha).2.2.2.2.2.2.2.2.2.2.2.2.2.2.2.2.2.2.1
theorem g_X24_18 {h : Hp} {a : Int} (hL : LAY h) (ha : a ∈ in_aX24) : h a 18 = (a + 39) ∧ h (a + 39) (-2) = 3747 ∧ h (a + 39) (-1) = 500 := (ly_X24 hL ha).2.2.2.2.2.2.2.2.2.2.2.2.2.2.2.2.2.2.2.1
theorem g_X24_19 {h : Hp} {a : Int} (hL : LAY h) (ha : a ∈ in_aX24) : h a 19 = (a + 40) ∧ h (a + 40) (-2) = 3761 ∧ h (a + 40) (-1) = 500 := (ly_X24 hL ha).2.2.2.2.2.2.2.2.2.2.2.2.2.2.2.2.2.2.2.2.1
theorem g_X24_20 {h : Hp} {a : Int} (hL : LAY h) (ha : a ∈ in_aX24) : h a 20 = (a + 41) ∧ h (a + 41) (-2) = 3777 ∧ h (a + 41) (-1) = 500 := (ly_X24 hL ha).2.2.2.2.2.2.2.2.2.2.2.2.2.2.2.2.2.2.2.2.2.1
theorem g_X24_21 {h : Hp} {a : Int} (hL : LAY h) (ha : a ∈ in_aX24) : h a 21 = (a + 42) ∧ h (a + 42) (-2) = 3793 ∧ h (a + 42) (-1) = 501 := (ly_X24 hL ha).2.2.2.2.2.2.2.2.2.2.2.2.2.2.2.2.2.2.2.2.2.2.1
theorem g_X24_22 {h : Hp} {a : Int} (hL : LAY h) (ha : a ∈ in_aX24) : h a 22 = (a + 43) ∧ h (a + 43) (-2) = 3809 ∧ h (a + 43) (-1) = 501 := (ly_X24 hL ha).2.2.2.2.2.2.2.2.2.2.2.2.2.2.2.2.2.2.2.2.2.2.2.1
theorem g_X24_23 {h : Hp} {a : Int} (hL : LAY h) (ha : a ∈ in_aX24) : h a 23 = (a + 44) ∧ h (a + 44) (-2) = 3827 ∧ h (a + 44) (-1) = 500 := (ly_X24 hL ha).2.2.2.2.2.2.2.2.2.2.2.2.2.2.2.2.2.2.2.2.2.2.2.2.1
theorem g_X24_24 {h : Hp} {a : Int} (hL : LAY h) (ha : a ∈ in_aX24) : h a 24 = (a + 45) ∧ h (a + 45) (-2) = 3841 ∧ h (a + 45) (-1) = 12 := (ly_X24 hL ha).2.2.2.2.2.2.2.2.2.2.2.2.2.2.2.2.2.2.2.2.2.2.2.2.2.1
theorem g_X24_25 {h : Hp} {a : Int} (hL : LAY h) (ha : a ∈ in_aX24) : h a 25 = (a + 46) ∧ h (a + 46) (-2) = 3858 ∧ h (a + 46) (-1) = 40 := (ly_X24 hL ha).2.2.2.2.2.2.2.2.2.2.2.2.2.2.2.2.2.2.2.2.2.2.2.2.2.2.1
theorem g_X24_26 {h : Hp} {a : Int} (hL : LAY h) (ha : a ∈ in_aX24) : h a 26 = (a + 47) ∧ h (a + 47) (-2) = 3873 ∧ h (a + 47) (-1) = 7 := (ly_X24 hL ha).2.2.2.2.2.2.2.2.2.2.2.2.2.2.2.2.2.2.2.2.2.2.2.2.2.2.2.1
theorem g_X24_27 {h : Hp} {a : Int} (hL : LAY h) (ha : a ∈ in_aX24) : h a 27 = (a + 48) ∧ h (a + 48) (-2) = 3890 ∧ h (a + 48) (-1) = 64 := (ly_X24 hL ha).2.2.2.2.2.2.2.2.2.2.2.2.2.2.2.2.2.2.2.2.2.2.2.2.2.2.2.2
theorem g_X25 {h : Hp} {a : Int} (hL : LAY h) (ha : a ∈ in_aX25) : h a (-2) = 416 := (ly_X25 hL ha).1
theorem g_X25_0 {h : Hp} {a : Int} (hL : LAY h) (ha : a ∈ in_aX25) : h a 0 = (a + 1) ∧ h (a + 1) (-2) = 400 ∧ h (a + 1) (-1) = 30 := (ly_X25 hL ha).2.1
theorem g_X25_5 {h : Hp} {a : Int} (hL : LAY h) (ha : a ∈ in_aX25) : h a 5 = (a + 50) ∧ h (a + 50) (-2) = 3906 ∧ h (a + 50) (-1) = 24008 := (ly_X25 hL ha).2.2.1
theorem g_X25_6 {h : Hp} {a : Int} (hL : LAY h) (ha : a ∈ in_aX25) : h a 6 = (a + 51) ∧ h (a + 51) (-2) = 3921 ∧ h (a + 51) (-1) = 24008 := (ly_X25 hL ha).2.2.2.1
theorem g_X25_7 {h : Hp} {a : Int} (hL : LAY h) (ha : a ∈ in_aX25) : h a 7 = (a + 52) ∧ h (a + 52) (-2) = 3937 ∧ h (a + 52) (-1) = 24008 := (ly_X25 hL ha).2.2.2.2.1
theorem g_X25_10 {h : Hp} {a : Int} (hL : LAY h) (ha : a ∈ in_aX25) : h a 10 = (a + 53) ∧ h (a + 53) (-2) = 3953 ∧ h (a + 53) (-1) = 1200 := (ly_X25 hL ha).2.2.2.2.2.1
theorem g_X25_11 {h : Hp} {a : Int} (hL : LAY h) (ha : a ∈ in_aX25) : h a 11 = (a + 54) ∧ h (a + 54) (-2) = 3969 ∧ h (a + 54) (-1) = 1200 := (ly_X25 hL ha).2.2.2.2.2.2.1
theorem g_X25_12 {h : Hp} {a : Int} (hL : LAY h) (ha : a ∈ in_aX25) : h a 12 = (a + 55) ∧ h (a + 55) (-2) = 3985 ∧ h (a + 55) (-1) = 1200 := (ly_X25 hL ha).2.2.2.2.2.2.2.1
theorem g_X25_13 {h : Hp} {a : Int} (hL : LAY h) (ha : a ∈ in_aX25) : h a 13 = (a + 56) ∧ h (a + 56) (-2) = 4001 ∧ h (a + 56) (-1) = 1200 := (ly_X25 hL ha).2.2.2.2.2.2.2.2.1
theorem g_X25_14 {h : Hp} {a : Int} (hL : LAY h) (ha : a ∈ in_aX25) : h a 14 = (a + 57) ∧ h (a + 57) (-2) = 4017 ∧ h (a + 57) (-1) = 1200 := (ly_X25 hL ha).2.2.2.2.2.2.2.2.2.1
theorem g_X25_15 {h : Hp} {a : Int} (hL : LAY h) (ha : a ∈ in_aX25) : h a 15 = (a + 58) ∧ h (a + 58) (-2) = 4033 ∧ h (a + 58) (-1) = 1200 := (ly_X25 hL ha).2.2.2.2.2.2.2.2.2.2.1
theorem g_X25_16 {h : Hp} {a : Int} (hL : LAY h) (ha : a ∈ in_aX25) : h a 16 = (a + 59) ∧ h (a + 59) (-2) = 4049 ∧ h (a + 59) (-1) = 1201 := (ly_X25 hL ha).2.2.2.2.2.2.2.2.2.2.2.1
theorem g_X25_17 {h : Hp} {a : Int} (hL : LAY h) (ha : a ∈ in_aX25) : h a 17 = (a + 60) ∧ h (a + 60) (-2) = 4065 ∧ h (a + 60) (-1) = 1200 := (ly_X25 hL ha).2.2.2.2.2.2.2.2.2.2.2.2.1
theorem g_X25_18 {h : Hp} {a : Int} (hL : LAY h) (ha : a ∈ in_aX25) : h a 18 = (a + 61) ∧ h (a + 61) (-2) = 4081 ∧ h (a + 61) (-1) = 1201 := (ly_X25 hL ha).2.2.2.2.2.2.2.2.2.2.2.2.2.1
theorem g_X25_19 {h : Hp} {a : Int} (hL : LAY h) (ha : a ∈ in_aX25) : h a 19 = (a + 62) ∧ h (a + 62) (-2) = 4097 ∧ h (a + 62) (-1) = 1200 := (ly_X25 hL ha).2.2.2.2.2.2.2.2.2.2.2.2.2.2.1
theorem g_X25_20 {h : Hp} {a : Int} (hL : LAY h) (ha : a ∈ in_aX25) : h a 20 = (a + 63) ∧ h (a + 63) (-2) = 4113 ∧ h (a + 63) (-1) = 1200 := (ly_X25 hL ha).2.2.2.2.2.2.2.2.2.2.2.2.2.2.2.1
theorem g_X25_21 {h : Hp} {a : Int} (hL : LAY h) (ha : a ∈ in_aX25) : h a 21 = (a + 64) ∧ h (a + 64) (-2) = 4132 ∧ h (a + 64) (-1) = 1200 := (ly_X25 hL ha).2.2.2.2.2.2.2.2.2.2.2.2.2.2.2.2.1
theorem g_X25_22 {h : Hp} {a : Int} (hL : LAY h) (ha : a ∈ in_aX25) : h a 22 = (a + 65) ∧ h (a + 65) (-2) = 4148 ∧ h (a + 65) (-1) = 1200 := (ly_X25 hL ha).2.2.2.2.2.2.2.2.2.2.2.2.2.2.2.2.2.1
theorem g_X25_23 {h : Hp} {a : Int} (hL : LAY h) (ha : a ∈ in_aX25) : h a 23 = (a + 66) ∧ h (a + 66) (-2) = 4161 ∧ h (a + 66) (-1) = 25208 := (ly_X25 hL ha).2.2.2.2.2.2.2.2.2.2.2.2.2.2.2.2.2.2.1
theorem g_X25_24 {h : Hp} {a : Int} (hL : LAY h) (ha : a ∈ in_aX25) : h a 24 = (a + 67) ∧ h (a + 67) (-2) = 4177 ∧ h (a + 67) (-1) = 25208 := (ly_X25 hL ha).2.2.2.2.2.2.2.2.2.2.2.2.2.2.2.2.2.2.2.1
theorem g_X25_25 {h : Hp} {a : Int} (hL : LAY h) (ha : a ∈ in_aX25) : h a 25 = (a + 68) ∧ h (a + 68) (-2) = 4196 ∧ h (a + 68) (-1) = 25208 := (ly_X25 hL ha).2.2.2.2.2.2.2.2.2.2.2.2.2.2.2.2.2.2.2.2.1
theorem g_X25_26 {h : Hp} {a : Int} (hL : LAY h) (ha : a ∈ in_aX25) : h a 26 = (a + 69) ∧ h (a + 69) (-2) = 4212 ∧ h (a + 69) (-1) = 25208 := (ly_X25 hL ha).2.2.2.2.2.2.2.2.2.2.2.2.2.2.2.2.2.2.2.2.2.1
theorem g_X25_27 {h : Hp} {a : Int} (hL : LAY h) (ha : a ∈ in_aX25) : h a 27 = (a + 70) ∧ h (a + 70) (-2) = 4228 ∧ h (a + 70) (-1) = 25208 := (ly_X25 hL ha).2.2.2.2.2.2.2.2.2.2.2.2.2.2.2.2.2.2.2.2.2.2.1
theorem g_X25_28 {h : Hp} {a : Int} (hL : LAY h) (ha : a ∈ in_aX25) : h a 28 = (a + 71) ∧ h (a + 71) (-2) = 4241 ∧ h (a + 71) (-1) = 25208 := (ly_X25 hL ha).2.2.2.2.2.2.2.2.2.2.2.2.2.2.2.2.2.2.2.2.2.2.2.1
theorem g_X25_29 {h : Hp} {a : Int} (hL : LAY h) (ha : a ∈ in_aX25) : h a 29 = (a + 72) ∧ h (a + 72) (-2) = 4257 ∧ h (a + 72) (-1) = 25208 := (ly_X25 hL ha).2.2.2.2.2.2.2.2.2.2.2.2.2.2.2.2.2.2.2.2.2.2.2.2.1
theorem g_X25_31 {h : Hp} {a : Int} (hL : LAY h) (ha : a ∈ in_aX25) : h a 31 = (a + 73) ∧ h (a + 73) (-2) = 4273 ∧ h (a + 73) (-1) = 1700 := (ly_X25 hL ha).2.2.2.2.2.2.2.2.2.2.2.2.2.2.2.2.2.2.2.2.2.2.2.2.2.1
theorem g_X25_32 {h : Hp} {a : Int} (hL : LAY h) (ha : a ∈ in_aX25) : h a 32 = (a + 74) ∧ h (a + 74) (-2) = 4289 ∧ h (a + 74) (-1) = 1700 := (ly_X25 hL ha).2.2.2.2.2.2.2.2.2.2.2.2.2.2.2.2.2.2.2.2.2.2.2.2.2.2.1
theorem g_X25_33 {h : Hp} {a : Int} (hL : LAY h) (ha : a ∈ in_aX25) : h a 33 = (a + 75) ∧ h (a + 75) (-2) = 4305 ∧ h (a + 75) (-1) = 1700 := (ly_X25 hL ha).2.2.2.2.2.2.2.2.2.2.2.2.2.2.2.2.2.2.2.2.2.2.2.2.2.2.2.1
theorem g_X25_34 {h : Hp} {a : Int} (hL : LAY h) (ha : a ∈ in_aX25) : h a 34 = (a + 76) ∧ h (a + 76) (-2) = 4321 ∧ h (a + 76) (-1) = 4000 := (ly_X25 hL ha).2.2.2.2.2.2.2.2.2.2.2.2.2.2.2.2.2.2.2.2.2.2.2.2.2.2.2.2.1
theorem g_X25_35 {h : Hp} {a : Int} (hL : LAY h) (ha : a ∈ in_aX25) : h a 35 = (a + 77) ∧ h (a + 77) (-2) = 4337 ∧ h (a + 77) (-1) = 500 := (ly_X25 hL ha).2.2.2.2.2.2.2.2.2.2.2.2.2.2.2.2.2.2.2.2.2.2.2.2.2.2.2.2.2.1
theorem g_X25_36 {h : Hp} {a : Int} (hL : LAY h) (ha : a ∈ in_aX25) : h a 36 = (a + 78) ∧ h (a + 78) (-2) = 4353 ∧ h (a + 78) (-1) = 500 := (ly_X25 hL ha).2.2.2.2.2.2.2.2.2.2.2.2.2.2.2.2.2.2.2.2.2.2.2.2.2.2.2.2.2.2.1
theorem g_X25_37 {h : Hp} {a : Int} (hL : LAY h) (ha : a ∈ in_aX25) : h a 37 = (a + 79) ∧ h (a + 79) (-2) = 4369 ∧ h (a + 79) (-1) = 500 := (ly_X25 hL ha).2.2.2.2.2.2.2.2.2.2.2.2.2.2.2.2.2.2.2.2.2.2.2.2.2.2.2.2.2.2.2.1
theorem g_X25_38 {h : Hp} {a : Int} (hL : LAY h) (ha : a ∈ in_aX25) : h a 38 = (a + 80) ∧ h (a + 80) (-2) = 4387 ∧ h (a + 80) (-1) = 500 := (ly_X25 hL ha).2.2.2.2.2.2.2.2.2.2.2.2.2.2.2.2.2.2.2.2.2.2.2.2.2.2.2.2.2.2.2.2.1
theorem g_X25_39 {h : Hp} {a : Int} (hL : LAY h) (ha : a ∈ in_aX25) : h a 39 = (a + 81) ∧ h (a + 81) (-2) = 4404 ∧ h (a + 81) (-1) = 4000 := (ly_X25 hL ha).2.2.2.2.2.2.2.2.2.2.2.2.2.2.2.2.2.2.2.2.2.2.2.2.2.2.2.2.2.2.2.2.2.1
theorem g_X25_40 {h : Hp} {a : Int} (hL : LAY h) (ha : a ∈ in_aX25) : h a 40 = (a + 82) ∧ h (a + 82) (-2) = 4420 ∧ h (a + 82) (-1) = 8 := (ly_X25 hL ha).2.2.2.2.2.2.2.2.2.2.2.2.2.2.2.2.2.2.2.2.2.2.2.2.2.2.2.2.2.2.2.2.2.2.1
theorem g_X25_41 {h : Hp} {a : Int} (hL : LAY h) (ha : a ∈ in_aX25) : h a 41 = (a + 83) ∧ h (a + 83) (-2) = 4436 ∧ h (a + 83) (-1) = 8 := (ly_X25 hL ha).2.2.2.2.2.2.2.2.2.2.2.2.2.2.2.2.2.2.2.2.2.2.2.2.2.2.2.2.2.2.2.2.2.2.2.1
theorem g_X25_43 {h : Hp} {a : Int} (hL : LAY h) (ha : a ∈ in_aX25) : h a 43 = (a + 84) ∧ h (a + 84) (-2) = 4449 ∧ h (a + 84) (-1) = 1500 := (ly_X25 hL ha).2.2.2.2.2.2.2.2.2.2.2.2.2.2.2.2.2.2.2.2.2.2.2.2.2.2.2.2.2.2.2.2.2.2.2.2.1
theorem g_X25_44 {h : Hp} {a : Int} (hL : LAY h) (ha : a ∈ in_aX25) : h a 44 = (a + 85) ∧ h (a + 85) (-2) = 4465 ∧ h (a + 85) (-1) = 1500 := (ly_X25 hL ha).2.2.2.2.2.2.2.2.2.2.2.2.2.2.2.2.2.2.2.2.2.2.2.2.2.2.2.2.2.2.2.2.2.2.2.2.2.1
theorem g_X25_45 {h : Hp} {a : Int} (hL : LAY h) (ha : a ∈ in_aX25) : h a 45 = (a + 86) ∧ h (a + 86) (-2) = 4481 ∧ h (a + 86) (-1) = 1500 := (ly_X25 hL ha).2.2.2.2.2.2.2.2.2.2.2.2.2.2.2.2.2.2.2.2.2.2.2.2.2.2.2.2.2.2.2.2.2.2.2.2.2.2.1
theorem g_X25_46 {h : Hp} {a : Int} (hL : LAY h) (ha : a ∈ in_aX25) : h a 46 = (a + 87) ∧ h (a + 87) (-2) = 4497 ∧ h (a + 87) (-1) = 1500 := (ly_X25 hL ha).2.2.2.2.2.2.2.2.2.2.2.2.2.2.2.2.2.2.2.2.2.2.2.2.2.2.2.2.2.2.2.2.2.2.2.2.2.2.2.1
theorem g_X25_47 {h : Hp} {a : Int} (hL : LAY h) (ha : a ∈ in_aX25) : h a 47 = (a + 88) ∧ h (a + 88) (-2) = 4513 ∧ h (a + 88) (-1) = 1500 := (ly_X25 hL ha).2.2.2.2.2.2.2.2.2.2.2.2.2.2.2.2.2.2.2.2.2.2.2.2.2.2.2.2.2.2.2.2.2.2.2.2.2.2.2.2.1
theorem g_X25_48 {h : Hp} {a : Int} (hL : LAY h) (ha : a ∈ in_aX25) : h a 48 = (a + 89) ∧ h (a + 89) (-2) = 4529 ∧ h (a + 89) (-1) = 1500 := (ly_X25 hL ha).2.2.2.2.2.2.2.2.2.2.2.2.2.2.2.2.2.2.2.2.2.2.2.2.2.2.2.2.2.2.2.2.2.2.2.2.2.2.2.2.2.1
theorem g_X25_49 {h : Hp} {a : Int} (hL : LAY h) (ha : a ∈ in_aX25) : h a 49 = (a + 90) ∧ h (a + 90) (-2) = 4545 ∧ h (a + 90) (-1) = 1500 := (ly_X25 hL ha).2.2.2.2.2.2.2.2.2.2.2.2.2.2.2.2.2.2.2.2.2.2.2.2.2.2.2.2.2.2.2.2.2.2.2.2.2.2.2.2.2.2.1
theorem g_X25_50 {h : Hp} {a : Int} (hL : LAY h) (ha : a ∈ in_aX25) : h a 50 = (a + 91) ∧ h (a + 91) (-2) = 4561 ∧ h (a + 91) (-1) = 1500 := (ly_X25 hL ha).2.2.2.2.2.2.2.2.2.2.2.2.2.2.2.2.2.2.2.2.2.2.2.2.2.2.2.2.2.2.2.2.2.2.2.2.2.2.2.2.2.2.2.1
theorem g_X25_51 {h : Hp} {a : Int} (hL : LAY h) (ha : a ∈ in_aX25) : h a 51 = (a + 92) ∧ h (a + 92) (-2) = 4579 ∧ h (a + 92) (-1) = 1500 := (ly_X25 hL ha).2.2.2.2.2.2.2.2.2.2.2.2.2.2.2.2.2.2.2.2.2.2.2.2.2.2.2.2.2.2.2.2.2.2.2.2.2.2.2.2.2.2.2.2.1
theorem g_X25_52 {h : Hp} {a : Int} (hL : LAY h) (ha : a ∈ in_aX25) : h a 52 = (a + 93) ∧ h (a + 93) (-2) = 4596 ∧ h (a + 93) (-1) = 1500 := (ly_X25 hL ha).2.2.2.2.2.2.2.2.2.2.2.2.2.2.2.2.2.2.2.2.2.2.2.2.2.2.2.2.2.2.2.2.2.2.2.2.2.2.2.2.2.2.2.2.2.1
theorem g_X25_55 {h : Hp} {a : Int} (hL : LAY h) (ha : a ∈ in_aX25) : h a 55 = (a + 94) ∧ h (a + 94) (-2) = 4609 ∧ h (a + 94) (-1) = 120 := (ly_X25 hL ha).2.2.2.2.2.2.2.2.2.2.2.2.2.2.2.2.2.2.2.2.2.2.2.2.2.2.2.2.2.2.2.2.2.2.2.2.2.2.2.2.2.2.2.2.2.2.1
theorem g_X25_56 {h : Hp} {a : Int} (hL : LAY h) (ha : a ∈ in_aX25) : h a 56 = (a + 95) ∧ h (a + 95) (-2) = 4625 ∧ h (a + 95) (-1) = 120 := (ly_X25 hL ha).2.2.2.2.2.2.2.2.2.2.2.2.2.2.2.2.2.2.2.2.2.2.2.2.2.2.2.2.2.2.2.2.2.2.2.2.2.2.2.2.2.2.2.2.2.2.2.1
theorem g_X25_57 {h : Hp} {a : Int} (hL : LAY h) (ha : a ∈ in_aX25) : h a 57 = (a + 96) ∧ h (a + 96) (-2) = 4641 ∧ h (a + 96) (-1) = 120 := (ly_X25 hL ha).2.2.2.2.2.2.2.2.2.2.2.2.2.2.2.2.2.2.2.2.2.2.2.2.2.2.2.2.2.2.2.2.2.2.2.2.2.2.2.2.2.2.2.2.2.2.2.2.1
theorem g_X25_58 {h : Hp} {a : Int} (hL : LAY h) (ha : a ∈ in_aX25) : h a 58 = (a + 97) ∧ h (a + 97) (-2) = 4657 ∧ h (a + 97) (-1) = 120 := (ly_X25 hL ha).2.2.2.2.2.2.2.2.2.2.2.2.2.2.2.2.2.2.2.2.2.2.2.2.2.2.2.2.2.2.2.2.2.2.2.2.2.2.2.2.2.2.2.2.2.2.2.2.2.1
theorem g_X25_59 {h : Hp} {a : Int} (hL : LAY h) (ha : a ∈ in_aX25) : h a 59 = (a + 98) ∧ h (a + 98) (-2) = 4673 ∧ h (a + 98) (-1) = 120 := (ly_X25 hL ha).2.2.2.2.2.2.2.2.2.2.2.2.2.2.2.2.2.2.2.2.2.2.2.2.2.2.2.2.2.2.2.2.2.2.2.2.2.2.2.2.2.2.2.2.2.2.2.2.2.2.1
theorem g_X25_60 {h : Hp} {a : Int} (hL : LAY h) (ha : a ∈ in_aX25) : h a 60 = (a + 99) ∧ h (a + 99) (-2) = 4689 ∧ h (a + 99) (-1) = 40 := (ly_X25 hL ha).2.2.2.2.2.2.2.2.2.2.2.2.2.2.2.2.2.2.2.2.2.2.2.2.2.2.2.2.2.2.2.2.2.2.2.2.2.2.2.2.2.2.2.2.2.2.2.2.2.2.2.1
theorem g_X25_61 {h : Hp} {a : Int} (hL : LAY h) (ha : a ∈ in_aX25) : h a 61 = (a + 100) ∧ h (a + 100) (-2) = 4705 ∧ h (a + 100) (-1) = 40 := (ly_X25 hL ha).2.2.2.2.2.2.2.2.2.2.2.2.2.2.2.2.2.2.2.2.2.2.2.2.2.2.2.2.2.2.2.2.2.2.2.2.2.2.2.2.2.2.2.2.2.2.2.2.2.2.2.2.1
theorem g_X25_62 {h : Hp} {a : Int} (hL : LAY h) (ha : a ∈ in_aX25) : h a 62 = (a + 101) ∧ h (a + 101) (-2) = 4721 ∧ h (a + 101) (-1) = 40 := (ly_X25 hL ha).2.2.2.2.2.2.2.2.2.2.2.2.2.2.2.2.2.2.2.2.2.2.2.2.2.2.2.2.2.2.2.2.2.2.2.2.2.2.2.2.2.2.2.2.2.2.2.2.2.2.2.2.2.1
theorem g_X25_63 {h : Hp} {a : Int} (hL : LAY h) (ha : a ∈ in_aX25) : h a 63 = (a + 102) ∧ h (a + 102) (-2) = 4740 ∧ h (a + 102) (-1) = 120 := (ly_X25 hL ha).2.2.2.2.2.2.2.2.2.2.2.2.2.2.2.2.2.2.2.2.2.2.2.2.2.2.2.2.2.2.2.2.2.2.2.2.2.2.2.2.2.2.2.2.2.2.2.2.2.2.2.2.2.2.1
theorem g_X25_64 {h : Hp} {a : Int} (hL : LAY h) (ha : a ∈ in_aX25) : h a 64 = (a + 103) ∧ h (a + 103) (-2) = 4756 ∧ h (a + 103) (-1) = 40 := (ly_X25 hL ha).2.2.2.2.2.2.2.2.2.2.2.2.2.2.2.2.2.2.2.2.2.2.2.2.2.2.2.2.2.2.2.2.2.2.2.2.2.2.2.2.2.2.2.2.2.2.2.2.2.2.2.2.2.2.2.1
theorem g_X25_65 {h : Hp} {a : Int} (hL : LAY h) (ha : a ∈ in_aX25) : h a 65 = (a + 104) ∧ h (a + 104) (-2) = 4769 ∧ h (a + 104) (-1) = 500 := (ly_X25 hL ha).2.2.2.2.2.2.2.2.2.2.2.2.2.2.2.2.2.2.2.2.2.2.2.2.2.2.2.2.2.2.2.2.2.2.2.2.2.2.2.2.2.2.2.2.2.2.2.2.2.2.2.2.2.2.2.2.1
theorem g_X25_67 {h : Hp} {a : Int} (hL : LAY h) (ha : a ∈ in_aX25) : h a 67 = (a + 105) ∧ h (a + 105) (-2) = 4785 ∧ h (a + 105) (-1) = 301 := (ly_X25 hL ha).2.2.2.2.2.2.2.2.2.2.2.2.2.2.2.2.2.2.2.2.2.2.2.2.2.2.2.2.2.2.2.2.2.2.2.2.2.2.2.2.2.2.2.2.2.2.2.2.2.2.2.2.2.2.2.2.2.1
theorem g_X25_68 {h : Hp} {a : Int} (hL : LAY h) (ha : a ∈ in_aX25) : h a 68 = (a + 106) ∧ h (a + 106) (-2) = 4801 ∧ h (a + 106) (-1) = 301 := (ly_X25 hL ha).2.2.2.2.2.2.2.2.2.2.2.2.2.2.2.2.2.2.2.2.2.2.2.2.2.2.2.2.2.2.2.2.2.2.2.2.2.2.2.2.2.2.2.2.2.2.2.2.2.2.2.2.2.2.2.2.2.2.1
theorem g_X25_69 {h : Hp} {a : Int} (hL : LAY h) (ha : a ∈ in_aX25) : h a 69 = (a + 107) ∧ h (a + 107) (-2) = 4817 ∧ h (a + 107) (-1) = 500 := (ly_X25 hL ha).2.2.2.2.2.2.2.2.2.2.2.2.2.2.2.2.2.2.2.2.2.2.2.2.2.2.2.2.2.2.2.2.2.2.2.2.2.2.2.2.2.2.2.2.2.2.2.2.2.2.2.2.2.2.2.2.2.2.2.1
theorem g_X25_70 {h : Hp} {a : Int} (hL : LAY h) (ha : a ∈ in_aX25) : h a 70 = (a + 108) ∧ h (a + 108) (-2) = 4833 ∧ h (a + 108) (-1) = 301 := (ly_X25 hL ha).2.2.2.2.2.2.2.2.2.2.2.2.2.2.2.2.2.2.2.2.2.2.2.2.2.2.2.2.2.2.2.2.2.2.2.2.2.2.2.2.2.2.2.2.2.2.2.2.2.2.2.2.2.2.2.2.2.2.2.2.1
theorem g_X25_71 {h : Hp} {a : Int} (hL : LAY h) (ha : a ∈ in_aX25) : h a 71 = (a + 109) ∧ h (a + 109) (-2) = 4851 ∧ h (a + 109) (-1) = 301 := (ly_X25 hL ha).2.2.2.2.2.2.2.2.2.2.2.2.2.2.2.2.2.2.2.2.2.2.2.2.2.2.2.2.2.2.2.2.2.2.2.2.2.2.2.2.2.2.2.2.2.2.2.2.2.2.2.2.2.2.2.2.2.2.2.2.2.1
theorem g_X25_72 {h : Hp} {a : Int} (hL : LAY h) (ha : a ∈ in_aX25) : h a 72 = (a + 110) ∧ h (a + 110) (-2) = 4866 ∧ h (a + 110) (-1) = 12382 := (ly_X25 hL ha).2.2.2.2.2.2.2.2.2.2.2.2.2.2.2.2.2.2.2.2.2.2.2.2.2.2.2.2.2.2.2.2.2.2.2.2.2.2.2.2.2.2.2.2.2.2.2.2.2.2.2.2.2.2.2.2.2.2.2.2.2.2.1
theorem g_X25_74 {h : Hp} {a : Int} (hL : LAY h) (ha : a ∈ in_aX25) : h a 74 = (a + 111) ∧ h (a + 111) (-2) = 4881 ∧ h (a + 111) (-1) = 500 := (ly_X25 hL ha).2.2.2.2.2.2.2.2.2.2.2.2.2.2.2.2.2.2.2.2.2.2.2.2.2.2.2.2.2.2.2.2.2.2.2.2.2.2.2.2.2.2.2.2.2.2.2.2.2.2.2.2.2.2.2.2.2.2.2.2.2.2.2.1
theorem g_X25_75 {h : Hp} {a : Int} (hL : LAY h) (ha : a ∈ in_aX25) : h a 75 = (a + 112) ∧ h (a + 112) (-2) = 4897 ∧ h (a + 112) (-1) = 500 := (ly_X25 hL ha).2.2.2.2.2.2.2.2.2.2.2.2.2.2.2.2.2.2.2.2.2.2.2.2.2.2.2.2.2.2.2.2.2.2.2.2.2.2.2.2.2.2.2.2.2.2.2.2.2.2.2.2.2.2.2.2.2.2.2.2.2.2.2.2.1
theorem g_X25_76 {h : Hp} {a : Int} (hL : LAY h) (ha : a ∈ in_aX25) : h a 76 = (a + 113) ∧ h (a + 113) (-2) = 4913 ∧ h (a + 113) (-1) = 500 := (ly_X25 hL ha).2.2.2.2.2.2.2.2.2.2.2.2.2.2.2.2.2.2.2.2.2.2.2.2.2.2.2.2.2.2.2.2.2.2.2.2.2.2.2.2.2.2.2.2.2.2.2.2.2.2.2.2.2.2.2.2.2.2.2.2.2.2.2.2.2.1
theorem g_X25_77 {h : Hp} {a : Int} (hL : LAY h) (ha : a ∈ in_aX25) : h a 77 = (a + 114) ∧ h (a + 114) (-2) = 4929 ∧ h (a + 114) (-1) = 500 := (ly_X25 hL ha).2.2.2.2.2.2.2.2.2.2.2.2.2.2.2.2.2.2.2.2.2.2.2.2.2.2.2.2.2.2.2.2.2.2.2.2.2.2.2.2.2.2.2.2.2.2.2.2.2.2.2.2.2.2.2.2.2.2.2.2.2.2.2.2.2.2.1
theorem g_X25_78 {h : Hp} {a : Int} (hL : LAY h) (ha : a ∈ in_aX25) : h a 78 = (a + 115) ∧ h (a + 115) (-2) = 4945 ∧ h (a + 115) (-1) = 500 := (ly_X25 hL ha).2.2.2.2.2.2.2.2.2.2.2.2.2.2.2.2.2.2.2.2.2.2.2.2.2.2.2.2.2.2.2.2.2.2.2.2.2.2.2.2.2.2.2.2.2.2.2.2.2.2.2.2.2.2.2.2.2.2.2.2.2.2.2.2.2.2.2.1
theorem g_X25_79 {h : Hp} {a : Int} (hL : LAY h) (ha : a ∈ in_aX25) : h a 79 = (a + 116) ∧ h (a + 116) (-2) = 4961 ∧ h (a + 116) (-1) = 24008 := (ly_X25 hL ha).2.2.2.2.2.2.2.2.2.2.2.2.2.2.2.2.2.2.2.2.2.2.2.2.2.2.2.2.2.2.2.2.2.2.2.2.2.2.2.2.2.2.2.2.2.2.2.2.2.2.2.2.2.2.2.2.2.2.2.2.2.2.2.2.2.2.2.2.1
theorem g_X25_80 {h : Hp} {a : Int} (hL : LAY h) (ha : a ∈ in_aX25) : h a 80 = (a + 117) ∧ h (a + 117) (-2) = 4977 ∧ h (a + 117) (-1) = 500 := (ly_X25 hL ha).2.2.2.2.2.2.2.2.2.2.2.2.2.2.2.2.2.2.2.2.2.2.2.2.2.2.2.2.2.2.2.2.2.2.2.2.2.2.2.2.2.2.2.2.2.2.2.2.2.2.2.2.2.2.2.2.2.2.2.2.2.2.2.2.2.2.2.2.2.1
theorem g_X25_81 {h : Hp} {a : Int} (hL : LAY h) (ha : a ∈ in_aX25) : h a 81 = (a + 118) ∧ h (a + 118) (-2) = 4993 ∧ h (a + 118) (-1) = 500 := (ly_X25 hL ha).2.2.2.2.2.2.2.2.2.2.2.2.2.2.2.2.2.2.2.2.2.2.2.2.2.2.2.2.2.2.2.2.2.2.2.2.2.2.2.2.2.2.2.2.2.2.2.2.2.2.2.2.2.2.2.2.2.2.2.2.2.2.2.2.2.2.2.2.2.2.1
theorem g_X25_82 {h : Hp} {a : Int} (hL : LAY h) (ha : a ∈ in_aX25) : h a 82 = (a + 119) ∧ h (a + 119) (-2) = 5009 ∧ h (a + 119) (-1) = 500 := (ly_X25 hL ha).2.2.2.2.2.2.2.2.2.2.2.2.2.2.2.2.2.2.2.2.2.2.2.2.2.2.2.2.2.2.2.2.2.2.2.2.2.2.2.2.2.2.2.2.2.2.2.2.2.2.2.2.2.2.2.2.2.2.2.2.2.2.2.2.2.2.2.2.2.2.2.1
theorem g_X25_83 {h : Hp} {a : Int} (hL : LAY h) (ha : a ∈ in_aX25) : h a 83 = (a + 120) ∧ h (a + 120) (-2) = 5025 ∧ h (a + 120) (-1) = 500 := (ly_X25 hL ha).2.2.2.2.2.2.2.2.2.2.2.2.2.2.2.2.2.2.2.2.2.2.2.2.2.2.2.2.2.2.2.2.2.2.2.2.2.2.2.2.2.2.2.2.2.2.2.2.2.2.2.2.2.2.2.2.2.2.2.2.2.2.2.2.2.2.2.2.2.2.2.2.1
theorem g_X25_84 {h : Hp} {a : Int} (hL : LAY h) (ha : a ∈ in_aX25) : h a 84 = (a + 121) ∧ h (a + 121) (-2) = 5041 ∧ h (a + 121) (-1) = 500 := (ly_X25 hL ha).2.2.2.2.2.2.2.2.2.2.2.2.2.2.2.2.2.2.2.2.2.2.2.2.2.2.2.2.2.2.2.2.2.2.2.2.2.2.2.2.2.2.2.2.2.2.2.2.2.2.2.2.2.2.2.2.2.2.2.2.2.2.2.2.2.2.2.2.2.2.2.2.2.1
theorem g_X25_85 {h : Hp} {a : Int} (hL : LAY h) (ha : a ∈ in_aX25) : h a 85 = (a + 122) ∧ h (a + 122) (-2) = 5057 ∧ h (a + 122) (-1) = 500 := (ly_X25 hL ha).2.2.2.2.2.2.2.2.2.2.2.2.2.2.2.2.2.2.2.2.2.2.2.2.2.2.2.2.2.2.2.2.2.2.2.2.2.2.2.2.2.2.2.2.2.2.2.2.2.2.2.2.2.2.2.2.2.2.2.2.2.2.2.2.2.2.2.2.2.2.2.2.2.2.1
theorem g_X25_86 {h : Hp} {a : Int} (hL : LAY h) (ha : a ∈ in_aX25) : h a 86 = (a + 123) ∧ h (a + 123) (-2) = 5073 ∧ h (a + 123) (-1) = 500 := (ly_X25 hL ha).2.2.2.2.2.2.2.2.2.2.2.2.2.2.2.2.2.2.2.2.2.2.2.2.2.2.2.2.2.2.2.2.2.2.2.2.2.2.2.2.2.2.2.2.2.2.2.2.2.2.2.2.2.2.2.2.2.2.2.2.2.2.2.2.2.2.2.2.2.2.2.2.2.2.2.1
theorem g_X25_87 {h : Hp} {a : Int} (hL : LAY h) (ha : a ∈ in_aX25) : h a 87 = (a + 124) ∧ h (a + 124) (-2) = 5089 ∧ h (a + 124) (-1) = 500 := (ly_X25 hL ha).2.2.2.2.2.2.2.2.2.2.2.2.2.2.2.2.2.2.2.2.2.2.2.2.2.2.2.2.2.2.2.2.2.2.2.2.2.2.2.2.2.2.2.2.2.2.2.2.2.2.2.2.2.2.2.2.2.2.2.2.2.2.2.2.2.2.2.2.2.2.2.2.2.2.2.2.1
theorem g_X25_89 {h : Hp} {a : Int} (hL : LAY h) (ha : a ∈ in_aX25) : h a 89 = (a + 125) ∧ h (a + 125) (-2) = 5105 ∧ h (a + 125) (-1) = 1628 := (ly_X25 hL ha).2.2.2.2.2.2.2.2.2.2.2.2.2.2.2.2.2.2.2.2.2.2.2.2.2.2.2.2.2.2.2.2.2.2.2.2.2.2.2.2.2.2.2.2.2.2.2.2.2.2.2.2.2.2.2.2.2.2.2.2.2.2.2.2.2.2.2.2.2.2.2.2.2.2.2.2.2.1
theorem g_X25_90 {h : Hp} {a : Int} (hL : LAY h) (ha : a ∈ in_aX25) : h a 90 = (a + 126) ∧ h (a + 126) (-2) = 5121 ∧ h (a + 126) (-1) = 1628 := (ly_X25 hL ha).2.2.2.2.2.2.2.2.2.2.2.2.2.2.2.2.2.2.2.2.2.2.2.2.2.2.2.2.2.2.2.2.2.2.2.2.2.2.2.2.2.2.2.2.2.2.2.2.2.2.2.2.2.2.2.2.2.2.2.2.2.2.2.2.2.2.2.2.2.2.2.2.2.2.2.2.2.2.1
theorem g_X25_91 {h : Hp} {a : Int} (hL : LAY h) (ha : a ∈ in_aX25) : h a 91 = (a + 127) ∧ h (a + 127) (-2) = 5137 ∧ h (a + 127) (-1) = 1628 := (ly_X25 hL ha).2.2.2.2.2.2.2.2.2.2.2.2.2.2.2.2.2.2.2.2.2.2.2.2.2.2.2.2.2.2.2.2.2.2.2.2.2.2.2.2.2.2.2.2.2.2.2.2.2.2.2.2.2.2.2.2.2.2.2.2.2.2.2.2.2.2.2.2.2.2.2.2.2.2.2.2.2.2.2.1
theorem g_X25_92 {h : Hp} {a : Int} (hL : LAY h) (ha : a ∈ in_aX25) : h a 92 = (a + 128) ∧ h (a + 128) (-2) = 5153 ∧ h (a + 128) (-1) = 1628 := (ly_X25 hL ha).2.2.2.2.2.2.2.2.2.2.2.2.2.2.2.2.2.2.2.2.2.2.2.2.2.2.2.2.2.2.2.2.2.2.2.2.2.2.2.2.2.2.2.2.2.2.2.2.2.2.2.2.2.2.2.2.2.2.2.2.2.2.2.2.2.2.2.2.2.2.2.2.2.2.2.2.2.2.2.2.1
theorem g_X25_93 {h : Hp} {a : Int} (hL : LAY h) (ha : a ∈ in_aX25) : h a 93 = (a + 129) ∧ h (a + 129) (-2) = 5172 ∧ h (a + 129) (-1) = 1628 := (ly_X25 hL ha).2.2.2.2.2.2.2.2.2.2.2.2.2.2.2.2.2.2.2.2.2.2.2.2.2.2.2.2.2.2.2.2.2.2.2.2.2.2.2.2.2.2.2.2.2.2.2.2.2.2.2.2.2.2.2.2.2.2.2.2.2.2.2.2.2.2.2.2.2.2.2.2.2.2.2.2.2.2.2.2.2.1
theorem g_X25_99 {h : Hp} {a : Int} (hL : LAY h) (ha : a ∈ in_aX25) : h a 99 = (a + 130) ∧ h (a + 130) (-2) = 5187 ∧ h (a + 130) (-1) = 500 := (ly_X25 hL ha).2.2.2.2.2.2.2.2.2.2.2.2.2.2.2.2.2.2.2.2.2.2.2.2.2.2.2.2.2.2.2.2.2.2.2.2.2.2.2.2.2.2.2.2.2.2.2.2.2.2.2.2.2.2.2.2.2.2.2.2.2.2.2.2.2.2.2.2.2.2.2.2.2.2.2.2.2.2.2.2.2.2.1
theorem g_X25_102 {h : Hp} {a : Int} (hL : LAY h) (ha : a ∈ in_aX25) : h a 102 = (a + 131) ∧ h (a + 131) (-2) = 5203 ∧ h (a + 131) (-1) = 24016 := (ly_X25 hL ha).2.2.2.2.2.2.2.2.2.2.2.2.2.2.2.2.2.2.2.2.2.2.2.2.2.2.2.2.2.2.2.2.2.2.2.2.2.2.2.2.2.2.2.2.2.2.2.2.2.2.2.2.2.2.2.2.2.2.2.2.2.2.2.2.2.2.2.2.2.2.2.2.2.2.2.2.2.2.2.2.2.2.2.1
theorem g_X25_104 {h : Hp} {a : Int} (hL : LAY h) (ha : a ∈ in_aX25) : h a 104 = (a + 132) ∧ h (a + 132) (-2) = 5220 ∧ h (a + 132) (-1) = 602 := (ly_X25 hL ha).2.2.2.2.2.2.2.2.2.2.2.2.2.2.2.2.2.2.2.2.2.2.2.2.2.2.2.2.2.2.2.2.2.2.2.2.2.2.2.2.2.2.2.2.2.2.2.2.2.2.2.2.2.2.2.2.2.2.2.2.2.2.2.2.2.2.2.2.2.2.2.2.2.2.2.2.2.2.2.2.2.2.2.2.1
theorem g_X25_105 {h : Hp} {a : Int} (hL : LAY h) (ha : a ∈ in_aX25) : h a 105 = (a + 133) ∧ h (a + 133) (-2) = 5236 ∧ h (a + 133) (-1) = 602 := (ly_X25 hL ha).2.2.2.2.2.2.2.2.2.2.2.2.2.2.2.2.2.2.2.2.2.2.2.2.2.2.2.2.2.2.2.2.2.2.2.2.2.2.2.2.2.2.2.2.2.2.2.2.2.2.2.2.2.2.2.2.2.2.2.2.2.2.2.2.2.2.2.2.2.2.2.2.2.2.2.2.2.2.2.2.2.2.2.2.2.1
theorem g_X25_106 {h : Hp} {a : Int} (hL : LAY h) (ha : a ∈ in_aX25) : h a 106 = (a + 134) ∧ h (a + 134) (-2) = 5252 ∧ h (a + 134) (-1) = 602 := (ly_X25 hL ha).2.2.2.2.2.2.2.2.2.2.2.2.2.2.2.2.2.2.2.2.2.2.2.2.2.2.2.2.2.2.2.2.2.2.2.2.2.2.2.2.2.2.2.2.2.2.2.2.2.2.2.2.2.2.2.2.2.2.2.2.2.2.2.2.2.2.2.2.2.2.2.2.2.2.2.2.2.2.2.2.2.2.2.2.2.2.1
theorem g_X25_107 {h : Hp} {a : Int} (hL : LAY h) (ha : a ∈ in_aX25) : h a 107 = (a + 135) ∧ h (a + 135) (-2) = 5268 ∧ h (a + 135) (-1) = 602 := (ly_X25 hL ha).2.2.2.2.2.2.2.2.2.2.2.2.2.2.2.2.2.2.2.2.2.2.2.2.2.2.2.2.2.2.2.2.2.2.2.2.2.2.2.2.2.2.2.2.2.2.2.2.2.2.2.2.2.2.2.2.2.2.2.2.2.2.2.2.2.2.2.2.2.2.2.2.2.2.2.2.2.2.2.2.2.2.2.2.2.2.2.1
theorem g_X25_108 {h : Hp} {a : Int} (hL : LAY h) (ha : a ∈ in_aX25) : h a 108 = (a + 136) ∧ h (a + 136) (-2) = 5284 ∧ h (a + 136) (-1) = 2408 := (ly_X25 hL ha).2.2.2.2.2.2.2.2.2.2.2.2.2.2.2.2.2.2.2.2.2.2.2.2.2.2.2.2.2.2.2.2.2.2.2.2.2.2.2.2.2.2.2.2.2.2.2.2.2.2.2.2.2.2.2.2.2.2.2.2.2.2.2.2.2.2.2.2.2.2.2.2.2.2.2.2.2.2.2.2.2.2.2.2.2.2.2.2.1
theorem g_X25_109 {h : Hp} {a : Int} (hL : LAY h) (ha : a ∈ in_aX25) : h a 109 = (a + 137) ∧ h (a + 137) (-2) = 5299 ∧ h (a + 137) (-1) = 2408 := (ly_X25 hL ha).2.2.2.2.2.2.2.2.2.2.2.2.2.2.2.2.2.2.2.2.2.2.2.2.2.2.2.2.2.2.2.2.2.2.2.2.2.2.2.2.2.2.2.2.2.2.2.2.2.2.2.2.2.2.2.2.2.2.2.2.2.2.2.2.2.2.2.2.2.2.2.2.2.2.2.2.2.2.2.2.2.2.2.2.2.2.2.2.2.1
theorem g_X25_110 {h : Hp} {a : Int} (hL : LAY h) (ha : a ∈ in_aX25) : h a 110 = (a + 138) ∧ h (a + 138) (-2) = 5313 ∧ h (a + 138) (-1) = 2408 := (ly_X25 hL ha).2.2.2.2.2.2.2.2.2.2.2.2.2.2.2.2.2.2.2.2.2.2.2.2.2.2.2.2.2.2.2.2.2.2.2.2.2.2.2.2.2.2.2.2.2.2.2.2.2.2.2.2.2.2.2.2.2.2.2.2.2.2.2.2.2.2.2.2.2.2.2.2.2.2.2.2.2.2.2.2.2.2.2.2.2.2.2.2.2.2.1
theorem g_X25_111 {h : Hp} {a : Int} (hL : LAY h) (ha : a ∈ in_aX25) : h a 111 = (a + 139) ∧ h (a + 139) (-2) = 5329 ∧ h (a + 139) (-1) = 2408 := (ly_X25 hL ha).2.2.2.2.2.2.2.2.2.2.2.2.2.2.2.2.2.2.2.2.2.2.2.2.2.2.2.2.2.2.2.2.2.2.2.2.2.2.2.2.2.2.2.2.2.2.2.2.2.2.2.2.2.2.2.2.2.2.2.2.2.2.2.2.2.2.2.2.2.2.2.2.2.2.2.2.2.2.2.2.2.2.2.2.2.2.2.2.2.2.2.1
theorem g_X25_121 {h : Hp} {a : Int} (hL : LAY h) (ha : a ∈ in_aX25) : h a 121 = (a + 140) ∧ h (a + 140) (-2) = 5345 ∧ h (a + 140) (-1) = 1200 := (ly_X25 hL ha).2.2.2.2.2.2.2.2.2.2.2.2.2.2.2.2.2.2.2.2.2.2.2.2.2.2.2.2.2.2.2.2.2.2.2.2.2.2.2.2.2.2.2.2.2.2.2.2.2.2.2.2.2.2.2.2.2.2.2.2.2.2.2.2.2.2.2.2.2.2.2.2.2.2.2.2.2.2.2.2.2.2.2.2.2.2.2.2.2.2.2.2.1
theorem g_X25_122 {h : Hp} {a : Int} (hL : LAY h) (ha : a ∈ in_aX25) : h a 122 = (a + 141) ∧ h (a + 141) (-2) = 5364 ∧ h (a + 141) (-1) = 1501 := (ly_X25 hL ha).2.2.2.2.2.2.2.2.2.2.2.2.2.2.2.2.2.2.2.2.2.2.2.2.2.2.2.2.2.2.2.2.2.2.2.2.2.2.2.2.2.2.2.2.2.2.2.2.2.2.2.2.2.2.2.2.2.2.2.2.2.2.2.2.2.2.2.2.2.2.2.2.2.2.2.2.2.2.2.2.2.2.2.2.2.2.2.2.2.2.2.2.2.1
theorem g_X25_123 {h : Hp} {a : Int} (hL : LAY h) (ha : a ∈ in_aX25) : h a 123 = (a + 142) ∧ h (a + 142) (-2) = 5377 ∧ h (a + 142) (-1) = 1501 := (ly_X25 hL ha).2.2.2.2.2.2.2.2.2.2.2.2.2.2.2.2.2.2.2.2.2.2.2.2.2.2.2.2.2.2.2.2.2.2.2.2.2.2.2.2.2.2.2.2.2.2.2.2.2.2.2.2.2.2.2.2.2.2.2.2.2.2.2.2.2.2.2.2.2.2.2.2.2.2.2.2.2.2.2.2.2.2.2.2.2.2.2.2.2.2.2.2.2.2.1
theorem g_X25_124 {h : Hp} {a : Int} (hL : LAY h) (ha : a ∈ in_aX25) : h a 124 = (a + 143) ∧ h (a + 143) (-2) = 5393 ∧ h (a + 143) (-1) = 1501 := (ly_X25 hL ha).2.2.2.2.2.2.2.2.2.2.2.2.2.2.2.2.2.2.2.2.2.2.2.2.2.2.2.2.2.2.2.2.2.2.2.2.2.2.2.2.2.2.2.2.2.2.2.2.2.2.2.2.2.2.2.2.2.2.2.2.2.2.2.2.2.2.2.2.2.2.2.2.2.2.2.2.2.2.2.2.2.2.2.2.2.2.2.2.2.2.2.2.2.2.2.1
theorem g_X25_125 {h : Hp} {a : Int} (hL : LAY h) (ha : a ∈ in_aX25) : h a 125 = (a + 144) ∧ h (a + 144) (-2) = 5409 ∧ h (a + 144) (-1) = 1502 := (ly_X25 hL ha).2.2.2.2.2.2.2.2.2.2.2.2.2.2.2.2.2.2.2.2.2.2.2.2.2.2.2.2.2.2.2.2.2.2.2.2.2.2.2.2.2.2.2.2.2.2.2.2.2.2.2.2.2.2.2.2.2.2.2.2.2.2.2.2.2.2.2.2.2.2.2.2.2.2.2.2.2.2.2.2.2.2.2.2.2.2.2.2.2.2.2.2.2.2.2.2.1
theorem g_X25_138 {h : Hp} {a : Int} (hL : LAY h) (ha : a ∈ in_aX25) : h a 138 = (a + 151) ∧ h (a + 151) (-2) = 5521 ∧ h (a + 151) (-1) = 1502 := (ly_X25 hL ha).2.2.2.2.2.2.2.2.2.2.2.2.2.2.2.2.2.2.2.2.2.2.2.2.2.2.2.2.2.2.2.2.2.2.2.2.2.2.2.2.2.2.2.2.2.2.2.2.2.2.2.2.2.2.2.2.2.2.2.2.2.2.2.2.2.2.2.2.2.2.2.2.2.2.2.2.2.2.2.2.2.2.2.2.2.2.2.2.2.2.2.2.2.2.2.2.2.1
theorem g_X25_139 {h : Hp} {a : Int} (hL : LAY h) (ha : a ∈ in_aX25) : h a 139 = (a + 152) ∧ h (a + 152) (-2) = 5539 ∧ h (a + 152) (-1) = 500 := (ly_X25 hL ha).2.2.2.2.2.2.2.2.2.2.2.2.2.2.2.2.2.2.2.2.2.2.2.2.2.2.2.2.2.2.2.2.2.2.2.2.2.2.2.2.2.2.2.2.2.2.2.2.2.2.2.2.2.2.2.2.2.2.2.2.2.2.2.2.2.2.2.2.2.2.2.2.2.2.2.2.2.2.2.2.2.2.2.2.2.2.2.2.2.2.2.2.2.2.2.2.2.2.1
theorem g_X25_140 {h : Hp} {a : Int} (hL : LAY h) (ha : a ∈ in_aX25) : h a 140 = (a + 153) ∧ h (a + 153) (-2) = 5555 ∧ h (a + 153) (-1) = 500 := (ly_X25 hL ha).2.2.2.2.2.2.2.2.2.2.2.2.2.2.2.2.2.2.2.2.2.2.2.2.2.2.2.2.2.2.2.2.2.2.2.2.2.2.2.2.2.2.2.2.2.2.2.2.2.2.2.2.2.2.2.2.2.2.2.2.2.2.2.2.2.2.2.2.2.2.2.2.2.2.2.2.2.2.2.2.2.2.2.2.2.2.2.2.2.2.2.2.2.2.2.2.2.2.2
