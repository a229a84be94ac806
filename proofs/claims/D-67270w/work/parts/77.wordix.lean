set_option maxRecDepth 100000
/-! WHICH OF SOME WORDS A NAME IS -/
def ix (w : List Int) : List (List Int) → Int → Int
  | [], _ => -1
  | b :: L, k => if w = b then k else ix w L (k + 1)
def spl : List Int → List Int → List (List Int)
  | [], cur => [cur]
  | c :: S, cur => if c = 32 then cur :: spl S [] else spl S (cur ++ [c])
def spn : List Int → List Int → List (List Int)
  | [], _ => []
  | c :: S, cur => if c = 32 then cur :: spn S [] else spn S (cur ++ [c])
theorem ix_r {w : List Int} : ∀ (L : List (List Int)) (k : Int), 0 ≤ k → ix w L k = -1 ∨ (k ≤ ix w L k ∧ ix w L k < k + L.length) := by
  intro L
  induction L with
  | nil => intro k _; exact Or.inl rfl
  | cons b L ih =>
    intro k hk
    unfold ix
    by_cases h : w = b
    · rw [if_pos h]; right; simp; omega
    · rw [if_neg h]
      rcases ih (k + 1) (by omega) with z | z
      · exact Or.inl z
      · right; simp only [List.length_cons]; omega
theorem ite_eqW {α : Type} {w b : List Int} {x y : α} : (if eqW w b = 0 then x else y) = if w = b then y else x := by
  unfold eqW
  by_cases h : w = b
  · rw [if_pos h, if_pos h, if_neg (by decide)]
  · rw [if_neg h, if_neg h, if_pos rfl]
theorem some_ite {c : Prop} [Decidable c] {x y : Int} : (some (if c then x else y) : Option Int) = if c then some x else some y := by split <;> rfl
/-- the bytes of a name -/
def tw (h : Hp) (t : Int) (q : Int × Int × Int × Int) : List Int := wd h t q.2.1 (q.2.2.1 - q.2.1).toNat
theorem cs_isN {h : Hp} {n : Int} {B : Int → Int} {i s : Int} {b : List Int} (c : CS h n B i) (h1 : (tk B i).1 = 1) (hs : strB s = some b) : m_X2_isName 3 s h = some (eqW (tw h 2 (tk B i)) b) := by
  rw [cs_isW c hs]; unfold isW; rw [if_pos h1]; rfl
theorem cs_isN0 {h : Hp} {n : Int} {B : Int → Int} {i s : Int} {b : List Int} (c : CS h n B i) (h1 : (tk B i).1 ≠ 1) (hs : strB s = some b) : m_X2_isName 3 s h = some 0 := by
  rw [cs_isW c hs]; unfold isW; rw [if_neg h1]
theorem ts_isN {h : Hp} {a t n : Int} {B : Int → Int} {i s : Int} {b : List Int} (c : TS h a t n B i) (h1 : (tk B i).1 = 1) (hs : strB s = some b) : m_X20_isName a s h = some (eqW (tw h t (tk B i)) b) := by
  rw [ts_isW c hs]; unfold isW; rw [if_pos h1]; rfl
theorem ts_isN0 {h : Hp} {a t n : Int} {B : Int → Int} {i s : Int} {b : List Int} (c : TS h a t n B i) (h1 : (tk B i).1 ≠ 1) (hs : strB s = some b) : m_X20_isName a s h = some 0 := by
  rw [ts_isW c hs]; unfold isW; rw [if_neg h1]
theorem st_2 : strB (-2) = some [111, 102] := by decide
theorem st_3 : strB (-3) = some [63, 63] := by decide
theorem st_4 : strB (-4) = some [116, 111] := by decide
theorem st_5 : strB (-5) = some [97, 115] := by decide
theorem st_6 : strB (-6) = some [112, 97, 103, 101] := by decide
theorem st_7 : strB (-7) = some [108, 105, 110, 101] := by decide
theorem st_8 : strB (-8) = some [110, 117, 109, 98, 101, 114] := by decide
theorem st_9 : strB (-9) = some [116, 105, 116, 108, 101] := by decide
theorem st_10 : strB (-10) = some [115, 105, 100, 101] := by decide
theorem st_11 : strB (-11) = some [97, 98, 111, 118, 101] := by decide
theorem st_12 : strB (-12) = some [98, 101, 108, 111, 119] := by decide
theorem st_13 : strB (-13) = some [97, 116] := by decide
theorem st_14 : strB (-14) = some [119, 105, 100, 116, 104] := by decide
theorem st_15 : strB (-15) = some [107, 101, 114, 110] := by decide
theorem st_16 : strB (-16) = some [106, 111, 105, 110] := by decide
theorem st_17 : strB (-17) = some [108, 116] := by decide
theorem st_18 : strB (-18) = some [97, 109, 112] := by decide
theorem st_19 : strB (-19) = some [105, 100] := by decide
theorem st_20 : strB (-20) = some [112, 97, 103, 101] := by decide
theorem st_21 : strB (-21) = some [110, 111] := by decide
theorem st_22 : strB (-22) = some [97, 108, 108] := by decide
theorem st_23 : strB (-23) = some [119, 105, 100, 116, 104] := by decide
theorem st_24 : strB (-24) = some [104, 101, 105, 103, 104, 116] := by decide
theorem st_25 : strB (-25) = some [99, 111, 108, 117, 109, 110, 115] := by decide
theorem st_26 : strB (-26) = some [103, 97, 112] := by decide
theorem st_27 : strB (-27) = some [114, 117, 108, 101] := by decide
theorem st_28 : strB (-28) = some [108, 105, 110, 101, 115] := by decide
theorem st_29 : strB (-29) = some [102, 105, 114, 115, 116] := by decide
theorem st_30 : strB (-30) = some [108, 97, 115, 116] := by decide
theorem st_31 : strB (-31) = some [101, 109, 112, 116, 121] := by decide
theorem st_32 : strB (-32) = some [110, 116, 104] := by decide
theorem st_33 : strB (-33) = some [110, 111, 116] := by decide
theorem st_34 : strB (-34) = some [110, 111, 110, 101] := by decide
theorem st_35 : strB (-35) = some [115, 104, 111, 119] := by decide
theorem st_36 : strB (-36) = some [115, 105, 122, 101] := by decide
theorem st_37 : strB (-37) = some [108, 101, 97, 100] := by decide
theorem st_38 : strB (-38) = some [105, 110, 100, 101, 110, 116] := by decide
theorem st_39 : strB (-39) = some [108, 101, 102, 116] := by decide
theorem st_40 : strB (-40) = some [114, 105, 103, 104, 116] := by decide
theorem st_41 : strB (-41) = some [97, 98, 111, 118, 101] := by decide
theorem st_42 : strB (-42) = some [98, 101, 108, 111, 119] := by decide
theorem st_43 : strB (-43) = some [97, 108, 105, 103, 110] := by decide
theorem st_44 : strB (-44) = some [104, 121, 112, 104, 101, 110, 115] := by decide
theorem st_45 : strB (-45) = some [116, 111, 108, 101, 114, 97, 110, 99, 101] := by decide
theorem st_46 : strB (-46) = some [107, 101, 101, 112] := by decide
theorem st_47 : strB (-47) = some [99, 111, 117, 110, 116] := by decide
theorem st_48 : strB (-48) = some [115, 116, 101, 112] := by decide
theorem st_49 : strB (-49) = some [114, 101, 115, 101, 116] := by decide
theorem st_50 : strB (-50) = some [108, 97, 98, 101, 108] := by decide
theorem st_51 : strB (-51) = some [102, 111, 114, 109] := by decide
theorem st_52 : strB (-52) = some [100, 101, 112, 116, 104] := by decide
theorem st_53 : strB (-53) = some [104, 101, 97, 100] := by decide
theorem st_54 : strB (-54) = some [106, 117, 115, 116] := by decide
theorem st_55 : strB (-55) = some [109, 105, 100, 100, 108, 101] := by decide
theorem st_56 : strB (-56) = some [97, 114, 97, 98, 105, 99] := by decide
theorem st_57 : strB (-57) = some [114, 111, 109, 97, 110] := by decide
theorem st_58 : strB (-58) = some [108, 101, 116, 116, 101, 114] := by decide
theorem st_59 : strB (-59) = some [121, 101, 115] := by decide
theorem st_60 : strB (-60) = some [105, 110, 108, 105, 110, 101] := by decide
theorem st_61 : strB (-61) = some [98, 108, 111, 99, 107] := by decide
theorem st_62 : strB (-62) = some [110, 111, 116, 101] := by decide
theorem st_63 : strB (-63) = some [102, 108, 111, 97, 116] := by decide
theorem st_64 : strB (-64) = some [116, 97, 98, 108, 101] := by decide
theorem st_65 : strB (-65) = some [114, 111, 119] := by decide
theorem st_66 : strB (-66) = some [99, 101, 108, 108] := by decide
theorem st_67 : strB (-67) = some [99, 111, 110, 116, 101, 110, 116, 115] := by decide
theorem st_68 : strB (-68) = some [105, 110, 100, 101, 120] := by decide
theorem st_69 : strB (-69) = some [114, 101, 102] := by decide
theorem st_70 : strB (-70) = some [116, 101, 114, 109] := by decide
theorem st_71 : strB (-71) = some [106, 111, 105, 110] := by decide
theorem st_72 : strB (-72) = some [119, 105, 100, 116, 104] := by decide
theorem st_73 : strB (-73) = some [107, 101, 114, 110] := by decide
theorem st_74 : strB (-74) = some [101, 110, 100, 115] := by decide
theorem st_75 : strB (-75) = some [97, 116] := by decide
theorem st_76 : strB (-76) = some [97, 115] := by decide
theorem st_77 : strB (-77) = some [116, 111] := by decide
theorem st_78 : strB (-78) = some [112, 97, 103, 101] := by decide
theorem st_79 : strB (-79) = some [108, 105, 110, 101] := by decide
theorem st_80 : strB (-80) = some [110, 117, 109, 98, 101, 114] := by decide
theorem st_81 : strB (-81) = some [116, 105, 116, 108, 101] := by decide
theorem st_82 : strB (-82) = some [115, 105, 100, 101] := by decide
theorem st_83 : strB (-83) = some [97, 98, 111, 118, 101] := by decide
theorem st_84 : strB (-84) = some [98, 101, 108, 111, 119] := by decide
theorem st_85 : strB (-85) = some [111, 102] := by decide
theorem st_86 : strB (-86) = some [108, 116] := by decide
theorem st_87 : strB (-87) = some [97, 109, 112] := by decide
theorem st_88 : strB (-88) = some [105, 100] := by decide
theorem st_89 : strB (-89) = some [112, 97, 103, 101] := by decide
theorem st_90 : strB (-90) = some [119, 105, 100, 116, 104] := by decide
theorem st_91 : strB (-91) = some [104, 101, 105, 103, 104, 116] := by decide
theorem st_92 : strB (-92) = some [99, 111, 108, 117, 109, 110, 115] := by decide
theorem st_93 : strB (-93) = some [103, 97, 112] := by decide
theorem st_94 : strB (-94) = some [114, 117, 108, 101] := by decide
theorem st_95 : strB (-95) = some [108, 105, 110, 101, 115] := by decide
theorem st_96 : strB (-96) = some [110, 111, 32, 112, 97, 103, 101, 32, 97, 108, 108] := by decide
theorem st_101 : strB (-101) = some [110, 111, 32, 121, 101, 115] := by decide
theorem st_102 : strB (-102) = some [110, 111, 110, 101] := by decide
theorem st_104 : strB (-104) = some [109, 100, 99, 108, 120, 118, 105] := by decide
def wProps : List (List Int) := [[115, 104, 111, 119], [115, 105, 122, 101], [108, 101, 97, 100], [105, 110, 100, 101, 110, 116], [108, 101, 102, 116], [114, 105, 103, 104, 116], [97, 98, 111, 118, 101], [98, 101, 108, 111, 119], [97, 108, 105, 103, 110], [104, 121, 112, 104, 101, 110, 115], [116, 111, 108, 101, 114, 97, 110, 99, 101], [102, 105, 114, 115, 116], [108, 97, 115, 116], [107, 101, 101, 112], [99, 111, 117, 110, 116], [115, 116, 101, 112], [114, 101, 115, 101, 116], [108, 97, 98, 101, 108], [102, 111, 114, 109], [100, 101, 112, 116, 104], [104, 101, 97, 100], [104, 101, 105, 103, 104, 116]]
def wPage : List (List Int) := [[119, 105, 100, 116, 104], [104, 101, 105, 103, 104, 116], [99, 111, 108, 117, 109, 110, 115], [103, 97, 112], [114, 117, 108, 101], [108, 105, 110, 101, 115]]
def wLines : List (List Int) := [[110, 111], [112, 97, 103, 101], [97, 108, 108]]
def wAsk : List (List Int) := [[102, 105, 114, 115, 116], [108, 97, 115, 116], [101, 109, 112, 116, 121], [110, 116, 104], [110, 111, 116]]
def wShow : List (List Int) := [[105, 110, 108, 105, 110, 101], [98, 108, 111, 99, 107], [110, 111, 110, 101], [110, 111, 116, 101], [102, 108, 111, 97, 116], [116, 97, 98, 108, 101], [114, 111, 119], [99, 101, 108, 108], [99, 111, 110, 116, 101, 110, 116, 115], [105, 110, 100, 101, 120], [114, 101, 102], [116, 101, 114, 109]]
def wAlign : List (List Int) := [[106, 117, 115, 116], [108, 101, 102, 116], [114, 105, 103, 104, 116], [109, 105, 100, 100, 108, 101]]
def wForm : List (List Int) := [[97, 114, 97, 98, 105, 99], [114, 111, 109, 97, 110], [108, 101, 116, 116, 101, 114]]
def wYes : List (List Int) := [[110, 111], [121, 101, 115]]
theorem sp_wLines : ∃ S, strB (-96) = some S ∧ spl S [] = wLines := ⟨[110, 111, 32, 112, 97, 103, 101, 32, 97, 108, 108], by decide, by decide⟩
theorem sp_wAsk : ∃ S, strB (-97) = some S ∧ spl S [] = wAsk := ⟨[102, 105, 114, 115, 116, 32, 108, 97, 115, 116, 32, 101, 109, 112, 116, 121, 32, 110, 116, 104, 32, 110, 111, 116], by decide, by decide⟩
theorem sp_wShow : ∃ S, strB (-99) = some S ∧ spl S [] = wShow := ⟨[105, 110, 108, 105, 110, 101, 32, 98, 108, 111, 99, 107, 32, 110, 111, 110, 101, 32, 110, 111, 116, 101, 32, 102, 108, 111, 97, 116, 32, 116, 97, 98, 108, 101, 32, 114, 111, 119, 32, 99, 101, 108, 108, 32, 99, 111, 110, 116, 101, 110, 116, 115, 32, 105, 110, 100, 101, 120, 32, 114, 101, 102, 32, 116, 101, 114, 109], by decide, by decide⟩
theorem sp_wAlign : ∃ S, strB (-100) = some S ∧ spl S [] = wAlign := ⟨[106, 117, 115, 116, 32, 108, 101, 102, 116, 32, 114, 105, 103, 104, 116, 32, 109, 105, 100, 100, 108, 101], by decide, by decide⟩
theorem sp_wForm : ∃ S, strB (-103) = some S ∧ spl S [] = wForm := ⟨[97, 114, 97, 98, 105, 99, 32, 114, 111, 109, 97, 110, 32, 108, 101, 116, 116, 101, 114], by decide, by decide⟩
theorem sp_wYes : ∃ S, strB (-101) = some S ∧ spl S [] = wYes := ⟨[110, 111, 32, 121, 101, 115], by decide, by decide⟩
theorem sp_wProps : ∃ S, strB (-98) = some S ∧ spn S [] = wProps := ⟨[115, 104, 111, 119, 32, 115, 105, 122, 101, 32, 108, 101, 97, 100, 32, 105, 110, 100, 101, 110, 116, 32, 108, 101, 102, 116, 32, 114, 105, 103, 104, 116, 32, 97, 98, 111, 118, 101, 32, 98, 101, 108, 111, 119, 32, 97, 108, 105, 103, 110, 32, 104, 121, 112, 104, 101, 110, 115, 32, 116, 111, 108, 101, 114, 97, 110, 99, 101, 32, 102, 105, 114, 115, 116, 32, 108, 97, 115, 116, 32, 107, 101, 101, 112, 32, 99, 111, 117, 110, 116, 32, 115, 116, 101, 112, 32, 114, 101, 115, 101, 116, 32, 108, 97, 98, 101, 108, 32, 102, 111, 114, 109, 32, 100, 101, 112, 116, 104, 32, 104, 101, 97, 100, 32, 104, 101, 105, 103, 104, 116, 32], by decide, by decide⟩
theorem q_pageProperty {h : Hp} {n : Int} {B : Int → Int} {i : Int} (c : CS h n B i) (h1 : (tk B i).1 = 1) : m_X3_pageProperty 3 h = some (ix (tw h 2 (tk B i)) wPage 0) := by
  have k := (ly_X2 c.1).1
  unfold m_X3_pageProperty wPage gd
  simp only [k, if_true, cs_isN c h1 st_23, cs_isN c h1 st_24, cs_isN c h1 st_25, cs_isN c h1 st_26, cs_isN c h1 st_27, cs_isN c h1 st_28, Option.bind_some, ite_eqW, ix, some_ite]
  rfl
theorem q_propertyOf {h : Hp} {n : Int} {B : Int → Int} {i : Int} (c : CS h n B i) (h1 : (tk B i).1 = 1) : m_X3_propertyOf 3 h = some (ix (tw h 2 (tk B i)) wProps 0) := by
  have k := (ly_X2 c.1).1
  unfold m_X3_propertyOf wProps gd
  simp only [k, if_true, cs_isN c h1 st_35, cs_isN c h1 st_36, cs_isN c h1 st_37, cs_isN c h1 st_38, cs_isN c h1 st_39, cs_isN c h1 st_40, cs_isN c h1 st_41, cs_isN c h1 st_42, cs_isN c h1 st_43, cs_isN c h1 st_44, cs_isN c h1 st_45, cs_isN c h1 st_29, cs_isN c h1 st_30, cs_isN c h1 st_46, cs_isN c h1 st_47, cs_isN c h1 st_48, cs_isN c h1 st_49, cs_isN c h1 st_50, cs_isN c h1 st_51, cs_isN c h1 st_52, cs_isN c h1 st_53, cs_isN c h1 st_24, Option.bind_some, ite_eqW, ix, some_ite]
  rfl
theorem q_showOf {h : Hp} {n : Int} {B : Int → Int} {i : Int} (c : CS h n B i) (h1 : (tk B i).1 = 1) : m_X3_showOf 3 h = some (ix (tw h 2 (tk B i)) wShow 0) := by
  have k := (ly_X2 c.1).1
  unfold m_X3_showOf wShow gd
  simp only [k, if_true, cs_isN c h1 st_60, cs_isN c h1 st_61, cs_isN c h1 st_34, cs_isN c h1 st_62, cs_isN c h1 st_63, cs_isN c h1 st_64, cs_isN c h1 st_65, cs_isN c h1 st_66, cs_isN c h1 st_67, cs_isN c h1 st_68, cs_isN c h1 st_69, cs_isN c h1 st_70, Option.bind_some, ite_eqW, ix, some_ite]
  rfl
theorem q_wordOf {h : Hp} {n : Int} {B : Int → Int} {i p : Int} (c : CS h n B i) (h1 : (tk B i).1 = 1) : m_X3_wordOf p 3 h = some (ix (tw h 2 (tk B i)) (if p = 0 then wShow else if p = 8 then wAlign else if p = 18 then wForm else wYes) 0) := by
  have k := (ly_X2 c.1).1
  unfold m_X3_wordOf gd
  rw [q_showOf c h1, Option.bind_some]
  by_cases p0 : p = 0
  · rw [if_pos p0, if_pos p0]
  rw [if_neg p0, if_neg p0]
  by_cases p8 : p = 8
  · rw [if_pos p8, if_pos p8]
    unfold wAlign
    simp only [k, if_true, cs_isN c h1 st_54, cs_isN c h1 st_39, cs_isN c h1 st_40, cs_isN c h1 st_55, Option.bind_some, ite_eqW, ix, some_ite]
    rfl
  rw [if_neg p8, if_neg p8]
  by_cases p18 : p = 18
  · rw [if_pos p18, if_pos p18]
    unfold wForm
    simp only [k, if_true, cs_isN c h1 st_56, cs_isN c h1 st_57, cs_isN c h1 st_58, Option.bind_some, ite_eqW, ix, some_ite]
    rfl
  rw [if_neg p18, if_neg p18]
  unfold wYes
  simp only [k, if_true, cs_isN c h1 st_21, cs_isN c h1 st_59, Option.bind_some, ite_eqW, ix, some_ite]
  rfl
/-- a loop that looks whether all of k are so -/
theorem all_loop {F : Int × Int → Option ((Int × Int) ⊕ Int)} {E : Int → Prop} {k : Int} (k0 : 0 ≤ k) (body : ∀ v x, (v = 0 ∨ v = 1) → 0 ≤ x → x ≤ k → (k ≤ x → F (v, x) = some (.inr v)) ∧ (x < k → v = 0 → F (v, x) = some (.inl (0, x + 1))) ∧ (x < k → v = 1 → (E x → F (v, x) = some (.inl (1, x + 1))) ∧ (¬ E x → F (v, x) = some (.inl (0, x + 1))))) :
    Pz (lp F (1, 0)) (fun r => (r = 1 ∧ ∀ x, 0 ≤ x → x < k → E x) ∨ (r = 0 ∧ ¬ ∀ x, 0 ≤ x → x < k → E x)) := by
  refine z_lp (fun q : Int × Int => (q.1 = 0 ∨ q.1 = 1) ∧ 0 ≤ q.2 ∧ q.2 ≤ k ∧ (q.1 = 1 ↔ ∀ x, 0 ≤ x → x < q.2 → E x)) (fun q => (k - q.2).toNat) ⟨Or.inr rfl, by dsimp only; omega, k0, ⟨fun _ x h1 h2 => by dsimp only at h2; omega, fun _ => rfl⟩⟩ ?_
  rintro ⟨v, x⟩ ⟨hv, x0, x1, hx⟩
  dsimp only at hv x0 x1 hx ⊢
  obtain ⟨b1, b2, b3⟩ := body v x hv x0 x1
  by_cases hc : k ≤ x
  · rw [b1 hc]
    refine z_some ?_
    have : x = k := by omega
    subst this
    rcases hv with rfl | rfl
    · exact Or.inr ⟨rfl, fun z => absurd (hx.mpr z) (by decide)⟩
    · exact Or.inl ⟨rfl, hx.mp rfl⟩
  · rcases hv with rfl | rfl
    · rw [b2 (by omega) rfl]
      refine z_some ⟨⟨Or.inl rfl, by dsimp only; omega, by dsimp only; omega, ?_⟩, by dsimp only; omega⟩
      refine ⟨fun z => absurd (show (0 : Int) = 1 from z) (by decide), fun z => hx.mpr (fun y y0 y1 => z y y0 (by dsimp only; omega))⟩
    · obtain ⟨c1, c2⟩ := b3 (by omega) rfl
      have hx' := hx.mp rfl
      by_cases hE : E x
      · rw [c1 hE]
        refine z_some ⟨⟨Or.inr rfl, by dsimp only; omega, by dsimp only; omega, ⟨fun _ y y0 y1 => ?_, fun _ => rfl⟩⟩, by dsimp only; omega⟩
        dsimp only at y1
        by_cases hy : y = x
        · rw [hy]; exact hE
        · exact hx' y y0 (by omega)
      · rw [c2 hE]
        refine z_some ⟨⟨Or.inl rfl, by dsimp only; omega, by dsimp only; omega, ⟨fun z => absurd (show (0 : Int) = 1 from z) (by decide), fun z => absurd (z x x0 (by dsimp only; omega)) hE⟩⟩, by dsimp only; omega⟩
theorem q_satI {s x : Int} {b : List Int} (hs : strB s = some b) (x0 : 0 ≤ x) (x1 : x < b.length) : ∃ v, b[x.toNat]? = some v ∧ x_sat s x = some v := by
  obtain ⟨v, hv⟩ : ∃ v, b[x.toNat]? = some v := ⟨b[x.toNat]'(by omega), by simp⟩
  refine ⟨v, hv, ?_⟩
  have := q_sat (x := x.toNat) hs hv
  rw [Int.toNat_of_nonneg x0] at this
  exact this
/-- a stretch of a string -/
def stc (S : List Int) (f k : Int) : List Int := (S.drop f.toNat).take (k - f).toNat
theorem stc_s {S : List Int} {f k v : Int} (f0 : 0 ≤ f) (fk : f ≤ k) (hv : S[k.toNat]? = some v) : stc S f (k + 1) = stc S f k ++ [v] := by
  unfold stc
  have e : (k + 1 - f).toNat = (k - f).toNat + 1 := by omega
  rw [e, List.take_add_one]
  congr 1
  rw [List.getElem?_drop]
  have : f.toNat + (k - f).toNat = k.toNat := by omega
  rw [this, hv]
  rfl
theorem stc_e {S : List Int} {k : Int} : stc S k k = [] := by unfold stc; simp
theorem drop_s {S : List Int} {k v : Int} (k0 : 0 ≤ k) (hv : S[k.toNat]? = some v) : S.drop k.toNat = v :: S.drop (k + 1).toNat := by
  have e : (k + 1).toNat = k.toNat + 1 := by omega
  rw [e]
  exact List.drop_eq_getElem?_toList_append ▸ by rw [hv]; rfl
theorem wd_stc {h : Hp} {t p f k : Int} {m : Nat} {S : List Int} (f0 : 0 ≤ f) (fk : f ≤ k) (kl : k ≤ S.length) (hm : (m : Int) = k - f) : wd h t p m = stc S f k ↔ ∀ x, 0 ≤ x → x < k - f → S[(f + x).toNat]? = some (h t (p + x)) := by
  have hl : (stc S f k).length = m := by
    unfold stc
    rw [List.length_take, List.length_drop]; omega
  rw [wd_eq hl]
  have key : ∀ x : Nat, x < m → (stc S f k)[x]? = S[(f + x).toNat]? := by
    intro x hx
    unfold stc
    rw [List.getElem?_take_of_lt (by omega), List.getElem?_drop]
    congr 1; omega
  constructor
  · intro z x x0 x1
    have := z x.toNat (by omega)
    rw [key _ (by omega), Int.toNat_of_nonneg x0] at this
    exact this
  · intro z x hx
    rw [key x hx]
    exact z x (by omega) (by omega)
