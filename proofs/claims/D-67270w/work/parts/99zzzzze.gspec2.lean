-- needs: 99zzzzzd
set_option maxRecDepth 100000
/-! GATHERING: blocks, notes, the steps -/
abbrev TXL := List (Int × Int × Int)
/-- text, owner, kind (0 flow, 1 cell, 2 note), left, width -/
abbrev PAR := TXL × Int × Int × Int × Int
/-- text and order; paragraphs; items (0: paragraph, 1: row; which; gap); gap; cells of the row; rows with their cells -/
abbrev GS := (TXT × Int) × List PAR × List (Int × Int × Int) × Int × List Int × List (Int × List Int)
/-- sums over blocks around -/
def anS (V : Hp) (P : Int → Int) (p : Int) : Nat → Int → Int
  | 0, _ => 0
  | k + 1, e => if e < 0 then 0 else (if V 33 e = 0 then 0 else V 24 (22 * e + p)) + anS V P p k (P e)
def anF (S V : Hp) (p e : Int) : Int := anS V (S 7) p (e.toNat + 1) e
def nrB (F P : Int → Int) : Nat → Int → Int
  | 0, _ => -1
  | k + 1, e => if e < 0 then -1 else if F e ≠ 0 then e else nrB F P k (P e)
/-- the nearest around e (or e) of a kind -/
def nr (S : Hp) (F : Int → Int) (e : Int) : Int := nrB F (S 7) (e.toNat + 1) e
theorem anS_neg {V : Hp} {P : Int → Int} {p x : Int} (h : x < 0) : ∀ k, anS V P p k x = 0
  | 0 => rfl
  | k + 1 => by unfold anS; rw [if_pos h]
theorem anS_fuel {V : Hp} {P : Int → Int} {E p : Int} (par : ∀ e, 0 ≤ e → e < E → P e < e) : ∀ (k j : Nat) (x : Int), x < E → x < k → x < j → anS V P p k x = anS V P p j x
  | 0, j, x, _, h1, _ => by rw [anS_neg (by omega), anS_neg (by omega)]
  | k + 1, 0, x, _, _, h2 => by rw [anS_neg (by omega), anS_neg (by omega)]
  | k + 1, j + 1, x, hE, h1, h2 => by
    unfold anS
    by_cases h : x < 0
    · rw [if_pos h, if_pos h]
    · have := par x (by omega) hE
      rw [if_neg h, if_neg h, anS_fuel par k j (P x) (by omega) (by omega) (by omega)]
theorem anF_neg {S V : Hp} {p e : Int} (h : e < 0) : anF S V p e = 0 := anS_neg h _
theorem anF_step {S V : Hp} {E M p e : Int} (B : SB S E M) (e0 : 0 ≤ e) (e1 : e < E) : anF S V p e = (if V 33 e = 0 then 0 else V 24 (22 * e + p)) + anF S V p (S 7 e) := by
  have := B.par e e0 e1
  unfold anF
  rw [show anS V (S 7) p (e.toNat + 1) e = (if e < 0 then 0 else (if V 33 e = 0 then 0 else V 24 (22 * e + p)) + anS V (S 7) p e.toNat (S 7 e)) from rfl, if_neg (by omega), anS_fuel (fun x x0 x1 => (B.par x x0 x1).2) e.toNat ((S 7 e).toNat + 1) (S 7 e) (by omega) (by omega) (by omega)]
theorem nrB_neg {F P : Int → Int} {x : Int} (h : x < 0) : ∀ k, nrB F P k x = -1
  | 0 => rfl
  | k + 1 => by unfold nrB; rw [if_pos h]
theorem nrB_fuel {F P : Int → Int} {E : Int} (par : ∀ e, 0 ≤ e → e < E → P e < e) : ∀ (k j : Nat) (x : Int), x < E → x < k → x < j → nrB F P k x = nrB F P j x
  | 0, j, x, _, h1, _ => by rw [nrB_neg (by omega), nrB_neg (by omega)]
  | k + 1, 0, x, _, _, h2 => by rw [nrB_neg (by omega), nrB_neg (by omega)]
  | k + 1, j + 1, x, hE, h1, h2 => by
    unfold nrB
    by_cases h : x < 0
    · rw [if_pos h, if_pos h]
    · have := par x (by omega) hE
      rw [if_neg h, if_neg h, nrB_fuel par k j (P x) (by omega) (by omega) (by omega)]
theorem nr_neg {S : Hp} {F : Int → Int} {e : Int} (h : e < 0) : nr S F e = -1 := nrB_neg h _
theorem nr_step {S : Hp} {F : Int → Int} {E M e : Int} (B : SB S E M) (e0 : 0 ≤ e) (e1 : e < E) : nr S F e = if F e ≠ 0 then e else nr S F (S 7 e) := by
  have := B.par e e0 e1
  unfold nr
  rw [show nrB F (S 7) (e.toNat + 1) e = (if e < 0 then -1 else if F e ≠ 0 then e else nrB F (S 7) e.toNat (S 7 e)) from rfl, if_neg (by omega), nrB_fuel (fun x x0 x1 => (B.par x x0 x1).2) e.toNat ((S 7 e).toNat + 1) (S 7 e) (by omega) (by omega) (by omega)]
theorem nr_0 {S : Hp} {F : Int → Int} {E M e : Int} (B : SB S E M) (e0 : 0 ≤ e) (e1 : e < E) (h : F e = 0) : nr S F e = nr S F (S 7 e) := by
  rw [nr_step B e0 e1, if_neg (fun z => z h)]
theorem nr_1 {S : Hp} {F : Int → Int} {E M e : Int} (B : SB S E M) (e0 : 0 ≤ e) (e1 : e < E) (h : F e ≠ 0) : nr S F e = e := by
  rw [nr_step B e0 e1, if_pos h]
theorem nr_r {S : Hp} {F : Int → Int} {E M : Int} (B : SB S E M) : ∀ (k : Nat) (e : Int), e < k → e < E → nr S F e = -1 ∨ (0 ≤ nr S F e ∧ nr S F e ≤ e ∧ F (nr S F e) ≠ 0)
  | 0, e, h, _ => Or.inl (nr_neg (by omega))
  | k + 1, e, h, h1 => by
    by_cases h0 : e < 0
    · exact Or.inl (nr_neg h0)
    · have := B.par e (by omega) h1
      by_cases hv : F e ≠ 0
      · rw [nr_1 B (by omega) h1 hv]; exact Or.inr ⟨by omega, Int.le_refl _, hv⟩
      · rw [nr_0 B (by omega) h1 (Classical.byContradiction hv)]
        rcases nr_r B k (S 7 e) (by omega) (by omega) with z | z
        · exact Or.inl z
        · exact Or.inr ⟨z.1, by omega, z.2.2⟩
theorem anF_bk {S V : Hp} {E M p : Int} (B : SB S E M) : ∀ (k : Nat) (e : Int), e < k → e < E → anF S V p (nr S (V 33) e) = anF S V p e
  | 0, e, h, _ => by rw [nr_neg (by omega), anF_neg (by decide), anF_neg (by omega)]
  | k + 1, e, h, h1 => by
    by_cases h0 : e < 0
    · rw [nr_neg h0, anF_neg (by decide), anF_neg h0]
    · have := B.par e (by omega) h1
      rw [nr_step B (by omega) h1]
      by_cases hv : V 33 e ≠ 0
      · rw [if_pos hv]
      · rw [if_neg hv, anF_bk B k (S 7 e) (by omega) (by omega), anF_step (p := p) B (by omega) h1, if_pos (Classical.byContradiction hv)]
        omega

/-- the width that is left from a place on, in the blocks around e -/
def wdF (S V : Hp) (lf e : Int) : Int := max_ 1000 (V 23 0 - lf - anF S V 5 e)
def szF (V : Hp) (e : Int) : Int := ofV (V 24) e 1
/-- bytes told where an element begins -/
def elB (S Y V Q : Hp) (E e : Int) : List Int := if V 24 (22 * e) = 10 then refB S Y V Q E e else lbS Y V e
def mtX (V : Hp) (x : Int) : Bool := decide (0 ≤ x) && mtF V x
/-- bytes of a text -/
def txB (S V : Hp) (k : Nat) : List Int := if mtX V (cu S k) = true then [] else itB S k
def prs (z : Int) (L : List Int) : List (Int × Int) := L.map (fun c => (c, z))
/-- bytes with sizes told at an item -/
def iB (S Y V Q : Hp) (E : Int) (k : Nat) : List (Int × Int) := if S 2 k = 1 then (if V 30 (S 3 k) = 0 then [] else prs (szF V (S 3 k)) (elB S Y V Q E (S 3 k))) else if S 2 k = 2 then [] else prs (szF V (cu S k)) (txB S V k)
/-- from a place on, so many -/
def rB {α : Type} (f : Nat → List α) (a : Nat) : Nat → List α
  | 0 => []
  | k + 1 => rB f a k ++ f (a + k)
theorem rB_add {α : Type} {f : Nat → List α} {a : Nat} (m : Nat) : ∀ k, rB f a (m + k) = rB f a m ++ rB f (a + m) k
  | 0 => by simp [rB]
  | k + 1 => by
    rw [show m + (k + 1) = m + k + 1 by omega, rB, rB_add m k, rB, List.append_assoc, show a + (m + k) = a + m + k by omega]
theorem rB_nil {α : Type} {f : Nat → List α} {a : Nat} : ∀ k, (∀ j, j < k → f (a + j) = []) → rB f a k = []
  | 0, _ => rfl
  | k + 1, h => by rw [rB, rB_nil k (fun j hj => h j (by omega)), h k (by omega)]; rfl
/-- bytes with sizes come to a text -/
def tzM (n : Int) (s : TXT × Int) (L : List (Int × Int)) : TXT × Int := L.foldl (fun s c => tzP n c.2 s c.1) s
theorem tzM_app {n : Int} {s : TXT × Int} {L M : List (Int × Int)} : tzM n s (L ++ M) = tzM n (tzM n s L) M := List.foldl_append
theorem tzM_prs {n z : Int} {s : TXT × Int} {L : List Int} : tzM n s (prs z L) = tzL n z s L := by
  unfold tzM prs tzL
  rw [List.foldl_map]
/-- notes before an element -/
def ntC (V : Hp) : Nat → Int
  | 0 => 0
  | k + 1 => ntC V k + (if V 32 k ≠ 0 then 1 else 0)
/-- the head of a note -/
def ofB (S V Q : Hp) (E e : Int) : List Int := if fdX S e [111, 102] < 0 then [] else (if tgt S V E e [111, 102] < 0 then [63, 63] else decL (Q 1 (tgt S V E e [111, 102])).toNat ++ (if 0 ≤ Q 2 (tgt S V E e [111, 102]) then 45 :: decL (Q 2 (tgt S V E e [111, 102])).toNat else [])) ++ [32]
def hdB (S V Q : Hp) (E e : Int) : List Int := decL (ntC V e.toNat + 1).toNat ++ [32] ++ ofB S V Q E e
/-- bytes of a note up to an item -/
def ntX (S Y V Q : Hp) (E e : Int) (k : Nat) : List (Int × Int) := prs (szF V e) (hdB S V Q E e ++ lbS Y V e) ++ rB (iB S Y V Q E) (S 11 e + 1).toNat (k - (S 11 e + 1).toNat)
def NTX (S Y V Q : Hp) (E e : Int) : TXT := (tzM 0 (([], -1), 0) (ntX S Y V Q E e (S 12 e).toNat)).1
/-- the note that is open at an item, -1 without -/
def nt (S V : Hp) : Nat → Int
  | 0 => -1
  | k + 1 => if S 2 k = 1 ∧ V 32 (S 3 k) ≠ 0 then S 3 k else if S 2 k = 2 ∧ V 32 (S 3 k) ≠ 0 then -1 else nt S V k
/-! steps of the flow -/
def gPut (z : Int) (L : List Int) (s : GS) : GS := (tzL 1 z s.1 L, s.2)
def gClr (s : GS) : GS := ((([], -1), s.1.2), s.2)
def gFl (e lf wd : Int) (s : GS) : GS := if s.1.1.1 = [] then gClr s else ((([], -1), s.1.2), s.2.1 ++ [(s.1.1.1, e, 0, lf, wd)], s.2.2.1 ++ [(0, (s.2.1.length : Int), s.2.2.2.1)], 0, s.2.2.2.2)
def gFlB (S V : Hp) (b : Int) (s : GS) : GS := gFl b (anF S V 4 b) (wdF S V (anF S V 4 b) b) s
def gGap (v : Int) (s : GS) : GS := (s.1, s.2.1, s.2.2.1, max_ s.2.2.2.1 v, s.2.2.2.2)
def gCell (e : Int) (s : GS) : GS := if s.1.1.1 = [] then ((([], -1), s.1.2), s.2.1, s.2.2.1, s.2.2.2.1, s.2.2.2.2.1 ++ [-1], s.2.2.2.2.2) else ((([], -1), s.1.2), s.2.1 ++ [(s.1.1.1, e, 1, 0, 0)], s.2.2.1, s.2.2.2.1, s.2.2.2.2.1 ++ [(s.2.1.length : Int)], s.2.2.2.2.2)
def gRow (e : Int) (s : GS) : GS := if s.2.2.2.2.1.any (fun c => decide (0 ≤ c)) = true then ((([], -1), s.1.2), s.2.1, s.2.2.1 ++ [(1, (s.2.2.2.2.2.length : Int), s.2.2.2.1)], 0, [], s.2.2.2.2.2 ++ [(e, s.2.2.2.2.1)]) else ((([], -1), s.1.2), s.2.1, s.2.2.1, s.2.2.2.1, [], s.2.2.2.2.2)
/-- a line of the contents -/
def coB (S Y V Q : Hp) (x : Int) : List Int := tiT S Y V x ++ [32] ++ decL (Q 0 x).toNat
def gCon1 (S Y V Q : Hp) (e x : Int) (s : GS) : GS := gFl e (anF S V 4 e + 10000 * (V 24 (22 * x + 19) - 1)) (wdF S V (anF S V 4 e + 10000 * (V 24 (22 * x + 19) - 1)) e) (gPut (szF V e) (coB S Y V Q x) s)
def gCon (S Y V Q : Hp) (e : Int) (s : GS) : Nat → GS
  | 0 => s
  | k + 1 => if V 31 k ≠ 0 ∧ V 24 (22 * (k : Int) + 19) ≠ 0 then gCon1 S Y V Q e k (gCon S Y V Q e s k) else gCon S Y V Q e s k
def gIdx (S V : Hp) (XB : List (List Int)) (e : Int) (s : GS) : GS := XB.foldl (fun s L => gFlB S V e (gPut (szF V e) L s)) s
def stB (S Y V Q : Hp) (XB : List (List Int)) (E e : Int) (s : GS) : GS :=
  if V 30 e = 0 then s else if V 33 e ≠ 0 then (if V 24 (22 * e) = 8 then gCon S Y V Q e (gGap (V 24 (22 * e + 6)) (gFlB S V (nr S (V 33) (S 7 e)) s)) E.toNat else if V 24 (22 * e) = 9 then gIdx S V XB e (gGap (V 24 (22 * e + 6)) (gFlB S V (nr S (V 33) (S 7 e)) s)) else gPut (szF V e) (lbS Y V e) (gGap (V 24 (22 * e + 6)) (gFlB S V (nr S (V 33) (S 7 e)) s)))
  else if V 35 e ≠ 0 then (s.1, s.2.1, s.2.2.1, s.2.2.2.1, [], s.2.2.2.2.2) else if V 36 e ≠ 0 then gPut (szF V e) (lbS Y V e) (gClr s) else if V 32 e ≠ 0 then gPut (szF V (S 7 e)) (decL (ntC V e.toNat + 1).toNat) s else gPut (szF V e) (elB S Y V Q E e) s
def stE (S V : Hp) (e : Int) (s : GS) : GS :=
  if V 30 e = 0 then s else if V 33 e ≠ 0 then gGap (V 24 (22 * e + 7)) (gFlB S V e s) else if V 36 e ≠ 0 then gCell e s else if V 35 e ≠ 0 then gRow e s else s
def stp (S Y V Q : Hp) (XB : List (List Int)) (E : Int) (k : Nat) (s : GS) : GS :=
  if S 2 k = 1 then stB S Y V Q XB E (S 3 k) s else if S 2 k = 2 then stE S V (S 3 k) s else gPut (szF V (cu S k)) (txB S V k) s
def gs0 : GS := ((([], -1), 0), [], [], 0, [], [])
def fl (S Y V Q : Hp) (XB : List (List Int)) (E : Int) : Nat → GS
  | 0 => gs0
  | k + 1 => if nt S V k = -1 then stp S Y V Q XB E k (fl S Y V Q XB E k) else fl S Y V Q XB E k
