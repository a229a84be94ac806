-- needs: 99zzzzl
set_option maxRecDepth 100000
/-! LINES: a paragraph's sums, as both sides have them -/
noncomputable def lnD (W : Int → Int) (K J : Int → Int → Int) (B Z : Int → Int) (L : List (Int × Int)) (w d al : Int) : Hp := fun r b => if r = 0 then smF (bkP W K J B Z L) b.toNat else if r = 1 then smF (bkG W Z L) b.toNat else if r = 2 then smF (bkS W Z L) b.toNat else if r = 3 then smF (bkZ W Z L) b.toNat else if r = 4 then bkH W Z L b else if r = 5 then (bkAt L b).1 else if b = 0 then (L.length : Int) else if b = 1 then w else if b = 2 then d else al
theorem lnD_o {W : Int → Int} {K J : Int → Int → Int} {B Z : Int → Int} {L : List (Int × Int)} {n w d al : Int} (Rf : foR W K J) (T : txO B Z 0 n) (O : bkO L n) (n0 : 0 ≤ n) (n1 : n ≤ 24000) (l1 : 1 ≤ (L.length : Int)) (l6 : (L.length : Int) ≤ 600) (last : bkAt L L.length = (3, n)) (w0 : 0 ≤ w) (w1 : w ≤ 100000000) (d0 : 0 ≤ d) (d1 : d ≤ 500000) : lnO (lnD W K J B Z L w d al) := by
  have sr : ∀ {f0 : Int → Int} (b : Int), (∀ c : Int, 1 ≤ c → c ≤ L.length → 0 ≤ f0 c ∧ f0 c ≤ 500000) → 0 ≤ b → b ≤ L.length → 0 ≤ smF f0 b.toNat ∧ smF f0 b.toNat ≤ 1000000000 := fun {f0} b hh b0 b1 => by
    have := smF_r (f := f0) (m := 500000) b.toNat (fun c c0 c1 => hh c c0 (by omega))
    omega
  have st : ∀ {f0 : Int → Int} (b : Int), 1 ≤ b → smF f0 b.toNat = smF f0 (b - 1).toNat + f0 b := fun {f0} b b0 => by
    rw [show b.toNat = (b - 1).toNat + 1 by omega, smF_s, show (((b - 1).toNat : Nat) : Int) + 1 = b by omega]
  refine ⟨⟨l1, l6⟩, ⟨w0, w1, d0, d1⟩, fun b b0 b1 => ?_, fun b b0 b1 => ?_⟩
  · have b1' : b ≤ (L.length : Int) := b1
    refine ⟨?_, sr b (fun c c0 c1 => (bkG_r Rf T O c0 c1).1) b0 b1', sr b (fun c c0 c1 => (bkG_r Rf T O c0 c1).2.1) b0 b1', sr b (fun c c0 c1 => (bkG_r Rf T O c0 c1).2.2.1) b0 b1'⟩
    show 0 ≤ smF (bkP W K J B Z L) b.toNat ∧ smF (bkP W K J B Z L) b.toNat ≤ 20000000000
    have s8 := bkP_sum Rf T O n1 n0 b.toNat (by omega)
    rw [show ((b.toNat : Nat) : Int) = b by omega] at s8
    have nr := bkN_r O b0 b1' n0
    omega
  · have b1' : b ≤ (L.length : Int) := b1
    have g := bkG_r Rf T O b0 b1'
    have p := bkP_r Rf T O b0 b1' n1 n0
    obtain ⟨o1, o2, o3, o4, o5, o6, o7⟩ := O b b0 b1'
    refine ⟨?_, g.2.2.2, o1, ?_⟩
    · show smF (bkP W K J B Z L) (b - 1).toNat ≤ smF (bkP W K J B Z L) b.toNat ∧ smF (bkS W Z L) (b - 1).toNat ≤ smF (bkS W Z L) b.toNat ∧ smF (bkZ W Z L) (b - 1).toNat ≤ smF (bkZ W Z L) b.toNat ∧ smF (bkZ W Z L) b.toNat - smF (bkZ W Z L) (b - 1).toNat ≤ smF (bkG W Z L) b.toNat - smF (bkG W Z L) (b - 1).toNat
      rw [st (f0 := bkP W K J B Z L) b b0, st (f0 := bkS W Z L) b b0, st (f0 := bkZ W Z L) b b0, st (f0 := bkG W Z L) b b0]
      have zg : bkZ W Z L b ≤ bkG W Z L b := by unfold bkZ; exact tdiv_le g.1.1 (by decide)
      obtain ⟨g1, g2, g3, g4⟩ := g
      omega
    · show (bkAt L b).1 = 3 ↔ b = (L.length : Int)
      exact ⟨o7, fun e => by rw [e, last]⟩
/-- as the component has it -/
theorem lnD_c {h : Hp} {P R β : Int} {W : Int → Int} {K J : Int → Int → Int} {B Z : Int → Int} {L : List (Int × Int)} {w d al : Int} (kP : h P (-2) = 288) (e0 : h P 0 = R) (e4 : h P 4 = w) (e6 : h P 6 = d) (e8 : h P 8 = al) (hR : R ∈ in_aX15) (hP : 983 ≤ P) (β0 : 0 ≤ β) (β1 : β + L.length < 26400) (C : bkC h P R β L) (M : msC h R β W K J B Z L L.length) : lnH h P R β (lnD W K J B Z L w d al) := by
  obtain ⟨c1, c2, c3, c4⟩ := C
  refine ⟨⟨kP, e0, e4, e6, e8, c1, c2⟩, ⟨hR, hP, β0, β1⟩, fun b b0 b1 => ?_, fun b b0 b1 => ?_⟩
  · obtain ⟨m1, m2, m3, m4, -⟩ := M b b0 b1
    exact ⟨m1, m2, m3, m4⟩
  · obtain ⟨-, -, -, -, m5⟩ := M b (by omega) b1
    exact ⟨m5 b0, (c4 b b0 b1).1⟩
/-- as the reference has it -/
theorem lnD_t {h : Hp} {s p F β : Int} {W : Int → Int} {K J : Int → Int → Int} {B Z : Int → Int} {L : List (Int × Int)} {w d al : Int} (T : bkT h s p F β W K J B Z L) (e64 : h (s + 64) p = w) (w1 : 1000 ≤ w) (ek : (h (s + 56) p = 0 ∧ h (s + 63) p = d) ∨ (h (s + 56) p ≠ 0 ∧ d = 0)) (p0 : 0 ≤ p) (p1 : p < 1200) (β0 : 0 ≤ β) (β1 : β + L.length ≤ 25208) : lnG h s p β (lnD W K J B Z L w d al) := by
  obtain ⟨t1, t2, t3⟩ := T
  have st : ∀ {f0 : Int → Int} (b : Int), 1 ≤ b → smF f0 b.toNat - smF f0 (b - 1).toNat = f0 b := fun {f0} b b0 => by
    rw [show b.toNat = (b - 1).toNat + 1 by omega, smF_s, show (((b - 1).toNat : Nat) : Int) + 1 = b by omega]; omega
  refine ⟨⟨t1, t2, e64, w1, ek⟩, ⟨p0, p1, β0, β1⟩, ⟨rfl, rfl, rfl, rfl⟩, fun b b0 b1 => ?_⟩
  obtain ⟨u1, u2, u3, u4, u5⟩ := t3 b b0 b1
  refine ⟨u1, ?_, ?_, ?_, ?_, u5⟩
  · show h (s + 68) (β + b - 1) = smF (bkP W K J B Z L) b.toNat - smF (bkP W K J B Z L) (b - 1).toNat
    rw [st b b0]; exact u3
  · show h (s + 69) (β + b - 1) = smF (bkG W Z L) b.toNat - smF (bkG W Z L) (b - 1).toNat
    rw [st b b0]; exact u4
  · show Int.tdiv (smF (bkG W Z L) b.toNat - smF (bkG W Z L) (b - 1).toNat) 2 = smF (bkS W Z L) b.toNat - smF (bkS W Z L) (b - 1).toNat
    rw [st b b0, st b b0]; rfl
  · show Int.tdiv (smF (bkG W Z L) b.toNat - smF (bkG W Z L) (b - 1).toNat) 3 = smF (bkZ W Z L) b.toNat - smF (bkZ W Z L) (b - 1).toNat
    rw [st b b0, st b b0]; rfl
