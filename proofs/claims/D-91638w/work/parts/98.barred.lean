/-! PLAIN: why a step can't be, what it costs: the model's side -/
theorem bes_b {w h c d : Nat} (hw : 1 ≤ w ∧ w ≤ 10) (hh : 1 ≤ h ∧ h ≤ 10) : besI w h c d = -1 ∨ (0 ≤ besI w h c d ∧ besI w h c d < ((w * h : Nat) : Int) ∧ besI w h c d < 100) := by
  unfold besI
  by_cases c1 : 0 ≤ ((c % w : Nat) : Int) + wX d ∧ ((c % w : Nat) : Int) + wX d ≤ (w : Int) - 1
  · rw [if_pos c1]
    by_cases c2 : 0 ≤ ((c / w : Nat) : Int) + wY d ∧ ((c / w : Nat) : Int) + wY d ≤ (h : Int) - 1
    · rw [if_pos c2]
      right
      generalize ((c / w : Nat) : Int) + wY d = y at c2
      generalize ((c % w : Nat) : Int) + wX d = x at c1
      have m1 : 0 ≤ y * (w : Int) := Int.mul_nonneg c2.1 (by omega)
      have m2 : y * (w : Int) ≤ ((h : Int) - 1) * w := Int.mul_le_mul_of_nonneg_right c2.2 (by omega)
      have m3 : ((h : Int) - 1) * w = (w : Int) * h - w := by rw [Int.sub_mul, Int.one_mul, Int.mul_comm]
      have m4 : (w : Int) * h ≤ 10 * 10 := Int.mul_le_mul (by omega) (by omega) (by omega) (by decide)
      rw [Int.natCast_mul]
      omega
    · rw [if_neg c2]; exact Or.inl rfl
  · rw [if_neg c1]; exact Or.inl rfl
def bRise (hts : Nat → Int) (w h c way : Nat) : Int := hts (besI w h c way).toNat - hts c
def bWhy (B : bBk) (dead : Int) (hts : Nat → Int) (w h c way d : Nat) : Int :=
  if besI w h c way < 0 then 1 else
  if B.1 3 < bRise hts w h c way ∨ B.1 3 < -(bRise hts w h c way) then 2 else
  if B.1 2 < bSink B d then 3 else
  if bSl (bSlipOf B dead (bNeed B dead (bRise hts w h c way) d) d) < 0 then 4 else 0
def bCst (need slip : Int) : Int := (1000 + need) / (100 - slip) + 1
/-- the cost of a step (where it can be) -/
def bCost (B : bBk) (dead : Int) (hts : Nat → Int) (w h c way d : Nat) : Int := bCst (bNeed B dead (bRise hts w h c way) d) (bSl (bSlipOf B dead (bNeed B dead (bRise hts w h c way) d) d))
theorem bSl_b {B : bBk} {dead need : Int} {d : Nat} : -1 ≤ bSl (bSlipOf B dead need d) ∧ bSl (bSlipOf B dead need d) ≤ 90 := by
  unfold bSl
  cases h : bSlipOf B dead need d with
  | none => exact ⟨by decide, by decide⟩
  | some t =>
    have := bSlip_le _ _ _ h
    exact ⟨by show (-1 : Int) ≤ (t : Int); omega, by show (t : Int) ≤ 90; omega⟩
theorem bCst_b {need slip : Int} (h1 : 0 ≤ need ∧ need ≤ 1000000) (h2 : -1 ≤ slip ∧ slip ≤ 90) : 1 ≤ bCst need slip ∧ bCst need slip ≤ 1001001 := by
  unfold bCst
  have a1 : 0 ≤ (1000 + need) / (100 - slip) := Int.ediv_nonneg (by omega) (by omega)
  have a2 : (1000 + need) / (100 - slip) ≤ 1000 + need := Int.ediv_le_self _ (by omega)
  omega
/-- a map as the model has it: book, dead wheels, sides, heights -/
def mMap (σ : MS) (B : bBk) (dead : Int) (w h : Nat) (hts : Nat → Int) : Prop := bOk B ∧ mBk σ B ∧ σ.1 38 = iI dead ∧ (0 ≤ dead ∧ dead ≤ 5) ∧ σ.1 35 = iI w ∧ σ.1 36 = iI h ∧ (1 ≤ w ∧ w ≤ 10) ∧ (1 ≤ h ∧ h ≤ 10) ∧ ∀ k, k < 100 → σ.2.1 41 k = iI (hts k) ∧ 0 ≤ hts k ∧ hts k ≤ 999
theorem b_barred {N : Nat} {σ : MS} {B : bBk} {w h c way d : Nat} {dead : Int} {hts : Nat → Int} (hM : mMap σ B dead w h hts) (hN : 92 ≤ N) (hd : d < B.2.1) (hc : c < w * h) (hy : way < 4) : f_barred N σ (iI c) (iI way) (iI d) = some (iI (bWhy B dead hts w h c way d), σ) := by
  obtain ⟨hB, hm, hde, hdr, e1, e2, hw, hh, hht⟩ := hM
  obtain ⟨s1, s2, s3⟩ := b_sm (d := d) hw hh hc
  obtain ⟨l1, l2⟩ := b_load hB hm
  have lb := bLoad_b hB
  have hB' := hB
  have hm' := hm
  obtain ⟨b0, b1, b2, b3, b4, b5, b6⟩ := hB
  obtain ⟨⟨f0, f1, f2, f3, f4, f5⟩, f6⟩ := hm
  obtain ⟨⟨k1, k2⟩, k3, k4⟩ := f6 d hd
  obtain ⟨o1, o2⟩ := b6 d hd
  have sb : 0 ≤ bSink B d ∧ bSink B d ≤ 300 := ln_bd o1 300 (fun k hk => (o1.2.2.1 k hk).2.2.2)
  have bt := ln_between (N := N) k2 o1 (x := bLoad B) ⟨by omega, by omega⟩ (by omega)
  unfold f_barred f_barred_50 f_barred_104 bWhy
  rw [b_m24 e1 e2 hy hw hh hc]
  rcases bes_b (w := w) (h := h) (c := c) (d := way) hw hh with hb | ⟨hb0, hb1, hb2⟩
  · rw [hb, q_mc, if_pos (show (-1 : Int) < 0 by decide), if_neg (show ¬ (0 : Int32) ≤ iI (-1) by decide)]
    rfl
  · obtain ⟨g1, g2, g3⟩ := hht (besI w h c way).toNat (by omega)
    obtain ⟨g4, g5, g6⟩ := hht c s3
    rw [if_neg (show ¬ besI w h c way < 0 by omega)]
    unfold bRise
    rw [q_mc, j0, p_le (by omega) (by omega) (by omega) (by omega) (by omega), mL41, if_pos (ki_in (by omega) (by omega) (by omega) ), p_let, if_pos (ki_in (by omega) (by omega) (by omega) ), p_let, j_nat (by omega) (by omega), j_nat (by omega) (by omega), Int.toNat_natCast, g1, g4, p_let, i_sub, f3, j_neg]
    generalize hts (besI w h c way).toNat = ht at g1 g2 g3 ⊢
    obtain ⟨nd1, nd2, nd3⟩ := b_need (rise := ht - hts c) (by omega : 5 ≤ N) hB' hm' hd hde hdr (by omega)
    have sl := b_slip hN hB' hm' hd hde hdr ⟨nd2, nd3⟩
    have slb := bSl_b (B := B) (dead := dead) (need := bNeed B dead (ht - hts c) d) (d := d)
    by_cases c1 : B.1 3 < ht - hts c
    · rw [p_lt (by omega) (by omega) (by omega) (by omega) (by omega), if_pos (Or.inl c1)]
      rfl
    · rw [n_lt (by omega) (by omega) (by omega) (by omega) (by omega)]
      by_cases c2 : B.1 3 < -(ht - hts c)
      · rw [n_le (by omega) (by omega) (by omega) (by omega) (by omega), if_pos (Or.inr c2)]
        rfl
      · rw [p_le (by omega) (by omega) (by omega) (by omega) (by omega), if_neg (show ¬ (B.1 3 < ht - hts c ∨ B.1 3 < -(ht - hts c)) from fun z => z.elim c1 c2), mL18, if_pos (ki_in (by omega) (by omega) (by omega) ), p_let, j_nat (by omega) (by omega), Int.toNat_natCast, k1, if_pos (show ¬ σ.1 24 = iI 0 from l1), l2, bt, q_mc, f2]
        show (if iI (bSink B d) ≤ iI (B.1 2) then _ else _) = _
        by_cases c3 : B.1 2 < bSink B d
        · rw [if_pos c3, n_le (by omega) (by omega) (by omega) (by omega) (by omega)]
          rfl
        · rw [if_neg c3, p_le (by omega) (by omega) (by omega) (by omega) (by omega), nd1, q_mc, sl, q_mc]
          by_cases c4 : bSl (bSlipOf B dead (bNeed B dead (ht - hts c) d) d) < 0
          · rw [if_pos c4, n_le (by omega) (by omega) (by omega) (by omega) (by omega)]
            rfl
          · rw [if_neg c4, p_le (by omega) (by omega) (by omega) (by omega) (by omega)]
theorem bWhy_in {B : bBk} {dead : Int} {hts : Nat → Int} {w h c way d : Nat} : 0 ≤ bWhy B dead hts w h c way d ∧ bWhy B dead hts w h c way d ≤ 4 := by
  unfold bWhy
  repeat' split
  all_goals exact ⟨by decide, by decide⟩
theorem bWhy_0 {B : bBk} {dead : Int} {hts : Nat → Int} {w h c way d : Nat} (h0 : bWhy B dead hts w h c way d = 0) : 0 ≤ besI w h c way ∧ -(B.1 3) ≤ bRise hts w h c way ∧ bRise hts w h c way ≤ B.1 3 ∧ 0 ≤ bSl (bSlipOf B dead (bNeed B dead (bRise hts w h c way) d) d) := by
  unfold bWhy at h0
  by_cases c1 : besI w h c way < 0
  · rw [if_pos c1] at h0; exact absurd h0 (by decide)
  · rw [if_neg c1] at h0
    by_cases c2 : B.1 3 < bRise hts w h c way ∨ B.1 3 < -(bRise hts w h c way)
    · rw [if_pos c2] at h0; exact absurd h0 (by decide)
    · rw [if_neg c2] at h0
      by_cases c3 : B.1 2 < bSink B d
      · rw [if_pos c3] at h0; exact absurd h0 (by decide)
      · rw [if_neg c3] at h0
        by_cases c4 : bSl (bSlipOf B dead (bNeed B dead (bRise hts w h c way) d) d) < 0
        · rw [if_pos c4] at h0; exact absurd h0 (by decide)
        · omega
theorem b_cost {N : Nat} {σ : MS} {B : bBk} {w h c way d : Nat} {dead : Int} {hts : Nat → Int} (hM : mMap σ B dead w h hts) (hN : 92 ≤ N) (hd : d < B.2.1) (hc : c < w * h) (hy : way < 4) (h0 : bWhy B dead hts w h c way d = 0) : f_cost N σ (iI c) (iI way) (iI d) = some (iI (bCost B dead hts w h c way d), σ) := by
  obtain ⟨hb0, r1, r2, r3⟩ := bWhy_0 h0
  obtain ⟨hB, hm, hde, hdr, e1, e2, hw, hh, hht⟩ := hM
  obtain ⟨s1, s2, s3⟩ := b_sm (d := d) hw hh hc
  have b3 := hB.2.2.2.1
  obtain ⟨nd1, nd2, nd3⟩ := b_need (rise := bRise hts w h c way) (by omega : 5 ≤ N) hB hm hd hde hdr (by omega)
  have sl := b_slip hN hB hm hd hde hdr ⟨nd2, nd3⟩
  have slb := bSl_b (B := B) (dead := dead) (need := bNeed B dead (bRise hts w h c way) d) (d := d)
  rcases bes_b (w := w) (h := h) (c := c) (d := way) hw hh with hb | ⟨-, hb1, hb2⟩
  · omega
  · obtain ⟨g1, g2, g3⟩ := hht (besI w h c way).toNat (by omega)
    obtain ⟨g4, g5, g6⟩ := hht c s3
    unfold f_cost bCost bCst
    rw [b_m24 e1 e2 hy hw hh hc]
    rw [q_mc, mL41, if_pos (ki_in (by omega) (by omega) (by omega) ), p_let, if_pos (ki_in (by omega) (by omega) (by omega) ), p_let, j_nat (by omega) (by omega), j_nat (by omega) (by omega), Int.toNat_natCast, g1, g4, i_sub]
    rw [show hts (besI w h c way).toNat - hts c = bRise hts w h c way from rfl, nd1, q_mc, sl, q_mc]
    generalize bNeed B dead (bRise hts w h c way) d = nd at nd2 nd3 slb r3 ⊢
    generalize bSl (bSlipOf B dead nd d) = s at slb r3 ⊢
    rw [j100, i_sub, j0, p_ne (by omega) (by omega) (by omega) (by omega) (by omega), j1000, i_add, j_div (by omega) (by omega) (by omega) (by omega), j1, i_add]
