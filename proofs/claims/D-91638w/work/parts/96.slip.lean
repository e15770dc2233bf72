/-! PLAIN: slip -/
def bSl (o : Option Nat) : Int := match o with
  | some t => t
  | none => -1
def bHold (B : bBk) (dead : Int) : Int := bLoad B * (B.1 0 - dead)
def bSlipOf (B : bBk) (dead need : Int) (d : Nat) : Option Nat := bSlip (bHold B dead) need (bGrip B d) 92 0
theorem bHold_b {B : bBk} (hB : bOk B) {dead : Int} (hdr : 0 ≤ dead ∧ dead ≤ 5) : -2994 ≤ bHold B dead ∧ bHold B dead ≤ 2994 := by
  have lb := bLoad_b hB
  have b0 := hB.1
  have := b_bd (a := bLoad B) (b := B.1 0 - dead) (M := 499) (N := 6) (by omega) (by omega)
  unfold bHold
  omega
theorem bSlip_le {hold need : Int} {grip : Nat → Int} : ∀ (m s t : Nat), bSlip hold need grip m s = some t → t ≤ 90 := by
  intro m
  induction m with
  | zero => intro s t h; cases h
  | succ m ih =>
    intro s t h
    rw [bSlip] at h
    by_cases c1 : 90 < s
    · rw [if_pos c1] at h; cases h
    · rw [if_neg c1] at h
      by_cases c2 : hold * grip s < need
      · rw [if_pos c2] at h; exact ih _ _ h
      · rw [if_neg c2] at h; cases h; omega
theorem b_slip23 {N : Nat} {σ : MS} {B : bBk} {d : Nat} {need hold : Int} (hN : 5 ≤ N) (hB : bOk B) (hm : mBk σ B) (hd : d < B.2.1) (hn : 0 ≤ need ∧ need ≤ 1000000) (hh : -2994 ≤ hold ∧ hold ≤ 2994) : ∀ (m s : Nat), s ≤ 91 → 92 ≤ s + m → f_slip_23 N m σ (iI need) (iI d) (iI hold) (iI s) = some (iI (bSl (bSlip hold need (bGrip B d) (92 - s) s)), σ) := by
  obtain ⟨b0, b1, b2, b3, b4, b5, b6⟩ := hB
  obtain ⟨-, e6⟩ := hm
  obtain ⟨-, k3, k4⟩ := e6 d hd
  obtain ⟨-, o2⟩ := b6 d hd
  have q1 : mIn (iI (d : Int)) (mLen 19) = true := by
    rw [i_in ⟨by omega, by omega⟩, decide_eq_true_eq]
    exact ⟨by omega, by show (d : Int) < ((8 : Nat) : Int); omega⟩
  have q2 : (iI (d : Int)).toNatClampNeg = d := by rw [i_nat ⟨by omega, by omega⟩]; omega
  intro m
  induction m with
  | zero => intro s h1 h2; omega
  | succ m ih =>
    intro s h1 h2
    rw [f_slip_23, show 92 - s = (91 - s) + 1 from by omega, bSlip]
    by_cases c1 : 90 < s
    · rw [if_pos c1, if_pos (by rw [show (90 : Int32) = iI 90 from rfl, i_lt ⟨by decide, by decide⟩ ⟨by omega, by omega⟩]; omega)]; rfl
    · have gb : 0 ≤ bGrip B d s ∧ bGrip B d s ≤ 300 := ln_bd o2 300 (fun k hk => (o2.2.2.1 k hk).2.2.2)
      have m1 : -(2994 * 300) ≤ hold * bGrip B d s ∧ hold * bGrip B d s ≤ 2994 * 300 := b_bd hh (by omega)
      rw [if_neg c1, if_neg (by rw [show (90 : Int32) = iI 90 from rfl, i_lt ⟨by decide, by decide⟩ ⟨by omega, by omega⟩]; omega), if_pos q1, p_let, q2, k3, ln_between k4 o2 ⟨by omega, by omega⟩ hN, p_mc]
      show (if iI hold * iI (bGrip B d s) < iI need then _ else _) = _
      rw [i_mul]
      by_cases c2 : hold * bGrip B d s < need
      · rw [if_pos c2, if_pos (by rw [i_lt ⟨by omega, by omega⟩ ⟨by omega, by omega⟩]; exact c2), p_let, show (1 : Int32) = iI 1 from rfl, i_add]
        have := ih (s + 1) (by omega) (by omega)
        rw [show 92 - (s + 1) = 91 - s from by omega] at this
        exact this
      · rw [if_neg c2, if_neg (by rw [i_lt ⟨by omega, by omega⟩ ⟨by omega, by omega⟩]; exact c2)]; rfl
theorem b_slip {N : Nat} {σ : MS} {B : bBk} {d : Nat} {dead need : Int} (hN : 92 ≤ N) (hB : bOk B) (hm : mBk σ B) (hd : d < B.2.1) (hde : σ.1 38 = iI dead) (hdr : 0 ≤ dead ∧ dead ≤ 5) (hn : 0 ≤ need ∧ need ≤ 1000000) : f_slip N σ (iI need) (iI d) = some (iI (bSl (bSlipOf B dead need d)), σ) := by
  obtain ⟨l1, l2⟩ := b_load hB hm
  have e0 := hm.1.1
  unfold f_slip
  rw [if_pos l1, p_let, l2, e0, hde, i_sub, i_mul]
  exact b_slip23 (by omega) hB hm hd hn (bHold_b hB hdr) N 0 (by omega) (by omega)
