/-! PLAIN: bounds of a line's value; need, slip -/
theorem ln_fd {p q r : Int} (hr : 0 < r) (hq : 0 ≤ q ∧ q ≤ r) : (0 ≤ p → 0 ≤ (p * q).fdiv r ∧ (p * q).fdiv r ≤ p) ∧ (p ≤ 0 → p ≤ (p * q).fdiv r ∧ (p * q).fdiv r ≤ 0) := by
  rw [Int.fdiv_eq_ediv_of_nonneg _ (by omega)]
  constructor
  · intro hp
    refine ⟨Int.ediv_nonneg (Int.mul_nonneg hp hq.1) (by omega), ?_⟩
    apply Int.ediv_le_of_le_mul hr
    exact Int.mul_le_mul_of_nonneg_left hq.2 hp
  · intro hp
    refine ⟨?_, ?_⟩
    · apply Int.le_ediv_of_mul_le hr
      exact Int.mul_le_mul_of_nonpos_left hp hq.2
    · apply Int.ediv_le_of_le_mul hr
      rw [Int.zero_mul]
      exact Int.mul_nonpos_of_nonpos_of_nonneg hp hq.1
theorem ln_bd {at_ v : Nat → Int} {n : Nat} {x : Int} (ho : lnOk at_ v n) (M : Int) (hM : ∀ k, k < n → v k ≤ M) : 0 ≤ lnV at_ v n x ∧ lnV at_ v n x ≤ M := by
  obtain ⟨i1, -, i3, i4⟩ := ln_K (at_ := at_) (n := n) (x := x) n 0 (by omega) (by omega)
  have o1 := ho.1
  simp only [lnV]
  generalize lnK at_ n x n 0 = K at i1 i3 i4
  by_cases h0 : K = 0
  · rw [if_pos h0]
    exact ⟨(ho.2.2.1 0 (by omega)).2.2.1, hM 0 (by omega)⟩
  · rw [if_neg h0]
    by_cases hn : K = n
    · rw [if_pos hn]
      exact ⟨(ho.2.2.1 (n - 1) (by omega)).2.2.1, hM (n - 1) (by omega)⟩
    · rw [if_neg hn]
      have a1 := ho.2.2.1 K (by omega)
      have a2 := ho.2.2.1 (K - 1) (by omega)
      have a3 := ln_mono ho K (K - 1) (by omega) (by omega)
      have a4 := i3 (K - 1) (by omega) (by omega)
      have a5 := i4 (by omega)
      have m1 := hM K (by omega)
      have m2 := hM (K - 1) (by omega)
      obtain ⟨f1, f2⟩ := ln_fd (p := v K - v (K - 1)) (q := x - at_ (K - 1)) (r := at_ K - at_ (K - 1)) (by omega) (by omega)
      by_cases hp : 0 ≤ v K - v (K - 1)
      · have := f1 hp
        omega
      · have := f2 (by omega)
        omega
/-- a book: (wheels, weight, clear, tip, drag), how many grounds, their sinks, their grips -/
abbrev bLn : Type := Nat × (Nat → Int) × (Nat → Int)
abbrev bBk : Type := (Nat → Int) × Nat × (Nat → bLn) × (Nat → bLn)
def bOk (B : bBk) : Prop := (2 ≤ B.1 0 ∧ B.1 0 ≤ 6) ∧ (1 ≤ B.1 1 ∧ B.1 1 ≤ 999) ∧ (1 ≤ B.1 2 ∧ B.1 2 ≤ 300) ∧ (0 ≤ B.1 3 ∧ B.1 3 ≤ 300) ∧ (0 ≤ B.1 4 ∧ B.1 4 ≤ 99) ∧ B.2.1 ≤ 8 ∧ ∀ d, d < B.2.1 → lnOk (B.2.2.1 d).2.1 (B.2.2.1 d).2.2 (B.2.2.1 d).1 ∧ lnOk (B.2.2.2 d).2.1 (B.2.2.2 d).2.2 (B.2.2.2 d).1
def bLoad (B : bBk) : Int := B.1 1 / B.1 0
def bSink (B : bBk) (d : Nat) : Int := lnV (B.2.2.1 d).2.1 (B.2.2.1 d).2.2 (B.2.2.1 d).1 (bLoad B)
def bGrip (B : bBk) (d : Nat) (s : Nat) : Int := lnV (B.2.2.2 d).2.1 (B.2.2.2 d).2.2 (B.2.2.2 d).1 s
def bNeed (B : bBk) (dead rise : Int) (d : Nat) : Int := if 0 ≤ (B.1 1 * (rise + bSink B d)).fdiv 10 + dead * bLoad B * B.1 4 then (B.1 1 * (rise + bSink B d)).fdiv 10 + dead * bLoad B * B.1 4 else 0
/-- the first slip from s on that holds; none -/
def bSlip (hold need : Int) (grip : Nat → Int) : Nat → Nat → Option Nat
  | 0, _ => none
  | m + 1, s => if 90 < s then none else if hold * grip s < need then bSlip hold need grip m (s + 1) else some s
theorem bLoad_b {B : bBk} (hB : bOk B) : 0 ≤ bLoad B ∧ bLoad B ≤ 499 := by
  obtain ⟨h1, h2, -⟩ := hB
  unfold bLoad
  refine ⟨Int.ediv_nonneg (by omega) (by omega), ?_⟩
  apply Int.le_of_lt_add_one
  apply Int.ediv_lt_of_lt_mul (by omega)
  have : (499 + 1) * 2 ≤ (499 + 1) * B.1 0 := Int.mul_le_mul_of_nonneg_left h1.1 (by decide)
  omega
/-- the book as σ has it -/
def mBk (σ : MS) (B : bBk) : Prop := (σ.1 24 = iI (B.1 0) ∧ σ.1 25 = iI (B.1 1) ∧ σ.1 26 = iI (B.1 2) ∧ σ.1 27 = iI (B.1 3) ∧ σ.1 28 = iI (B.1 4) ∧ σ.1 22 = iI B.2.1) ∧ ∀ d, d < B.2.1 → (σ.2.1 18 d = iI (B.2.2.1 d).1 ∧ mLn σ 20 d (B.2.2.1 d).1 (B.2.2.1 d).2.1 (B.2.2.1 d).2.2) ∧ σ.2.1 19 d = iI (B.2.2.2 d).1 ∧ mLn σ 21 d (B.2.2.2 d).1 (B.2.2.2 d).2.1 (B.2.2.2 d).2.2
theorem b_load {σ : MS} {B : bBk} (hB : bOk B) (hm : mBk σ B) : (¬ σ.1 24 = 0) ∧ σ.1 25 / σ.1 24 = iI (bLoad B) := by
  obtain ⟨h1, h2, -⟩ := hB
  obtain ⟨⟨e0, e1, -⟩, -⟩ := hm
  rw [e0, e1]
  refine ⟨?_, ?_⟩
  · rw [show (0 : Int32) = iI 0 from rfl, i_eq ⟨by omega, by omega⟩ ⟨by decide, by decide⟩]; omega
  · rw [i_div ⟨by omega, by omega⟩ ⟨by omega, by omega⟩ (Or.inl (by omega)), Int.tdiv_eq_ediv_of_nonneg (by omega)]; rfl
theorem b_bd {a b M N : Int} (ha : -M ≤ a ∧ a ≤ M) (hb : -N ≤ b ∧ b ≤ N) : -(M * N) ≤ a * b ∧ a * b ≤ M * N := by
  have hM : 0 ≤ M := by omega
  have hN : 0 ≤ N := by omega
  have h : (a * b).natAbs ≤ (M * N).natAbs := by
    rw [Int.natAbs_mul, Int.natAbs_mul]
    exact Nat.mul_le_mul (by omega) (by omega)
  have := Int.mul_nonneg hM hN
  omega
theorem b_need {N : Nat} {σ : MS} {B : bBk} {d : Nat} {dead rise : Int} (hN : 5 ≤ N) (hB : bOk B) (hm : mBk σ B) (hd : d < B.2.1) (hde : σ.1 38 = iI dead) (hdr : 0 ≤ dead ∧ dead ≤ 5) (hr : -999 ≤ rise ∧ rise ≤ 999) : f_need N σ (iI rise) (iI d) = some (iI (bNeed B dead rise d), σ) ∧ 0 ≤ bNeed B dead rise d ∧ bNeed B dead rise d ≤ 1000000 := by
  obtain ⟨l1, l2⟩ := b_load hB hm
  have lb := bLoad_b hB
  have hB' := hB
  obtain ⟨b0, b1, b2, b3, b4, b5, b6⟩ := hB
  obtain ⟨⟨e0, e1, e2, e3, e4, e5⟩, e6⟩ := hm
  obtain ⟨⟨k1, k2⟩, k3, k4⟩ := e6 d hd
  obtain ⟨o1, o2⟩ := b6 d hd
  have sb : 0 ≤ bSink B d ∧ bSink B d ≤ 300 := ln_bd o1 300 (fun k hk => (o1.2.2.1 k hk).2.2.2)
  have m1 : -(999 * 1299) ≤ B.1 1 * (rise + bSink B d) ∧ B.1 1 * (rise + bSink B d) ≤ 999 * 1299 := b_bd (by omega) (by omega)
  have m2 : -(5 * 499) ≤ dead * bLoad B ∧ dead * bLoad B ≤ 5 * 499 := b_bd (by omega) (by omega)
  have m3 : -(5 * 499 * 99) ≤ dead * bLoad B * B.1 4 ∧ dead * bLoad B * B.1 4 ≤ 5 * 499 * 99 := b_bd (by omega) (by omega)
  have m4 : -999 * 1299 ≤ (B.1 1 * (rise + bSink B d)).fdiv 10 ∧ (B.1 1 * (rise + bSink B d)).fdiv 10 ≤ 999 * 1299 := by
    rw [Int.fdiv_eq_ediv_of_nonneg _ (by decide)]
    omega
  refine ⟨?_, ?_⟩
  · unfold f_need f_need_62
    have q1 : mIn (iI (d : Int)) (mLen 18) = true := by
      rw [i_in ⟨by omega, by omega⟩, decide_eq_true_eq]
      exact ⟨by omega, by show (d : Int) < ((8 : Nat) : Int); omega⟩
    have q2 : (iI (d : Int)).toNatClampNeg = d := by rw [i_nat ⟨by omega, by omega⟩]; omega
    rw [if_pos l1, p_let, if_pos q1, p_let, q2, l2, k1, ln_between k2 o1 ⟨by omega, by omega⟩ hN, p_mc]
    show (mcall (f_down N σ (σ.1 25 * (iI rise + iI (bSink B d))) 10) fun r10 σ8 => _) = _
    rw [e1, i_add, i_mul, show (10 : Int32) = iI 10 from rfl, ln_down ⟨by omega, by omega⟩ ⟨by decide, by decide⟩ (by decide), p_mc, p_let]
    show (if 0 ≤ iI ((B.1 1 * (rise + bSink B d)).fdiv 10) + σ.1 38 * iI (bLoad B) * σ.1 28 then some (iI ((B.1 1 * (rise + bSink B d)).fdiv 10) + σ.1 38 * iI (bLoad B) * σ.1 28, σ) else some (0, σ)) = _
    rw [hde, e4, i_mul, i_mul, i_add]
    unfold bNeed
    by_cases hc : 0 ≤ (B.1 1 * (rise + bSink B d)).fdiv 10 + dead * bLoad B * B.1 4
    · rw [if_pos hc, if_pos (by rw [show (0 : Int32) = iI 0 from rfl, i_le ⟨by decide, by decide⟩ ⟨by omega, by omega⟩]; exact hc)]
    · rw [if_neg hc, if_neg (by rw [show (0 : Int32) = iI 0 from rfl, i_le ⟨by decide, by decide⟩ ⟨by omega, by omega⟩]; exact hc)]; rfl
  · unfold bNeed
    split
    · rw [Int.fdiv_eq_ediv_of_nonneg _ (by decide)] at *
      omega
    · omega
