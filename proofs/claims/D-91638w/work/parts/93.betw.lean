/-! PLAIN: between -/
theorem ln_mono {at_ v : Nat → Int} {n : Nat} (ho : lnOk at_ v n) : ∀ (j i : Nat), i < j → j < n → at_ i < at_ j := by
  intro j
  induction j with
  | zero => intro i h; omega
  | succ j ih =>
    intro i h1 h2
    have h3 := ho.2.2.2 j h2
    by_cases hij : i = j
    · rw [hij]; exact h3
    · exact Int.lt_trans (ih i (by omega) (by omega)) h3
theorem ln_K0 {at_ v : Nat → Int} {n : Nat} {x : Int} (ho : lnOk at_ v n) {k : Nat} (hk : k ≤ n) (h1 : ∀ j, j < k → at_ j ≤ x) (h2 : k < n → x < at_ k) : lnK at_ n x n 0 = k := by
  obtain ⟨i1, -, i3, i4⟩ := ln_K (at_ := at_) (n := n) (x := x) n 0 (by omega) (by omega)
  generalize lnK at_ n x n 0 = K at i1 i3 i4
  by_cases h3 : K < k
  · have := i4 (by omega)
    have := h1 K h3
    omega
  · by_cases h4 : k < K
    · have := i3 k (by omega) h4
      have := h2 (by omega)
      omega
    · omega
/-- what stands between pair k - 1 and pair k -/
theorem ln_mid {at_ v : Nat → Int} {n k : Nat} {x : Int} (ho : lnOk at_ v n) (h1 : 1 ≤ k) (h2 : k < n) (h3 : at_ (k - 1) ≤ x) (h4 : x ≤ at_ k) : lnV at_ v n x = v (k - 1) + ((v k - v (k - 1)) * (x - at_ (k - 1))).fdiv (at_ k - at_ (k - 1)) := by
  have hm : at_ (k - 1) < at_ k := ln_mono ho k (k - 1) (by omega) h2
  by_cases hx : x < at_ k
  · have hK := ln_K0 (x := x) ho (k := k) (by omega) (fun j hj => by
      by_cases e : j = k - 1
      · rw [e]; exact h3
      · have := ln_mono ho (k - 1) j (by omega) (by omega)
        omega) (fun _ => hx)
    simp only [lnV, hK]
    rw [if_neg (by omega), if_neg (by omega)]
  · have e : x = at_ k := by omega
    have hK := ln_K0 (x := x) ho (k := k + 1) (by omega) (fun j hj => by
      by_cases e2 : j = k
      · rw [e2]; omega
      · have := ln_mono ho k j (by omega) h2
        omega) (fun hn => by rw [e]; exact ln_mono ho (k + 1) k (by omega) hn)
    simp only [lnV, hK]
    rw [if_neg (by omega)]
    have e3 : ((v k - v (k - 1)) * (x - at_ (k - 1))).fdiv (at_ k - at_ (k - 1)) = v k - v (k - 1) := by
      rw [e, Int.mul_fdiv_cancel _ (by omega)]
    rw [e3]
    by_cases hn : k + 1 = n
    · rw [if_pos hn, show n - 1 = k from by omega]; omega
    · rw [if_neg hn, show k + 1 - 1 = k from by omega, e, Int.sub_self, Int.mul_zero, Int.zero_fdiv]; omega
theorem ln_first {at_ v : Nat → Int} {n : Nat} {x : Int} (ho : lnOk at_ v n) (h : x ≤ at_ 0) : lnV at_ v n x = v 0 := by
  by_cases hx : x < at_ 0
  · have hK := ln_K0 (x := x) ho (k := 0) (by omega) (fun j hj => by omega) (fun _ => hx)
    simp only [lnV, hK]
    rw [if_pos trivial]
  · have e : x = at_ 0 := by omega
    by_cases hn : n = 1
    · subst hn
      have hK := ln_K0 (x := x) ho (k := 1) (by omega) (fun j hj => by rw [show j = 0 from by omega]; omega) (fun h => by omega)
      simp only [lnV, hK]
      rfl
    · have h1 := ho.1
      rw [ln_mid ho (k := 1) (by omega) (by omega) (by rw [e]; exact Int.le_refl _) (by have := ln_mono ho 1 0 (by omega) (by omega); omega)]
      rw [show 1 - 1 = 0 from rfl, e, Int.sub_self, Int.mul_zero, Int.zero_fdiv]; omega
theorem ln_last {at_ v : Nat → Int} {n : Nat} {x : Int} (ho : lnOk at_ v n) (h : at_ (n - 1) ≤ x) : lnV at_ v n x = v (n - 1) := by
  have h1 := ho.1
  have hK := ln_K0 (x := x) ho (k := n) (by omega) (fun j hj => by
    by_cases e : j = n - 1
    · rw [e]; exact h
    · have := ln_mono ho (n - 1) j (by omega) (by omega)
      omega) (fun h => by omega)
  simp only [lnV, hK]
  rw [if_neg (by omega), if_pos trivial]
/-- a line as it lies in σ: row j0, ground d -/
def mLn (σ : MS) (j0 d n : Nat) (at_ v : Nat → Int) : Prop := mLen j0 = 64 ∧ d < 8 ∧ ∀ k, k < n → σ.2.1 j0 (8 * d + 2 * k) = iI (at_ k) ∧ σ.2.1 j0 (8 * d + 2 * k + 1) = iI (v k)
theorem ln_rd {j0 : Nat} (hj : mLen j0 = 64) {i : Int} {m : Nat} (hi : i = m) (hm : m < 64) : mIn (iI i) (mLen j0) = true ∧ (iI i).toNatClampNeg = m := by
  have hs : iS i := ⟨by omega, by omega⟩
  rw [i_in hs, i_nat hs, hj, decide_eq_true_eq]
  exact ⟨⟨by omega, by omega⟩, by omega⟩
theorem ln_24 {N : Nat} {σ : MS} {j0 d n : Nat} {at_ v : Nat → Int} {x : Int} (hm : mLn σ j0 d n at_ v) (ho : lnOk at_ v n) (hx : 0 ≤ x ∧ x ≤ 999) : ∀ (m k : Nat), 1 ≤ k → k ≤ n → n < k + m → at_ (k - 1) < x → f_between_24 N j0 m σ (iI n) (iI x) (iI (8 * d : Nat)) (iI k) = some (iI (lnV at_ v n x), σ) := by
  obtain ⟨hj, hd, hr⟩ := hm
  have s : ∀ i : Int, -100000000 ≤ i → i ≤ 100000000 → iS i := fun i h1 h2 => ⟨by omega, by omega⟩
  have o2 := ho.2.1
  intro m
  induction m with
  | zero => intro k h1 h2 h3; omega
  | succ m ih =>
    intro k h1 h2 h3 h4
    rw [f_between_24]
    simp only [show (2 : Int32) = iI 2 from rfl, show (1 : Int32) = iI 1 from rfl, i_mul, i_add, i_sub]
    by_cases hk : n ≤ k
    · have : k = n := by omega
      subst this
      obtain ⟨q1, q2⟩ := ln_rd hj (i := ((8 * d : Nat) : Int) + 2 * (k : Int) - 1) (m := 8 * d + 2 * (k - 1) + 1) (by omega) (by omega)
      rw [if_pos (Int32.le_refl _), if_pos q1, p_let, q2, (hr (k - 1) (by omega)).2, ln_last ho (by omega)]
    · obtain ⟨q1, q2⟩ := ln_rd hj (i := ((8 * d : Nat) : Int) + 2 * (k : Int) - 2) (m := 8 * d + 2 * (k - 1)) (by omega) (by omega)
      obtain ⟨q3, q4⟩ := ln_rd hj (i := ((8 * d : Nat) : Int) + 2 * (k : Int)) (m := 8 * d + 2 * k) (by omega) (by omega)
      obtain ⟨q5, q6⟩ := ln_rd hj (i := ((8 * d : Nat) : Int) + 2 * (k : Int) - 1) (m := 8 * d + 2 * (k - 1) + 1) (by omega) (by omega)
      obtain ⟨q7, q8⟩ := ln_rd hj (i := ((8 * d : Nat) : Int) + 2 * (k : Int) + 1) (m := 8 * d + 2 * k + 1) (by omega) (by omega)
      have a1 := ho.2.2.1 k (by omega)
      have a2 := ho.2.2.1 (k - 1) (by omega)
      have a3 := ln_mono ho k (k - 1) (by omega) (by omega)
      rw [if_neg (by rw [i_le (s _ (by omega) (by omega)) (s _ (by omega) (by omega))]; omega), if_pos q1, p_let, q2, (hr (k - 1) (by omega)).1, if_pos q3, p_let, q4, (hr k (by omega)).1]
      by_cases hc : x ≤ at_ k
      · rw [if_pos (by rw [i_le (s _ (by omega) (by omega)) (s _ (by omega) (by omega))]; exact hc), if_pos q5, p_let, q6, (hr (k - 1) (by omega)).2, if_pos q7, p_let, q8, (hr k (by omega)).2]
        have hmul : -1000000 ≤ (v k - v (k - 1)) * (x - at_ (k - 1)) ∧ (v k - v (k - 1)) * (x - at_ (k - 1)) ≤ 1000000 := by
          have b1 : (v k - v (k - 1)).natAbs ≤ 300 := by omega
          have b2 : (x - at_ (k - 1)).natAbs ≤ 999 := by omega
          have b3 : ((v k - v (k - 1)) * (x - at_ (k - 1))).natAbs ≤ 300 * 999 := by
            rw [Int.natAbs_mul]
            exact Nat.mul_le_mul b1 b2
          omega
        simp only [i_sub, i_mul]
        rw [ln_down (s _ (by omega) (by omega)) (s _ (by omega) (by omega)) (by omega)]
        show some (iI (v (k - 1)) + iI _, σ) = _
        rw [i_add, ln_mid ho h1 (by omega) (by omega) hc]
      · rw [if_neg (by rw [i_le (s _ (by omega) (by omega)) (s _ (by omega) (by omega))]; exact hc), p_let]
        exact ih (k + 1) (by omega) (by omega) (by omega) (by rw [show k + 1 - 1 = k from by omega]; omega)
theorem ln_between {N : Nat} {σ : MS} {j0 d n : Nat} {at_ v : Nat → Int} {x : Int} (hm : mLn σ j0 d n at_ v) (ho : lnOk at_ v n) (hx : 0 ≤ x ∧ x ≤ 999) (hN : 5 ≤ N) : f_between N j0 σ (iI d) (iI n) (iI x) = some (iI (lnV at_ v n x), σ) := by
  have hm' := hm
  obtain ⟨hj, hd, hr⟩ := hm
  have s : ∀ i : Int, -100000000 ≤ i → i ≤ 100000000 → iS i := fun i h1 h2 => ⟨by omega, by omega⟩
  have o1 := ho.1
  have o2 := ho.2.1
  have a0 := ho.2.2.1 0 (by omega)
  have e8 : (8 : Int32) * iI d = iI ((8 * d : Nat) : Int) := by
    rw [show (8 : Int32) = iI 8 from rfl, i_mul]
    congr 1
  unfold f_between
  rw [p_let, e8]
  obtain ⟨q1, q2⟩ := ln_rd hj (i := ((8 * d : Nat) : Int)) (m := 8 * d + 2 * 0) (by omega) (by omega)
  rw [if_pos q1, p_let, q2, (hr 0 (by omega)).1]
  by_cases hc : at_ 0 < x
  · rw [if_pos (by rw [i_lt (s _ (by omega) (by omega)) (s _ (by omega) (by omega))]; exact hc)]
    exact ln_24 hm' ho hx N 1 (by omega) (by omega) (by omega) hc
  · obtain ⟨q3, q4⟩ := ln_rd hj (i := ((8 * d : Nat) : Int) + 1) (m := 8 * d + 2 * 0 + 1) (by omega) (by omega)
    rw [if_neg (by rw [i_lt (s _ (by omega) (by omega)) (s _ (by omega) (by omega))]; exact hc), show (1 : Int32) = iI 1 from rfl, i_add, if_pos q3, p_let, q4, (hr 0 (by omega)).2, ln_first ho (by omega)]
