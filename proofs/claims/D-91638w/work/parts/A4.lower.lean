/-! PLAIN: the model's lower -/
theorem mL70 : mLen 70 = 400 := rfl
theorem mL71 : mLen 71 = 3200 := rfl
theorem mL72 : mLen 72 = 100 := rfl
theorem mL44 : mLen 44 = 5 := rfl
theorem mL46 : mLen 46 = 40 := rfl
theorem mL52 : mLen 52 = 20 := rfl
theorem mL53 : mLen 53 = 5 := rfl
/-- the ways out of a cell: K: costs by cell and way (0: none), sc: parts of a whole -/
def zEd (w h sc : Nat) (K : Nat → Nat) (c y : Nat) : Option (Nat × Nat) := if y < 4 ∧ K (4 * c + y) ≠ 0 then some ((besI w h c y).toNat, sc * K (4 * c + y)) else none
/-- an index that is there -/
theorem t_ix {a : Int} {n k : Nat} (h : a = (k : Int)) (h2 : k < n) (h3 : n ≤ 2147483647) : mIn (iI a) n = true ∧ (iI a).toNatClampNeg = k := by
  subst h
  exact ⟨ki_in (by omega) (by omega) (by omega), by rw [j_nat (by omega) (by omega)]; omega⟩
theorem m_low16 {N : Nat} {σ : MS} {w h n cd c sc : Nat} {X K : Nat → Nat} (e1 : σ.1 35 = iI w) (e2 : σ.1 36 = iI h) (hw : 1 ≤ w ∧ w ≤ 10) (hh : 1 ≤ h ∧ h ≤ 10) (hn : n = w * h) (hcd : cd < 1024) (hc : c < n) (hX : ∀ d, d < n → σ.2.2 (100 * cd + d) = iL (X d) ∧ X d ≤ 1000000000000000) (hK : ∀ y, y < 4 → σ.2.1 70 (4 * c + y) = iI (K (4 * c + y)) ∧ K (4 * c + y) ≤ 1001001 ∧ (K (4 * c + y) ≠ 0 → 0 ≤ besI w h c y)) (hsc : sc ≤ 14348907) : ∀ (m y v : Nat), y ≤ 4 → 4 < y + m → v ≤ 1000000000000000 → f_lower_16 N m σ (iI cd) (iI c) (iL sc) (iL v) (iI y) = some (iL (zLow X (zEd w h sc K c) (4 - y) y v), σ) := by
  obtain ⟨s1, s2, s3⟩ := b_sm (d := 0) hw hh (hn ▸ hc)
  intro m
  induction m with
  | zero => intro y v h1 h2 h3; omega
  | succ m ih =>
    intro y v h1 h2 h3
    rw [f_lower_16]
    unfold f_lower_109
    by_cases hy : y = 4
    · subst hy
      rw [j4, p_le (by omega) (by omega) (by omega) (by omega) (by omega)]
      rfl
    · have hy4 : y < 4 := by omega
      obtain ⟨k1, k2, k3⟩ := hK y hy4
      obtain ⟨i1, i2⟩ := t_ix (a := 4 * (c : Int) + (y : Int)) (n := mLen 70) (k := 4 * c + y) (by omega) (by rw [mL70]; omega) (by rw [mL70]; omega)
      rw [j4, n_le (by omega) (by omega) (by omega) (by omega) (by omega), i_mul, i_add, if_pos i1, p_let, i2, k1, show 4 - y = (4 - (y + 1)) + 1 from by omega, zLow]
      have en : iI (y : Int) + 1 = iI ((y + 1 : Nat) : Int) := by
        rw [j1, i_add]
        rfl
      by_cases hk0 : K (4 * c + y) = 0
      · have hz : zEd w h sc K c y = none := if_neg (fun z => z.2 hk0)
        rw [if_pos (show iI (K (4 * c + y) : Int) = 0 by rw [hk0]; rfl), hz, p_let, en]
        exact ih (y + 1) v (by omega) (by omega) h3
      · have hz : zEd w h sc K c y = some ((besI w h c y).toNat, sc * K (4 * c + y)) := if_pos ⟨hy4, hk0⟩
        have hb0 := k3 hk0
        rcases bes_b (w := w) (h := h) (c := c) (d := y) hw hh with hb | ⟨-, hb1, hb2⟩
        · omega
        · have hdn : (besI w h c y).toNat < n := by omega
          obtain ⟨x1, x2⟩ := hX _ hdn
          obtain ⟨i3, i4⟩ := t_ix (a := 100 * (cd : Int) + besI w h c y) (n := 102400) (k := 100 * cd + (besI w h c y).toNat) (by omega) (by omega) (by decide)
          have hp : sc * K (4 * c + y) ≤ 14348907 * 1001001 := Nat.mul_le_mul hsc k2
          have hp2 : (sc : Int) * (K (4 * c + y) : Int) = ((sc * K (4 * c + y) : Nat) : Int) := (Int.natCast_mul _ _).symm
          rw [if_neg (show ¬ iI (K (4 * c + y) : Int) = 0 by rw [j0, j_eq (by omega) (by omega) (by omega) (by omega)]; omega), hz, b_m24 e1 e2 hy4 hw hh (hn ▸ hc), q_mc, j100, i_mul, i_add, if_pos i3, p_let, i4, x1, eLF]
          show _ = some (iL (zLow X (zEd w h sc K c) (4 - (y + 1)) (y + 1) (if X (besI w h c y).toNat < 1000000000000000 ∧ X (besI w h c y).toNat + sc * K (4 * c + y) < v then X (besI w h c y).toNat + sc * K (4 * c + y) else v)), σ)
          generalize X (besI w h c y).toNat = x at x1 x2 ⊢
          generalize sc * K (4 * c + y) = P at hp hp2 ⊢
          by_cases hf : x < 1000000000000000
          · rw [n_cg (by omega) (by omega) (by omega) (by omega) (by omega), if_pos i1, p_let, k1, e_i2l (by omega) (by omega), e_mul, hp2, e_add]
            by_cases hv : x + P < v
            · rw [n_cg (by omega) (by omega) (by omega) (by omega) (by omega), if_pos i1, if_pos (show x < 1000000000000000 ∧ x + P < v from ⟨hf, hv⟩), p_let, e_i2l (by omega) (by omega), e_mul, hp2, e_add, p_let, p_let, en]
              exact ih (y + 1) (x + P) (by omega) (by omega) (by omega)
            · rw [p_cg (by omega) (by omega) (by omega) (by omega) (by omega), if_neg (show ¬ (x < 1000000000000000 ∧ x + P < v) from fun z => hv z.2), p_let, en]
              exact ih (y + 1) v (by omega) (by omega) h3
          · rw [p_cg (by omega) (by omega) (by omega) (by omega) (by omega), if_neg (show ¬ (x < 1000000000000000 ∧ x + P < v) from fun z => hf z.1), p_let, en]
            exact ih (y + 1) v (by omega) (by omega) h3
theorem m_low {N : Nat} {σ : MS} {w h n cd c sc : Nat} {X K : Nat → Nat} (e1 : σ.1 35 = iI w) (e2 : σ.1 36 = iI h) (hw : 1 ≤ w ∧ w ≤ 10) (hh : 1 ≤ h ∧ h ≤ 10) (hn : n = w * h) (hcd : cd < 1024) (hc : c < n) (hX : ∀ d, d < n → σ.2.2 (100 * cd + d) = iL (X d) ∧ X d ≤ 1000000000000000) (hK : ∀ y, y < 4 → σ.2.1 70 (4 * c + y) = iI (K (4 * c + y)) ∧ K (4 * c + y) ≤ 1001001 ∧ (K (4 * c + y) ≠ 0 → 0 ≤ besI w h c y)) (hsc : sc ≤ 14348907) (hN : 5 ≤ N) : f_lower N σ (iI cd) (iI c) (iL sc) = some (iL (zLow X (zEd w h sc K c) 4 0 (X c)), σ) := by
  obtain ⟨s1, s2, s3⟩ := b_sm (d := 0) hw hh (hn ▸ hc)
  obtain ⟨x1, x2⟩ := hX c hc
  obtain ⟨i3, i4⟩ := t_ix (a := 100 * (cd : Int) + (c : Int)) (n := 102400) (k := 100 * cd + c) (by omega) (by omega) (by decide)
  unfold f_lower
  rw [j100, i_mul, i_add, if_pos i3, p_let, i4, x1]
  exact m_low16 e1 e2 hw hh hn hcd hc hX hK hsc N 0 (X c) (by omega) (by omega) x2
