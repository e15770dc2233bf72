/-! PLAIN: the model's step: the first way that has the value -/
def zWy (X : Nat → Nat) (v : Nat) (ed : Nat → Option (Nat × Nat)) : Nat → Nat → Nat
  | 0, _ => 4
  | m + 1, y => match ed y with
    | some (d, k) => if X d < 1000000000000000 ∧ X d + k = v then y else zWy X v ed m (y + 1)
    | none => zWy X v ed m (y + 1)
theorem m_st35 {N : Nat} {σ : MS} {w h n cd c sc : Nat} {X K : Nat → Nat} (e1 : σ.1 35 = iI w) (e2 : σ.1 36 = iI h) (hw : 1 ≤ w ∧ w ≤ 10) (hh : 1 ≤ h ∧ h ≤ 10) (hn : n = w * h) (hcd : cd < 1024) (hc : c < n) (hX : ∀ d, d < n → σ.2.2 (100 * cd + d) = iL (X d) ∧ X d ≤ 1000000000000000) (hK : ∀ y, y < 4 → σ.2.1 70 (4 * c + y) = iI (K (4 * c + y)) ∧ K (4 * c + y) ≤ 1001001 ∧ (K (4 * c + y) ≠ 0 → 0 ≤ besI w h c y)) (hsc : sc ≤ 14348907) : ∀ (m y : Nat), y ≤ 4 → 4 < y + m → f_stepOf_35 N m σ (iI c) (iI cd) (iL sc) (iI y) = some (iI (zWy X (X c) (zEd w h sc K c) (4 - y) y), σ) := by
  obtain ⟨s1, s2, s3⟩ := b_sm (d := 0) hw hh (hn ▸ hc)
  obtain ⟨xc1, xc2⟩ := hX c hc
  obtain ⟨i5, i6⟩ := t_ix (a := 100 * (cd : Int) + (c : Int)) (n := 102400) (k := 100 * cd + c) (by omega) (by omega) (by decide)
  intro m
  induction m with
  | zero => intro y h1 h2; omega
  | succ m ih =>
    intro y h1 h2
    rw [f_stepOf_35]
    unfold f_stepOf_121
    by_cases hy : y = 4
    · subst hy
      rw [j4, p_le (by omega) (by omega) (by omega) (by omega) (by omega)]
      rfl
    · have hy4 : y < 4 := by omega
      obtain ⟨k1, k2, k3⟩ := hK y hy4
      obtain ⟨i1, i2⟩ := t_ix (a := 4 * (c : Int) + (y : Int)) (n := mLen 70) (k := 4 * c + y) (by omega) (by rw [mL70]; omega) (by rw [mL70]; omega)
      have en : iI (y : Int) + 1 = iI ((y + 1 : Nat) : Int) := by
        rw [j1, i_add]
        rfl
      have ihh := ih (y + 1) (by omega) (by omega)
      rw [j4, n_le (by omega) (by omega) (by omega) (by omega) (by omega), i_mul, i_add, if_pos i1, p_let, i2, k1, show 4 - y = (4 - (y + 1)) + 1 from by omega, zWy]
      by_cases hk0 : K (4 * c + y) = 0
      · have hz : zEd w h sc K c y = none := if_neg (fun z => z.2 hk0)
        rw [if_pos (show iI (K (4 * c + y) : Int) = 0 by rw [hk0]; rfl), hz, p_let, en]
        exact ihh
      · have hz : zEd w h sc K c y = some ((besI w h c y).toNat, sc * K (4 * c + y)) := if_pos ⟨hy4, hk0⟩
        have hb0 := k3 hk0
        rcases bes_b (w := w) (h := h) (c := c) (d := y) hw hh with hb | ⟨-, hb1, hb2⟩
        · omega
        · have hdn : (besI w h c y).toNat < n := by omega
          obtain ⟨x1, x2⟩ := hX _ hdn
          obtain ⟨i3, i4⟩ := t_ix (a := 100 * (cd : Int) + besI w h c y) (n := 102400) (k := 100 * cd + (besI w h c y).toNat) (by omega) (by omega) (by decide)
          have hp : sc * K (4 * c + y) ≤ 14348907 * 1001001 := Nat.mul_le_mul hsc k2
          have hp2 : (sc : Int) * (K (4 * c + y) : Int) = ((sc * K (4 * c + y) : Nat) : Int) := (Int.natCast_mul _ _).symm
          rw [if_neg (show ¬ iI (K (4 * c + y) : Int) = 0 by rw [j0, j_eq (by omega) (by omega) (by omega) (by omega)]; omega), hz, b_m24 e1 e2 hy4 hw hh (hn ▸ hc), q_mc, j100, i_mul, i_add, if_pos i3, p_let, i4, x1, eLF]
          show _ = some (iI ((if X (besI w h c y).toNat < 1000000000000000 ∧ X (besI w h c y).toNat + sc * K (4 * c + y) = X c then y else zWy X (X c) (zEd w h sc K c) (4 - (y + 1)) (y + 1) : Nat) : Int), σ)
          generalize X (besI w h c y).toNat = x at x1 x2 ⊢
          generalize sc * K (4 * c + y) = P at hp hp2 ⊢
          by_cases hf : x < 1000000000000000
          · rw [n_cg (by omega) (by omega) (by omega) (by omega) (by omega), if_pos i1, p_let, k1, i_add, if_pos i5, p_let, i6, xc1, e_i2l (by omega) (by omega), e_mul, hp2, e_add]
            by_cases hv : x + P = X c
            · rw [p_c0 (by omega) (by omega) (by omega) (by omega) (by omega), if_pos (show x < 1000000000000000 ∧ x + P = X c from ⟨hf, hv⟩)]
            · rw [n_c0 (by omega) (by omega) (by omega) (by omega) (by omega), if_neg (show ¬ (x < 1000000000000000 ∧ x + P = X c) from fun z => hv z.2), p_let, en]
              exact ihh
          · rw [p_cg (by omega) (by omega) (by omega) (by omega) (by omega), if_neg (show ¬ (x < 1000000000000000 ∧ x + P = X c) from fun z => hf z.1), p_let, en]
            exact ihh
