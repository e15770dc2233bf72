/-! PLAIN: the model's base: what is known, as digits -/
def zBa (kn : Nat → Int) (wg : Nat → Nat → Nat) : Nat → Nat
  | 0 => 0
  | d + 1 => zBa kn wg d + (if kn d = -1 then 0 else (zCn (wg d) (kn d).toNat + 1) * 4 ^ d)
theorem m_ba14 {N : Nat} {σ : MS} {nd ng d x : Nat} {kn : Nat → Int} {wg : Nat → Nat → Nat} {k4 : MS → Int32 → Int32 → Option (Int32 × MS)} (hK : zKn σ.1 σ.2.1 nd ng (fun e => zCn (wg e) 8) kn (fun e k => zKd (wg e) k)) (hd : d < nd) (hkn : kn d ≠ -1 → wg d (kn d).toNat ≠ 0) : ∀ (m k : Nat), k ≤ zCn (wg d) 8 → zCn (wg d) 8 < k + m → ∀ (add : Nat), add = (if kn d ≠ -1 ∧ k ≤ zCn (wg d) (kn d).toNat then (zCn (wg d) (kn d).toNat + 1) * 4 ^ d else 0) → f_base_14 N k4 m σ (iI x) (iI d) (iI k) = k4 σ (iI ((x + add : Nat) : Int)) (iI ((d + 1 : Nat) : Int)) := by
  obtain ⟨e3, hnd, hng, hk⟩ := hK
  obtain ⟨k1', k2', k3, k4', k5, k6'⟩ := hk d hd
  have k1 : σ.2.1 53 d = iI (zCn (wg d) 8) := k1'
  have k2 : zCn (wg d) 8 ≤ 3 := k2'
  have k6 : ∀ k, k < zCn (wg d) 8 → σ.2.1 52 (4 * d + k) = iI (zKd (wg d) k) ∧ zKd (wg d) k < ng := k6'
  obtain ⟨i1, i2⟩ := t_ix (a := (d : Int)) (n := mLen 53) (k := d) rfl (by rw [mL53]; omega) (by rw [mL53]; omega)
  obtain ⟨i3, -⟩ := t_ix (a := (d : Int)) (n := mLen 45) (k := d) rfl (by rw [mL45]; omega) (by rw [mL45]; omega)
  have p4 : 4 ^ d ≤ 4 ^ 4 := Nat.pow_le_pow_right (by decide) (by omega)
  have ed : iI (d : Int) + 1 = iI ((d + 1 : Nat) : Int) := by
    rw [j1, i_add]
    rfl
  intro m
  induction m generalizing x with
  | zero => intro k h1 h2; omega
  | succ m ih =>
    intro k h1 h2 add hadd
    rw [f_base_14]
    unfold f_base_54
    rw [if_pos i1, p_let, i2, k1]
    by_cases hkk : zCn (wg d) 8 ≤ k
    · have hno : add = 0 := by
        rw [hadd]
        refine if_neg (fun z => ?_)
        have hw := hkn z.1
        have := zCn_le (f := wg d) (g := (kn d).toNat + 1) (8 - ((kn d).toNat + 1))
        rw [show (kn d).toNat + 1 + (8 - ((kn d).toNat + 1)) = 8 from by omega, zCn_s, if_neg hw] at this
        omega
      rw [p_le (by omega) (by omega) (by omega) (by omega) (by omega), p_let, ed, hno]
      rfl
    · obtain ⟨g1, g2⟩ := k6 k (by omega)
      obtain ⟨i5, i6⟩ := t_ix (a := 4 * (d : Int) + (k : Int)) (n := mLen 52) (k := 4 * d + k) (by omega) (by rw [mL52]; omega) (by rw [mL52]; omega)
      have ek : iI (k : Int) + 1 = iI ((k + 1 : Nat) : Int) := by
        rw [j1, i_add]
        rfl
      obtain ⟨q, q1, q2, q3⟩ := zCn_in (f := wg d) (k := k) 8 (by omega)
      have hkq : zKd (wg d) k = q := by rw [← q3]; exact zKd_at q2 q1
      rw [n_le (by omega) (by omega) (by omega) (by omega) (by omega), if_pos i3, p_let, k3, j4, i_mul, i_add, if_pos i5, p_let, i6, g1, hkq]
      by_cases he : kn d = (q : Int)
      · have hpos : zCn (wg d) (kn d).toNat = k := by rw [he]; exact q3
        have ha : add = (k + 1) * 4 ^ d := by
          rw [hadd, hpos]
          exact if_pos ⟨by omega, Nat.le_refl _⟩
        have kb : (k + 1) * 4 ^ d ≤ 4 * 4 ^ 4 := Nat.mul_le_mul (by omega) p4
        rw [p_eq (by omega) (by omega) (by omega) (by omega) (by omega), m_pow (by omega), q_mc, ek, i_mul, i_add, p_let, p_let]
        have hc : ((x : Int) + ((k + 1 : Nat) : Int) * ((4 ^ d : Nat) : Int)) = ((x + (k + 1) * 4 ^ d : Nat) : Int) := by
          rw [Int.natCast_add x, Int.natCast_mul]
        rw [hc, ← ha]
        have := ih (x := x + add) (k + 1) (by omega) (by omega) 0 (by
          symm
          refine if_neg (fun z => ?_)
          omega)
        exact this
      · rw [n_eq (by omega) (by omega) (by omega) (by omega) he, ek, p_let]
        refine ih (k + 1) (by omega) (by omega) add ?_
        rw [hadd]
        by_cases h1' : kn d = -1
        · rw [if_neg (fun z => z.1 h1'), if_neg (fun z => z.1 h1')]
        · have hne : zCn (wg d) (kn d).toNat ≠ k := fun z => by
            have a1 := zKd_at (hkn h1') (by omega)
            rw [z, hkq] at a1
            omega
          by_cases hle : k ≤ zCn (wg d) (kn d).toNat
          · rw [if_pos ⟨h1', hle⟩, if_pos ⟨h1', by omega⟩]
          · rw [if_neg (fun z => hle z.2), if_neg (fun z => by omega)]
