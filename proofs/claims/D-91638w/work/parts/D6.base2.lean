/-! PLAIN: the model's base, and its digits -/
theorem m_ba4 {N : Nat} {σ : MS} {nd ng : Nat} {kn : Nat → Int} {wg : Nat → Nat → Nat} (hK : zKn σ.1 σ.2.1 nd ng (fun e => zCn (wg e) 8) kn (fun e k => zKd (wg e) k)) (hkn : ∀ d, d < nd → kn d ≠ -1 → wg d (kn d).toNat ≠ 0) (hN : 4 ≤ N) : ∀ (m d : Nat), d ≤ nd → nd < d + m → f_base_4 N m σ (iI (zBa kn wg d)) (iI d) = some (iI (zBa kn wg nd), σ) := by
  have e3 := hK.1
  have hnd := hK.2.1
  intro m
  induction m with
  | zero => intro d h1 h2; omega
  | succ m ih =>
    intro d h1 h2
    rw [f_base_4, e3]
    by_cases hd : nd ≤ d
    · rw [p_le (by omega) (by omega) (by omega) (by omega) (by omega), show d = nd from by omega]
    · have k2 : zCn (wg d) 8 ≤ 3 := (hK.2.2.2 d (by omega)).2.1
      have := m_ba14 (N := N) (x := zBa kn wg d) (k4 := f_base_4 N m) hK (by omega : d < nd) (hkn d (by omega)) N 0 (by omega) (by omega) (if kn d = -1 then 0 else (zCn (wg d) (kn d).toNat + 1) * 4 ^ d) (by
        by_cases h : kn d = -1
        · rw [if_pos h, if_neg (fun z => z.1 h)]
        · rw [if_neg h, if_pos ⟨h, by omega⟩])
      rw [n_le (by omega) (by omega) (by omega) (by omega) (by omega), show (0 : Int32) = iI ((0 : Nat) : Int) from rfl, this]
      exact ih (d + 1) (by omega) (by omega)
theorem m_base {N : Nat} {σ : MS} {nd ng : Nat} {kn : Nat → Int} {wg : Nat → Nat → Nat} (hK : zKn σ.1 σ.2.1 nd ng (fun e => zCn (wg e) 8) kn (fun e k => zKd (wg e) k)) (hkn : ∀ d, d < nd → kn d ≠ -1 → wg d (kn d).toNat ≠ 0) (hN : 6 ≤ N) : f_base N σ = some (iI (zBa kn wg nd), σ) := by
  have hnd := hK.2.1
  unfold f_base
  exact m_ba4 hK hkn (by omega) N 0 (by omega) (by omega)
theorem zD_hi {x v d : Nat} (hx : x < 4 ^ d) (hv : v < 4) : zD (x + v * 4 ^ d) d = v ∧ (∀ e, e < d → zD (x + v * 4 ^ d) e = zD x e) ∧ ∀ e, d < e → zD (x + v * 4 ^ d) e = 0 := by
  have hp : 0 < 4 ^ d := Nat.pos_of_ne_zero (by simp)
  unfold zD
  refine ⟨?_, fun e he => ?_, fun e he => ?_⟩
  · rw [Nat.add_mul_div_right _ _ hp, Nat.div_eq_of_lt hx, Nat.zero_add, Nat.mod_eq_of_lt hv]
  · have hq : 0 < 4 ^ e := Nat.pos_of_ne_zero (by simp)
    have h4 : v * 4 ^ d = (v * 4 ^ (d - e - 1) * 4) * 4 ^ e := by
      rw [Nat.mul_assoc, Nat.mul_assoc, ← Nat.pow_succ', ← Nat.pow_add, show d - e - 1 + (e + 1) = d from by omega]
    rw [h4, Nat.add_mul_div_right _ _ hq, Nat.add_mul_mod_self_right]
  · have hlt : x + v * 4 ^ d < 4 ^ e := by
      have h5 : 4 ^ (d + 1) ≤ 4 ^ e := Nat.pow_le_pow_right (by decide) he
      have h6 : v * 4 ^ d ≤ 3 * 4 ^ d := Nat.mul_le_mul_right _ (by omega)
      rw [Nat.pow_succ] at h5
      omega
    rw [Nat.div_eq_of_lt hlt]
/-- the digit of a doubt in what is known -/
def zBd1 (kn : Nat → Int) (wg : Nat → Nat → Nat) (e : Nat) : Nat := if kn e = -1 then 0 else zCn (wg e) (kn e).toNat + 1
theorem zBa_d {kn : Nat → Int} {wg : Nat → Nat → Nat} : ∀ d, (∀ e, e < d → zBd1 kn wg e < 4) → zBa kn wg d < 4 ^ d ∧ (∀ e, e < d → zD (zBa kn wg d) e = zBd1 kn wg e) ∧ ∀ e, d ≤ e → zD (zBa kn wg d) e = 0 := by
  intro d
  induction d with
  | zero =>
    intro _
    refine ⟨Nat.lt_of_sub_eq_succ rfl, fun e he => by omega, fun e _ => ?_⟩
    show 0 / 4 ^ e % 4 = 0
    rw [Nat.zero_div]
  | succ d ih =>
    intro h
    obtain ⟨i1, i2, i3⟩ := ih (fun e he => h e (by omega))
    have hd := h d (by omega)
    have hz : zBa kn wg (d + 1) = zBa kn wg d + zBd1 kn wg d * 4 ^ d := by
      rw [zBa]
      unfold zBd1
      by_cases hk : kn d = -1
      · rw [if_pos hk, if_pos hk, Nat.zero_mul]
      · rw [if_neg hk, if_neg hk]
    obtain ⟨a1, a2, a3⟩ := zD_hi (x := zBa kn wg d) (v := zBd1 kn wg d) (d := d) i1 hd
    rw [hz]
    refine ⟨?_, fun e he => ?_, fun e he => a3 e (by omega)⟩
    · have h6 : zBd1 kn wg d * 4 ^ d ≤ 3 * 4 ^ d := Nat.mul_le_mul_right _ (by omega)
      rw [Nat.pow_succ]
      omega
    · by_cases x : e = d
      · rw [x]; exact a1
      · rw [a2 e (by omega)]
        exact i2 e (by omega)
/-- what is known can be -/
theorem yCan_base {nd : Nat} {kn : Nat → Int} {wg : Nat → Nat → Nat} (hnd : nd ≤ 5) (h3 : ∀ e, e < nd → zCn (wg e) 8 ≤ 3) (hkn : ∀ e, e < nd → -1 ≤ kn e ∧ kn e < 8 ∧ (kn e ≠ -1 → wg e (kn e).toNat ≠ 0)) : zBa kn wg nd < 1024 ∧ yCan nd kn wg (zBa kn wg nd) := by
  have pos : ∀ e, e < nd → kn e ≠ -1 → zCn (wg e) (kn e).toNat + 1 ≤ zCn (wg e) 8 := fun e he hk => by
    obtain ⟨a, b, c⟩ := hkn e he
    have hw := c hk
    have := zCn_le (f := wg e) (g := (kn e).toNat + 1) (8 - ((kn e).toNat + 1))
    rw [show (kn e).toNat + 1 + (8 - ((kn e).toNat + 1)) = 8 from by omega, zCn_s, if_neg hw] at this
    exact this
  obtain ⟨a1, a2, a3⟩ := zBa_d (kn := kn) (wg := wg) nd (fun e he => by
    unfold zBd1
    by_cases hk : kn e = -1
    · rw [if_pos hk]; decide
    · rw [if_neg hk]
      have := pos e he hk
      have := h3 e he
      omega)
  have h4 : 4 ^ nd ≤ 4 ^ 5 := Nat.pow_le_pow_right (by decide) hnd
  refine ⟨by omega, fun e he => ⟨fun z => a3 e z, fun z => ?_⟩⟩
  rw [a2 e z]
  unfold zBd1
  refine ⟨?_, fun hk => ?_⟩
  · by_cases hk : kn e = -1
    · rw [if_pos hk]; exact Nat.zero_le _
    · rw [if_neg hk]; exact pos e z hk
  · rw [if_neg hk]
    refine ⟨by omega, ?_⟩
    obtain ⟨b1, b2, b3⟩ := hkn e z
    show ((zKd (wg e) (zCn (wg e) (kn e).toNat + 1 - 1) : Nat) : Int) = kn e
    rw [Nat.add_sub_cancel, zKd_at (b3 hk) (by omega)]
    omega
