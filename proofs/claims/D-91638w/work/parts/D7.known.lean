/-! PLAIN: the class's known: what is known at first -/
theorem c_kn4 {N b : Nat} {g : uEnv} {u : UH} {la da wa sa : Nat → Nat} {bk so go : Nat} {jd v8 v9 v10 : Value} {w h n nd : Nat} {hts : Nat → Int} {fl : Nat → Nat} {dO kn : Nat → Int} {wg : Nat → Nat → Nat} (hO : vSo u so (la 0) go n jd sa) (hL : vLd u g la da wa bk v8 v9 v10 w h n nd hts fl dO kn wg) (hkn : ∀ e, e < nd → -1 ≤ kn e ∧ kn e < 8 ∧ (kn e ≠ -1 → wg e (kn e).toNat ≠ 0)) (hN : 9 ≤ N) : ∀ (m d : Nat), d ≤ nd → nd < d + m → f_X2_known_4 N b g so m u (iI (zBa kn wg d)) (iI d) = some (iI (zBa kn wg nd), u) := by
  have sz := c_siz (N := N) (b := b) hL
  have hL' := hL
  obtain ⟨l0, -, -, -, hnd, -, -, -, -, -, hdd⟩ := hL
  have pos : ∀ e, e < nd → kn e ≠ -1 → zCn (wg e) (kn e).toNat + 1 ≤ zCn (wg e) 8 := fun e he hk => by
    obtain ⟨a, b, c⟩ := hkn e he
    have hw := c hk
    have := zCn_le (f := wg e) (g := (kn e).toNat + 1) (8 - ((kn e).toNat + 1))
    rw [show (kn e).toNat + 1 + (8 - ((kn e).toNat + 1)) = 8 from by omega, zCn_s, if_neg hw] at this
    exact this
  intro m
  induction m with
  | zero => intro d h1 h2; omega
  | succ m ih =>
    intro d h1 h2
    rw [f_X2_known_4]
    unfold f_X2_known_79
    rw [v_gr hO (k := 0) rfl, p_bs, p_bs, v_gr l0 (k := 6) rfl, p_bs, p_bs, if_pos sz.2, sz.1, q_uc]
    by_cases hd : nd ≤ d
    · rw [p_le (by omega) (by omega) (by omega) (by omega) (by omega), show d = nd from by omega]
    · have ed : iI (d : Int) + 1 = iI ((d + 1 : Nat) : Int) := by
        rw [j1, i_add]
        rfl
      obtain ⟨⟨d1, wf, d2, d3⟩, d4, d5⟩ := hdd d (by omega)
      have gt := c_get (N := N) (b := b) hL' (by omega : d < nd)
      obtain ⟨k1, k2, k3⟩ := hkn d (by omega)
      obtain ⟨a1, a2, a3⟩ := zBa_d (kn := kn) (wg := wg) d (fun e he => by
        unfold zBd1
        by_cases hk : kn e = -1
        · rw [if_pos hk]; decide
        · rw [if_neg hk]
          have := pos e (by omega) hk
          have := (hdd e (by omega)).2.2
          omega)
      have p4 : 4 ^ d ≤ 4 ^ 5 := Nat.pow_le_pow_right (by decide) (by omega)
      rw [n_le (by omega) (by omega) (by omega) (by omega) (by omega), v_gr hO (k := 0) rfl, p_bs, p_bs, v_gr l0 (k := 6) rfl, p_bs, p_bs, if_pos sz.2, gt, q_uc, p_bs, if_pos (v_is d1), v_gi d1 (k := 2) rfl, p_bs, j_m1]
      by_cases hk : kn d = -1
      · have hz : zBa kn wg (d + 1) = zBa kn wg d := by
          rw [zBa, if_pos hk, Nat.add_zero]
        rw [p_eq (by omega) (by omega) (by omega) (by omega) (by omega), p_let, ed, ← hz]
        exact ih (d + 1) (by omega) (by omega)
      · have hz : zBa kn wg (d + 1) = zBa kn wg d + (zCn (wg d) (kn d).toNat + 1) * 4 ^ d := by
          rw [zBa, if_neg hk]
        have kw := c_knows (N := N) (b := b) (cd := zBa kn wg d) (k := zCn (wg d) (kn d).toNat) hO hL' (by omega : d < nd) (by omega) (by have := pos d (by omega) hk; omega) (a3 d (Nat.le_refl _)) hN
        rw [zKd_at (k3 hk) (by omega), show (((kn d).toNat : Nat) : Int) = kn d from by omega, ← hz] at kw
        rw [n_eq (by omega) (by omega) (by omega) (by omega) (by omega), v_gr hO (k := 0) rfl, p_bs, p_bs, v_gr l0 (k := 6) rfl, p_bs, p_bs, if_pos sz.2, gt, q_uc, p_bs, if_pos (v_is d1), v_gi d1 (k := 0) rfl, p_bs, v_gr hO (k := 0) rfl, p_bs, p_bs, v_gr l0 (k := 6) rfl, p_bs, p_bs, if_pos sz.2, gt, q_uc, p_bs, if_pos (v_is d1), v_gi d1 (k := 2) rfl, p_bs, if_pos (v_is hO), kw, q_uc, p_let, ed]
        exact ih (d + 1) (by omega) (by omega)
theorem c_known {N b : Nat} {g : uEnv} {u : UH} {la da wa sa : Nat → Nat} {bk so go : Nat} {jd v8 v9 v10 : Value} {w h n nd : Nat} {hts : Nat → Int} {fl : Nat → Nat} {dO kn : Nat → Int} {wg : Nat → Nat → Nat} (hO : vSo u so (la 0) go n jd sa) (hL : vLd u g la da wa bk v8 v9 v10 w h n nd hts fl dO kn wg) (hkn : ∀ e, e < nd → -1 ≤ kn e ∧ kn e < 8 ∧ (kn e ≠ -1 → wg e (kn e).toNat ≠ 0)) (hN : 9 ≤ N) : f_X2_known N b g u so = some (iI (zBa kn wg nd), u) := by
  have hnd := hL.2.2.2.2.1
  unfold f_X2_known
  exact c_kn4 hO hL hkn hN N 0 (by omega) (by omega)
