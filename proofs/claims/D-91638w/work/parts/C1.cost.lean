/-! PLAIN: the class's solver: what is unknown, the scale, the ground of a cell, costs -/
def zUb (cd : Nat) : Nat → Nat
  | 0 => 0
  | d + 1 => zUb cd d ||| (if zD cd d = 0 then 2 ^ d else 0)
theorem zUb_lt {cd : Nat} : ∀ e, zUb cd e < 2 ^ e := by
  intro e
  induction e with
  | zero => exact Nat.lt_of_sub_eq_succ rfl
  | succ e ih =>
    rw [zUb]
    have h2 : 2 ^ (e + 1) = 2 * 2 ^ e := by rw [Nat.pow_succ, Nat.mul_comm]
    have hp : 0 < 2 ^ e := Nat.pos_of_ne_zero (by simp)
    refine Nat.or_lt_two_pow (by omega) ?_
    split <;> omega
theorem t_or {a b : Nat} (ha : a < 32) (hb : b < 32) : iI (a : Int) ||| iI (b : Int) = iI ((a ||| b : Nat) : Int) := t_orF ⟨a, ha⟩ ⟨b, hb⟩
theorem c_sign {N b : Nat} {g : uEnv} {u : UH} {cd d : Nat} (h1 : cd < 1024) (h2 : d < 5) : f_X2_sign N b g u (iI cd) (iI d) = some (iI (zD cd d), u) := by
  unfold f_X2_sign
  rw [t_dig h1 h2]
theorem c_unk4 {N b : Nat} {g : uEnv} {u : UH} {la da wa sa : Nat → Nat} {bk so go : Nat} {jd v8 v9 v10 : Value} {w h n nd cd : Nat} {hts : Nat → Int} {fl : Nat → Nat} {dO kn : Nat → Int} {wg : Nat → Nat → Nat} (hO : vSo u so (la 0) go n jd sa) (hL : vLd u g la da wa bk v8 v9 v10 w h n nd hts fl dO kn wg) (hcd : cd < 1024) : ∀ (m d : Nat), d ≤ nd → nd < d + m → f_X2_unknown_4 N b g so m u (iI cd) (iI (zUb cd d)) (iI d) = some (iI (zUb cd nd), u) := by
  have sz := c_siz (N := N) (b := b) hL
  obtain ⟨l0, -, -, -, hnd, -⟩ := hL
  intro m
  induction m with
  | zero => intro d h1 h2; omega
  | succ m ih =>
    intro d h1 h2
    rw [f_X2_unknown_4]
    unfold f_X2_unknown_34
    rw [v_gr hO (k := 0) rfl, p_bs, p_bs, v_gr l0 (k := 6) rfl, p_bs, p_bs, if_pos sz.2, sz.1, q_uc]
    by_cases hd : nd ≤ d
    · rw [p_le (by omega) (by omega) (by omega) (by omega) (by omega), show d = nd from by omega]
    · have en : iI (d : Int) + 1 = iI ((d + 1 : Nat) : Int) := by
        rw [j1, i_add]
        rfl
      have lt := zUb_lt (cd := cd) d
      have p16 : 2 ^ d ≤ 2 ^ 4 := Nat.pow_le_pow_right (by decide) (by omega)
      have zn : zUb cd (d + 1) = zUb cd d ||| (if zD cd d = 0 then 2 ^ d else 0) := rfl
      have ihh := ih (d + 1) (by omega) (by omega)
      rw [n_le (by omega) (by omega) (by omega) (by omega) (by omega), c_sign hcd (by omega), q_uc]
      by_cases h0 : zD cd d = 0
      · rw [if_pos h0] at zn
        rw [zn] at ihh
        rw [if_pos (show iI (zD cd d : Int) = 0 by rw [h0]; rfl), t_sh (by omega), t_or (by omega) (by omega), p_let, p_let, en]
        exact ihh
      · rw [if_neg h0, Nat.or_zero] at zn
        rw [zn] at ihh
        have zl := zD_lt (cd := cd) (d := d)
        have h00 : iI (zUb cd d : Int) ||| 0 = iI (zUb cd d : Int) := by
          have := t_or (a := zUb cd d) (b := 0) (by omega) (by omega)
          rw [Nat.or_zero] at this
          exact this
        rw [if_neg (show ¬ iI (zD cd d : Int) = 0 by rw [j0, j_eq (by omega) (by omega) (by omega) (by omega)]; omega), h00, p_let, p_let, en]
        exact ihh
theorem c_unk {N b : Nat} {g : uEnv} {u : UH} {la da wa sa : Nat → Nat} {bk so go : Nat} {jd v8 v9 v10 : Value} {w h n nd cd : Nat} {hts : Nat → Int} {fl : Nat → Nat} {dO kn : Nat → Int} {wg : Nat → Nat → Nat} (hO : vSo u so (la 0) go n jd sa) (hL : vLd u g la da wa bk v8 v9 v10 w h n nd hts fl dO kn wg) (hcd : cd < 1024) (hN : 6 ≤ N) : f_X2_unknown N b g u so (iI cd) = some (iI (zUb cd nd), u) := by
  have hnd := hL.2.2.2.2.1
  unfold f_X2_unknown
  exact c_unk4 hO hL hcd N 0 (by omega) (by omega)
theorem c_scl5 {N b : Nat} {g : uEnv} {u : UH} {la da wa sa : Nat → Nat} {bk so go : Nat} {jd v8 v9 v10 : Value} {w h n nd cd : Nat} {hts : Nat → Int} {fl : Nat → Nat} {dO kn : Nat → Int} {wg : Nat → Nat → Nat} (hO : vSo u so (la 0) go n jd sa) (hL : vLd u g la da wa bk v8 v9 v10 w h n nd hts fl dO kn wg) (hcd : cd < 1024) (hN : 9 ≤ N) : ∀ (m d : Nat), d ≤ nd → nd < d + m → f_X2_scale_5 N b g so m u (iI cd) (iL (zPr (fun e => zSum (wg e) 8) cd d)) (iI d) = some (iL (zPr (fun e => zSum (wg e) 8) cd nd), u) := by
  have sz := c_siz (N := N) (b := b) hL
  have gt := fun e he => c_get (N := N) (b := b) (e := e) hL he
  obtain ⟨l0, -, -, -, hnd, -, -, -, -, -, hdd⟩ := hL
  intro m
  induction m with
  | zero => intro d h1 h2; omega
  | succ m ih =>
    intro d h1 h2
    rw [f_X2_scale_5]
    unfold f_X2_scale_53
    rw [v_gr hO (k := 0) rfl, p_bs, p_bs, v_gr l0 (k := 6) rfl, p_bs, p_bs, if_pos sz.2, sz.1, q_uc]
    by_cases hd : nd ≤ d
    · rw [p_le (by omega) (by omega) (by omega) (by omega) (by omega), show d = nd from by omega]
    · have en : iI (d : Int) + 1 = iI ((d + 1 : Nat) : Int) := by
        rw [j1, i_add]
        rfl
      obtain ⟨d1, d2, d3⟩ := hdd d (by omega)
      have zl := zD_lt (cd := cd) (d := d)
      have sb : zSum (wg d) 8 ≤ 8 * 9 := by
        obtain ⟨-, wf, -, q⟩ := d1
        exact zSum_b 8 (fun k hk => (q k hk).2)
      have ihh := ih (d + 1) (by omega) (by omega)
      rw [zPr] at ihh
      rw [n_le (by omega) (by omega) (by omega) (by omega) (by omega), c_sign hcd (by omega), q_uc]
      by_cases h0 : zD cd d = 0
      · rw [if_pos h0, Int.natCast_mul] at ihh
        rw [if_pos (show iI (zD cd d : Int) = 0 by rw [h0]; rfl), v_gr hO (k := 0) rfl, p_bs, p_bs, v_gr l0 (k := 6) rfl, p_bs, p_bs, if_pos sz.2, gt d (by omega), q_uc, p_bs, if_pos (v_is d1.1), if_pos (v_is d1.1), c_all d1 hN, q_uc, e_i2l (by omega) (by omega), e_mul, p_let, p_let, en]
        exact ihh
      · rw [if_neg h0, Nat.mul_one] at ihh
        have e11 : iL (zPr (fun e => zSum (wg e) 8) cd d : Int) * 1 = iL (zPr (fun e => zSum (wg e) 8) cd d : Int) := by
          rw [eL1, e_mul, Int.mul_one]
        rw [if_neg (show ¬ iI (zD cd d : Int) = 0 by rw [j0, j_eq (by omega) (by omega) (by omega) (by omega)]; omega), e11, p_let, p_let, en]
        exact ihh
theorem c_scl {N b : Nat} {g : uEnv} {u : UH} {la da wa sa : Nat → Nat} {bk so go : Nat} {jd v8 v9 v10 : Value} {w h n nd cd : Nat} {hts : Nat → Int} {fl : Nat → Nat} {dO kn : Nat → Int} {wg : Nat → Nat → Nat} (hO : vSo u so (la 0) go n jd sa) (hL : vLd u g la da wa bk v8 v9 v10 w h n nd hts fl dO kn wg) (hcd : cd < 1024) (hN : 9 ≤ N) : f_X2_scale N b g u so (iI cd) = some (iL (zPr (fun e => zSum (wg e) 8) cd nd), u) := by
  have hnd := hL.2.2.2.2.1
  unfold f_X2_scale
  exact c_scl5 hO hL hcd hN N 0 (by omega) (by omega)
/-- the ground of a cell by what is seen (where it is) -/
def zGr (fl : Nat → Nat) (dO : Nat → Int) (wg : Nat → Nat → Nat) (cd c : Nat) : Nat := if dO c = -1 then fl c else zKd (wg (dO c).toNat) (zD cd (dO c).toNat - 1)
theorem c_gof {N b : Nat} {g : uEnv} {u : UH} {la da wa sa : Nat → Nat} {bk so go : Nat} {jd v8 v9 v10 : Value} {w h n nd cd c : Nat} {hts : Nat → Int} {fl : Nat → Nat} {dO kn : Nat → Int} {wg : Nat → Nat → Nat} (hO : vSo u so (la 0) go n jd sa) (hL : vLd u g la da wa bk v8 v9 v10 w h n nd hts fl dO kn wg) (hcd : cd < 1024) (hc : c < n) (hk : dO c ≠ -1 → zD cd (dO c).toNat ≠ 0 ∧ zD cd (dO c).toNat ≤ zCn (wg (dO c).toNat) 8) (hN : 9 ≤ N) : f_X2_groundOf N b g u so (iI c) (iI cd) = some (iI (zGr fl dO wg cd c), u) := by
  obtain ⟨l0, hw, hh, hn, hnd, -, ⟨gf, g1, g2⟩, ⟨df, f1, f2⟩, -, -, hdd⟩ := hL
  have m4 : w * h ≤ 10 * 10 := Nat.mul_le_mul hw.2 hh.2
  obtain ⟨q1, q2, q3, q4⟩ := f2 c hc
  have L : uLdR u (la 3) 6 (iI (c : Int)) = some (df c) := u_ldR f1 (by omega) (by omega) (by omega)
  unfold f_X2_groundOf f_X2_groundOf_53 zGr
  rw [v_gr hO (k := 0) rfl, p_bs, p_bs, v_gr l0 (k := 5) rfl, p_bs, p_bs, L, p_bs]
  by_cases hd : dO c = -1
  · rw [q3 hd, q_cn, if_pos hd, p_bs, p_bs, v_gr l0 (k := 4) rfl, p_bs, p_bs, u_ldI g1 (by omega) (by omega) (by omega), p_bs]
    exact congrArg (fun z => some (z, u)) (g2 c hc)
  · obtain ⟨k1, k2⟩ := hk hd
    rw [q4 hd, q_cs, if_neg hd]
    have dl : (dO c).toNat < nd := by omega
    generalize (dO c).toNat = e at dl k1 k2 ⊢
    obtain ⟨d1, d2, d3⟩ := hdd e dl
    have zl := zD_lt (cd := cd) (d := e)
    have em : iI (zD cd e : Int) - 1 = iI ((zD cd e - 1 : Nat) : Int) := by
      rw [j1, i_sub]
      congr 1
      omega
    rw [v_gi d1.1 (k := 0) rfl, p_bs, c_sign hcd (by omega), q_uc, if_neg (show ¬ iI (zD cd e : Int) = 0 by rw [j0, j_eq (by omega) (by omega) (by omega) (by omega)]; omega), v_gi d1.1 (k := 0) rfl, p_bs, c_sign hcd (by omega), q_uc, if_pos (v_is d1.1), em, c_kind d1 (by omega) hN, q_uc]
