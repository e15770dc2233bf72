/-! PLAIN: Land.sees -/
theorem c_se37 {N b : Nat} {g : uEnv} {u : UH} {la da wa : Nat → Nat} {bk : Nat} {v8 v9 v10 : Value} {w h n nd c : Nat} {hts : Nat → Int} {fl : Nat → Nat} {dO kn : Nat → Int} {wg : Nat → Nat → Nat} (hL : vLd u g la da wa bk v8 v9 v10 w h n nd hts fl dO kn wg) (hc : c < n) : ∀ (m y acc : Nat), y ≤ 4 → 4 < y + m → acc < 32 → ∃ r : Nat, r < 32 ∧ f_X14_sees_37 N b g (la 0) m u (iI c) (iI acc) (some (la 6)) (iI 4) (iI y) = some (iI r, u) ∧ ∀ e, e < 5 → (r.testBit e = true ↔ (acc.testBit e = true ∨ ∃ y', y ≤ y' ∧ y' < 4 ∧ 0 ≤ besI w h c y' ∧ dO (besI w h c y').toNat = (e : Int))) := by
  obtain ⟨l0, hw, hh, hn, hnd, -, -, ⟨df, df1, df2⟩, -, ⟨yf, wr, y1, y2⟩, hdd⟩ := hL
  have m4 : w * h ≤ 10 * 10 := Nat.mul_le_mul hw.2 hh.2
  intro m
  induction m with
  | zero => intro y acc h1 h2; omega
  | succ m ih =>
    intro y acc h1 h2 h3
    rw [f_X14_sees_37]
    unfold f_X14_sees_90
    by_cases hy : y = 4
    · subst hy
      refine ⟨acc, h3, ?_, fun e he => ⟨fun z => Or.inl z, fun z => z.elim id (fun ⟨y', a, b, _⟩ => by omega)⟩⟩
      rw [if_pos (show iI (4 : Int) ≤ iI ((4 : Nat) : Int) from Int32.le_refl _)]
    · have ey : iI (y : Int) + 1 = iI ((y + 1 : Nat) : Int) := by
        rw [j1, i_add]
        rfl
      obtain ⟨w1, w2⟩ := y2 y (by omega)
      have Ly : uLdR u (la 6) 5 (iI (y : Int)) = some (some (wr y)) := by
        rw [u_ldR y1 (by omega) (by omega) (by omega)]
        exact congrArg some w1
      -- nothing new here
      have skip : (∀ e : Nat, e < 5 → ¬ (0 ≤ besI w h c y ∧ dO (besI w h c y).toNat = (e : Int))) → ∃ r : Nat, r < 32 ∧ f_X14_sees_37 N b g (la 0) m u (iI c) (iI acc) (some (la 6)) (iI 4) (iI ((y + 1 : Nat) : Int)) = some (iI r, u) ∧ ∀ e, e < 5 → (r.testBit e = true ↔ (acc.testBit e = true ∨ ∃ y', y ≤ y' ∧ y' < 4 ∧ 0 ≤ besI w h c y' ∧ dO (besI w h c y').toNat = (e : Int))) := fun hno => by
        obtain ⟨r, a1, a2, a3⟩ := ih (y + 1) acc (by omega) (by omega) h3
        refine ⟨r, a1, a2, fun e he => ?_⟩
        rw [a3 e he]
        constructor
        · rintro (z | ⟨y', b1, b2⟩)
          · exact Or.inl z
          · exact Or.inr ⟨y', by omega, b2⟩
        · rintro (z | ⟨y', b1, b2, b3⟩)
          · exact Or.inl z
          · by_cases x : y' = y
            · exact absurd (x ▸ b3) (hno e he)
            · exact Or.inr ⟨y', by omega, b2, b3⟩
      rw [n_le (by omega) (by omega) (by omega) (by omega) (by omega), p_bs, Ly, p_bs, if_pos (v_is l0), b_X14 l0 rfl rfl w2 hw hh (hn ▸ hc), q_uc]
      rcases bes_b (w := w) (h := h) (c := c) (d := y) hw hh with hb | ⟨hb0, hb1, hb2⟩
      · rw [hb, if_pos (show iI (-1) = -1 from rfl), p_let, ey]
        exact skip (fun e _ z => by omega)
      · obtain ⟨to, hto⟩ : ∃ to : Nat, besI w h c y = (to : Int) := ⟨(besI w h c y).toNat, by omega⟩
        rw [hto] at hb0 hb1 hb2
        have htn : to < n := by omega
        obtain ⟨q1, q2, q3, q4⟩ := df2 to htn
        have L : uLdR u (la 3) 6 (iI (to : Int)) = some (df to) := u_ldR df1 (by omega) (by omega) (by omega)
        have tt : (besI w h c y).toNat = to := by omega
        rw [hto, j_m1, n_eq (by omega) (by omega) (by omega) (by omega) (by omega), v_gr l0 (k := 5) rfl, p_bs, p_bs, L, p_bs]
        by_cases hd : dO to = -1
        · rw [q3 hd, q_cn, p_let, ey]
          exact skip (fun e _ z => by rw [tt] at z; omega)
        · obtain ⟨e0, he0⟩ : ∃ e0 : Nat, dO to = (e0 : Int) := ⟨(dO to).toNat, by omega⟩
          have hel : e0 < nd := by omega
          have hdf : df to = some (da e0) := by
            rw [q4 hd, he0]
            rfl
          obtain ⟨⟨d1, -⟩, -⟩ := hdd e0 hel
          have p16 : 2 ^ e0 ≤ 2 ^ 4 := Nat.pow_le_pow_right (by decide) (by omega)
          rw [hdf, q_cs, p_bs, p_bs, L, hdf, p_bs, p_bs, v_gi d1 (k := 0) rfl, p_bs, t_sh (by omega), t_or h3 (by omega), p_let, p_let, ey]
          have ol : acc ||| 2 ^ e0 < 32 := Nat.or_lt_two_pow (n := 5) h3 (by omega)
          obtain ⟨r, a1, a2, a3⟩ := ih (y + 1) (acc ||| 2 ^ e0) (by omega) (by omega) ol
          refine ⟨r, a1, a2, fun e he => ?_⟩
          rw [a3 e he, Nat.testBit_or, Nat.testBit_two_pow]
          constructor
          · rintro (z | ⟨y', b1, b2⟩)
            · by_cases x : e0 = e
              · refine Or.inr ⟨y, Nat.le_refl _, by omega, by omega, ?_⟩
                rw [tt, he0, x]
              · simp [x] at z
                exact Or.inl z
            · exact Or.inr ⟨y', by omega, b2⟩
          · rintro (z | ⟨y', b1, b2, b3, b4⟩)
            · exact Or.inl (by rw [z]; rfl)
            · by_cases x : y' = y
              · subst x
                rw [tt, he0] at b4
                have : e0 = e := by omega
                exact Or.inl (by simp [this])
              · exact Or.inr ⟨y', by omega, b2, b3, b4⟩
theorem c_sees {N b : Nat} {g : uEnv} {u : UH} {la da wa : Nat → Nat} {bk : Nat} {v8 v9 v10 : Value} {w h n nd c : Nat} {hts : Nat → Int} {fl : Nat → Nat} {dO kn : Nat → Int} {wg : Nat → Nat → Nat} {dc : Nat → Nat} (hL : vLd u g la da wa bk v8 v9 v10 w h n nd hts fl dO kn wg) (hc : c < n) (hdc : ∀ c, c < n → dO c ≠ -1 → dc (dO c).toNat = c) (hcd : ∀ e, e < nd → dc e < n ∧ dO (dc e) = (e : Int)) (hN : 5 ≤ N) : f_X14_sees N b g u (la 0) (iI c) = some (iI (zNb w h dc c nd), u) := by
  have hL' := hL
  obtain ⟨l0, hw, hh, hn, hnd, -, -, ⟨df, df1, df2⟩, -, ⟨yf, wr, y1, y2⟩, hdd⟩ := hL
  have m4 : w * h ≤ 10 * 10 := Nat.mul_le_mul hw.2 hh.2
  have lt : zNb w h dc c nd < 32 := Nat.lt_of_lt_of_le (zNb_lt nd) (Nat.pow_le_pow_right (by decide) hnd)
  obtain ⟨q1, q2, q3, q4⟩ := df2 c hc
  have L : uLdR u (la 3) 6 (iI (c : Int)) = some (df c) := u_ldR df1 (by omega) (by omega) (by omega)
  have fin : ∀ r : Nat, r < 32 → (∀ e, e < 5 → (r.testBit e = true ↔ (dO c = (e : Int) ∨ ∃ y', y' < 4 ∧ 0 ≤ besI w h c y' ∧ dO (besI w h c y').toNat = (e : Int)))) → r = zNb w h dc c nd := fun r hr hz => by
    have := t_eqF ⟨r, hr⟩ ⟨zNb w h dc c nd, lt⟩ (fun j => by
      show r.testBit j.1 = (zNb w h dc c nd).testBit j.1
      rw [zNb_t, Bool.eq_iff_iff, hz j.1 j.2, Bool.and_eq_true, decide_eq_true_eq, zNe_iff]
      constructor
      · rintro (z | ⟨y', b2, b3, b4⟩)
        · have := hdc c hc (by omega)
          rw [z] at this
          exact ⟨by omega, Or.inl this⟩
        · have hb := bes_b (w := w) (h := h) (c := c) (d := y') hw hh
          have ht : (besI w h c y').toNat < n := by omega
          have := hdc _ ht (by omega)
          rw [b4] at this
          obtain ⟨-, z2, -⟩ := df2 _ ht
          refine ⟨by omega, Or.inr ⟨y', b2, ?_⟩⟩
          have this' : dc j.1 = (besI w h c y').toNat := this
          omega
      · rintro ⟨z1, z2⟩
        obtain ⟨k1, k2⟩ := hcd j.1 z1
        rcases z2 with z2 | ⟨y', b1, b2⟩
        · left
          rw [← z2]
          exact k2
        · refine Or.inr ⟨y', b1, by omega, ?_⟩
          rw [show (besI w h c y').toNat = dc j.1 from by omega]
          exact k2)
    exact congrArg Fin.val this
  unfold f_X14_sees f_X14_sees_24
  rw [v_gr l0 (k := 5) rfl, p_bs, p_bs, L, p_bs]
  by_cases hd : dO c = -1
  · rw [q3 hd, q_cn, v_gr l0 (k := 7) rfl, p_bs, p_bs, u_len y1, p_bs]
    obtain ⟨r, a1, a2, a3⟩ := c_se37 (N := N) (b := b) hL' hc N 0 0 (by omega) (by omega) (by omega)
    have := fin r a1 (fun e he => by
      rw [a3 e he, Nat.zero_testBit]
      constructor
      · rintro (z | ⟨y', b1, b2⟩)
        · cases z
        · exact Or.inr ⟨y', b2⟩
      · rintro (z | ⟨y', b2⟩)
        · omega
        · exact Or.inr ⟨y', by omega, b2⟩)
    rw [← this]
    exact a2
  · obtain ⟨e0, he0⟩ : ∃ e0 : Nat, dO c = (e0 : Int) := ⟨(dO c).toNat, by omega⟩
    have hel : e0 < nd := by omega
    have hdf : df c = some (da e0) := by
      rw [q4 hd, he0]
      rfl
    obtain ⟨⟨d1, -⟩, -⟩ := hdd e0 hel
    have p16 : 2 ^ e0 ≤ 2 ^ 4 := Nat.pow_le_pow_right (by decide) (by omega)
    rw [hdf, q_cs, p_bs, p_bs, L, hdf, p_bs, p_bs, v_gi d1 (k := 0) rfl, p_bs, t_sh (by omega), v_gr l0 (k := 7) rfl, p_bs, p_bs, u_len y1, p_bs]
    obtain ⟨r, a1, a2, a3⟩ := c_se37 (N := N) (b := b) hL' hc N 0 (2 ^ e0) (by omega) (by omega) (by omega)
    have := fin r a1 (fun e he => by
      rw [a3 e he, Nat.testBit_two_pow, decide_eq_true_eq, he0]
      constructor
      · rintro (z | ⟨y', b1, b2⟩)
        · exact Or.inl (by omega)
        · exact Or.inr ⟨y', b2⟩
      · rintro (z | ⟨y', b2⟩)
        · exact Or.inl (by omega)
        · exact Or.inr ⟨y', by omega, b2⟩)
    rw [← this]
    exact a2
