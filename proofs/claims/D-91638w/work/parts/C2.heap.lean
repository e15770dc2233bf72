/-! PLAIN: the class's solver: costs; the heap while it solves -/
theorem nI_4 {y : Nat} (h : y < 4) : nI y = iI (y : Int) := by
  match y, h with
  | 0, _ => rfl
  | 1, _ => rfl
  | 2, _ => rfl
  | 3, _ => rfl
theorem c_ord {N b : Nat} {g : uEnv} {u : UH} {r y : Nat} (h : uWay g r = some y) (hy : y < 4) : f_J3_ordinal N b g u r = some (iI (y : Int), u) := by
  unfold f_J3_ordinal
  rw [h, p_bs, nI_4 hy]
theorem c_at {N b : Nat} {g : uEnv} {u : UH} {c r y q : Nat} (h : uWay g r = some y) (hy : y < 4) : f_X2_at N b g u (iI c) (some r) (iI q) = some (iI (((4 * c + y) * 8 + q : Nat) : Int), u) := by
  unfold f_X2_at
  rw [p_bs, c_ord h hy, q_uc, j4, i_mul, i_add, j8, i_mul, i_add]
  congr 2
/-- a cost, -1: none -/
def cN (k : Nat) : Int := if k = 0 then -1 else (k : Int)
theorem c_cost {N b : Nat} {g : uEnv} {u : UH} {la da wa sa : Nat → Nat} {bk so go r y : Nat} {jd v8 v9 v10 : Value} {w h n nd ng cd c : Nat} {hts : Nat → Int} {fl : Nat → Nat} {dO kn : Nat → Int} {wg : Nat → Nat → Nat} {BG : Nat → Nat → Nat → Nat} {cf : Nat → Int32} (hO : vSo u so (la 0) go n jd sa) (hL : vLd u g la da wa bk v8 v9 v10 w h n nd hts fl dO kn wg) (hC : u.2.2 (sa 8) = some (.inl (0, 3200, .inl cf))) (hcf : ∀ c y q, c < n → y < 4 → q < ng → cf ((4 * c + y) * 8 + q) = iI (cN (BG c y q))) (hng : ng ≤ 8) (hfl : ∀ c, c < n → fl c < ng) (hkd : ∀ e k, e < nd → k < zCn (wg e) 8 → zKd (wg e) k < ng) (hcd : cd < 1024) (hc : c < n) (hr : uWay g r = some y) (hy : y < 4) (hk : 0 ≤ besI w h c y → dO (besI w h c y).toNat ≠ -1 → zD cd (dO (besI w h c y).toNat).toNat ≠ 0 ∧ zD cd (dO (besI w h c y).toNat).toNat ≤ zCn (wg (dO (besI w h c y).toNat).toNat) 8) (hN : 9 ≤ N) : f_X2_cost N b g u so (iI c) (some r) (iI cd) = some (iI (cN (zK w h fl dO (fun e k => zKd (wg e) k) BG cd c y)), u) := by
  have hL' := hL
  obtain ⟨l0, hw, hh, hn, hnd, -, -, ⟨df, f1, f2⟩, -, -, hdd⟩ := hL
  have m4 : w * h ≤ 10 * 10 := Nat.mul_le_mul hw.2 hh.2
  unfold f_X2_cost f_X2_cost_38
  rw [v_gr hO (k := 0) rfl, p_bs, p_bs, if_pos (v_is l0), b_X14 l0 rfl rfl hr hw hh (hn ▸ hc), q_uc]
  rcases bes_b (w := w) (h := h) (c := c) (d := y) hw hh with hb | ⟨hb0, hb1, hb2⟩
  · have hz : zK w h fl dO (fun e k => zKd (wg e) k) BG cd c y = 0 := if_pos (by omega)
    rw [hz, hb, if_pos (show iI (-1) = -1 from rfl)]
    rfl
  · have ht : (besI w h c y).toNat < n := by omega
    have et : besI w h c y = (((besI w h c y).toNat : Nat) : Int) := by omega
    have hz : zK w h fl dO (fun e k => zKd (wg e) k) BG cd c y = BG c y (zGr fl dO wg cd (besI w h c y).toNat) := by
      unfold zK zGr
      rw [if_neg (by omega)]
      by_cases hd : dO (besI w h c y).toNat = -1
      · rw [if_pos hd, if_pos hd]
      · rw [if_neg hd, if_neg hd, if_neg (hk hb0 hd).1]
    have hq : zGr fl dO wg cd (besI w h c y).toNat < ng := by
      unfold zGr
      by_cases hd : dO (besI w h c y).toNat = -1
      · rw [if_pos hd]; exact hfl _ ht
      · rw [if_neg hd]
        obtain ⟨k1, k2⟩ := hk hb0 hd
        obtain ⟨q1, q2, -⟩ := f2 _ ht
        exact hkd _ _ (by omega) (by omega)
    have gf := c_gof (N := N) (b := b) hO hL' hcd ht (hk hb0) hN
    rw [j_m1, n_eq (by omega) (by omega) (by omega) (by omega) (by omega), v_gr hO (k := 8) rfl, p_bs, if_pos (v_is hO), show iI (besI w h c y) = iI (((besI w h c y).toNat : Nat) : Int) from congrArg iI et, gf, q_uc, c_at hr hy, q_uc, p_bs, u_ldI hC (by omega) (by omega) (by omega), p_bs, hz]
    exact congrArg (fun z => some (z, u)) (hcf c y _ hc hy hq)
/-- the heap while it solves: values, what is done, what is past -/
def kH (u : UH) (sa : Nat → Nat) (V : Nat → Int64) (D P : Nat → Int32) : UH := (u.1, u.2.1, fun x => if x = sa 4 then some (.inl (3, 102400, .inr (.inl V))) else if x = sa 5 then some (.inl (2, 1024, .inl D)) else if x = sa 6 then some (.inl (2, 100, .inl P)) else u.2.2 x)
/-- the three arrays are apart and ours -/
def kOk (b : Nat) (sa : Nat → Nat) : Prop := (b ≤ sa 4 ∧ b ≤ sa 5 ∧ b ≤ sa 6) ∧ sa 4 ≠ sa 5 ∧ sa 4 ≠ sa 6 ∧ sa 5 ≠ sa 6
/-- such arrays stand there -/
def kIs (u : UH) (sa : Nat → Nat) : Prop := (∃ z, u.2.2 (sa 4) = some (.inl (3, 102400, z))) ∧ (∃ z, u.2.2 (sa 5) = some (.inl (2, 1024, z))) ∧ ∃ z, u.2.2 (sa 6) = some (.inl (2, 100, z))
theorem kH_4 {u : UH} {sa : Nat → Nat} {V : Nat → Int64} {D P : Nat → Int32} : (kH u sa V D P).2.2 (sa 4) = some (.inl (3, 102400, .inr (.inl V))) := if_pos rfl
theorem kH_5 {b : Nat} {u : UH} {sa : Nat → Nat} {V : Nat → Int64} {D P : Nat → Int32} (h : kOk b sa) : (kH u sa V D P).2.2 (sa 5) = some (.inl (2, 1024, .inl D)) := (if_neg (Ne.symm h.2.1)).trans (if_pos rfl)
theorem kH_6 {b : Nat} {u : UH} {sa : Nat → Nat} {V : Nat → Int64} {D P : Nat → Int32} (h : kOk b sa) : (kH u sa V D P).2.2 (sa 6) = some (.inl (2, 100, .inl P)) := (if_neg (Ne.symm h.2.2.1)).trans ((if_neg (Ne.symm h.2.2.2)).trans (if_pos rfl))
theorem kH_n {u : UH} {sa : Nat → Nat} {V : Nat → Int64} {D P : Nat → Int32} {x : Nat} (h4 : x ≠ sa 4) (h5 : x ≠ sa 5) (h6 : x ≠ sa 6) : (kH u sa V D P).2.2 x = u.2.2 x := (if_neg h4).trans ((if_neg h5).trans (if_neg h6))
theorem kH_r {u : UH} {sa : Nat → Nat} {V : Nat → Int64} {D P : Nat → Int32} {x : Nat} {o : Nat × List Value} (hi : kIs u sa) (h : u.2.2 x = some (.inr o)) : (kH u sa V D P).2.2 x = some (.inr o) := by
  obtain ⟨⟨z4, i4⟩, ⟨z5, i5⟩, z6, i6⟩ := hi
  rw [kH_n (fun e => by rw [e, i4] at h; cases h) (fun e => by rw [e, i5] at h; cases h) (fun e => by rw [e, i6] at h; cases h)]
  exact h
theorem kH_l {u : UH} {sa : Nat → Nat} {V : Nat → Int64} {D P : Nat → Int32} {x t m : Nat} {z : uVs} (hi : kIs u sa) (h : u.2.2 x = some (.inl (t, m, z))) (h2 : t ≠ 2) (h3 : t ≠ 3) : (kH u sa V D P).2.2 x = some (.inl (t, m, z)) := by
  obtain ⟨⟨z4, i4⟩, ⟨z5, i5⟩, z6, i6⟩ := hi
  rw [kH_n (fun e => by rw [e, i4] at h; cases h; exact h3 rfl) (fun e => by rw [e, i5] at h; cases h; exact h2 rfl) (fun e => by rw [e, i6] at h; cases h; exact h2 rfl)]
  exact h
theorem vSo.kH {u : UH} {sa : Nat → Nat} {V : Nat → Int64} {D P : Nat → Int32} {so lm go n : Nat} {jd : Value} {sb : Nat → Nat} (hi : kIs u sa) (h : vSo u so lm go n jd sb) : vSo (kH u sa V D P) so lm go n jd sb := kH_r hi h
theorem vLd.kH {u : UH} {sa : Nat → Nat} {V : Nat → Int64} {D P : Nat → Int32} {g : uEnv} {la da wa : Nat → Nat} {bk : Nat} {v8 v9 v10 : Value} {w h n nd : Nat} {hts : Nat → Int} {fl : Nat → Nat} {dO kn : Nat → Int} {wg : Nat → Nat → Nat} (hi : kIs u sa) (hL : vLd u g la da wa bk v8 v9 v10 w h n nd hts fl dO kn wg) : vLd (kH u sa V D P) g la da wa bk v8 v9 v10 w h n nd hts fl dO kn wg := by
  obtain ⟨l0, hw, hh, hn, hnd, ⟨hf, a1, a2⟩, ⟨gf, g1, g2⟩, ⟨df, f1, f2⟩, ⟨m, mc, xs, ⟨x1, x2, x3⟩, x4⟩, ⟨yf, wr, y1, y2⟩, hdd⟩ := hL
  refine ⟨kH_r hi l0, hw, hh, hn, hnd, ⟨hf, kH_l hi a1 (by decide) (by decide), a2⟩, ⟨gf, kH_l hi g1 (by decide) (by decide), g2⟩, ⟨df, kH_l hi f1 (by decide) (by decide), f2⟩, ⟨m, mc, xs, ⟨kH_r hi x1, kH_l hi x2 (by decide) (by decide), x3⟩, x4⟩, ⟨yf, wr, kH_l hi y1 (by decide) (by decide), y2⟩, fun e he => ?_⟩
  obtain ⟨⟨d1, wf, d2, d3⟩, d4⟩ := hdd e he
  exact ⟨⟨kH_r hi d1, wf, kH_l hi d2 (by decide) (by decide), d3⟩, d4⟩
theorem kH_set4 {u : UH} {sa : Nat → Nat} {V V' : Nat → Int64} {D P : Nat → Int32} : uSet (kH u sa V D P) (sa 4) (.inl (3, 102400, .inr (.inl V'))) = kH u sa V' D P := by
  refine Prod.ext rfl (Prod.ext rfl ?_)
  funext x
  by_cases h : x = sa 4
  · rw [h, u_ss, kH_4]
  · rw [u_sn h]
    exact (if_neg h).trans (if_neg h).symm
theorem kH_set5 {b : Nat} {u : UH} {sa : Nat → Nat} {V : Nat → Int64} {D D' P : Nat → Int32} (hk : kOk b sa) : uSet (kH u sa V D P) (sa 5) (.inl (2, 1024, .inl D')) = kH u sa V D' P := by
  refine Prod.ext rfl (Prod.ext rfl ?_)
  funext x
  by_cases h : x = sa 5
  · rw [h, u_ss, kH_5 hk]
  · rw [u_sn h]
    by_cases h4 : x = sa 4
    · rw [h4, kH_4, kH_4]
    · exact (if_neg h4).trans ((if_neg h).trans ((if_neg h4).trans (if_neg h)).symm)
theorem kH_set6 {b : Nat} {u : UH} {sa : Nat → Nat} {V : Nat → Int64} {D P P' : Nat → Int32} (hk : kOk b sa) : uSet (kH u sa V D P) (sa 6) (.inl (2, 100, .inl P')) = kH u sa V D P' := by
  refine Prod.ext rfl (Prod.ext rfl ?_)
  funext x
  by_cases h : x = sa 6
  · rw [h, u_ss, kH_6 hk]
  · rw [u_sn h]
    by_cases h4 : x = sa 4
    · rw [h4, kH_4, kH_4]
    · by_cases h5 : x = sa 5
      · rw [h5, kH_5 hk, kH_5 hk]
      · rw [kH_n h4 h5 h, kH_n h4 h5 h]
theorem k_ldV {u : UH} {sa : Nat → Nat} {V : Nat → Int64} {D P : Nat → Int32} {i : Int} {k : Nat} (h : i = k) (h2 : k < 102400) : uLdL (kH u sa V D P) (sa 4) 3 (iI i) = some (V k) := by
  subst h
  exact u_ldL kH_4 (by omega) (by omega) (by omega)
theorem k_stV {b : Nat} {u : UH} {sa : Nat → Nat} {V : Nat → Int64} {D P : Nat → Int32} {i : Int} {k : Nat} {x : Int64} (hk : kOk b sa) (h : i = k) (h2 : k < 102400) : uStL b (kH u sa V D P) (sa 4) 3 (iI i) x = some (kH u sa (vp_updL V k x) D P) := by
  subst h
  rw [u_stL kH_4 hk.1.1 (by omega) (by omega) (by omega), kH_set4]
  rfl
theorem k_ldD {b : Nat} {u : UH} {sa : Nat → Nat} {V : Nat → Int64} {D P : Nat → Int32} {i : Int} {k : Nat} (hk : kOk b sa) (h : i = k) (h2 : k < 1024) : uLdI (kH u sa V D P) (sa 5) 2 (iI i) = some (D k) := by
  subst h
  exact u_ldI (kH_5 hk) (by omega) (by omega) (by omega)
theorem k_stD {b : Nat} {u : UH} {sa : Nat → Nat} {V : Nat → Int64} {D P : Nat → Int32} {i : Int} {k : Nat} {x : Int32} (hk : kOk b sa) (h : i = k) (h2 : k < 1024) : uStI b (kH u sa V D P) (sa 5) 2 (iI i) x = some (kH u sa V (upd D k x) P) := by
  subst h
  rw [u_stI (kH_5 hk) hk.1.2.1 (by omega) (by omega) (by omega), kH_set5 hk]
  rfl
theorem k_ldP {b : Nat} {u : UH} {sa : Nat → Nat} {V : Nat → Int64} {D P : Nat → Int32} {i : Int} {k : Nat} (hk : kOk b sa) (h : i = k) (h2 : k < 100) : uLdI (kH u sa V D P) (sa 6) 2 (iI i) = some (P k) := by
  subst h
  exact u_ldI (kH_6 hk) (by omega) (by omega) (by omega)
theorem k_stP {b : Nat} {u : UH} {sa : Nat → Nat} {V : Nat → Int64} {D P : Nat → Int32} {i : Int} {k : Nat} {x : Int32} (hk : kOk b sa) (h : i = k) (h2 : k < 100) : uStI b (kH u sa V D P) (sa 6) 2 (iI i) x = some (kH u sa V D (upd P k x)) := by
  subst h
  rw [u_stI (kH_6 hk) hk.1.2.2 (by omega) (by omega) (by omega), kH_set6 hk]
  rfl
