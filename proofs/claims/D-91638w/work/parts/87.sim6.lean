/-! BY gen_sim.py -/
section
variable {N b : Nat} {g : uEnv} {A : pA} {u : UH}
set_option maxRecDepth 100000 in
theorem s_count_183 (hA : pGood b A)  {σ : MS} {s0 : Int32} : f_X3_count_183 N b g A.1 (pUp A u σ) s0 = (f_count_183 N σ s0).map (pL A u) := by
  simp only [f_X3_count_183, f_count_183, p_is, p_ldZ hA, p_stZ hA, p_ldL hA, p_stL hA, p_ib, p_fit, p_ucall, p_mcall, p_mcallv, p_mite, p_mbv, p_mb2, p_let, p_bs, p_ms, p_mn, p_pL, if_true, eq_self]
set_option maxRecDepth 100000 in
theorem s_count_199 (hA : pGood b A)  {σ : MS} {s0 : Int32} : f_X3_count_199 N b g A.1 (pUp A u σ) s0 = (f_count_199 N σ s0).map (pL A u) := by
  simp only [f_X3_count_199, f_count_199, p_is, p_ldZ hA, p_stZ hA, p_ldL hA, p_stL hA, p_ib, p_fit, p_ucall, p_mcall, p_mcallv, p_mite, p_mbv, p_mb2, p_let, p_bs, p_ms, p_mn, p_pL, if_true, eq_self]
set_option maxRecDepth 100000 in
theorem s_count_215 (hA : pGood b A)  {σ : MS} {s0 : Int32} : f_X3_count_215 N b g A.1 (pUp A u σ) s0 = (f_count_215 N σ s0).map (pL A u) := by
  simp only [f_X3_count_215, f_count_215, p_is, p_ldZ hA, p_stZ hA, p_ldL hA, p_stL hA, p_ib, p_fit, p_ucall, p_mcall, p_mcallv, p_mite, p_mbv, p_mb2, p_let, p_bs, p_ms, p_mn, p_pL, if_true, eq_self]
set_option maxRecDepth 100000 in
theorem s_count_231 (hA : pGood b A)  {σ : MS} {s0 : Int32} : f_X3_count_231 N b g A.1 (pUp A u σ) s0 = (f_count_231 N σ s0).map (pL A u) := by
  simp only [f_X3_count_231, f_count_231, p_is, p_ldZ hA, p_stZ hA, p_ldL hA, p_stL hA, p_ib, p_fit, p_ucall, p_mcall, p_mcallv, p_mite, p_mbv, p_mb2, p_let, p_bs, p_ms, p_mn, p_pL, if_true, eq_self]
set_option maxRecDepth 100000 in
theorem s_count_257 (hA : pGood b A)  {σ : MS} {s0 : Int32} : f_X3_count_257 N b g A.1 (pUp A u σ) s0 = (f_count_257 N σ s0).map (pL A u) := by
  simp only [f_X3_count_257, f_count_257, p_is, p_ldZ hA, p_stZ hA, p_ldL hA, p_stL hA, p_ib, p_fit, p_ucall, p_mcall, p_mcallv, p_mite, p_mbv, p_mb2, p_let, p_bs, p_ms, p_mn, p_pL, if_true, eq_self]
set_option maxRecDepth 100000 in
theorem s_count_273 (hA : pGood b A)  {σ : MS} {s0 : Int32} : f_X3_count_273 N b g A.1 (pUp A u σ) s0 = (f_count_273 N σ s0).map (pL A u) := by
  simp only [f_X3_count_273, f_count_273, p_is, p_ldZ hA, p_stZ hA, p_ldL hA, p_stL hA, p_ib, p_fit, p_ucall, p_mcall, p_mcallv, p_mite, p_mbv, p_mb2, p_let, p_bs, p_ms, p_mn, p_pL, if_true, eq_self]
set_option maxRecDepth 100000 in
theorem s_count_48 (hA : pGood b A)  {σ : MS} {x1 : Int32} {x2 : Int32} : f_X3_count_48 N b g A.1 (pUp A u σ) x1 x2 = (f_count_48 N σ x1 x2).map (pL A u) := by
  simp only [f_X3_count_48, f_count_48, s_count_135 hA, s_count_151 hA, s_count_167 hA, s_count_183 hA, s_count_199 hA, s_count_215 hA, s_count_231 hA, s_count_257 hA, s_count_273 hA, s_mostDug hA, p_gi (k := 2) rfl, p_gi (k := 12) rfl, p_gi (k := 22) rfl, p_gi (k := 23) rfl, p_gi (k := 24) rfl, p_gi (k := 25) rfl, p_gi (k := 26) rfl, p_gi (k := 27) rfl, p_gi (k := 28) rfl, p_gi (k := 34) rfl, p_gi (k := 35) rfl, p_gi (k := 36) rfl, p_gi (k := 37) rfl, p_gi (k := 38) rfl, p_gi (k := 40) rfl, p_is, p_ldZ hA, p_stZ hA, p_ldL hA, p_stL hA, p_ib, p_fit, p_ucall, p_mcall, p_mcallv, p_mite, p_mbv, p_mb2, p_let, p_bs, p_ms, p_mn, p_pL, if_true, eq_self]
set_option maxRecDepth 100000 in
theorem s_count_40 (hA : pGood b A) {k9 : UH → Int32 → Int32 → Int32 → Option (Int32 × UH)} {k9' : MS → Int32 → Int32 → Int32 → Option (Int32 × MS)} (hk9 : ∀ (σ : MS) (z0 : Int32) (z1 : Int32) (z2 : Int32), k9 (pUp A u σ) z0 z1 z2 = (k9' σ z0 z1 z2).map (pL A u)) {σ : MS} {x1 : Int32} {x3 : Int32} {s0 : Int32} {s1 : Int32} : f_X3_count_40 N b g A.1 k9 (pUp A u σ) x1 x3 s0 s1 = (f_count_40 N k9' σ x1 x3 s0 s1).map (pL A u) := by
  simp only [f_X3_count_40, f_count_40, hk9, p_is, p_ldZ hA, p_stZ hA, p_ldL hA, p_stL hA, p_ib, p_fit, p_ucall, p_mcall, p_mcallv, p_mite, p_mbv, p_mb2, p_let, p_bs, p_ms, p_mn, p_pL, if_true, eq_self]
set_option maxRecDepth 100000 in
theorem s_count_9 (hA : pGood b A)  : ∀ (n : Nat) (σ : MS) (x1 : Int32) (x2 : Int32) (x3 : Int32), f_X3_count_9 N b g A.1 n (pUp A u σ) x1 x2 x3 = (f_count_9 N n σ x1 x2 x3).map (pL A u) := by
  intro n
  induction n with
  | zero => intro σ x1 x2 x3; rfl
  | succ n ih =>
    intro σ x1 x2 x3
    simp only [f_X3_count_9, f_count_9, s_count_48 hA, s_count_40 hA ih, p_gi (k := 34) rfl, p_gi (k := 37) rfl, p_gr (k := 45) rfl, p_ldI hA (j := 45) rfl, p_is, p_ldZ hA, p_stZ hA, p_ldL hA, p_stL hA, p_ib, p_fit, p_ucall, p_mcall, p_mcallv, p_mite, p_mbv, p_mb2, p_let, p_bs, p_ms, p_mn, p_pL, if_true, eq_self, ih]
set_option maxRecDepth 100000 in
theorem s_count (hA : pGood b A)  {σ : MS} {x1 : Int32} : f_X3_count N b g (pUp A u σ) A.1 x1 = (f_count N σ x1).map (pL A u) := by
  simp only [f_X3_count, f_count, s_count_9 hA, p_put hA (k := 0) rfl, p_is, p_ldZ hA, p_stZ hA, p_ldL hA, p_stL hA, p_ib, p_fit, p_ucall, p_mcall, p_mcallv, p_mite, p_mbv, p_mb2, p_let, p_bs, p_ms, p_mn, p_pL, if_true, eq_self]
set_option maxRecDepth 100000 in
theorem s_trouble (hA : pGood b A)  {σ : MS}  : f_X3_trouble N b g (pUp A u σ) A.1 = (f_trouble N σ).map (pL A u) := by
  simp only [f_X3_trouble, f_trouble, p_gi (k := 39) rfl, p_put hA (k := 0) rfl, p_is, p_ldZ hA, p_stZ hA, p_ldL hA, p_stL hA, p_ib, p_fit, p_ucall, p_mcall, p_mcallv, p_mite, p_mbv, p_mb2, p_let, p_bs, p_ms, p_mn, p_pL, if_true, eq_self]
end
