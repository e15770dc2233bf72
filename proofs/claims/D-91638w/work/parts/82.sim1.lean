/-! BY gen_sim.py -/
section
variable {N b : Nat} {g : uEnv} {A : pA} {u : UH}
set_option maxRecDepth 100000 in
theorem s_thrown (hA : pGood b A)  {σ : MS}  : f_X3_thrown N b g (pUp A u σ) A.1 = (f_thrown N σ).map (pL A u) := by
  simp only [f_X3_thrown, f_thrown, p_gi (k := 0) rfl, p_is, p_ldZ hA, p_stZ hA, p_ldL hA, p_stL hA, p_ib, p_fit, p_ucall, p_mcall, p_mcallv, p_mite, p_mbv, p_mb2, p_let, p_bs, p_ms, p_mn, p_pL, if_true, eq_self]
set_option maxRecDepth 100000 in
theorem s_good (hA : pGood b A)  {σ : MS}  : f_X3_good N b g (pUp A u σ) A.1 = (f_good N σ).map (pUp A u) := by
  simp only [f_X3_good, f_good, p_put hA (k := 0) rfl, p_put hA (k := 39) rfl, p_is, p_ldZ hA, p_stZ hA, p_ldL hA, p_stL hA, p_ib, p_fit, p_ucall, p_mcall, p_mcallv, p_mite, p_mbv, p_mb2, p_let, p_bs, p_ms, p_mn, p_pL, if_true, eq_self]
set_option maxRecDepth 100000 in
theorem s_within_15 (hA : pGood b A)  {σ : MS} {s0 : Int32} : f_X3_within_15 N b g (pUp A u σ) s0 = (f_within_15 N σ s0).map (pL A u) := by
  simp only [f_X3_within_15, f_within_15, p_is, p_ldZ hA, p_stZ hA, p_ldL hA, p_stL hA, p_ib, p_fit, p_ucall, p_mcall, p_mcallv, p_mite, p_mbv, p_mb2, p_let, p_bs, p_ms, p_mn, p_pL, if_true, eq_self]
set_option maxRecDepth 100000 in
theorem s_within_14 (hA : pGood b A)  {σ : MS}  : f_X3_within_14 N b g (pUp A u σ) = (f_within_14 N σ).map (pL A u) := by
  simp only [f_X3_within_14, f_within_14, s_within_15 hA, p_is, p_ldZ hA, p_stZ hA, p_ldL hA, p_stL hA, p_ib, p_fit, p_ucall, p_mcall, p_mcallv, p_mite, p_mbv, p_mb2, p_let, p_bs, p_ms, p_mn, p_pL, if_true, eq_self]
set_option maxRecDepth 100000 in
theorem s_within (hA : pGood b A)  {σ : MS} {x0 : Int32} {x1 : Int32} {x2 : Int32} : f_X3_within N b g (pUp A u σ) x0 x1 x2 = (f_within N σ x0 x1 x2).map (pL A u) := by
  simp only [f_X3_within, f_within, s_within_14 hA, s_within_15 hA, p_is, p_ldZ hA, p_stZ hA, p_ldL hA, p_stL hA, p_ib, p_fit, p_ucall, p_mcall, p_mcallv, p_mite, p_mbv, p_mb2, p_let, p_bs, p_ms, p_mn, p_pL, if_true, eq_self]
set_option maxRecDepth 100000 in
theorem s_no (hA : pGood b A)  {σ : MS} {x1 : Int32} : f_X3_no N b g (pUp A u σ) A.1 x1 = (f_no N σ x1).map (pL A u) := by
  simp only [f_X3_no, f_no, p_put hA (k := 39) rfl, p_is, p_ldZ hA, p_stZ hA, p_ldL hA, p_stL hA, p_ib, p_fit, p_ucall, p_mcall, p_mcallv, p_mite, p_mbv, p_mb2, p_let, p_bs, p_ms, p_mn, p_pL, if_true, eq_self]
set_option maxRecDepth 100000 in
theorem s_look_18 (hA : pGood b A)  {σ : MS} {s0 : Int32} : f_X3_look_18 N b g A.1 (pUp A u σ) s0 = (f_look_18 N σ s0).map (pL A u) := by
  simp only [f_X3_look_18, f_look_18, p_is, p_ldZ hA, p_stZ hA, p_ldL hA, p_stL hA, p_ib, p_fit, p_ucall, p_mcall, p_mcallv, p_mite, p_mbv, p_mb2, p_let, p_bs, p_ms, p_mn, p_pL, if_true, eq_self]
set_option maxRecDepth 100000 in
theorem s_look (hA : pGood b A)  {σ : MS} {x1 : Int32} : f_X3_look N b g (pUp A u σ) A.1 x1 = (f_look N σ x1).map (pL A u) := by
  simp only [f_X3_look, f_look, s_look_18 hA, p_gi (k := 3) rfl, p_gr (k := 1) rfl, p_ldI hA (j := 1) rfl, p_is, p_ldZ hA, p_stZ hA, p_ldL hA, p_stL hA, p_ib, p_fit, p_ucall, p_mcall, p_mcallv, p_mite, p_mbv, p_mb2, p_let, p_bs, p_ms, p_mn, p_pL, if_true, eq_self]
set_option maxRecDepth 100000 in
theorem s_isSmall_17 (hA : pGood b A)  {σ : MS} {s0 : Int32} : f_X3_isSmall_17 N b g (pUp A u σ) s0 = (f_isSmall_17 N σ s0).map (pL A u) := by
  simp only [f_X3_isSmall_17, f_isSmall_17, p_is, p_ldZ hA, p_stZ hA, p_ldL hA, p_stL hA, p_ib, p_fit, p_ucall, p_mcall, p_mcallv, p_mite, p_mbv, p_mb2, p_let, p_bs, p_ms, p_mn, p_pL, if_true, eq_self]
set_option maxRecDepth 100000 in
theorem s_isSmall_16 (hA : pGood b A)  {σ : MS}  : f_X3_isSmall_16 N b g (pUp A u σ) = (f_isSmall_16 N σ).map (pL A u) := by
  simp only [f_X3_isSmall_16, f_isSmall_16, s_isSmall_17 hA, p_is, p_ldZ hA, p_stZ hA, p_ldL hA, p_stL hA, p_ib, p_fit, p_ucall, p_mcall, p_mcallv, p_mite, p_mbv, p_mb2, p_let, p_bs, p_ms, p_mn, p_pL, if_true, eq_self]
set_option maxRecDepth 100000 in
theorem s_isSmall (hA : pGood b A)  {σ : MS} {x0 : Int32} : f_X3_isSmall N b g (pUp A u σ) x0 = (f_isSmall N σ x0).map (pL A u) := by
  simp only [f_X3_isSmall, f_isSmall, s_isSmall_16 hA, s_isSmall_17 hA, p_is, p_ldZ hA, p_stZ hA, p_ldL hA, p_stL hA, p_ib, p_fit, p_ucall, p_mcall, p_mcallv, p_mite, p_mbv, p_mb2, p_let, p_bs, p_ms, p_mn, p_pL, if_true, eq_self]
set_option maxRecDepth 100000 in
theorem s_isDigit_17 (hA : pGood b A)  {σ : MS} {s0 : Int32} : f_X3_isDigit_17 N b g (pUp A u σ) s0 = (f_isDigit_17 N σ s0).map (pL A u) := by
  simp only [f_X3_isDigit_17, f_isDigit_17, p_is, p_ldZ hA, p_stZ hA, p_ldL hA, p_stL hA, p_ib, p_fit, p_ucall, p_mcall, p_mcallv, p_mite, p_mbv, p_mb2, p_let, p_bs, p_ms, p_mn, p_pL, if_true, eq_self]
set_option maxRecDepth 100000 in
theorem s_isDigit_16 (hA : pGood b A)  {σ : MS}  : f_X3_isDigit_16 N b g (pUp A u σ) = (f_isDigit_16 N σ).map (pL A u) := by
  simp only [f_X3_isDigit_16, f_isDigit_16, s_isDigit_17 hA, p_is, p_ldZ hA, p_stZ hA, p_ldL hA, p_stL hA, p_ib, p_fit, p_ucall, p_mcall, p_mcallv, p_mite, p_mbv, p_mb2, p_let, p_bs, p_ms, p_mn, p_pL, if_true, eq_self]
set_option maxRecDepth 100000 in
theorem s_isDigit (hA : pGood b A)  {σ : MS} {x0 : Int32} : f_X3_isDigit N b g (pUp A u σ) x0 = (f_isDigit N σ x0).map (pL A u) := by
  simp only [f_X3_isDigit, f_isDigit, s_isDigit_16 hA, s_isDigit_17 hA, p_is, p_ldZ hA, p_stZ hA, p_ldL hA, p_stL hA, p_ib, p_fit, p_ucall, p_mcall, p_mcallv, p_mite, p_mbv, p_mb2, p_let, p_bs, p_ms, p_mn, p_pL, if_true, eq_self]
set_option maxRecDepth 100000 in
theorem s_beside_96 (hA : pGood b A)  {σ : MS} {s0 : Int32} : f_X3_beside_96 N b g A.1 (pUp A u σ) s0 = (f_beside_96 N σ s0).map (pL A u) := by
  simp only [f_X3_beside_96, f_beside_96, p_is, p_ldZ hA, p_stZ hA, p_ldL hA, p_stL hA, p_ib, p_fit, p_ucall, p_mcall, p_mcallv, p_mite, p_mbv, p_mb2, p_let, p_bs, p_ms, p_mn, p_pL, if_true, eq_self]
set_option maxRecDepth 100000 in
theorem s_beside_95 (hA : pGood b A)  {σ : MS}  : f_X3_beside_95 N b g A.1 (pUp A u σ) = (f_beside_95 N σ).map (pL A u) := by
  simp only [f_X3_beside_95, f_beside_95, s_beside_96 hA, p_is, p_ldZ hA, p_stZ hA, p_ldL hA, p_stL hA, p_ib, p_fit, p_ucall, p_mcall, p_mcallv, p_mite, p_mbv, p_mb2, p_let, p_bs, p_ms, p_mn, p_pL, if_true, eq_self]
set_option maxRecDepth 100000 in
theorem s_beside_51 (hA : pGood b A)  {σ : MS} {x3 : Int32} {s0 : Int32} {s1 : Int32} : f_X3_beside_51 N b g A.1 (pUp A u σ) x3 s0 s1 = (f_beside_51 N σ x3 s0 s1).map (pL A u) := by
  simp only [f_X3_beside_51, f_beside_51, s_within hA, s_beside_95 hA, s_beside_96 hA, p_gi (k := 35) rfl, p_gi (k := 36) rfl, p_is, p_ldZ hA, p_stZ hA, p_ldL hA, p_stL hA, p_ib, p_fit, p_ucall, p_mcall, p_mcallv, p_mite, p_mbv, p_mb2, p_let, p_bs, p_ms, p_mn, p_pL, if_true, eq_self]
set_option maxRecDepth 100000 in
theorem s_beside_24 (hA : pGood b A)  {σ : MS} {x1 : Int32} {x2 : Int32} {s0 : Int32} {s1 : Int32} : f_X3_beside_24 N b g A.1 (pUp A u σ) x1 x2 s0 s1 = (f_beside_24 N σ x1 x2 s0 s1).map (pL A u) := by
  simp only [f_X3_beside_24, f_beside_24, s_beside_51 hA, p_gi (k := 35) rfl, p_is, p_ldZ hA, p_stZ hA, p_ldL hA, p_stL hA, p_ib, p_fit, p_ucall, p_mcall, p_mcallv, p_mite, p_mbv, p_mb2, p_let, p_bs, p_ms, p_mn, p_pL, if_true, eq_self]
set_option maxRecDepth 100000 in
theorem s_beside (hA : pGood b A)  {σ : MS} {x1 : Int32} {x2 : Int32} : f_X3_beside N b g (pUp A u σ) A.1 x1 x2 = (f_beside N σ x1 x2).map (pL A u) := by
  simp only [f_X3_beside, f_beside, s_beside_24 hA, p_gi (k := 35) rfl, p_is, p_ldZ hA, p_stZ hA, p_ldL hA, p_stL hA, p_ib, p_fit, p_ucall, p_mcall, p_mcallv, p_mite, p_mbv, p_mb2, p_let, p_bs, p_ms, p_mn, p_pL, if_true, eq_self]
set_option maxRecDepth 100000 in
theorem s_down_21 (hA : pGood b A)  {σ : MS} {s0 : Int32} : f_X3_down_21 N b g (pUp A u σ) s0 = (f_down_21 N σ s0).map (pL A u) := by
  simp only [f_X3_down_21, f_down_21, p_is, p_ldZ hA, p_stZ hA, p_ldL hA, p_stL hA, p_ib, p_fit, p_ucall, p_mcall, p_mcallv, p_mite, p_mbv, p_mb2, p_let, p_bs, p_ms, p_mn, p_pL, if_true, eq_self]
set_option maxRecDepth 100000 in
theorem s_down_20 (hA : pGood b A)  {σ : MS} {x2 : Int32} : f_X3_down_20 N b g (pUp A u σ) x2 = (f_down_20 N σ x2).map (pL A u) := by
  simp only [f_X3_down_20, f_down_20, s_down_21 hA, p_is, p_ldZ hA, p_stZ hA, p_ldL hA, p_stL hA, p_ib, p_fit, p_ucall, p_mcall, p_mcallv, p_mite, p_mbv, p_mb2, p_let, p_bs, p_ms, p_mn, p_pL, if_true, eq_self]
set_option maxRecDepth 100000 in
theorem s_down (hA : pGood b A)  {σ : MS} {x0 : Int32} {x1 : Int32} : f_X3_down N b g (pUp A u σ) x0 x1 = (f_down N σ x0 x1).map (pL A u) := by
  simp only [f_X3_down, f_down, s_down_20 hA, s_down_21 hA, p_is, p_ldZ hA, p_stZ hA, p_ldL hA, p_stL hA, p_ib, p_fit, p_ucall, p_mcall, p_mcallv, p_mite, p_mbv, p_mb2, p_let, p_bs, p_ms, p_mn, p_pL, if_true, eq_self]
set_option maxRecDepth 100000 in
theorem s_between_24 (hA : pGood b A) {j0 : Nat} (hj0 : mInt j0 = true) : ∀ (n : Nat) (σ : MS) (x2 : Int32) (x3 : Int32) (x4 : Int32) (x5 : Int32), f_X3_between_24 N b g n (pUp A u σ) (some (A.2 j0)) x2 x3 x4 x5 = (f_between_24 N j0 n σ x2 x3 x4 x5).map (pL A u) := by
  intro n
  induction n with
  | zero => intro σ x2 x3 x4 x5; rfl
  | succ n ih =>
    intro σ x2 x3 x4 x5
    simp only [f_X3_between_24, f_between_24, s_down hA, hj0, p_ldI hA hj0, p_is, p_ldZ hA, p_stZ hA, p_ldL hA, p_stL hA, p_ib, p_fit, p_ucall, p_mcall, p_mcallv, p_mite, p_mbv, p_mb2, p_let, p_bs, p_ms, p_mn, p_pL, if_true, eq_self, ih]
set_option maxRecDepth 100000 in
theorem s_between (hA : pGood b A) {j0 : Nat} (hj0 : mInt j0 = true) {σ : MS} {x1 : Int32} {x2 : Int32} {x3 : Int32} : f_X3_between N b g (pUp A u σ) (some (A.2 j0)) x1 x2 x3 = (f_between N j0 σ x1 x2 x3).map (pL A u) := by
  simp only [f_X3_between, f_between, s_between_24 hA hj0, hj0, p_ldI hA hj0, p_is, p_ldZ hA, p_stZ hA, p_ldL hA, p_stL hA, p_ib, p_fit, p_ucall, p_mcall, p_mcallv, p_mite, p_mbv, p_mb2, p_let, p_bs, p_ms, p_mn, p_pL, if_true, eq_self]
set_option maxRecDepth 100000 in
theorem s_feed_76 (hA : pGood b A) {k23 : UH → Int32 → Int32 → Int32 → Int32 → Int32 → Int32 → Option (Int32 × UH)} {k23' : MS → Int32 → Int32 → Int32 → Int32 → Int32 → Int32 → Option (Int32 × MS)} (hk23 : ∀ (σ : MS) (z0 : Int32) (z1 : Int32) (z2 : Int32) (z3 : Int32) (z4 : Int32) (z5 : Int32), k23 (pUp A u σ) z0 z1 z2 z3 z4 z5 = (k23' σ z0 z1 z2 z3 z4 z5).map (pL A u)) {σ : MS} {x1 : Int32} {x2 : Int32} {x3 : Int32} {x4 : Int32} {x5 : Int32} {x6 : Int32} {s0 : Int32} : f_X3_feed_76 N b g A.1 k23 (pUp A u σ) x1 x2 x3 x4 x5 x6 s0 = (f_feed_76 N k23' σ x1 x2 x3 x4 x5 x6 s0).map (pL A u) := by
  simp only [f_X3_feed_76, f_feed_76, hk23, p_gi (k := 2) rfl, p_gr (k := 1) rfl, p_put hA (k := 2) rfl, p_stI hA (j := 1) rfl, p_is, p_ldZ hA, p_stZ hA, p_ldL hA, p_stL hA, p_ib, p_fit, p_ucall, p_mcall, p_mcallv, p_mite, p_mbv, p_mb2, p_let, p_bs, p_ms, p_mn, p_pL, if_true, eq_self]
set_option maxRecDepth 100000 in
theorem s_feed_23 (hA : pGood b A)  : ∀ (n : Nat) (σ : MS) (x1 : Int32) (x2 : Int32) (x3 : Int32) (x4 : Int32) (x5 : Int32) (x6 : Int32), f_X3_feed_23 N b g A.1 n (pUp A u σ) x1 x2 x3 x4 x5 x6 = (f_feed_23 N n σ x1 x2 x3 x4 x5 x6).map (pL A u) := by
  intro n
  induction n with
  | zero => intro σ x1 x2 x3 x4 x5 x6; rfl
  | succ n ih =>
    intro σ x1 x2 x3 x4 x5 x6
    simp only [f_X3_feed_23, f_feed_23, s_feed_76 hA ih, p_gi (k := 2) rfl, p_is, p_ldZ hA, p_stZ hA, p_ldL hA, p_stL hA, p_ib, p_fit, p_ucall, p_mcall, p_mcallv, p_mite, p_mbv, p_mb2, p_let, p_bs, p_ms, p_mn, p_pL, if_true, eq_self, ih]
set_option maxRecDepth 100000 in
theorem s_feed (hA : pGood b A)  {σ : MS} {x1 : Int32} {x2 : Int32} {x3 : Int32} {x4 : Int32} {x5 : Int32} : f_X3_feed N b g (pUp A u σ) A.1 x1 x2 x3 x4 x5 = (f_feed N σ x1 x2 x3 x4 x5).map (pL A u) := by
  simp only [f_X3_feed, f_feed, s_feed_23 hA, p_gi (k := 2) rfl, p_put hA (k := 0) rfl, p_is, p_ldZ hA, p_stZ hA, p_ldL hA, p_stL hA, p_ib, p_fit, p_ucall, p_mcall, p_mcallv, p_mite, p_mbv, p_mb2, p_let, p_bs, p_ms, p_mn, p_pL, if_true, eq_self]
set_option maxRecDepth 100000 in
theorem s_cell_26 (hA : pGood b A) {j1 : Nat} (hj1 : mInt j1 = true) {σ : MS} {x3 : Int32} : f_X3_cell_26 N b g A.1 (pUp A u σ) x3 = (f_cell_26 N j1 σ x3).map (pL A u) := by
  simp only [f_X3_cell_26, f_cell_26, hj1, p_is, p_ldZ hA, p_stZ hA, p_ldL hA, p_stL hA, p_ib, p_fit, p_ucall, p_mcall, p_mcallv, p_mite, p_mbv, p_mb2, p_let, p_bs, p_ms, p_mn, p_pL, if_true, eq_self]
set_option maxRecDepth 100000 in
theorem s_cell (hA : pGood b A) {j1 : Nat} (hj1 : mInt j1 = true) {σ : MS} {x2 : Int32} {x3 : Int32} {x4 : Int32} : f_X3_cell N b g (pUp A u σ) A.1 (some (A.2 j1)) x2 x3 x4 = (f_cell N j1 σ x2 x3 x4).map (pL A u) := by
  simp only [f_X3_cell, f_cell, s_cell_26 hA hj1, hj1, p_gr (k := 33) rfl, p_ldI hA (j := 33) rfl, p_stI hA (j := 33) rfl, p_ldI hA hj1, p_stI hA hj1, p_is, p_ldZ hA, p_stZ hA, p_ldL hA, p_stL hA, p_ib, p_fit, p_ucall, p_mcall, p_mcallv, p_mite, p_mbv, p_mb2, p_let, p_bs, p_ms, p_mn, p_pL, if_true, eq_self]
set_option maxRecDepth 100000 in
theorem s_store_349 (hA : pGood b A)  {σ : MS}  : f_X3_store_349 N b g A.1 (pUp A u σ) = (f_store_349 N σ).map (pUp A u) := by
  simp only [f_X3_store_349, f_store_349, p_is, p_ldZ hA, p_stZ hA, p_ldL hA, p_stL hA, p_ib, p_fit, p_ucall, p_mcall, p_mcallv, p_mite, p_mbv, p_mb2, p_let, p_bs, p_ms, p_mn, p_pL, if_true, eq_self]
set_option maxRecDepth 100000 in
theorem s_store_128 (hA : pGood b A)  : ∀ (n : Nat) (σ : MS) (x1 : Int32) (x2 : Int32) (x3 : Int32), f_X3_store_128 N b g A.1 n (pUp A u σ) x1 x2 x3 = (f_store_128 N n σ x1 x2 x3).map (pUp A u) := by
  intro n
  induction n with
  | zero => intro σ x1 x2 x3; rfl
  | succ n ih =>
    intro σ x1 x2 x3
    simp only [f_X3_store_128, f_store_128, s_store_349 hA, s_cell hA (j1 := 30) rfl, s_cell hA (j1 := 31) rfl, s_cell hA (j1 := 32) rfl, s_cell hA (j1 := 33) rfl, p_gi (k := 22) rfl, p_gi (k := 23) rfl, p_gi (k := 24) rfl, p_gi (k := 25) rfl, p_gi (k := 26) rfl, p_gi (k := 27) rfl, p_gi (k := 28) rfl, p_gr (k := 30) rfl, p_gr (k := 31) rfl, p_gr (k := 32) rfl, p_gr (k := 33) rfl, p_put hA (k := 22) rfl, p_put hA (k := 23) rfl, p_put hA (k := 24) rfl, p_put hA (k := 25) rfl, p_put hA (k := 26) rfl, p_put hA (k := 27) rfl, p_put hA (k := 28) rfl, p_ldI hA (j := 30) rfl, p_stI hA (j := 30) rfl, p_ldI hA (j := 31) rfl, p_stI hA (j := 31) rfl, p_ldI hA (j := 32) rfl, p_stI hA (j := 32) rfl, p_ldI hA (j := 33) rfl, p_stI hA (j := 33) rfl, p_is, p_ldZ hA, p_stZ hA, p_ldL hA, p_stL hA, p_ib, p_fit, p_ucall, p_mcall, p_mcallv, p_mite, p_mbv, p_mb2, p_let, p_bs, p_ms, p_mn, p_pL, if_true, eq_self, ih]
set_option maxRecDepth 100000 in
theorem s_store_66 (hA : pGood b A)  : ∀ (n : Nat) (σ : MS) (x1 : Int32) (x2 : Int32) (x3 : Int32), f_X3_store_66 N b g A.1 n (pUp A u σ) x1 x2 x3 = (f_store_66 N n σ x1 x2 x3).map (pUp A u) := by
  intro n
  induction n with
  | zero => intro σ x1 x2 x3; rfl
  | succ n ih =>
    intro σ x1 x2 x3
    simp only [f_X3_store_66, f_store_66, s_store_128 hA, s_cell hA (j1 := 15) rfl, s_cell hA (j1 := 17) rfl, s_cell hA (j1 := 18) rfl, s_cell hA (j1 := 19) rfl, p_gr (k := 15) rfl, p_gr (k := 17) rfl, p_gr (k := 18) rfl, p_gr (k := 19) rfl, p_is, p_ldZ hA, p_stZ hA, p_ldL hA, p_stL hA, p_ib, p_fit, p_ucall, p_mcall, p_mcallv, p_mite, p_mbv, p_mb2, p_let, p_bs, p_ms, p_mn, p_pL, if_true, eq_self, ih]
set_option maxRecDepth 100000 in
theorem s_store_4 (hA : pGood b A)  : ∀ (n : Nat) (σ : MS) (x1 : Int32) (x2 : Int32) (x3 : Int32), f_X3_store_4 N b g A.1 n (pUp A u σ) x1 x2 x3 = (f_store_4 N n σ x1 x2 x3).map (pUp A u) := by
  intro n
  induction n with
  | zero => intro σ x1 x2 x3; rfl
  | succ n ih =>
    intro σ x1 x2 x3
    simp only [f_X3_store_4, f_store_4, s_store_66 hA, s_cell hA (j1 := 14) rfl, s_cell hA (j1 := 16) rfl, s_cell hA (j1 := 20) rfl, s_cell hA (j1 := 21) rfl, p_gr (k := 14) rfl, p_gr (k := 16) rfl, p_gr (k := 20) rfl, p_gr (k := 21) rfl, p_is, p_ldZ hA, p_stZ hA, p_ldL hA, p_stL hA, p_ib, p_fit, p_ucall, p_mcall, p_mcallv, p_mite, p_mbv, p_mb2, p_let, p_bs, p_ms, p_mn, p_pL, if_true, eq_self, ih]
set_option maxRecDepth 100000 in
theorem s_store (hA : pGood b A)  {σ : MS} {x1 : Int32} : f_X3_store N b g (pUp A u σ) A.1 x1 = (f_store N σ x1).map (pUp A u) := by
  simp only [f_X3_store, f_store, s_store_4 hA, p_is, p_ldZ hA, p_stZ hA, p_ldL hA, p_stL hA, p_ib, p_fit, p_ucall, p_mcall, p_mcallv, p_mite, p_mbv, p_mb2, p_let, p_bs, p_ms, p_mn, p_pL, if_true, eq_self]
set_option maxRecDepth 100000 in
theorem s_next_265 (hA : pGood b A)  {σ : MS}  : f_X3_next_265 N b g A.1 (pUp A u σ) = (f_next_265 N σ).map (pUp A u) := by
  simp only [f_X3_next_265, f_next_265, p_is, p_ldZ hA, p_stZ hA, p_ldL hA, p_stL hA, p_ib, p_fit, p_ucall, p_mcall, p_mcallv, p_mite, p_mbv, p_mb2, p_let, p_bs, p_ms, p_mn, p_pL, if_true, eq_self]
set_option maxRecDepth 100000 in
theorem s_next_262 (hA : pGood b A)  {σ : MS} {s0 : Int32} : f_X3_next_262 N b g A.1 (pUp A u σ) s0 (some A.1) = (f_next_262 N σ s0).map (pUp A u) := by
  simp only [f_X3_next_262, f_next_262, s_next_265 hA, p_put hA (k := 6) rfl, p_is, p_ldZ hA, p_stZ hA, p_ldL hA, p_stL hA, p_ib, p_fit, p_ucall, p_mcall, p_mcallv, p_mite, p_mbv, p_mb2, p_let, p_bs, p_ms, p_mn, p_pL, if_true, eq_self]
set_option maxRecDepth 100000 in
theorem s_next_257 (hA : pGood b A)  {σ : MS} {x2 : Int32} : f_X3_next_257 N b g A.1 (pUp A u σ) x2 (some A.1) = (f_next_257 N σ x2).map (pUp A u) := by
  simp only [f_X3_next_257, f_next_257, s_next_262 hA, p_is, p_ldZ hA, p_stZ hA, p_ldL hA, p_stL hA, p_ib, p_fit, p_ucall, p_mcall, p_mcallv, p_mite, p_mbv, p_mb2, p_let, p_bs, p_ms, p_mn, p_pL, if_true, eq_self]
set_option maxRecDepth 100000 in
theorem s_next_213 (hA : pGood b A)  {σ : MS} {s0 : Int32} : f_X3_next_213 N b g A.1 (pUp A u σ) s0 (some A.1) = (f_next_213 N σ s0).map (pUp A u) := by
  simp only [f_X3_next_213, f_next_213, s_next_265 hA, p_put hA (k := 6) rfl, p_is, p_ldZ hA, p_stZ hA, p_ldL hA, p_stL hA, p_ib, p_fit, p_ucall, p_mcall, p_mcallv, p_mite, p_mbv, p_mb2, p_let, p_bs, p_ms, p_mn, p_pL, if_true, eq_self]
set_option maxRecDepth 100000 in
theorem s_next_188 (hA : pGood b A) {k152 : UH → Int32 → Int32 → Option (UH)} {k152' : MS → Int32 → Int32 → Option (MS)} (hk152 : ∀ (σ : MS) (z0 : Int32) (z1 : Int32), k152 (pUp A u σ) z0 z1 = (k152' σ z0 z1).map (pUp A u)) {σ : MS} {x1 : Int32} {x3 : Int32} : f_X3_next_188 N b g A.1 k152 (pUp A u σ) x1 x3 = (f_next_188 N k152' σ x1 x3).map (pUp A u) := by
  simp only [f_X3_next_188, f_next_188, hk152, p_is, p_ldZ hA, p_stZ hA, p_ldL hA, p_stL hA, p_ib, p_fit, p_ucall, p_mcall, p_mcallv, p_mite, p_mbv, p_mb2, p_let, p_bs, p_ms, p_mn, p_pL, if_true, eq_self]
set_option maxRecDepth 100000 in
theorem s_next_152 (hA : pGood b A)  : ∀ (n : Nat) (σ : MS) (x1 : Int32) (x3 : Int32), f_X3_next_152 N b g A.1 n (pUp A u σ) x1 x3 = (f_next_152 N n σ x1 x3).map (pUp A u) := by
  intro n
  induction n with
  | zero => intro σ x1 x3; rfl
  | succ n ih =>
    intro σ x1 x3
    simp only [f_X3_next_152, f_next_152, s_look hA, s_isDigit hA, s_next_213 hA, s_next_188 hA ih, p_gi (k := 7) rfl, p_put hA (k := 5) rfl, p_put hA (k := 7) rfl, p_is, p_ldZ hA, p_stZ hA, p_ldL hA, p_stL hA, p_ib, p_fit, p_ucall, p_mcall, p_mcallv, p_mite, p_mbv, p_mb2, p_let, p_bs, p_ms, p_mn, p_pL, if_true, eq_self, ih]
set_option maxRecDepth 100000 in
theorem s_next_137 (hA : pGood b A)  {σ : MS} {s0 : Int32} : f_X3_next_137 N b g A.1 (pUp A u σ) s0 (some A.1) = (f_next_137 N σ s0).map (pUp A u) := by
  simp only [f_X3_next_137, f_next_137, s_next_265 hA, p_put hA (k := 6) rfl, p_is, p_ldZ hA, p_stZ hA, p_ldL hA, p_stL hA, p_ib, p_fit, p_ucall, p_mcall, p_mcallv, p_mite, p_mbv, p_mb2, p_let, p_bs, p_ms, p_mn, p_pL, if_true, eq_self]
set_option maxRecDepth 100000 in
theorem s_next_101 (hA : pGood b A) {k67 : UH → Int32 → Option (UH)} {k67' : MS → Int32 → Option (MS)} (hk67 : ∀ (σ : MS) (z0 : Int32), k67 (pUp A u σ) z0 = (k67' σ z0).map (pUp A u)) {σ : MS} {x1 : Int32} : f_X3_next_101 N b g A.1 k67 (pUp A u σ) x1 = (f_next_101 N k67' σ x1).map (pUp A u) := by
  simp only [f_X3_next_101, f_next_101, hk67, p_gi (k := 8) rfl, p_put hA (k := 8) rfl, p_is, p_ldZ hA, p_stZ hA, p_ldL hA, p_stL hA, p_ib, p_fit, p_ucall, p_mcall, p_mcallv, p_mite, p_mbv, p_mb2, p_let, p_bs, p_ms, p_mn, p_pL, if_true, eq_self]
set_option maxRecDepth 100000 in
theorem s_next_67 (hA : pGood b A)  : ∀ (n : Nat) (σ : MS) (x1 : Int32), f_X3_next_67 N b g A.1 n (pUp A u σ) x1 = (f_next_67 N n σ x1).map (pUp A u) := by
  intro n
  induction n with
  | zero => intro σ x1; rfl
  | succ n ih =>
    intro σ x1
    simp only [f_X3_next_67, f_next_67, s_look hA, s_isSmall hA, s_next_137 hA, s_next_101 hA ih, p_gi (k := 8) rfl, p_gr (k := 11) rfl, p_put hA (k := 5) rfl, p_stI hA (j := 11) rfl, p_is, p_ldZ hA, p_stZ hA, p_ldL hA, p_stL hA, p_ib, p_fit, p_ucall, p_mcall, p_mcallv, p_mite, p_mbv, p_mb2, p_let, p_bs, p_ms, p_mn, p_pL, if_true, eq_self, ih]
set_option maxRecDepth 100000 in
theorem s_next_5 (hA : pGood b A)  : ∀ (n : Nat) (σ : MS) (x1 : Int32), f_X3_next_5 N b g A.1 n (pUp A u σ) x1 = (f_next_5 N n σ x1).map (pUp A u) := by
  intro n
  induction n with
  | zero => intro σ x1; rfl
  | succ n ih =>
    intro σ x1
    simp only [f_X3_next_5, f_next_5, s_look hA, s_next_265 hA, s_isSmall hA, s_isDigit hA, s_next_257 hA, s_next_262 hA, s_next_152 hA, s_next_67 hA, p_put hA (k := 4) rfl, p_put hA (k := 5) rfl, p_put hA (k := 6) rfl, p_put hA (k := 7) rfl, p_put hA (k := 8) rfl, p_is, p_ldZ hA, p_stZ hA, p_ldL hA, p_stL hA, p_ib, p_fit, p_ucall, p_mcall, p_mcallv, p_mite, p_mbv, p_mb2, p_let, p_bs, p_ms, p_mn, p_pL, if_true, eq_self, ih]
set_option maxRecDepth 100000 in
theorem s_next (hA : pGood b A)  {σ : MS}  : f_X3_next N b g (pUp A u σ) A.1 = (f_next N σ).map (pUp A u) := by
  simp only [f_X3_next, f_next, s_next_5 hA, p_gi (k := 5) rfl, p_is, p_ldZ hA, p_stZ hA, p_ldL hA, p_stL hA, p_ib, p_fit, p_ucall, p_mcall, p_mcallv, p_mite, p_mbv, p_mb2, p_let, p_bs, p_ms, p_mn, p_pL, if_true, eq_self]
set_option maxRecDepth 100000 in
theorem s_begins (hA : pGood b A)  {σ : MS} {x1 : Int32} : f_X3_begins N b g (pUp A u σ) A.1 x1 = (f_begins N σ x1).map (pUp A u) := by
  simp only [f_X3_begins, f_begins, s_next hA, p_put hA (k := 3) rfl, p_put hA (k := 5) rfl, p_put hA (k := 13) rfl, p_is, p_ldZ hA, p_stZ hA, p_ldL hA, p_stL hA, p_ib, p_fit, p_ucall, p_mcall, p_mcallv, p_mite, p_mbv, p_mb2, p_let, p_bs, p_ms, p_mn, p_pL, if_true, eq_self]
set_option maxRecDepth 100000 in
theorem s_wrong_22 (hA : pGood b A)  {σ : MS}  : f_X3_wrong_22 N b g A.1 (pUp A u σ) = (f_wrong_22 N σ).map (pL A u) := by
  simp only [f_X3_wrong_22, f_wrong_22, p_is, p_ldZ hA, p_stZ hA, p_ldL hA, p_stL hA, p_ib, p_fit, p_ucall, p_mcall, p_mcallv, p_mite, p_mbv, p_mb2, p_let, p_bs, p_ms, p_mn, p_pL, if_true, eq_self]
set_option maxRecDepth 100000 in
theorem s_wrong (hA : pGood b A)  {σ : MS} {x1 : Int32} {x2 : Int32} : f_X3_wrong N b g (pUp A u σ) A.1 x1 x2 = (f_wrong N σ x1 x2).map (pL A u) := by
  simp only [f_X3_wrong, f_wrong, s_wrong_22 hA, p_gi (k := 13) rfl, p_put hA (k := 9) rfl, p_put hA (k := 10) rfl, p_put hA (k := 13) rfl, p_is, p_ldZ hA, p_stZ hA, p_ldL hA, p_stL hA, p_ib, p_fit, p_ucall, p_mcall, p_mcallv, p_mite, p_mbv, p_mb2, p_let, p_bs, p_ms, p_mn, p_pL, if_true, eq_self]
set_option maxRecDepth 100000 in
theorem s_find_77 (hA : pGood b A) {j1 : Nat} (hj1 : mInt j1 = true) {j2 : Nat} (hj2 : mInt j2 = true) {k3 : UH → Option Nat → Option Nat → Int32 → Int32 → Option (Int32 × UH)} {k3' : MS → Int32 → Int32 → Option (Int32 × MS)} (hk3 : ∀ (σ : MS) (z0 : Int32) (z1 : Int32), k3 (pUp A u σ) (some (A.2 j1)) (some (A.2 j2)) z0 z1 = (k3' σ z0 z1).map (pL A u)) {σ : MS} {x3 : Int32} {x4 : Int32} {x5 : Int32} : f_X3_find_77 N b g A.1 k3 (pUp A u σ) (some (A.2 j1)) (some (A.2 j2)) x3 x4 x5 = (f_find_77 N j1 j2 k3' σ x3 x4 x5).map (pL A u) := by
  simp only [f_X3_find_77, f_find_77, hj1, hj2, hk3, p_is, p_ldZ hA, p_stZ hA, p_ldL hA, p_stL hA, p_ib, p_fit, p_ucall, p_mcall, p_mcallv, p_mite, p_mbv, p_mb2, p_let, p_bs, p_ms, p_mn, p_pL, if_true, eq_self]
set_option maxRecDepth 100000 in
theorem s_find_69 (hA : pGood b A) {j1 : Nat} (hj1 : mInt j1 = true) {j2 : Nat} (hj2 : mInt j2 = true) {k3 : UH → Option Nat → Option Nat → Int32 → Int32 → Option (Int32 × UH)} {k3' : MS → Int32 → Int32 → Option (Int32 × MS)} (hk3 : ∀ (σ : MS) (z0 : Int32) (z1 : Int32), k3 (pUp A u σ) (some (A.2 j1)) (some (A.2 j2)) z0 z1 = (k3' σ z0 z1).map (pL A u)) {k30 : UH → Option Nat → Option Nat → Int32 → Int32 → Int32 → Int32 → Option (Int32 × UH)} {k30' : MS → Int32 → Int32 → Int32 → Int32 → Option (Int32 × MS)} (hk30 : ∀ (σ : MS) (z0 : Int32) (z1 : Int32) (z2 : Int32) (z3 : Int32), k30 (pUp A u σ) (some (A.2 j1)) (some (A.2 j2)) z0 z1 z2 z3 = (k30' σ z0 z1 z2 z3).map (pL A u)) {σ : MS} {x3 : Int32} {x4 : Int32} {x6 : Int32} {s0 : Int32} : f_X3_find_69 N b g A.1 k3 k30 (pUp A u σ) (some (A.2 j1)) (some (A.2 j2)) x3 x4 x6 s0 = (f_find_69 N j1 j2 k3' k30' σ x3 x4 x6 s0).map (pL A u) := by
  simp only [f_X3_find_69, f_find_69, hj1, hj2, hk3, hk30, p_is, p_ldZ hA, p_stZ hA, p_ldL hA, p_stL hA, p_ib, p_fit, p_ucall, p_mcall, p_mcallv, p_mite, p_mbv, p_mb2, p_let, p_bs, p_ms, p_mn, p_pL, if_true, eq_self]
set_option maxRecDepth 100000 in
theorem s_find_30 (hA : pGood b A) {j1 : Nat} (hj1 : mInt j1 = true) {j2 : Nat} (hj2 : mInt j2 = true) {k3 : UH → Option Nat → Option Nat → Int32 → Int32 → Option (Int32 × UH)} {k3' : MS → Int32 → Int32 → Option (Int32 × MS)} (hk3 : ∀ (σ : MS) (z0 : Int32) (z1 : Int32), k3 (pUp A u σ) (some (A.2 j1)) (some (A.2 j2)) z0 z1 = (k3' σ z0 z1).map (pL A u)) : ∀ (n : Nat) (σ : MS) (x3 : Int32) (x4 : Int32) (x5 : Int32) (x6 : Int32), f_X3_find_30 N b g A.1 k3 n (pUp A u σ) (some (A.2 j1)) (some (A.2 j2)) x3 x4 x5 x6 = (f_find_30 N j1 j2 k3' n σ x3 x4 x5 x6).map (pL A u) := by
  intro n
  induction n with
  | zero => intro σ x3 x4 x5 x6; rfl
  | succ n ih =>
    intro σ x3 x4 x5 x6
    simp only [f_X3_find_30, f_find_30, s_find_77 hA hj1 hj2 hk3, s_find_69 hA hj1 hj2 hk3 ih, hj1, hj2, hk3, p_gi (k := 8) rfl, p_gr (k := 11) rfl, p_ldI hA (j := 11) rfl, p_ldI hA hj1, p_ldI hA hj2, p_is, p_ldZ hA, p_stZ hA, p_ldL hA, p_stL hA, p_ib, p_fit, p_ucall, p_mcall, p_mcallv, p_mite, p_mbv, p_mb2, p_let, p_bs, p_ms, p_mn, p_pL, if_true, eq_self, ih]
set_option maxRecDepth 100000 in
theorem s_find_25 (hA : pGood b A) {j1 : Nat} (hj1 : mInt j1 = true) {j2 : Nat} (hj2 : mInt j2 = true) {k3 : UH → Option Nat → Option Nat → Int32 → Int32 → Option (Int32 × UH)} {k3' : MS → Int32 → Int32 → Option (Int32 × MS)} (hk3 : ∀ (σ : MS) (z0 : Int32) (z1 : Int32), k3 (pUp A u σ) (some (A.2 j1)) (some (A.2 j2)) z0 z1 = (k3' σ z0 z1).map (pL A u)) {σ : MS} {x3 : Int32} {x4 : Int32} {s0 : Int32} : f_X3_find_25 N b g A.1 k3 (pUp A u σ) (some (A.2 j1)) (some (A.2 j2)) x3 x4 s0 = (f_find_25 N j1 j2 k3' σ x3 x4 s0).map (pL A u) := by
  simp only [f_X3_find_25, f_find_25, s_find_30 hA hj1 hj2 hk3, hj1, hj2, hk3, p_is, p_ldZ hA, p_stZ hA, p_ldL hA, p_stL hA, p_ib, p_fit, p_ucall, p_mcall, p_mcallv, p_mite, p_mbv, p_mb2, p_let, p_bs, p_ms, p_mn, p_pL, if_true, eq_self]
set_option maxRecDepth 100000 in
theorem s_find_3 (hA : pGood b A) {j1 : Nat} (hj1 : mInt j1 = true) {j2 : Nat} (hj2 : mInt j2 = true) : ∀ (n : Nat) (σ : MS) (x3 : Int32) (x4 : Int32), f_X3_find_3 N b g A.1 n (pUp A u σ) (some (A.2 j1)) (some (A.2 j2)) x3 x4 = (f_find_3 N j1 j2 n σ x3 x4).map (pL A u) := by
  intro n
  induction n with
  | zero => intro σ x3 x4; rfl
  | succ n ih =>
    intro σ x3 x4
    simp only [f_X3_find_3, f_find_3, s_find_25 hA hj1 hj2 ih, hj1, hj2, p_gi (k := 8) rfl, p_ldI hA hj1, p_ldI hA hj2, p_is, p_ldZ hA, p_stZ hA, p_ldL hA, p_stL hA, p_ib, p_fit, p_ucall, p_mcall, p_mcallv, p_mite, p_mbv, p_mb2, p_let, p_bs, p_ms, p_mn, p_pL, if_true, eq_self, ih]
set_option maxRecDepth 100000 in
theorem s_find (hA : pGood b A) {j1 : Nat} (hj1 : mInt j1 = true) {j2 : Nat} (hj2 : mInt j2 = true) {σ : MS} {x3 : Int32} : f_X3_find N b g (pUp A u σ) A.1 (some (A.2 j1)) (some (A.2 j2)) x3 = (f_find N j1 j2 σ x3).map (pL A u) := by
  simp only [f_X3_find, f_find, s_find_3 hA hj1 hj2, hj1, hj2, p_is, p_ldZ hA, p_stZ hA, p_ldL hA, p_stL hA, p_ib, p_fit, p_ucall, p_mcall, p_mcallv, p_mite, p_mbv, p_mb2, p_let, p_bs, p_ms, p_mn, p_pL, if_true, eq_self]
set_option maxRecDepth 100000 in
theorem s_number (hA : pGood b A)  {σ : MS} {x1 : Int32} {x2 : Int32} : f_X3_number N b g (pUp A u σ) A.1 x1 x2 = (f_number N σ x1 x2).map (pL A u) := by
  simp only [f_X3_number, f_number, s_within hA, s_wrong hA, s_next hA, p_gi (k := 4) rfl, p_gi (k := 6) rfl, p_gi (k := 7) rfl, p_gi (k := 13) rfl, p_is, p_ldZ hA, p_stZ hA, p_ldL hA, p_stL hA, p_ib, p_fit, p_ucall, p_mcall, p_mcallv, p_mite, p_mbv, p_mb2, p_let, p_bs, p_ms, p_mn, p_pL, if_true, eq_self]
set_option maxRecDepth 100000 in
theorem s_pairs_220 (hA : pGood b A) {j1 : Nat} (hj1 : mInt j1 = true) {k16 : UH → Option Nat → Int32 → Int32 → Int32 → Option (Int32 × UH)} {k16' : MS → Int32 → Int32 → Int32 → Option (Int32 × MS)} (hk16 : ∀ (σ : MS) (z0 : Int32) (z1 : Int32) (z2 : Int32), k16 (pUp A u σ) (some (A.2 j1)) z0 z1 z2 = (k16' σ z0 z1 z2).map (pL A u)) {σ : MS} {x2 : Int32} {x3 : Int32} {x4 : Int32} : f_X3_pairs_220 N b g A.1 k16 (pUp A u σ) (some (A.2 j1)) x2 x3 x4 = (f_pairs_220 N j1 k16' σ x2 x3 x4).map (pL A u) := by
  simp only [f_X3_pairs_220, f_pairs_220, hj1, hk16, p_is, p_ldZ hA, p_stZ hA, p_ldL hA, p_stL hA, p_ib, p_fit, p_ucall, p_mcall, p_mcallv, p_mite, p_mbv, p_mb2, p_let, p_bs, p_ms, p_mn, p_pL, if_true, eq_self]
set_option maxRecDepth 100000 in
theorem s_pairs_209 (hA : pGood b A) {j1 : Nat} (hj1 : mInt j1 = true) {k16 : UH → Option Nat → Int32 → Int32 → Int32 → Option (Int32 × UH)} {k16' : MS → Int32 → Int32 → Int32 → Option (Int32 × MS)} (hk16 : ∀ (σ : MS) (z0 : Int32) (z1 : Int32) (z2 : Int32), k16 (pUp A u σ) (some (A.2 j1)) z0 z1 z2 = (k16' σ z0 z1 z2).map (pL A u)) {σ : MS} {x2 : Int32} {x3 : Int32} {s0 : Int32} : f_X3_pairs_209 N b g A.1 k16 (pUp A u σ) (some (A.2 j1)) x2 x3 s0 = (f_pairs_209 N j1 k16' σ x2 x3 s0).map (pL A u) := by
  simp only [f_X3_pairs_209, f_pairs_209, s_pairs_220 hA hj1 hk16, s_next hA, hj1, hk16, p_is, p_ldZ hA, p_stZ hA, p_ldL hA, p_stL hA, p_ib, p_fit, p_ucall, p_mcall, p_mcallv, p_mite, p_mbv, p_mb2, p_let, p_bs, p_ms, p_mn, p_pL, if_true, eq_self]
set_option maxRecDepth 100000 in
theorem s_pairs_164 (hA : pGood b A) {j1 : Nat} (hj1 : mInt j1 = true) {k16 : UH → Option Nat → Int32 → Int32 → Int32 → Option (Int32 × UH)} {k16' : MS → Int32 → Int32 → Int32 → Option (Int32 × MS)} (hk16 : ∀ (σ : MS) (z0 : Int32) (z1 : Int32) (z2 : Int32), k16 (pUp A u σ) (some (A.2 j1)) z0 z1 z2 = (k16' σ z0 z1 z2).map (pL A u)) {σ : MS} {x2 : Int32} {x3 : Int32} {x5 : Int32} {x8 : Int32} {s0 : Int32} {s1 : Int32} : f_X3_pairs_164 N b g A.1 k16 (pUp A u σ) (some (A.2 j1)) x2 x3 x5 x8 s0 s1 (some A.1) = (f_pairs_164 N j1 k16' σ x2 x3 x5 x8 s0 s1).map (pL A u) := by
  simp only [f_X3_pairs_164, f_pairs_164, s_number hA, s_pairs_209 hA hj1 hk16, hj1, hk16, p_gi (k := 6) rfl, p_gi (k := 13) rfl, p_stI hA hj1, p_is, p_ldZ hA, p_stZ hA, p_ldL hA, p_stL hA, p_ib, p_fit, p_ucall, p_mcall, p_mcallv, p_mite, p_mbv, p_mb2, p_let, p_bs, p_ms, p_mn, p_pL, if_true, eq_self]
set_option maxRecDepth 100000 in
theorem s_pairs_151 (hA : pGood b A) {j1 : Nat} (hj1 : mInt j1 = true) {k16 : UH → Option Nat → Int32 → Int32 → Int32 → Option (Int32 × UH)} {k16' : MS → Int32 → Int32 → Int32 → Option (Int32 × MS)} (hk16 : ∀ (σ : MS) (z0 : Int32) (z1 : Int32) (z2 : Int32), k16 (pUp A u σ) (some (A.2 j1)) z0 z1 z2 = (k16' σ z0 z1 z2).map (pL A u)) {σ : MS} {x2 : Int32} {x3 : Int32} {x5 : Int32} {x8 : Int32} {s0 : Int32} : f_X3_pairs_151 N b g A.1 k16 (pUp A u σ) (some (A.2 j1)) x2 x3 x5 x8 s0 (some A.1) = (f_pairs_151 N j1 k16' σ x2 x3 x5 x8 s0).map (pL A u) := by
  simp only [f_X3_pairs_151, f_pairs_151, s_pairs_164 hA hj1 hk16, hj1, hk16, p_is, p_ldZ hA, p_stZ hA, p_ldL hA, p_stL hA, p_ib, p_fit, p_ucall, p_mcall, p_mcallv, p_mite, p_mbv, p_mb2, p_let, p_bs, p_ms, p_mn, p_pL, if_true, eq_self]
set_option maxRecDepth 100000 in
theorem s_pairs_150 (hA : pGood b A) {j1 : Nat} (hj1 : mInt j1 = true) {k16 : UH → Option Nat → Int32 → Int32 → Int32 → Option (Int32 × UH)} {k16' : MS → Int32 → Int32 → Int32 → Option (Int32 × MS)} (hk16 : ∀ (σ : MS) (z0 : Int32) (z1 : Int32) (z2 : Int32), k16 (pUp A u σ) (some (A.2 j1)) z0 z1 z2 = (k16' σ z0 z1 z2).map (pL A u)) {σ : MS} {x2 : Int32} {x3 : Int32} {x5 : Int32} {x8 : Int32} : f_X3_pairs_150 N b g A.1 k16 (pUp A u σ) (some (A.2 j1)) x2 x3 x5 x8 (some A.1) = (f_pairs_150 N j1 k16' σ x2 x3 x5 x8).map (pL A u) := by
  simp only [f_X3_pairs_150, f_pairs_150, s_pairs_151 hA hj1 hk16, hj1, hk16, p_is, p_ldZ hA, p_stZ hA, p_ldL hA, p_stL hA, p_ib, p_fit, p_ucall, p_mcall, p_mcallv, p_mite, p_mbv, p_mb2, p_let, p_bs, p_ms, p_mn, p_pL, if_true, eq_self]
end
