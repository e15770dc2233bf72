/-! BY gen_sim.py -/
section
variable {N b : Nat} {g : uEnv} {A : pA} {u : UH}
set_option maxRecDepth 100000 in
theorem s_solve (hA : pGood b A)  {σ : MS} {x1 : Int32} {x2 : Int32} : f_X3_solve N b g (pUp A u σ) A.1 x1 x2 = (f_solve N σ x1 x2).map (pUp A u) := by
  simp only [f_X3_solve, f_solve, s_solve_24 hA, p_gi (k := 49) rfl, p_gi (k := 50) rfl, p_gi (k := 51) rfl, p_is, p_ldZ hA, p_stZ hA, p_ldL hA, p_stL hA, p_ib, p_fit, p_ucall, p_mcall, p_mcallv, p_mite, p_mbv, p_mb2, p_let, p_bs, p_ms, p_mn, p_pL, if_true, eq_self]
set_option maxRecDepth 100000 in
theorem s_base_54 (hA : pGood b A) {k4 : UH → Int32 → Int32 → Option (Int32 × UH)} {k4' : MS → Int32 → Int32 → Option (Int32 × MS)} (hk4 : ∀ (σ : MS) (z0 : Int32) (z1 : Int32), k4 (pUp A u σ) z0 z1 = (k4' σ z0 z1).map (pL A u)) {k14 : UH → Int32 → Int32 → Int32 → Option (Int32 × UH)} {k14' : MS → Int32 → Int32 → Int32 → Option (Int32 × MS)} (hk14 : ∀ (σ : MS) (z0 : Int32) (z1 : Int32) (z2 : Int32), k14 (pUp A u σ) z0 z1 z2 = (k14' σ z0 z1 z2).map (pL A u)) {σ : MS} {x1 : Int32} {x2 : Int32} {x3 : Int32} : f_X3_base_54 N b g A.1 k4 k14 (pUp A u σ) x1 x2 x3 = (f_base_54 N k4' k14' σ x1 x2 x3).map (pL A u) := by
  simp only [f_X3_base_54, f_base_54, hk4, hk14, p_is, p_ldZ hA, p_stZ hA, p_ldL hA, p_stL hA, p_ib, p_fit, p_ucall, p_mcall, p_mcallv, p_mite, p_mbv, p_mb2, p_let, p_bs, p_ms, p_mn, p_pL, if_true, eq_self]
set_option maxRecDepth 100000 in
theorem s_base_14 (hA : pGood b A) {k4 : UH → Int32 → Int32 → Option (Int32 × UH)} {k4' : MS → Int32 → Int32 → Option (Int32 × MS)} (hk4 : ∀ (σ : MS) (z0 : Int32) (z1 : Int32), k4 (pUp A u σ) z0 z1 = (k4' σ z0 z1).map (pL A u)) : ∀ (n : Nat) (σ : MS) (x1 : Int32) (x2 : Int32) (x3 : Int32), f_X3_base_14 N b g A.1 k4 n (pUp A u σ) x1 x2 x3 = (f_base_14 N k4' n σ x1 x2 x3).map (pL A u) := by
  intro n
  induction n with
  | zero => intro σ x1 x2 x3; rfl
  | succ n ih =>
    intro σ x1 x2 x3
    simp only [f_X3_base_14, f_base_14, s_power hA, s_base_54 hA hk4 ih, hk4, p_gr (k := 45) rfl, p_gr (k := 52) rfl, p_gr (k := 53) rfl, p_ldI hA (j := 45) rfl, p_ldI hA (j := 52) rfl, p_ldI hA (j := 53) rfl, p_is, p_ldZ hA, p_stZ hA, p_ldL hA, p_stL hA, p_ib, p_fit, p_ucall, p_mcall, p_mcallv, p_mite, p_mbv, p_mb2, p_let, p_bs, p_ms, p_mn, p_pL, if_true, eq_self, ih]
set_option maxRecDepth 100000 in
theorem s_base_4 (hA : pGood b A)  : ∀ (n : Nat) (σ : MS) (x1 : Int32) (x2 : Int32), f_X3_base_4 N b g A.1 n (pUp A u σ) x1 x2 = (f_base_4 N n σ x1 x2).map (pL A u) := by
  intro n
  induction n with
  | zero => intro σ x1 x2; rfl
  | succ n ih =>
    intro σ x1 x2
    simp only [f_X3_base_4, f_base_4, s_base_14 hA ih, p_gi (k := 37) rfl, p_is, p_ldZ hA, p_stZ hA, p_ldL hA, p_stL hA, p_ib, p_fit, p_ucall, p_mcall, p_mcallv, p_mite, p_mbv, p_mb2, p_let, p_bs, p_ms, p_mn, p_pL, if_true, eq_self, ih]
set_option maxRecDepth 100000 in
theorem s_base (hA : pGood b A)  {σ : MS}  : f_X3_base N b g (pUp A u σ) A.1 = (f_base N σ).map (pL A u) := by
  simp only [f_X3_base, f_base, s_base_4 hA, p_is, p_ldZ hA, p_stZ hA, p_ldL hA, p_stL hA, p_ib, p_fit, p_ucall, p_mcall, p_mcallv, p_mite, p_mbv, p_mb2, p_let, p_bs, p_ms, p_mn, p_pL, if_true, eq_self]
set_option maxRecDepth 100000 in
theorem s_from_39 (hA : pGood b A)  {σ : MS} {s0 : Int64} : f_X3_from_39 N b g A.1 (pUp A u σ) s0 = (f_from_39 N σ s0).map (pL A u) := by
  simp only [f_X3_from_39, f_from_39, p_is, p_ldZ hA, p_stZ hA, p_ldL hA, p_stL hA, p_ib, p_fit, p_ucall, p_mcall, p_mcallv, p_mite, p_mbv, p_mb2, p_let, p_bs, p_ms, p_mn, p_pL, if_true, eq_self]
set_option maxRecDepth 100000 in
theorem s_from (hA : pGood b A)  {σ : MS} {x1 : Int32} {x2 : Int32} {x3 : Int32} : f_X3_from N b g (pUp A u σ) A.1 x1 x2 x3 = (f_from N σ x1 x2 x3).map (pL A u) := by
  simp only [f_X3_from, f_from, s_solve hA, s_base hA, s_from_39 hA, p_gr (k := 48) rfl, p_is, p_ldZ hA, p_stZ hA, p_ldL hA, p_stL hA, p_ib, p_fit, p_ucall, p_mcall, p_mcallv, p_mite, p_mbv, p_mb2, p_let, p_bs, p_ms, p_mn, p_pL, if_true, eq_self]
set_option maxRecDepth 100000 in
theorem s_worst_20 (hA : pGood b A)  {σ : MS}  : f_X3_worst_20 N b g A.1 (pUp A u σ) = (f_worst_20 N σ).map (pL A u) := by
  simp only [f_X3_worst_20, f_worst_20, s_no hA, p_is, p_ldZ hA, p_stZ hA, p_ldL hA, p_stL hA, p_ib, p_fit, p_ucall, p_mcall, p_mcallv, p_mite, p_mbv, p_mb2, p_let, p_bs, p_ms, p_mn, p_pL, if_true, eq_self]
set_option maxRecDepth 100000 in
theorem s_worst_51 (hA : pGood b A)  {σ : MS} {s0 : Int32} : f_X3_worst_51 N b g A.1 (pUp A u σ) s0 = (f_worst_51 N σ s0).map (pL A u) := by
  simp only [f_X3_worst_51, f_worst_51, p_is, p_ldZ hA, p_stZ hA, p_ldL hA, p_stL hA, p_ib, p_fit, p_ucall, p_mcall, p_mcallv, p_mite, p_mbv, p_mb2, p_let, p_bs, p_ms, p_mn, p_pL, if_true, eq_self]
set_option maxRecDepth 100000 in
theorem s_worst (hA : pGood b A)  {σ : MS} {x1 : Int32} {x2 : Int32} : f_X3_worst N b g (pUp A u σ) A.1 x1 x2 = (f_worst N σ x1 x2).map (pL A u) := by
  simp only [f_X3_worst, f_worst, s_good hA, s_isCell hA, s_worst_20 hA, s_from hA, s_worst_51 hA, s_no hA, p_is, p_ldZ hA, p_stZ hA, p_ldL hA, p_stL hA, p_ib, p_fit, p_ucall, p_mcall, p_mcallv, p_mite, p_mbv, p_mb2, p_let, p_bs, p_ms, p_mn, p_pL, if_true, eq_self]
set_option maxRecDepth 100000 in
theorem s_common_17 (hA : pGood b A)  : ∀ (n : Nat) (σ : MS) (x4 : Int64) (x6 : Int64), f_X3_common_17 N b g n (pUp A u σ) x4 x6 = (f_common_17 N n σ x4 x6).map (pL A u) := by
  intro n
  induction n with
  | zero => intro σ x4 x6; rfl
  | succ n ih =>
    intro σ x4 x6
    simp only [f_X3_common_17, f_common_17, p_is, p_ldZ hA, p_stZ hA, p_ldL hA, p_stL hA, p_ib, p_fit, p_ucall, p_mcall, p_mcallv, p_mite, p_mbv, p_mb2, p_let, p_bs, p_ms, p_mn, p_pL, if_true, eq_self, ih]
set_option maxRecDepth 100000 in
theorem s_common_12 (hA : pGood b A)  {σ : MS} {x2 : Int64} {s0 : Int64} : f_X3_common_12 N b g (pUp A u σ) x2 s0 = (f_common_12 N σ x2 s0).map (pL A u) := by
  simp only [f_X3_common_12, f_common_12, s_common_17 hA, p_is, p_ldZ hA, p_stZ hA, p_ldL hA, p_stL hA, p_ib, p_fit, p_ucall, p_mcall, p_mcallv, p_mite, p_mbv, p_mb2, p_let, p_bs, p_ms, p_mn, p_pL, if_true, eq_self]
set_option maxRecDepth 100000 in
theorem s_common (hA : pGood b A)  {σ : MS} {x0 : Int64} {x2 : Int64} : f_X3_common N b g (pUp A u σ) x0 x2 = (f_common N σ x0 x2).map (pL A u) := by
  simp only [f_X3_common, f_common, s_common_12 hA, p_is, p_ldZ hA, p_stZ hA, p_ldL hA, p_stL hA, p_ib, p_fit, p_ucall, p_mcall, p_mcallv, p_mite, p_mbv, p_mb2, p_let, p_bs, p_ms, p_mn, p_pL, if_true, eq_self]
set_option maxRecDepth 100000 in
theorem s_part_23 (hA : pGood b A)  {σ : MS} {s0 : Int64} : f_X3_part_23 N b g (pUp A u σ) s0 = (f_part_23 N σ s0).map (pL A u) := by
  simp only [f_X3_part_23, f_part_23, p_is, p_ldZ hA, p_stZ hA, p_ldL hA, p_stL hA, p_ib, p_fit, p_ucall, p_mcall, p_mcallv, p_mite, p_mbv, p_mb2, p_let, p_bs, p_ms, p_mn, p_pL, if_true, eq_self]
set_option maxRecDepth 100000 in
theorem s_part (hA : pGood b A)  {σ : MS} {x0 : Int64} {x2 : Int64} {x4 : Int32} : f_X3_part N b g (pUp A u σ) x0 x2 x4 = (f_part N σ x0 x2 x4).map (pL A u) := by
  simp only [f_X3_part, f_part, s_common hA, s_part_23 hA, p_is, p_ldZ hA, p_stZ hA, p_ldL hA, p_stL hA, p_ib, p_fit, p_ucall, p_mcall, p_mcallv, p_mite, p_mbv, p_mb2, p_let, p_bs, p_ms, p_mn, p_pL, if_true, eq_self]
set_option maxRecDepth 100000 in
theorem s_mean_20 (hA : pGood b A)  {σ : MS}  : f_X3_mean_20 N b g A.1 (pUp A u σ) = (f_mean_20 N σ).map (pL A u) := by
  simp only [f_X3_mean_20, f_mean_20, p_put hA (k := 39) rfl, p_is, p_ldZ hA, p_stZ hA, p_ldL hA, p_stL hA, p_ib, p_fit, p_ucall, p_mcall, p_mcallv, p_mite, p_mbv, p_mb2, p_let, p_bs, p_ms, p_mn, p_pL, if_true, eq_self]
set_option maxRecDepth 100000 in
theorem s_mean (hA : pGood b A)  {σ : MS} {x1 : Int32} {x2 : Int32} {x3 : Int32} : f_X3_mean N b g (pUp A u σ) A.1 x1 x2 x3 = (f_mean N σ x1 x2 x3).map (pL A u) := by
  simp only [f_X3_mean, f_mean, s_good hA, s_isCell hA, s_mean_20 hA, s_from hA, s_base hA, s_left hA, s_part hA, p_put hA (k := 39) rfl, p_is, p_ldZ hA, p_stZ hA, p_ldL hA, p_stL hA, p_ib, p_fit, p_ucall, p_mcall, p_mcallv, p_mite, p_mbv, p_mb2, p_let, p_bs, p_ms, p_mn, p_pL, if_true, eq_self]
set_option maxRecDepth 100000 in
theorem s_stepOf_121 (hA : pGood b A) {k35 : UH → Int32 → Int32 → Int64 → Int32 → Option (Int32 × UH)} {k35' : MS → Int32 → Int32 → Int64 → Int32 → Option (Int32 × MS)} (hk35 : ∀ (σ : MS) (z0 : Int32) (z1 : Int32) (z2 : Int64) (z3 : Int32), k35 (pUp A u σ) z0 z1 z2 z3 = (k35' σ z0 z1 z2 z3).map (pL A u)) {σ : MS} {x1 : Int32} {x2 : Int32} {x3 : Int64} {x5 : Int32} : f_X3_stepOf_121 N b g A.1 k35 (pUp A u σ) x1 x2 x3 x5 = (f_stepOf_121 N k35' σ x1 x2 x3 x5).map (pL A u) := by
  simp only [f_X3_stepOf_121, f_stepOf_121, hk35, p_is, p_ldZ hA, p_stZ hA, p_ldL hA, p_stL hA, p_ib, p_fit, p_ucall, p_mcall, p_mcallv, p_mite, p_mbv, p_mb2, p_let, p_bs, p_ms, p_mn, p_pL, if_true, eq_self]
set_option maxRecDepth 100000 in
theorem s_stepOf_35 (hA : pGood b A)  : ∀ (n : Nat) (σ : MS) (x1 : Int32) (x2 : Int32) (x3 : Int64) (x5 : Int32), f_X3_stepOf_35 N b g A.1 n (pUp A u σ) x1 x2 x3 x5 = (f_stepOf_35 N n σ x1 x2 x3 x5).map (pL A u) := by
  intro n
  induction n with
  | zero => intro σ x1 x2 x3 x5; rfl
  | succ n ih =>
    intro σ x1 x2 x3 x5
    simp only [f_X3_stepOf_35, f_stepOf_35, s_stepOf_121 hA ih, s_beside hA, p_gr (k := 48) rfl, p_gr (k := 70) rfl, p_ldI hA (j := 70) rfl, p_is, p_ldZ hA, p_stZ hA, p_ldL hA, p_stL hA, p_ib, p_fit, p_ucall, p_mcall, p_mcallv, p_mite, p_mbv, p_mb2, p_let, p_bs, p_ms, p_mn, p_pL, if_true, eq_self, ih]
set_option maxRecDepth 100000 in
theorem s_stepOf_31 (hA : pGood b A)  {σ : MS} {x1 : Int32} {x2 : Int32} {s0 : Int64} : f_X3_stepOf_31 N b g A.1 (pUp A u σ) x1 x2 s0 = (f_stepOf_31 N σ x1 x2 s0).map (pL A u) := by
  simp only [f_X3_stepOf_31, f_stepOf_31, s_stepOf_35 hA, p_is, p_ldZ hA, p_stZ hA, p_ldL hA, p_stL hA, p_ib, p_fit, p_ucall, p_mcall, p_mcallv, p_mite, p_mbv, p_mb2, p_let, p_bs, p_ms, p_mn, p_pL, if_true, eq_self]
set_option maxRecDepth 100000 in
theorem s_stepOf (hA : pGood b A)  {σ : MS} {x1 : Int32} {x2 : Int32} : f_X3_stepOf N b g (pUp A u σ) A.1 x1 x2 = (f_stepOf N σ x1 x2).map (pL A u) := by
  simp only [f_X3_stepOf, f_stepOf, s_lays hA, s_stepOf_31 hA, s_left hA, p_gi (k := 49) rfl, p_gi (k := 50) rfl, p_is, p_ldZ hA, p_stZ hA, p_ldL hA, p_stL hA, p_ib, p_fit, p_ucall, p_mcall, p_mcallv, p_mite, p_mbv, p_mb2, p_let, p_bs, p_ms, p_mn, p_pL, if_true, eq_self]
set_option maxRecDepth 100000 in
theorem s_way_20 (hA : pGood b A)  {σ : MS}  : f_X3_way_20 N b g A.1 (pUp A u σ) = (f_way_20 N σ).map (pL A u) := by
  simp only [f_X3_way_20, f_way_20, s_no hA, p_is, p_ldZ hA, p_stZ hA, p_ldL hA, p_stL hA, p_ib, p_fit, p_ucall, p_mcall, p_mcallv, p_mite, p_mbv, p_mb2, p_let, p_bs, p_ms, p_mn, p_pL, if_true, eq_self]
set_option maxRecDepth 100000 in
theorem s_way_65 (hA : pGood b A) {k29 : UH → Int32 → Int32 → Int32 → Int32 → Option (Int32 × UH)} {k29' : MS → Int32 → Int32 → Int32 → Int32 → Option (Int32 × MS)} (hk29 : ∀ (σ : MS) (z0 : Int32) (z1 : Int32) (z2 : Int32) (z3 : Int32), k29 (pUp A u σ) z0 z1 z2 z3 = (k29' σ z0 z1 z2 z3).map (pL A u)) {σ : MS} {x1 : Int32} {x2 : Int32} {x3 : Int32} {x4 : Int32} : f_X3_way_65 N b g A.1 k29 (pUp A u σ) x1 x2 x3 x4 = (f_way_65 N k29' σ x1 x2 x3 x4).map (pL A u) := by
  simp only [f_X3_way_65, f_way_65, hk29, p_is, p_ldZ hA, p_stZ hA, p_ldL hA, p_stL hA, p_ib, p_fit, p_ucall, p_mcall, p_mcallv, p_mite, p_mbv, p_mb2, p_let, p_bs, p_ms, p_mn, p_pL, if_true, eq_self]
set_option maxRecDepth 100000 in
theorem s_way_29 (hA : pGood b A)  : ∀ (n : Nat) (σ : MS) (x1 : Int32) (x2 : Int32) (x3 : Int32) (x4 : Int32), f_X3_way_29 N b g A.1 n (pUp A u σ) x1 x2 x3 x4 = (f_way_29 N n σ x1 x2 x3 x4).map (pL A u) := by
  intro n
  induction n with
  | zero => intro σ x1 x2 x3 x4; rfl
  | succ n ih =>
    intro σ x1 x2 x3 x4
    simp only [f_X3_way_29, f_way_29, s_from hA, s_base hA, s_stepOf hA, s_no hA, s_isNear hA, s_way_65 hA ih, p_gi (k := 37) rfl, p_gr (k := 45) rfl, p_ldI hA (j := 45) rfl, p_is, p_ldZ hA, p_stZ hA, p_ldL hA, p_stL hA, p_ib, p_fit, p_ucall, p_mcall, p_mcallv, p_mite, p_mbv, p_mb2, p_let, p_bs, p_ms, p_mn, p_pL, if_true, eq_self, ih]
set_option maxRecDepth 100000 in
theorem s_way (hA : pGood b A)  {σ : MS} {x1 : Int32} {x2 : Int32} {x3 : Int32} : f_X3_way N b g (pUp A u σ) A.1 x1 x2 x3 = (f_way N σ x1 x2 x3).map (pL A u) := by
  simp only [f_X3_way, f_way, s_good hA, s_isCell hA, s_way_20 hA, s_way_29 hA, p_is, p_ldZ hA, p_stZ hA, p_ldL hA, p_stL hA, p_ib, p_fit, p_ucall, p_mcall, p_mcallv, p_mite, p_mbv, p_mb2, p_let, p_bs, p_ms, p_mn, p_pL, if_true, eq_self]
set_option maxRecDepth 100000 in
theorem s_truthMany_34 (hA : pGood b A) {k4 : UH → Int32 → Int32 → Option (Int32 × UH)} {k4' : MS → Int32 → Int32 → Option (Int32 × MS)} (hk4 : ∀ (σ : MS) (z0 : Int32) (z1 : Int32), k4 (pUp A u σ) z0 z1 = (k4' σ z0 z1).map (pL A u)) {σ : MS} {x2 : Int32} {s0 : Int32} : f_X3_truthMany_34 N b g A.1 k4 (pUp A u σ) x2 s0 = (f_truthMany_34 N k4' σ x2 s0).map (pL A u) := by
  simp only [f_X3_truthMany_34, f_truthMany_34, hk4, p_is, p_ldZ hA, p_stZ hA, p_ldL hA, p_stL hA, p_ib, p_fit, p_ucall, p_mcall, p_mcallv, p_mite, p_mbv, p_mb2, p_let, p_bs, p_ms, p_mn, p_pL, if_true, eq_self]
set_option maxRecDepth 100000 in
theorem s_truthMany_4 (hA : pGood b A)  : ∀ (n : Nat) (σ : MS) (x1 : Int32) (x2 : Int32), f_X3_truthMany_4 N b g A.1 n (pUp A u σ) x1 x2 = (f_truthMany_4 N n σ x1 x2).map (pL A u) := by
  intro n
  induction n with
  | zero => intro σ x1 x2; rfl
  | succ n ih =>
    intro σ x1 x2
    simp only [f_X3_truthMany_4, f_truthMany_4, s_truthMany_34 hA ih, p_gi (k := 37) rfl, p_gr (k := 45) rfl, p_gr (k := 53) rfl, p_ldI hA (j := 45) rfl, p_ldI hA (j := 53) rfl, p_is, p_ldZ hA, p_stZ hA, p_ldL hA, p_stL hA, p_ib, p_fit, p_ucall, p_mcall, p_mcallv, p_mite, p_mbv, p_mb2, p_let, p_bs, p_ms, p_mn, p_pL, if_true, eq_self, ih]
set_option maxRecDepth 100000 in
theorem s_truthMany (hA : pGood b A)  {σ : MS}  : f_X3_truthMany N b g (pUp A u σ) A.1 = (f_truthMany N σ).map (pL A u) := by
  simp only [f_X3_truthMany, f_truthMany, s_truthMany_4 hA, p_is, p_ldZ hA, p_stZ hA, p_ldL hA, p_stL hA, p_ib, p_fit, p_ucall, p_mcall, p_mcallv, p_mite, p_mbv, p_mb2, p_let, p_bs, p_ms, p_mn, p_pL, if_true, eq_self]
set_option maxRecDepth 100000 in
theorem s_truths (hA : pGood b A)  {σ : MS}  : f_X3_truths N b g (pUp A u σ) A.1 = (f_truths N σ).map (pL A u) := by
  simp only [f_X3_truths, f_truths, s_lists hA, s_truthMany hA, p_gi (k := 34) rfl, p_put hA (k := 0) rfl, p_is, p_ldZ hA, p_stZ hA, p_ldL hA, p_stL hA, p_ib, p_fit, p_ucall, p_mcall, p_mcallv, p_mite, p_mbv, p_mb2, p_let, p_bs, p_ms, p_mn, p_pL, if_true, eq_self]
set_option maxRecDepth 100000 in
theorem s_all_64 (hA : pGood b A) {k15 : UH → Int32 → Int32 → Int32 → Option (Int32 × UH)} {k15' : MS → Int32 → Int32 → Int32 → Option (Int32 × MS)} (hk15 : ∀ (σ : MS) (z0 : Int32) (z1 : Int32) (z2 : Int32), k15 (pUp A u σ) z0 z1 z2 = (k15' σ z0 z1 z2).map (pL A u)) {σ : MS} {x2 : Int32} {x3 : Int32} {x4 : Int32} : f_X3_all_64 N b g A.1 k15 (pUp A u σ) x2 x3 x4 = (f_all_64 N k15' σ x2 x3 x4).map (pL A u) := by
  simp only [f_X3_all_64, f_all_64, hk15, p_is, p_ldZ hA, p_stZ hA, p_ldL hA, p_stL hA, p_ib, p_fit, p_ucall, p_mcall, p_mcallv, p_mite, p_mbv, p_mb2, p_let, p_bs, p_ms, p_mn, p_pL, if_true, eq_self]
set_option maxRecDepth 100000 in
theorem s_all_15 (hA : pGood b A)  : ∀ (n : Nat) (σ : MS) (x2 : Int32) (x3 : Int32) (x4 : Int32), f_X3_all_15 N b g A.1 n (pUp A u σ) x2 x3 x4 = (f_all_15 N n σ x2 x3 x4).map (pL A u) := by
  intro n
  induction n with
  | zero => intro σ x2 x3 x4; rfl
  | succ n ih =>
    intro σ x2 x3 x4
    simp only [f_X3_all_15, f_all_15, s_power hA, s_all_64 hA ih, p_gr (k := 45) rfl, p_gr (k := 53) rfl, p_ldI hA (j := 45) rfl, p_ldI hA (j := 53) rfl, p_is, p_ldZ hA, p_stZ hA, p_ldL hA, p_stL hA, p_ib, p_fit, p_ucall, p_mcall, p_mcallv, p_mite, p_mbv, p_mb2, p_let, p_bs, p_ms, p_mn, p_pL, if_true, eq_self, ih]
set_option maxRecDepth 100000 in
theorem s_all (hA : pGood b A)  {σ : MS} {x1 : Int32} : f_X3_all N b g (pUp A u σ) A.1 x1 = (f_all N σ x1).map (pL A u) := by
  simp only [f_X3_all, f_all, s_base hA, s_all_15 hA, p_gi (k := 37) rfl, p_is, p_ldZ hA, p_stZ hA, p_ldL hA, p_stL hA, p_ib, p_fit, p_ucall, p_mcall, p_mcallv, p_mite, p_mbv, p_mb2, p_let, p_bs, p_ms, p_mn, p_pL, if_true, eq_self]
set_option maxRecDepth 100000 in
theorem s_truth (hA : pGood b A)  {σ : MS} {x1 : Int32} {x2 : Int32} : f_X3_truth N b g (pUp A u σ) A.1 x1 x2 = (f_truth N σ x1 x2).map (pL A u) := by
  simp only [f_X3_truth, f_truth, s_isDoubt hA, s_lists hA, s_truthMany hA, s_within hA, s_all hA, s_digit hA, p_gr (k := 52) rfl, p_put hA (k := 0) rfl, p_ldI hA (j := 52) rfl, p_is, p_ldZ hA, p_stZ hA, p_ldL hA, p_stL hA, p_ib, p_fit, p_ucall, p_mcall, p_mcallv, p_mite, p_mbv, p_mb2, p_let, p_bs, p_ms, p_mn, p_pL, if_true, eq_self]
set_option maxRecDepth 100000 in
theorem s_sees_52 (hA : pGood b A) {k6 : UH → Int32 → Int32 → Int32 → Int32 → Option (Int32 × UH)} {k6' : MS → Int32 → Int32 → Int32 → Int32 → Option (Int32 × MS)} (hk6 : ∀ (σ : MS) (z0 : Int32) (z1 : Int32) (z2 : Int32) (z3 : Int32), k6 (pUp A u σ) z0 z1 z2 z3 = (k6' σ z0 z1 z2 z3).map (pL A u)) {σ : MS} {x2 : Int32} {x3 : Int32} {x4 : Int32} {x5 : Int32} : f_X3_sees_52 N b g A.1 k6 (pUp A u σ) x2 x3 x4 x5 = (f_sees_52 N k6' σ x2 x3 x4 x5).map (pL A u) := by
  simp only [f_X3_sees_52, f_sees_52, hk6, p_is, p_ldZ hA, p_stZ hA, p_ldL hA, p_stL hA, p_ib, p_fit, p_ucall, p_mcall, p_mcallv, p_mite, p_mbv, p_mb2, p_let, p_bs, p_ms, p_mn, p_pL, if_true, eq_self]
set_option maxRecDepth 100000 in
theorem s_sees_6 (hA : pGood b A)  : ∀ (n : Nat) (σ : MS) (x2 : Int32) (x3 : Int32) (x4 : Int32) (x5 : Int32), f_X3_sees_6 N b g A.1 n (pUp A u σ) x2 x3 x4 x5 = (f_sees_6 N n σ x2 x3 x4 x5).map (pL A u) := by
  intro n
  induction n with
  | zero => intro σ x2 x3 x4 x5; rfl
  | succ n ih =>
    intro σ x2 x3 x4 x5
    simp only [f_X3_sees_6, f_sees_6, s_digit hA, s_isNear hA, s_sees_52 hA ih, s_power hA, p_gi (k := 37) rfl, p_is, p_ldZ hA, p_stZ hA, p_ldL hA, p_stL hA, p_ib, p_fit, p_ucall, p_mcall, p_mcallv, p_mite, p_mbv, p_mb2, p_let, p_bs, p_ms, p_mn, p_pL, if_true, eq_self, ih]
set_option maxRecDepth 100000 in
theorem s_sees (hA : pGood b A)  {σ : MS} {x1 : Int32} {x2 : Int32} {x3 : Int32} : f_X3_sees N b g (pUp A u σ) A.1 x1 x2 x3 = (f_sees N σ x1 x2 x3).map (pL A u) := by
  simp only [f_X3_sees, f_sees, s_sees_6 hA, p_is, p_ldZ hA, p_stZ hA, p_ldL hA, p_stL hA, p_ib, p_fit, p_ucall, p_mcall, p_mcallv, p_mite, p_mbv, p_mb2, p_let, p_bs, p_ms, p_mn, p_pL, if_true, eq_self]
set_option maxRecDepth 100000 in
theorem s_goes_84 (hA : pGood b A) {k26 : UH → Int32 → Int32 → Int32 → Int32 → Int32 → Option (Int32 × UH)} {k26' : MS → Int32 → Int32 → Int32 → Int32 → Int32 → Option (Int32 × MS)} (hk26 : ∀ (σ : MS) (z0 : Int32) (z1 : Int32) (z2 : Int32) (z3 : Int32) (z4 : Int32), k26 (pUp A u σ) z0 z1 z2 z3 z4 = (k26' σ z0 z1 z2 z3 z4).map (pL A u)) {σ : MS} {x3 : Int32} {x4 : Int32} {x5 : Int32} {x6 : Int32} {x8 : Int32} {s0 : Int32} : f_X3_goes_84 N b g A.1 k26 (pUp A u σ) x3 x4 x5 x6 x8 s0 = (f_goes_84 N k26' σ x3 x4 x5 x6 x8 s0).map (pL A u) := by
  simp only [f_X3_goes_84, f_goes_84, s_beside hA, hk26, p_gr (k := 70) rfl, p_ldI hA (j := 70) rfl, p_is, p_ldZ hA, p_stZ hA, p_ldL hA, p_stL hA, p_ib, p_fit, p_ucall, p_mcall, p_mcallv, p_mite, p_mbv, p_mb2, p_let, p_bs, p_ms, p_mn, p_pL, if_true, eq_self]
set_option maxRecDepth 100000 in
theorem s_goes_26 (hA : pGood b A)  : ∀ (n : Nat) (σ : MS) (x3 : Int32) (x4 : Int32) (x5 : Int32) (x6 : Int32) (x7 : Int32), f_X3_goes_26 N b g A.1 n (pUp A u σ) x3 x4 x5 x6 x7 = (f_goes_26 N n σ x3 x4 x5 x6 x7).map (pL A u) := by
  intro n
  induction n with
  | zero => intro σ x3 x4 x5 x6 x7; rfl
  | succ n ih =>
    intro σ x3 x4 x5 x6 x7
    simp only [f_X3_goes_26, f_goes_26, s_sees hA, s_stepOf hA, s_goes_84 hA ih, p_gi (k := 55) rfl, p_gr (k := 54) rfl, p_put hA (k := 55) rfl, p_stI hA (j := 54) rfl, p_is, p_ldZ hA, p_stZ hA, p_ldL hA, p_stL hA, p_ib, p_fit, p_ucall, p_mcall, p_mcallv, p_mite, p_mbv, p_mb2, p_let, p_bs, p_ms, p_mn, p_pL, if_true, eq_self, ih]
set_option maxRecDepth 100000 in
theorem s_goes (hA : pGood b A)  {σ : MS} {x1 : Int32} {x2 : Int32} : f_X3_goes N b g (pUp A u σ) A.1 x1 x2 = (f_goes N σ x1 x2).map (pL A u) := by
  simp only [f_X3_goes, f_goes, s_all hA, s_base hA, s_goes_26 hA, p_put hA (k := 55) rfl, p_is, p_ldZ hA, p_stZ hA, p_ldL hA, p_stL hA, p_ib, p_fit, p_ucall, p_mcall, p_mcallv, p_mite, p_mbv, p_mb2, p_let, p_bs, p_ms, p_mn, p_pL, if_true, eq_self]
set_option maxRecDepth 100000 in
theorem s_run_20 (hA : pGood b A)  {σ : MS}  : f_X3_run_20 N b g A.1 (pUp A u σ) = (f_run_20 N σ).map (pL A u) := by
  simp only [f_X3_run_20, f_run_20, s_no hA, p_is, p_ldZ hA, p_stZ hA, p_ldL hA, p_stL hA, p_ib, p_fit, p_ucall, p_mcall, p_mcallv, p_mite, p_mbv, p_mb2, p_let, p_bs, p_ms, p_mn, p_pL, if_true, eq_self]
set_option maxRecDepth 100000 in
theorem s_run (hA : pGood b A)  {σ : MS} {x1 : Int32} {x2 : Int32} {x3 : Int32} {x4 : Int32} : f_X3_run N b g (pUp A u σ) A.1 x1 x2 x3 x4 = (f_run N σ x1 x2 x3 x4).map (pL A u) := by
  simp only [f_X3_run, f_run, s_good hA, s_isCell hA, s_run_20 hA, s_lists hA, s_truthMany hA, s_within hA, s_no hA, s_from hA, s_goes hA, p_put hA (k := 73) rfl, p_is, p_ldZ hA, p_stZ hA, p_ldL hA, p_stL hA, p_ib, p_fit, p_ucall, p_mcall, p_mcallv, p_mite, p_mbv, p_mb2, p_let, p_bs, p_ms, p_mn, p_pL, if_true, eq_self]
set_option maxRecDepth 100000 in
theorem s_led_47 (hA : pGood b A)  {σ : MS} {s0 : Int32} : f_X3_led_47 N b g A.1 (pUp A u σ) s0 = (f_led_47 N σ s0).map (pL A u) := by
  simp only [f_X3_led_47, f_led_47, p_is, p_ldZ hA, p_stZ hA, p_ldL hA, p_stL hA, p_ib, p_fit, p_ucall, p_mcall, p_mcallv, p_mite, p_mbv, p_mb2, p_let, p_bs, p_ms, p_mn, p_pL, if_true, eq_self]
set_option maxRecDepth 100000 in
theorem s_led_27 (hA : pGood b A)  {σ : MS} {x1 : Int32} {s0 : Int32} : f_X3_led_27 N b g A.1 (pUp A u σ) x1 s0 (some A.1) = (f_led_27 N σ x1 s0).map (pL A u) := by
  simp only [f_X3_led_27, f_led_27, s_led_47 hA, p_gi (k := 0) rfl, p_gr (k := 54) rfl, p_put hA (k := 0) rfl, p_ldI hA (j := 54) rfl, p_is, p_ldZ hA, p_stZ hA, p_ldL hA, p_stL hA, p_ib, p_fit, p_ucall, p_mcall, p_mcallv, p_mite, p_mbv, p_mb2, p_let, p_bs, p_ms, p_mn, p_pL, if_true, eq_self]
set_option maxRecDepth 100000 in
theorem s_led_26 (hA : pGood b A)  {σ : MS} {x1 : Int32} : f_X3_led_26 N b g A.1 (pUp A u σ) x1 (some A.1) = (f_led_26 N σ x1).map (pL A u) := by
  simp only [f_X3_led_26, f_led_26, s_led_27 hA, p_is, p_ldZ hA, p_stZ hA, p_ldL hA, p_stL hA, p_ib, p_fit, p_ucall, p_mcall, p_mcallv, p_mite, p_mbv, p_mb2, p_let, p_bs, p_ms, p_mn, p_pL, if_true, eq_self]
set_option maxRecDepth 100000 in
theorem s_led (hA : pGood b A)  {σ : MS} {x1 : Int32} : f_X3_led N b g (pUp A u σ) A.1 x1 = (f_led N σ x1).map (pL A u) := by
  simp only [f_X3_led, f_led, s_led_26 hA, s_within hA, s_led_27 hA, p_gi (k := 55) rfl, p_gi (k := 73) rfl, p_is, p_ldZ hA, p_stZ hA, p_ldL hA, p_stL hA, p_ib, p_fit, p_ucall, p_mcall, p_mcallv, p_mite, p_mbv, p_mb2, p_let, p_bs, p_ms, p_mn, p_pL, if_true, eq_self]
set_option maxRecDepth 100000 in
theorem s_regret_20 (hA : pGood b A)  {σ : MS}  : f_X3_regret_20 N b g A.1 (pUp A u σ) = (f_regret_20 N σ).map (pL A u) := by
  simp only [f_X3_regret_20, f_regret_20, s_no hA, p_is, p_ldZ hA, p_stZ hA, p_ldL hA, p_stL hA, p_ib, p_fit, p_ucall, p_mcall, p_mcallv, p_mite, p_mbv, p_mb2, p_let, p_bs, p_ms, p_mn, p_pL, if_true, eq_self]
set_option maxRecDepth 100000 in
theorem s_regret_151 (hA : pGood b A)  : ∀ (n : Nat) (σ : MS) (x3 : Int32) (x4 : Int32) (x5 : Int32), f_X3_regret_151 N b g A.1 n (pUp A u σ) x3 x4 x5 = (f_regret_151 N n σ x3 x4 x5).map (pL A u) := by
  intro n
  induction n with
  | zero => intro σ x3 x4 x5; rfl
  | succ n ih =>
    intro σ x3 x4 x5
    simp only [f_X3_regret_151, f_regret_151, p_gr (k := 54) rfl, p_gr (k := 74) rfl, p_ldI hA (j := 54) rfl, p_stI hA (j := 54) rfl, p_ldI hA (j := 74) rfl, p_stI hA (j := 74) rfl, p_is, p_ldZ hA, p_stZ hA, p_ldL hA, p_stL hA, p_ib, p_fit, p_ucall, p_mcall, p_mcallv, p_mite, p_mbv, p_mb2, p_let, p_bs, p_ms, p_mn, p_pL, if_true, eq_self, ih]
set_option maxRecDepth 100000 in
theorem s_regret_135 (hA : pGood b A) {k85 : UH → Int32 → Int32 → Int32 → Int32 → Option (Int32 × UH)} {k85' : MS → Int32 → Int32 → Int32 → Int32 → Option (Int32 × MS)} (hk85 : ∀ (σ : MS) (z0 : Int32) (z1 : Int32) (z2 : Int32) (z3 : Int32), k85 (pUp A u σ) z0 z1 z2 z3 = (k85' σ z0 z1 z2 z3).map (pL A u)) {σ : MS} {x1 : Int32} {x3 : Int32} {x5 : Int32} {s0 : Int32} : f_X3_regret_135 N b g A.1 k85 (pUp A u σ) x1 x3 x5 s0 = (f_regret_135 N k85' σ x1 x3 x5 s0).map (pL A u) := by
  simp only [f_X3_regret_135, f_regret_135, hk85, p_is, p_ldZ hA, p_stZ hA, p_ldL hA, p_stL hA, p_ib, p_fit, p_ucall, p_mcall, p_mcallv, p_mite, p_mbv, p_mb2, p_let, p_bs, p_ms, p_mn, p_pL, if_true, eq_self]
set_option maxRecDepth 100000 in
theorem s_regret_85 (hA : pGood b A)  : ∀ (n : Nat) (σ : MS) (x1 : Int32) (x3 : Int32) (x4 : Int32) (x5 : Int32), f_X3_regret_85 N b g A.1 n (pUp A u σ) x1 x3 x4 x5 = (f_regret_85 N n σ x1 x3 x4 x5).map (pL A u) := by
  intro n
  induction n with
  | zero => intro σ x1 x3 x4 x5; rfl
  | succ n ih =>
    intro σ x1 x3 x4 x5
    simp only [f_X3_regret_85, f_regret_85, s_truthMany hA, s_regret_151 hA, s_goes hA, s_all hA, s_regret_135 hA ih, p_gr (k := 48) rfl, p_put hA (k := 55) rfl, p_is, p_ldZ hA, p_stZ hA, p_ldL hA, p_stL hA, p_ib, p_fit, p_ucall, p_mcall, p_mcallv, p_mite, p_mbv, p_mb2, p_let, p_bs, p_ms, p_mn, p_pL, if_true, eq_self, ih]
set_option maxRecDepth 100000 in
theorem s_regret_53 (hA : pGood b A)  : ∀ (n : Nat) (σ : MS) (x1 : Int32) (x3 : Int32) (x4 : Int32), f_X3_regret_53 N b g A.1 n (pUp A u σ) x1 x3 x4 = (f_regret_53 N n σ x1 x3 x4).map (pL A u) := by
  intro n
  induction n with
  | zero => intro σ x1 x3 x4; rfl
  | succ n ih =>
    intro σ x1 x3 x4
    simp only [f_X3_regret_53, f_regret_53, s_regret_85 hA, p_gr (k := 54) rfl, p_gr (k := 74) rfl, p_ldI hA (j := 54) rfl, p_stI hA (j := 54) rfl, p_ldI hA (j := 74) rfl, p_stI hA (j := 74) rfl, p_is, p_ldZ hA, p_stZ hA, p_ldL hA, p_stL hA, p_ib, p_fit, p_ucall, p_mcall, p_mcallv, p_mite, p_mbv, p_mb2, p_let, p_bs, p_ms, p_mn, p_pL, if_true, eq_self, ih]
set_option maxRecDepth 100000 in
theorem s_regret (hA : pGood b A)  {σ : MS} {x1 : Int32} {x2 : Int32} : f_X3_regret N b g (pUp A u σ) A.1 x1 x2 = (f_regret N σ x1 x2).map (pL A u) := by
  simp only [f_X3_regret, f_regret, s_good hA, s_isCell hA, s_regret_20 hA, s_from hA, s_regret_53 hA, s_no hA, p_gi (k := 55) rfl, p_is, p_ldZ hA, p_stZ hA, p_ldL hA, p_stL hA, p_ib, p_fit, p_ucall, p_mcall, p_mcallv, p_mite, p_mbv, p_mb2, p_let, p_bs, p_ms, p_mn, p_pL, if_true, eq_self]
set_option maxRecDepth 100000 in
theorem s_worth_105 (hA : pGood b A)  : ∀ (n : Nat) (σ : MS) (x1 : Int32) (x2 : Int32) (x4 : Int32) (x5 : Int64) (x7 : Int32) (x8 : Int64) (x10 : Int32), f_X3_worth_105 N b g A.1 n (pUp A u σ) x1 x2 x4 x5 x7 x8 x10 = (f_worth_105 N n σ x1 x2 x4 x5 x7 x8 x10).map (pL A u) := by
  intro n
  induction n with
  | zero => intro σ x1 x2 x4 x5 x7 x8 x10; rfl
  | succ n ih =>
    intro σ x1 x2 x4 x5 x7 x8 x10
    simp only [f_X3_worth_105, f_worth_105, s_part hA, s_weightOf hA, s_power hA, p_gr (k := 48) rfl, p_gr (k := 53) rfl, p_ldI hA (j := 53) rfl, p_is, p_ldZ hA, p_stZ hA, p_ldL hA, p_stL hA, p_ib, p_fit, p_ucall, p_mcall, p_mcallv, p_mite, p_mbv, p_mb2, p_let, p_bs, p_ms, p_mn, p_pL, if_true, eq_self, ih]
set_option maxRecDepth 100000 in
theorem s_worth_48 (hA : pGood b A)  {σ : MS} {x1 : Int32} {x2 : Int32} {x3 : Int32} {x4 : Int32} {s0 : Int32} : f_X3_worth_48 N b g A.1 (pUp A u σ) x1 x2 x3 x4 s0 (some A.1) = (f_worth_48 N σ x1 x2 x3 x4 s0).map (pL A u) := by
  simp only [f_X3_worth_48, f_worth_48, s_from hA, s_base hA, s_left hA, s_worth_105 hA, p_gi (k := 39) rfl, p_put hA (k := 39) rfl, p_is, p_ldZ hA, p_stZ hA, p_ldL hA, p_stL hA, p_ib, p_fit, p_ucall, p_mcall, p_mcallv, p_mite, p_mbv, p_mb2, p_let, p_bs, p_ms, p_mn, p_pL, if_true, eq_self]
set_option maxRecDepth 100000 in
theorem s_worth_29 (hA : pGood b A)  {σ : MS} {x1 : Int32} {x2 : Int32} {x3 : Int32} {x4 : Int32} : f_X3_worth_29 N b g A.1 (pUp A u σ) x1 x2 x3 x4 (some A.1) = (f_worth_29 N σ x1 x2 x3 x4).map (pL A u) := by
  simp only [f_X3_worth_29, f_worth_29, s_worth_48 hA, p_is, p_ldZ hA, p_stZ hA, p_ldL hA, p_stL hA, p_ib, p_fit, p_ucall, p_mcall, p_mcallv, p_mite, p_mbv, p_mb2, p_let, p_bs, p_ms, p_mn, p_pL, if_true, eq_self]
set_option maxRecDepth 100000 in
theorem s_worth (hA : pGood b A)  {σ : MS} {x1 : Int32} {x2 : Int32} {x3 : Int32} {x4 : Int32} : f_X3_worth N b g (pUp A u σ) A.1 x1 x2 x3 x4 = (f_worth N σ x1 x2 x3 x4).map (pL A u) := by
  simp only [f_X3_worth, f_worth, s_good hA, s_isDoubt hA, s_worth_29 hA, s_isCell hA, s_worth_48 hA, p_gr (k := 45) rfl, p_ldI hA (j := 45) rfl, p_is, p_ldZ hA, p_stZ hA, p_ldL hA, p_stL hA, p_ib, p_fit, p_ucall, p_mcall, p_mcallv, p_mite, p_mbv, p_mb2, p_let, p_bs, p_ms, p_mn, p_pL, if_true, eq_self]
set_option maxRecDepth 100000 in
theorem s_spared_142 (hA : pGood b A) {k90 : UH → Int32 → Int32 → Int64 → Int64 → Int32 → Option (Int32 × UH)} {k90' : MS → Int32 → Int32 → Int64 → Int64 → Int32 → Option (Int32 × MS)} (hk90 : ∀ (σ : MS) (z0 : Int32) (z1 : Int32) (z2 : Int64) (z3 : Int64) (z4 : Int32), k90 (pUp A u σ) z0 z1 z2 z3 z4 = (k90' σ z0 z1 z2 z3 z4).map (pL A u)) {σ : MS} {x1 : Int32} {x2 : Int32} {x5 : Int64} {x9 : Int32} {s0 : Int64} : f_X3_spared_142 N b g A.1 k90 (pUp A u σ) x1 x2 x5 x9 s0 = (f_spared_142 N k90' σ x1 x2 x5 x9 s0).map (pL A u) := by
  simp only [f_X3_spared_142, f_spared_142, hk90, p_is, p_ldZ hA, p_stZ hA, p_ldL hA, p_stL hA, p_ib, p_fit, p_ucall, p_mcall, p_mcallv, p_mite, p_mbv, p_mb2, p_let, p_bs, p_ms, p_mn, p_pL, if_true, eq_self]
set_option maxRecDepth 100000 in
theorem s_spared_90 (hA : pGood b A)  : ∀ (n : Nat) (σ : MS) (x1 : Int32) (x2 : Int32) (x5 : Int64) (x7 : Int64) (x9 : Int32), f_X3_spared_90 N b g A.1 n (pUp A u σ) x1 x2 x5 x7 x9 = (f_spared_90 N n σ x1 x2 x5 x7 x9).map (pL A u) := by
  intro n
  induction n with
  | zero => intro σ x1 x2 x5 x7 x9; rfl
  | succ n ih =>
    intro σ x1 x2 x5 x7 x9
    simp only [f_X3_spared_90, f_spared_90, s_base hA, s_power hA, s_spared_142 hA ih, p_gr (k := 48) rfl, p_gr (k := 53) rfl, p_ldI hA (j := 53) rfl, p_is, p_ldZ hA, p_stZ hA, p_ldL hA, p_stL hA, p_ib, p_fit, p_ucall, p_mcall, p_mcallv, p_mite, p_mbv, p_mb2, p_let, p_bs, p_ms, p_mn, p_pL, if_true, eq_self, ih]
set_option maxRecDepth 100000 in
theorem s_spared_47 (hA : pGood b A)  {σ : MS} {x1 : Int32} {x2 : Int32} {x3 : Int32} {s0 : Int32} : f_X3_spared_47 N b g A.1 (pUp A u σ) x1 x2 x3 s0 = (f_spared_47 N σ x1 x2 x3 s0).map (pL A u) := by
  simp only [f_X3_spared_47, f_spared_47, s_from hA, s_spared_90 hA, s_no hA, p_is, p_ldZ hA, p_stZ hA, p_ldL hA, p_stL hA, p_ib, p_fit, p_ucall, p_mcall, p_mcallv, p_mite, p_mbv, p_mb2, p_let, p_bs, p_ms, p_mn, p_pL, if_true, eq_self]
set_option maxRecDepth 100000 in
theorem s_spared_28 (hA : pGood b A)  {σ : MS} {x1 : Int32} {x2 : Int32} {x3 : Int32} : f_X3_spared_28 N b g A.1 (pUp A u σ) x1 x2 x3 = (f_spared_28 N σ x1 x2 x3).map (pL A u) := by
  simp only [f_X3_spared_28, f_spared_28, s_spared_47 hA, p_is, p_ldZ hA, p_stZ hA, p_ldL hA, p_stL hA, p_ib, p_fit, p_ucall, p_mcall, p_mcallv, p_mite, p_mbv, p_mb2, p_let, p_bs, p_ms, p_mn, p_pL, if_true, eq_self]
set_option maxRecDepth 100000 in
theorem s_spared (hA : pGood b A)  {σ : MS} {x1 : Int32} {x2 : Int32} {x3 : Int32} : f_X3_spared N b g (pUp A u σ) A.1 x1 x2 x3 = (f_spared N σ x1 x2 x3).map (pL A u) := by
  simp only [f_X3_spared, f_spared, s_good hA, s_isDoubt hA, s_spared_28 hA, s_isCell hA, s_spared_47 hA, p_gr (k := 45) rfl, p_ldI hA (j := 45) rfl, p_is, p_ldZ hA, p_stZ hA, p_ldL hA, p_stL hA, p_ib, p_fit, p_ucall, p_mcall, p_mcallv, p_mite, p_mbv, p_mb2, p_let, p_bs, p_ms, p_mn, p_pL, if_true, eq_self]
end
