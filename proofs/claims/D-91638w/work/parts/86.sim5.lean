/-! BY gen_sim.py -/
section
variable {N b : Nat} {g : uEnv} {A : pA} {u : UH}
set_option maxRecDepth 100000 in
theorem s_order_75 (hA : pGood b A)  {σ : MS}  : f_X3_order_75 N b g A.1 (pUp A u σ) = (f_order_75 N σ).map (pL A u) := by
  simp only [f_X3_order_75, f_order_75, p_gi (k := 58) rfl, p_put hA (k := 58) rfl, p_is, p_ldZ hA, p_stZ hA, p_ldL hA, p_stL hA, p_ib, p_fit, p_ucall, p_mcall, p_mcallv, p_mite, p_mbv, p_mb2, p_let, p_bs, p_ms, p_mn, p_pL, if_true, eq_self]
set_option maxRecDepth 100000 in
theorem s_order (hA : pGood b A)  {σ : MS} {x1 : Int32} {x2 : Int32} {x3 : Int32} {x4 : Int32} : f_X3_order N b g (pUp A u σ) A.1 x1 x2 x3 x4 = (f_order N σ x1 x2 x3 x4).map (pL A u) := by
  simp only [f_X3_order, f_order, s_order_75 hA, p_gi (k := 40) rfl, p_gi (k := 58) rfl, p_gr (k := 56) rfl, p_stI hA (j := 56) rfl, p_is, p_ldZ hA, p_stZ hA, p_ldL hA, p_stL hA, p_ib, p_fit, p_ucall, p_mcall, p_mcallv, p_mite, p_mbv, p_mb2, p_let, p_bs, p_ms, p_mn, p_pL, if_true, eq_self]
set_option maxRecDepth 100000 in
theorem s_lands_32 (hA : pGood b A)  {σ : MS}  : f_X3_lands_32 N b g A.1 (pUp A u σ) = (f_lands_32 N σ).map (pUp A u) := by
  simp only [f_X3_lands_32, f_lands_32, p_is, p_ldZ hA, p_stZ hA, p_ldL hA, p_stL hA, p_ib, p_fit, p_ucall, p_mcall, p_mcallv, p_mite, p_mbv, p_mb2, p_let, p_bs, p_ms, p_mn, p_pL, if_true, eq_self]
set_option maxRecDepth 100000 in
theorem s_lands (hA : pGood b A)  {σ : MS} {x1 : Int32} : f_X3_lands N b g (pUp A u σ) A.1 x1 = (f_lands N σ x1).map (pUp A u) := by
  simp only [f_X3_lands, f_lands, s_lands_32 hA, p_gi (k := 40) rfl, p_gi (k := 58) rfl, p_gr (k := 56) rfl, p_stI hA (j := 56) rfl, p_is, p_ldZ hA, p_stZ hA, p_ldL hA, p_stL hA, p_ib, p_fit, p_ucall, p_mcall, p_mcallv, p_mite, p_mbv, p_mb2, p_let, p_bs, p_ms, p_mn, p_pL, if_true, eq_self]
set_option maxRecDepth 100000 in
theorem s_acts_299 (hA : pGood b A)  {σ : MS} {s0 : Int32} : f_X3_acts_299 N b g A.1 (pUp A u σ) s0 = (f_acts_299 N σ s0).map (pL A u) := by
  simp only [f_X3_acts_299, f_acts_299, p_is, p_ldZ hA, p_stZ hA, p_ldL hA, p_stL hA, p_ib, p_fit, p_ucall, p_mcall, p_mcallv, p_mite, p_mbv, p_mb2, p_let, p_bs, p_ms, p_mn, p_pL, if_true, eq_self]
set_option maxRecDepth 100000 in
theorem s_acts_284 (hA : pGood b A) {k38 : UH → Int32 → Int32 → Int32 → Int32 → Int32 → Int32 → Option (Int32 × UH)} {k38' : MS → Int32 → Int32 → Int32 → Int32 → Int32 → Int32 → Option (Int32 × MS)} (hk38 : ∀ (σ : MS) (z0 : Int32) (z1 : Int32) (z2 : Int32) (z3 : Int32) (z4 : Int32) (z5 : Int32), k38 (pUp A u σ) z0 z1 z2 z3 z4 z5 = (k38' σ z0 z1 z2 z3 z4 z5).map (pL A u)) {σ : MS} {x1 : Int32} {x3 : Int32} {x5 : Int32} {x6 : Int32} {x7 : Int32} {x8 : Int32} : f_X3_acts_284 N b g A.1 k38 (pUp A u σ) x1 x3 x5 x6 x7 x8 = (f_acts_284 N k38' σ x1 x3 x5 x6 x7 x8).map (pL A u) := by
  simp only [f_X3_acts_284, f_acts_284, hk38, p_is, p_ldZ hA, p_stZ hA, p_ldL hA, p_stL hA, p_ib, p_fit, p_ucall, p_mcall, p_mcallv, p_mite, p_mbv, p_mb2, p_let, p_bs, p_ms, p_mn, p_pL, if_true, eq_self]
set_option maxRecDepth 100000 in
theorem s_acts_217 (hA : pGood b A) {k38 : UH → Int32 → Int32 → Int32 → Int32 → Int32 → Int32 → Option (Int32 × UH)} {k38' : MS → Int32 → Int32 → Int32 → Int32 → Int32 → Int32 → Option (Int32 × MS)} (hk38 : ∀ (σ : MS) (z0 : Int32) (z1 : Int32) (z2 : Int32) (z3 : Int32) (z4 : Int32) (z5 : Int32), k38 (pUp A u σ) z0 z1 z2 z3 z4 z5 = (k38' σ z0 z1 z2 z3 z4 z5).map (pL A u)) {k175 : UH → Int32 → Int32 → Int32 → Int32 → Int32 → Int32 → Int32 → Int32 → Int32 → Option (Int32 × UH)} {k175' : MS → Int32 → Int32 → Int32 → Int32 → Int32 → Int32 → Int32 → Int32 → Int32 → Option (Int32 × MS)} (hk175 : ∀ (σ : MS) (z0 : Int32) (z1 : Int32) (z2 : Int32) (z3 : Int32) (z4 : Int32) (z5 : Int32) (z6 : Int32) (z7 : Int32) (z8 : Int32), k175 (pUp A u σ) z0 z1 z2 z3 z4 z5 z6 z7 z8 = (k175' σ z0 z1 z2 z3 z4 z5 z6 z7 z8).map (pL A u)) {σ : MS} {x1 : Int32} {x3 : Int32} {x5 : Int32} {x6 : Int32} {x7 : Int32} {x8 : Int32} {x10 : Int32} {x11 : Int32} {x12 : Int32} {x13 : Int32} {s0 : Int32} : f_X3_acts_217 N b g A.1 k38 k175 (pUp A u σ) x1 x3 x5 x6 x7 x8 x10 x11 x12 x13 s0 = (f_acts_217 N k38' k175' σ x1 x3 x5 x6 x7 x8 x10 x11 x12 x13 s0).map (pL A u) := by
  simp only [f_X3_acts_217, f_acts_217, s_floorOf hA, s_cost hA, s_sees hA, hk38, hk175, p_gi (k := 66) rfl, p_gi (k := 67) rfl, p_put hA (k := 66) rfl, p_put hA (k := 67) rfl, p_is, p_ldZ hA, p_stZ hA, p_ldL hA, p_stL hA, p_ib, p_fit, p_ucall, p_mcall, p_mcallv, p_mite, p_mbv, p_mb2, p_let, p_bs, p_ms, p_mn, p_pL, if_true, eq_self]
set_option maxRecDepth 100000 in
theorem s_acts_175 (hA : pGood b A) {k38 : UH → Int32 → Int32 → Int32 → Int32 → Int32 → Int32 → Option (Int32 × UH)} {k38' : MS → Int32 → Int32 → Int32 → Int32 → Int32 → Int32 → Option (Int32 × MS)} (hk38 : ∀ (σ : MS) (z0 : Int32) (z1 : Int32) (z2 : Int32) (z3 : Int32) (z4 : Int32) (z5 : Int32), k38 (pUp A u σ) z0 z1 z2 z3 z4 z5 = (k38' σ z0 z1 z2 z3 z4 z5).map (pL A u)) : ∀ (n : Nat) (σ : MS) (x1 : Int32) (x3 : Int32) (x5 : Int32) (x6 : Int32) (x7 : Int32) (x8 : Int32) (x10 : Int32) (x11 : Int32) (x12 : Int32), f_X3_acts_175 N b g A.1 k38 n (pUp A u σ) x1 x3 x5 x6 x7 x8 x10 x11 x12 = (f_acts_175 N k38' n σ x1 x3 x5 x6 x7 x8 x10 x11 x12).map (pL A u) := by
  intro n
  induction n with
  | zero => intro σ x1 x3 x5 x6 x7 x8 x10 x11 x12; rfl
  | succ n ih =>
    intro σ x1 x3 x5 x6 x7 x8 x10 x11 x12
    simp only [f_X3_acts_175, f_acts_175, s_acts_284 hA hk38, s_beside hA, s_floorOf hA, s_barred hA, s_acts_217 hA hk38 ih, hk38, p_is, p_ldZ hA, p_stZ hA, p_ldL hA, p_stL hA, p_ib, p_fit, p_ucall, p_mcall, p_mcallv, p_mite, p_mbv, p_mb2, p_let, p_bs, p_ms, p_mn, p_pL, if_true, eq_self, ih]
set_option maxRecDepth 100000 in
theorem s_acts_38 (hA : pGood b A)  : ∀ (n : Nat) (σ : MS) (x1 : Int32) (x3 : Int32) (x5 : Int32) (x6 : Int32) (x7 : Int32) (x8 : Int32), f_X3_acts_38 N b g A.1 n (pUp A u σ) x1 x3 x5 x6 x7 x8 = (f_acts_38 N n σ x1 x3 x5 x6 x7 x8).map (pL A u) := by
  intro n
  induction n with
  | zero => intro σ x1 x3 x5 x6 x7 x8; rfl
  | succ n ih =>
    intro σ x1 x3 x5 x6 x7 x8
    simp only [f_X3_acts_38, f_acts_38, s_acts_299 hA, s_acts_284 hA ih, s_digit hA, s_acts_175 hA ih, p_gr (k := 52) rfl, p_gr (k := 56) rfl, p_gr (k := 57) rfl, p_ldI hA (j := 52) rfl, p_ldI hA (j := 56) rfl, p_ldI hA (j := 57) rfl, p_is, p_ldZ hA, p_stZ hA, p_ldL hA, p_stL hA, p_ib, p_fit, p_ucall, p_mcall, p_mcallv, p_mite, p_mbv, p_mb2, p_let, p_bs, p_ms, p_mn, p_pL, if_true, eq_self, ih]
set_option maxRecDepth 100000 in
theorem s_acts (hA : pGood b A)  {σ : MS} {x1 : Int32} {x2 : Int32} {x3 : Int32} {x4 : Int32} : f_X3_acts N b g (pUp A u σ) A.1 x1 x2 x3 x4 = (f_acts N σ x1 x2 x3 x4).map (pL A u) := by
  simp only [f_X3_acts, f_acts, s_all hA, s_base hA, s_sees hA, s_acts_38 hA, p_put hA (k := 66) rfl, p_put hA (k := 67) rfl, p_is, p_ldZ hA, p_stZ hA, p_ldL hA, p_stL hA, p_ib, p_fit, p_ucall, p_mcall, p_mcallv, p_mite, p_mbv, p_mb2, p_let, p_bs, p_ms, p_mn, p_pL, if_true, eq_self]
set_option maxRecDepth 100000 in
theorem s_failing_41 (hA : pGood b A)  {σ : MS}  : f_X3_failing_41 N b g A.1 (pUp A u σ) = (f_failing_41 N σ).map (pL A u) := by
  simp only [f_X3_failing_41, f_failing_41, s_no hA, p_is, p_ldZ hA, p_stZ hA, p_ldL hA, p_stL hA, p_ib, p_fit, p_ucall, p_mcall, p_mcallv, p_mite, p_mbv, p_mb2, p_let, p_bs, p_ms, p_mn, p_pL, if_true, eq_self]
set_option maxRecDepth 100000 in
theorem s_failing_172 (hA : pGood b A) {k93 : UH → Int32 → Int32 → Int32 → Int32 → Int32 → Int32 → Option (Int32 × UH)} {k93' : MS → Int32 → Int32 → Int32 → Int32 → Int32 → Int32 → Option (Int32 × MS)} (hk93 : ∀ (σ : MS) (z0 : Int32) (z1 : Int32) (z2 : Int32) (z3 : Int32) (z4 : Int32) (z5 : Int32), k93 (pUp A u σ) z0 z1 z2 z3 z4 z5 = (k93' σ z0 z1 z2 z3 z4 z5).map (pL A u)) {σ : MS} {x1 : Int32} {x2 : Int32} {x3 : Int32} {x4 : Int32} {x5 : Int32} {x6 : Int32} : f_X3_failing_172 N b g A.1 k93 (pUp A u σ) x1 x2 x3 x4 x5 x6 = (f_failing_172 N k93' σ x1 x2 x3 x4 x5 x6).map (pL A u) := by
  simp only [f_X3_failing_172, f_failing_172, hk93, p_is, p_ldZ hA, p_stZ hA, p_ldL hA, p_stL hA, p_ib, p_fit, p_ucall, p_mcall, p_mcallv, p_mite, p_mbv, p_mb2, p_let, p_bs, p_ms, p_mn, p_pL, if_true, eq_self]
set_option maxRecDepth 100000 in
theorem s_failing_169 (hA : pGood b A) {k93 : UH → Int32 → Int32 → Int32 → Int32 → Int32 → Int32 → Option (Int32 × UH)} {k93' : MS → Int32 → Int32 → Int32 → Int32 → Int32 → Int32 → Option (Int32 × MS)} (hk93 : ∀ (σ : MS) (z0 : Int32) (z1 : Int32) (z2 : Int32) (z3 : Int32) (z4 : Int32) (z5 : Int32), k93 (pUp A u σ) z0 z1 z2 z3 z4 z5 = (k93' σ z0 z1 z2 z3 z4 z5).map (pL A u)) {σ : MS} {x1 : Int32} {x2 : Int32} {x3 : Int32} {x4 : Int32} {x5 : Int32} {x6 : Int32} : f_X3_failing_169 N b g A.1 k93 (pUp A u σ) x1 x2 x3 x4 x5 x6 = (f_failing_169 N k93' σ x1 x2 x3 x4 x5 x6).map (pL A u) := by
  simp only [f_X3_failing_169, f_failing_169, s_failing_172 hA hk93, hk93, p_is, p_ldZ hA, p_stZ hA, p_ldL hA, p_stL hA, p_ib, p_fit, p_ucall, p_mcall, p_mcallv, p_mite, p_mbv, p_mb2, p_let, p_bs, p_ms, p_mn, p_pL, if_true, eq_self]
set_option maxRecDepth 100000 in
theorem s_failing_134 (hA : pGood b A) {k93 : UH → Int32 → Int32 → Int32 → Int32 → Int32 → Int32 → Option (Int32 × UH)} {k93' : MS → Int32 → Int32 → Int32 → Int32 → Int32 → Int32 → Option (Int32 × MS)} (hk93 : ∀ (σ : MS) (z0 : Int32) (z1 : Int32) (z2 : Int32) (z3 : Int32) (z4 : Int32) (z5 : Int32), k93 (pUp A u σ) z0 z1 z2 z3 z4 z5 = (k93' σ z0 z1 z2 z3 z4 z5).map (pL A u)) {σ : MS} {x1 : Int32} {x2 : Int32} {x3 : Int32} {x4 : Int32} {x5 : Int32} {x6 : Int32} {s0 : Int32} : f_X3_failing_134 N b g A.1 k93 (pUp A u σ) x1 x2 x3 x4 x5 x6 s0 = (f_failing_134 N k93' σ x1 x2 x3 x4 x5 x6 s0).map (pL A u) := by
  simp only [f_X3_failing_134, f_failing_134, s_failing_172 hA hk93, s_failing_169 hA hk93, hk93, p_gi (k := 66) rfl, p_put hA (k := 63) rfl, p_put hA (k := 64) rfl, p_put hA (k := 65) rfl, p_is, p_ldZ hA, p_stZ hA, p_ldL hA, p_stL hA, p_ib, p_fit, p_ucall, p_mcall, p_mcallv, p_mite, p_mbv, p_mb2, p_let, p_bs, p_ms, p_mn, p_pL, if_true, eq_self]
set_option maxRecDepth 100000 in
theorem s_failing_132 (hA : pGood b A) {k93 : UH → Int32 → Int32 → Int32 → Int32 → Int32 → Int32 → Option (Int32 × UH)} {k93' : MS → Int32 → Int32 → Int32 → Int32 → Int32 → Int32 → Option (Int32 × MS)} (hk93 : ∀ (σ : MS) (z0 : Int32) (z1 : Int32) (z2 : Int32) (z3 : Int32) (z4 : Int32) (z5 : Int32), k93 (pUp A u σ) z0 z1 z2 z3 z4 z5 = (k93' σ z0 z1 z2 z3 z4 z5).map (pL A u)) {σ : MS} {x1 : Int32} {x2 : Int32} {x3 : Int32} {x4 : Int32} {x5 : Int32} {x6 : Int32} {x7 : Int32} : f_X3_failing_132 N b g A.1 k93 (pUp A u σ) x1 x2 x3 x4 x5 x6 x7 = (f_failing_132 N k93' σ x1 x2 x3 x4 x5 x6 x7).map (pL A u) := by
  simp only [f_X3_failing_132, f_failing_132, s_failing_134 hA hk93, hk93, p_is, p_ldZ hA, p_stZ hA, p_ldL hA, p_stL hA, p_ib, p_fit, p_ucall, p_mcall, p_mcallv, p_mite, p_mbv, p_mb2, p_let, p_bs, p_ms, p_mn, p_pL, if_true, eq_self]
set_option maxRecDepth 100000 in
theorem s_failing_93 (hA : pGood b A)  : ∀ (n : Nat) (σ : MS) (x1 : Int32) (x2 : Int32) (x3 : Int32) (x4 : Int32) (x5 : Int32) (x6 : Int32), f_X3_failing_93 N b g A.1 n (pUp A u σ) x1 x2 x3 x4 x5 x6 = (f_failing_93 N n σ x1 x2 x3 x4 x5 x6).map (pL A u) := by
  intro n
  induction n with
  | zero => intro σ x1 x2 x3 x4 x5 x6; rfl
  | succ n ih =>
    intro σ x1 x2 x3 x4 x5 x6
    simp only [f_X3_failing_93, f_failing_93, s_truthMany hA, s_acts hA, s_failing_132 hA ih, s_failing_134 hA ih, p_gi (k := 67) rfl, p_is, p_ldZ hA, p_stZ hA, p_ldL hA, p_stL hA, p_ib, p_fit, p_ucall, p_mcall, p_mcallv, p_mite, p_mbv, p_mb2, p_let, p_bs, p_ms, p_mn, p_pL, if_true, eq_self, ih]
set_option maxRecDepth 100000 in
theorem s_failing (hA : pGood b A)  {σ : MS} {x1 : Int32} {x2 : Int32} {x3 : Int32} {x4 : Int32} : f_X3_failing N b g (pUp A u σ) A.1 x1 x2 x3 x4 = (f_failing N σ x1 x2 x3 x4).map (pL A u) := by
  simp only [f_X3_failing, f_failing, s_good hA, s_failing_41 hA, s_within hA, s_isCell hA, s_no hA, s_lists hA, s_failing_93 hA, p_gi (k := 34) rfl, p_gi (k := 40) rfl, p_put hA (k := 63) rfl, p_put hA (k := 64) rfl, p_put hA (k := 65) rfl, p_is, p_ldZ hA, p_stZ hA, p_ldL hA, p_stL hA, p_ib, p_fit, p_ucall, p_mcall, p_mcallv, p_mite, p_mbv, p_mb2, p_let, p_bs, p_ms, p_mn, p_pL, if_true, eq_self]
set_option maxRecDepth 100000 in
theorem s_first_41 (hA : pGood b A)  {σ : MS} {s0 : Int32} : f_X3_first_41 N b g A.1 (pUp A u σ) s0 = (f_first_41 N σ s0).map (pL A u) := by
  simp only [f_X3_first_41, f_first_41, p_is, p_ldZ hA, p_stZ hA, p_ldL hA, p_stL hA, p_ib, p_fit, p_ucall, p_mcall, p_mcallv, p_mite, p_mbv, p_mb2, p_let, p_bs, p_ms, p_mn, p_pL, if_true, eq_self]
set_option maxRecDepth 100000 in
theorem s_first (hA : pGood b A)  {σ : MS} {x1 : Int32} : f_X3_first N b g (pUp A u σ) A.1 x1 = (f_first N σ x1).map (pL A u) := by
  simp only [f_X3_first, f_first, s_first_41 hA, p_gi (k := 63) rfl, p_gi (k := 64) rfl, p_gi (k := 65) rfl, p_put hA (k := 0) rfl, p_is, p_ldZ hA, p_stZ hA, p_ldL hA, p_stL hA, p_ib, p_fit, p_ucall, p_mcall, p_mcallv, p_mite, p_mbv, p_mb2, p_let, p_bs, p_ms, p_mn, p_pL, if_true, eq_self]
set_option maxRecDepth 100000 in
theorem s_costs_41 (hA : pGood b A)  {σ : MS}  : f_X3_costs_41 N b g A.1 (pUp A u σ) = (f_costs_41 N σ).map (pL A u) := by
  simp only [f_X3_costs_41, f_costs_41, s_no hA, p_is, p_ldZ hA, p_stZ hA, p_ldL hA, p_stL hA, p_ib, p_fit, p_ucall, p_mcall, p_mcallv, p_mite, p_mbv, p_mb2, p_let, p_bs, p_ms, p_mn, p_pL, if_true, eq_self]
set_option maxRecDepth 100000 in
theorem s_costs_103 (hA : pGood b A) {k57 : UH → Int32 → Int32 → Int32 → Int32 → Int32 → Option (Int32 × UH)} {k57' : MS → Int32 → Int32 → Int32 → Int32 → Int32 → Option (Int32 × MS)} (hk57 : ∀ (σ : MS) (z0 : Int32) (z1 : Int32) (z2 : Int32) (z3 : Int32) (z4 : Int32), k57 (pUp A u σ) z0 z1 z2 z3 z4 = (k57' σ z0 z1 z2 z3 z4).map (pL A u)) {σ : MS} {x1 : Int32} {x2 : Int32} {x3 : Int32} {x5 : Int32} {s0 : Int32} : f_X3_costs_103 N b g A.1 k57 (pUp A u σ) x1 x2 x3 x5 s0 = (f_costs_103 N k57' σ x1 x2 x3 x5 s0).map (pL A u) := by
  simp only [f_X3_costs_103, f_costs_103, hk57, p_is, p_ldZ hA, p_stZ hA, p_ldL hA, p_stL hA, p_ib, p_fit, p_ucall, p_mcall, p_mcallv, p_mite, p_mbv, p_mb2, p_let, p_bs, p_ms, p_mn, p_pL, if_true, eq_self]
set_option maxRecDepth 100000 in
theorem s_costs_57 (hA : pGood b A)  : ∀ (n : Nat) (σ : MS) (x1 : Int32) (x2 : Int32) (x3 : Int32) (x4 : Int32) (x5 : Int32), f_X3_costs_57 N b g A.1 n (pUp A u σ) x1 x2 x3 x4 x5 = (f_costs_57 N n σ x1 x2 x3 x4 x5).map (pL A u) := by
  intro n
  induction n with
  | zero => intro σ x1 x2 x3 x4 x5; rfl
  | succ n ih =>
    intro σ x1 x2 x3 x4 x5
    simp only [f_X3_costs_57, f_costs_57, s_truthMany hA, s_acts hA, s_costs_103 hA ih, s_no hA, p_gi (k := 67) rfl, p_is, p_ldZ hA, p_stZ hA, p_ldL hA, p_stL hA, p_ib, p_fit, p_ucall, p_mcall, p_mcallv, p_mite, p_mbv, p_mb2, p_let, p_bs, p_ms, p_mn, p_pL, if_true, eq_self, ih]
set_option maxRecDepth 100000 in
theorem s_costs (hA : pGood b A)  {σ : MS} {x1 : Int32} {x2 : Int32} {x3 : Int32} : f_X3_costs N b g (pUp A u σ) A.1 x1 x2 x3 = (f_costs N σ x1 x2 x3).map (pL A u) := by
  simp only [f_X3_costs, f_costs, s_good hA, s_costs_41 hA, s_within hA, s_isCell hA, s_lists hA, s_costs_57 hA, p_gi (k := 34) rfl, p_gi (k := 40) rfl, p_is, p_ldZ hA, p_stZ hA, p_ldL hA, p_stL hA, p_ib, p_fit, p_ucall, p_mcall, p_mcallv, p_mite, p_mbv, p_mb2, p_let, p_bs, p_ms, p_mn, p_pL, if_true, eq_self]
set_option maxRecDepth 100000 in
theorem s_dig_25 (hA : pGood b A)  {σ : MS}  : f_X3_dig_25 N b g A.1 (pUp A u σ) = (f_dig_25 N σ).map (pL A u) := by
  simp only [f_X3_dig_25, f_dig_25, s_not hA, p_is, p_ldZ hA, p_stZ hA, p_ldL hA, p_stL hA, p_ib, p_fit, p_ucall, p_mcall, p_mcallv, p_mite, p_mbv, p_mb2, p_let, p_bs, p_ms, p_mn, p_pL, if_true, eq_self]
set_option maxRecDepth 100000 in
theorem s_dig (hA : pGood b A)  {σ : MS} {x1 : Int32} {x2 : Int32} : f_X3_dig N b g (pUp A u σ) A.1 x1 x2 = (f_dig N σ x1 x2).map (pL A u) := by
  simp only [f_X3_dig, f_dig, s_good hA, s_dig_25 hA, s_within hA, s_not hA, p_gi (k := 12) rfl, p_gi (k := 24) rfl, p_gr (k := 47) rfl, p_stI hA (j := 47) rfl, p_is, p_ldZ hA, p_stZ hA, p_ldL hA, p_stL hA, p_ib, p_fit, p_ucall, p_mcall, p_mcallv, p_mite, p_mbv, p_mb2, p_let, p_bs, p_ms, p_mn, p_pL, if_true, eq_self]
set_option maxRecDepth 100000 in
theorem s_behind_74 (hA : pGood b A) {k12 : UH → Int32 → Int32 → Int32 → Int32 → Int32 → Int32 → Option (Int32 × UH)} {k12' : MS → Int32 → Int32 → Int32 → Int32 → Int32 → Int32 → Option (Int32 × MS)} (hk12 : ∀ (σ : MS) (z0 : Int32) (z1 : Int32) (z2 : Int32) (z3 : Int32) (z4 : Int32) (z5 : Int32), k12 (pUp A u σ) z0 z1 z2 z3 z4 z5 = (k12' σ z0 z1 z2 z3 z4 z5).map (pL A u)) {σ : MS} {x2 : Int32} {x3 : Int32} {x4 : Int32} {x5 : Int32} {x7 : Int32} {s0 : Int32} {s1 : Int32} {s2 : Int32} : f_X3_behind_74 N b g A.1 k12 (pUp A u σ) x2 x3 x4 x5 x7 s0 s1 s2 = (f_behind_74 N k12' σ x2 x3 x4 x5 x7 s0 s1 s2).map (pL A u) := by
  simp only [f_X3_behind_74, f_behind_74, hk12, p_is, p_ldZ hA, p_stZ hA, p_ldL hA, p_stL hA, p_ib, p_fit, p_ucall, p_mcall, p_mcallv, p_mite, p_mbv, p_mb2, p_let, p_bs, p_ms, p_mn, p_pL, if_true, eq_self]
set_option maxRecDepth 100000 in
theorem s_behind_46 (hA : pGood b A) {k12 : UH → Int32 → Int32 → Int32 → Int32 → Int32 → Int32 → Option (Int32 × UH)} {k12' : MS → Int32 → Int32 → Int32 → Int32 → Int32 → Int32 → Option (Int32 × MS)} (hk12 : ∀ (σ : MS) (z0 : Int32) (z1 : Int32) (z2 : Int32) (z3 : Int32) (z4 : Int32) (z5 : Int32), k12 (pUp A u σ) z0 z1 z2 z3 z4 z5 = (k12' σ z0 z1 z2 z3 z4 z5).map (pL A u)) {σ : MS} {x2 : Int32} {x3 : Int32} {x4 : Int32} {x5 : Int32} {x6 : Int32} {x7 : Int32} {s0 : Int32} {s1 : Int32} : f_X3_behind_46 N b g A.1 k12 (pUp A u σ) x2 x3 x4 x5 x6 x7 s0 s1 = (f_behind_46 N k12' σ x2 x3 x4 x5 x6 x7 s0 s1).map (pL A u) := by
  simp only [f_X3_behind_46, f_behind_46, s_behind_74 hA hk12, hk12, p_is, p_ldZ hA, p_stZ hA, p_ldL hA, p_stL hA, p_ib, p_fit, p_ucall, p_mcall, p_mcallv, p_mite, p_mbv, p_mb2, p_let, p_bs, p_ms, p_mn, p_pL, if_true, eq_self]
set_option maxRecDepth 100000 in
theorem s_behind_12 (hA : pGood b A)  : ∀ (n : Nat) (σ : MS) (x2 : Int32) (x3 : Int32) (x4 : Int32) (x5 : Int32) (x6 : Int32) (x7 : Int32), f_X3_behind_12 N b g A.1 n (pUp A u σ) x2 x3 x4 x5 x6 x7 = (f_behind_12 N n σ x2 x3 x4 x5 x6 x7).map (pL A u) := by
  intro n
  induction n with
  | zero => intro σ x2 x3 x4 x5 x6 x7; rfl
  | succ n ih =>
    intro σ x2 x3 x4 x5 x6 x7
    simp only [f_X3_behind_12, f_behind_12, s_behind_46 hA ih, p_gi (k := 24) rfl, p_gr (k := 30) rfl, p_gr (k := 31) rfl, p_ldI hA (j := 30) rfl, p_ldI hA (j := 31) rfl, p_is, p_ldZ hA, p_stZ hA, p_ldL hA, p_stL hA, p_ib, p_fit, p_ucall, p_mcall, p_mcallv, p_mite, p_mbv, p_mb2, p_let, p_bs, p_ms, p_mn, p_pL, if_true, eq_self, ih]
set_option maxRecDepth 100000 in
theorem s_behind (hA : pGood b A)  {σ : MS} {x1 : Int32} {x2 : Int32} {x3 : Int32} : f_X3_behind N b g (pUp A u σ) A.1 x1 x2 x3 = (f_behind N σ x1 x2 x3).map (pL A u) := by
  simp only [f_X3_behind, f_behind, s_behind_12 hA, p_is, p_ldZ hA, p_stZ hA, p_ldL hA, p_stL hA, p_ib, p_fit, p_ucall, p_mcall, p_mcallv, p_mite, p_mbv, p_mb2, p_let, p_bs, p_ms, p_mn, p_pL, if_true, eq_self]
set_option maxRecDepth 100000 in
theorem s_digs_180 (hA : pGood b A) {k67 : UH → Int32 → Int32 → Option (UH)} {k67' : MS → Int32 → Int32 → Option (MS)} (hk67 : ∀ (σ : MS) (z0 : Int32) (z1 : Int32), k67 (pUp A u σ) z0 z1 = (k67' σ z0 z1).map (pUp A u)) {k75 : UH → Int32 → Int32 → Int32 → Option (UH)} {k75' : MS → Int32 → Int32 → Int32 → Option (MS)} (hk75 : ∀ (σ : MS) (z0 : Int32) (z1 : Int32) (z2 : Int32), k75 (pUp A u σ) z0 z1 z2 = (k75' σ z0 z1 z2).map (pUp A u)) {k83 : UH → Int32 → Int32 → Int32 → Int32 → Option (UH)} {k83' : MS → Int32 → Int32 → Int32 → Int32 → Option (MS)} (hk83 : ∀ (σ : MS) (z0 : Int32) (z1 : Int32) (z2 : Int32) (z3 : Int32), k83 (pUp A u σ) z0 z1 z2 z3 = (k83' σ z0 z1 z2 z3).map (pUp A u)) {k95 : UH → Int32 → Int32 → Int32 → Int32 → Int32 → Option (UH)} {k95' : MS → Int32 → Int32 → Int32 → Int32 → Int32 → Option (MS)} (hk95 : ∀ (σ : MS) (z0 : Int32) (z1 : Int32) (z2 : Int32) (z3 : Int32) (z4 : Int32), k95 (pUp A u σ) z0 z1 z2 z3 z4 = (k95' σ z0 z1 z2 z3 z4).map (pUp A u)) {σ : MS} {x1 : Int32} {x2 : Int32} {x3 : Int32} {x4 : Int32} {x5 : Int32} : f_X3_digs_180 N b g A.1 k67 k75 k83 k95 (pUp A u σ) x1 x2 x3 x4 x5 = (f_digs_180 N k67' k75' k83' k95' σ x1 x2 x3 x4 x5).map (pUp A u) := by
  simp only [f_X3_digs_180, f_digs_180, hk67, hk75, hk83, hk95, p_is, p_ldZ hA, p_stZ hA, p_ldL hA, p_stL hA, p_ib, p_fit, p_ucall, p_mcall, p_mcallv, p_mite, p_mbv, p_mb2, p_let, p_bs, p_ms, p_mn, p_pL, if_true, eq_self]
set_option maxRecDepth 100000 in
theorem s_digs_95 (hA : pGood b A) {k67 : UH → Int32 → Int32 → Option (UH)} {k67' : MS → Int32 → Int32 → Option (MS)} (hk67 : ∀ (σ : MS) (z0 : Int32) (z1 : Int32), k67 (pUp A u σ) z0 z1 = (k67' σ z0 z1).map (pUp A u)) {k75 : UH → Int32 → Int32 → Int32 → Option (UH)} {k75' : MS → Int32 → Int32 → Int32 → Option (MS)} (hk75 : ∀ (σ : MS) (z0 : Int32) (z1 : Int32) (z2 : Int32), k75 (pUp A u σ) z0 z1 z2 = (k75' σ z0 z1 z2).map (pUp A u)) {k83 : UH → Int32 → Int32 → Int32 → Int32 → Option (UH)} {k83' : MS → Int32 → Int32 → Int32 → Int32 → Option (MS)} (hk83 : ∀ (σ : MS) (z0 : Int32) (z1 : Int32) (z2 : Int32) (z3 : Int32), k83 (pUp A u σ) z0 z1 z2 z3 = (k83' σ z0 z1 z2 z3).map (pUp A u)) : ∀ (n : Nat) (σ : MS) (x1 : Int32) (x2 : Int32) (x3 : Int32) (x4 : Int32) (x5 : Int32), f_X3_digs_95 N b g A.1 k67 k75 k83 n (pUp A u σ) x1 x2 x3 x4 x5 = (f_digs_95 N k67' k75' k83' n σ x1 x2 x3 x4 x5).map (pUp A u) := by
  intro n
  induction n with
  | zero => intro σ x1 x2 x3 x4 x5; rfl
  | succ n ih =>
    intro σ x1 x2 x3 x4 x5
    simp only [f_X3_digs_95, f_digs_95, s_behind hA, s_digs_180 hA hk67 hk75 hk83 ih, hk67, hk75, hk83, p_gi (k := 24) rfl, p_gr (k := 32) rfl, p_gr (k := 68) rfl, p_ldI hA (j := 32) rfl, p_stI hA (j := 32) rfl, p_ldI hA (j := 68) rfl, p_stI hA (j := 68) rfl, p_is, p_ldZ hA, p_stZ hA, p_ldL hA, p_stL hA, p_ib, p_fit, p_ucall, p_mcall, p_mcallv, p_mite, p_mbv, p_mb2, p_let, p_bs, p_ms, p_mn, p_pL, if_true, eq_self, ih]
set_option maxRecDepth 100000 in
theorem s_digs_83 (hA : pGood b A) {k67 : UH → Int32 → Int32 → Option (UH)} {k67' : MS → Int32 → Int32 → Option (MS)} (hk67 : ∀ (σ : MS) (z0 : Int32) (z1 : Int32), k67 (pUp A u σ) z0 z1 = (k67' σ z0 z1).map (pUp A u)) {k75 : UH → Int32 → Int32 → Int32 → Option (UH)} {k75' : MS → Int32 → Int32 → Int32 → Option (MS)} (hk75 : ∀ (σ : MS) (z0 : Int32) (z1 : Int32) (z2 : Int32), k75 (pUp A u σ) z0 z1 z2 = (k75' σ z0 z1 z2).map (pUp A u)) : ∀ (n : Nat) (σ : MS) (x1 : Int32) (x2 : Int32) (x3 : Int32) (x4 : Int32), f_X3_digs_83 N b g A.1 k67 k75 n (pUp A u σ) x1 x2 x3 x4 = (f_digs_83 N k67' k75' n σ x1 x2 x3 x4).map (pUp A u) := by
  intro n
  induction n with
  | zero => intro σ x1 x2 x3 x4; rfl
  | succ n ih =>
    intro σ x1 x2 x3 x4
    simp only [f_X3_digs_83, f_digs_83, s_digs_95 hA hk67 hk75 ih, hk67, hk75, p_gi (k := 23) rfl, p_is, p_ldZ hA, p_stZ hA, p_ldL hA, p_stL hA, p_ib, p_fit, p_ucall, p_mcall, p_mcallv, p_mite, p_mbv, p_mb2, p_let, p_bs, p_ms, p_mn, p_pL, if_true, eq_self, ih]
set_option maxRecDepth 100000 in
theorem s_digs_75 (hA : pGood b A) {k67 : UH → Int32 → Int32 → Option (UH)} {k67' : MS → Int32 → Int32 → Option (MS)} (hk67 : ∀ (σ : MS) (z0 : Int32) (z1 : Int32), k67 (pUp A u σ) z0 z1 = (k67' σ z0 z1).map (pUp A u)) : ∀ (n : Nat) (σ : MS) (x1 : Int32) (x2 : Int32) (x3 : Int32), f_X3_digs_75 N b g A.1 k67 n (pUp A u σ) x1 x2 x3 = (f_digs_75 N k67' n σ x1 x2 x3).map (pUp A u) := by
  intro n
  induction n with
  | zero => intro σ x1 x2 x3; rfl
  | succ n ih =>
    intro σ x1 x2 x3
    simp only [f_X3_digs_75, f_digs_75, s_digs_83 hA hk67 ih, hk67, p_is, p_ldZ hA, p_stZ hA, p_ldL hA, p_stL hA, p_ib, p_fit, p_ucall, p_mcall, p_mcallv, p_mite, p_mbv, p_mb2, p_let, p_bs, p_ms, p_mn, p_pL, if_true, eq_self, ih]
set_option maxRecDepth 100000 in
theorem s_digs_67 (hA : pGood b A)  : ∀ (n : Nat) (σ : MS) (x1 : Int32) (x2 : Int32), f_X3_digs_67 N b g A.1 n (pUp A u σ) x1 x2 = (f_digs_67 N n σ x1 x2).map (pUp A u) := by
  intro n
  induction n with
  | zero => intro σ x1 x2; rfl
  | succ n ih =>
    intro σ x1 x2
    simp only [f_X3_digs_67, f_digs_67, s_digs_75 hA ih, p_is, p_ldZ hA, p_stZ hA, p_ldL hA, p_stL hA, p_ib, p_fit, p_ucall, p_mcall, p_mcallv, p_mite, p_mbv, p_mb2, p_let, p_bs, p_ms, p_mn, p_pL, if_true, eq_self, ih]
set_option maxRecDepth 100000 in
theorem s_digs_58 (hA : pGood b A) {k37 : UH → Int32 → Int32 → Option (UH)} {k37' : MS → Int32 → Int32 → Option (MS)} (hk37 : ∀ (σ : MS) (z0 : Int32) (z1 : Int32), k37 (pUp A u σ) z0 z1 = (k37' σ z0 z1).map (pUp A u)) {σ : MS} {x1 : Int32} {x2 : Int32} {s0 : Int32} {s1 : Int32} : f_X3_digs_58 N b g A.1 k37 (pUp A u σ) x1 x2 s0 s1 (some (A.2 68)) = (f_digs_58 N k37' σ x1 x2 s0 s1).map (pUp A u) := by
  simp only [f_X3_digs_58, f_digs_58, hk37, p_gr (k := 68) rfl, p_stI hA (j := 68) rfl, p_is, p_ldZ hA, p_stZ hA, p_ldL hA, p_stL hA, p_ib, p_fit, p_ucall, p_mcall, p_mcallv, p_mite, p_mbv, p_mb2, p_let, p_bs, p_ms, p_mn, p_pL, if_true, eq_self]
set_option maxRecDepth 100000 in
theorem s_digs_37 (hA : pGood b A)  : ∀ (n : Nat) (σ : MS) (x1 : Int32) (x2 : Int32), f_X3_digs_37 N b g A.1 n (pUp A u σ) x1 x2 = (f_digs_37 N n σ x1 x2).map (pUp A u) := by
  intro n
  induction n with
  | zero => intro σ x1 x2; rfl
  | succ n ih =>
    intro σ x1 x2
    simp only [f_X3_digs_37, f_digs_37, s_digs_67 hA, s_digs_58 hA ih, p_gr (k := 68) rfl, p_is, p_ldZ hA, p_stZ hA, p_ldL hA, p_stL hA, p_ib, p_fit, p_ucall, p_mcall, p_mcallv, p_mite, p_mbv, p_mb2, p_let, p_bs, p_ms, p_mn, p_pL, if_true, eq_self, ih]
set_option maxRecDepth 100000 in
theorem s_digs_17 (hA : pGood b A)  : ∀ (n : Nat) (σ : MS) (x1 : Int32) (x2 : Int32), f_X3_digs_17 N b g A.1 n (pUp A u σ) x1 x2 = (f_digs_17 N n σ x1 x2).map (pUp A u) := by
  intro n
  induction n with
  | zero => intro σ x1 x2; rfl
  | succ n ih =>
    intro σ x1 x2
    simp only [f_X3_digs_17, f_digs_17, s_digs_37 hA, p_gi (k := 24) rfl, p_is, p_ldZ hA, p_stZ hA, p_ldL hA, p_stL hA, p_ib, p_fit, p_ucall, p_mcall, p_mcallv, p_mite, p_mbv, p_mb2, p_let, p_bs, p_ms, p_mn, p_pL, if_true, eq_self, ih]
set_option maxRecDepth 100000 in
theorem s_digs (hA : pGood b A)  {σ : MS}  : f_X3_digs N b g (pUp A u σ) A.1 = (f_digs N σ).map (pUp A u) := by
  simp only [f_X3_digs, f_digs, s_digs_17 hA, p_gi (k := 69) rfl, p_put hA (k := 69) rfl, p_is, p_ldZ hA, p_stZ hA, p_ldL hA, p_stL hA, p_ib, p_fit, p_ucall, p_mcall, p_mcallv, p_mite, p_mbv, p_mb2, p_let, p_bs, p_ms, p_mn, p_pL, if_true, eq_self]
set_option maxRecDepth 100000 in
theorem s_digState_9 (hA : pGood b A)  : ∀ (n : Nat) (σ : MS) (x1 : Int32) (x2 : Int32), f_X3_digState_9 N b g A.1 n (pUp A u σ) x1 x2 = (f_digState_9 N n σ x1 x2).map (pL A u) := by
  intro n
  induction n with
  | zero => intro σ x1 x2; rfl
  | succ n ih =>
    intro σ x1 x2
    simp only [f_X3_digState_9, f_digState_9, p_gr (k := 47) rfl, p_ldI hA (j := 47) rfl, p_is, p_ldZ hA, p_stZ hA, p_ldL hA, p_stL hA, p_ib, p_fit, p_ucall, p_mcall, p_mcallv, p_mite, p_mbv, p_mb2, p_let, p_bs, p_ms, p_mn, p_pL, if_true, eq_self, ih]
set_option maxRecDepth 100000 in
theorem s_digState (hA : pGood b A)  {σ : MS}  : f_X3_digState N b g (pUp A u σ) A.1 = (f_digState N σ).map (pL A u) := by
  simp only [f_X3_digState, f_digState, s_digState_9 hA, p_gi (k := 24) rfl, p_is, p_ldZ hA, p_stZ hA, p_ldL hA, p_stL hA, p_ib, p_fit, p_ucall, p_mcall, p_mcallv, p_mite, p_mbv, p_mb2, p_let, p_bs, p_ms, p_mn, p_pL, if_true, eq_self]
set_option maxRecDepth 100000 in
theorem s_out_52 (hA : pGood b A)  {σ : MS} {s0 : Int32} : f_X3_out_52 N b g A.1 (pUp A u σ) s0 = (f_out_52 N σ s0).map (pL A u) := by
  simp only [f_X3_out_52, f_out_52, p_is, p_ldZ hA, p_stZ hA, p_ldL hA, p_stL hA, p_ib, p_fit, p_ucall, p_mcall, p_mcallv, p_mite, p_mbv, p_mb2, p_let, p_bs, p_ms, p_mn, p_pL, if_true, eq_self]
set_option maxRecDepth 100000 in
theorem s_out (hA : pGood b A)  {σ : MS}  : f_X3_out N b g (pUp A u σ) A.1 = (f_out N σ).map (pL A u) := by
  simp only [f_X3_out, f_out, s_good hA, s_no hA, s_digs hA, s_digState hA, s_out_52 hA, p_gi (k := 12) rfl, p_gr (k := 68) rfl, p_ldI hA (j := 68) rfl, p_is, p_ldZ hA, p_stZ hA, p_ldL hA, p_stL hA, p_ib, p_fit, p_ucall, p_mcall, p_mcallv, p_mite, p_mbv, p_mb2, p_let, p_bs, p_ms, p_mn, p_pL, if_true, eq_self]
set_option maxRecDepth 100000 in
theorem s_tryAt_15 (hA : pGood b A)  {σ : MS}  : f_X3_tryAt_15 N b g A.1 (pUp A u σ) = (f_tryAt_15 N σ).map (pL A u) := by
  simp only [f_X3_tryAt_15, f_tryAt_15, s_no hA, p_is, p_ldZ hA, p_stZ hA, p_ldL hA, p_stL hA, p_ib, p_fit, p_ucall, p_mcall, p_mcallv, p_mite, p_mbv, p_mb2, p_let, p_bs, p_ms, p_mn, p_pL, if_true, eq_self]
set_option maxRecDepth 100000 in
theorem s_tryAt_159 (hA : pGood b A) {k47 : UH → Int32 → Int32 → Int32 → Option (Int32 × UH)} {k47' : MS → Int32 → Int32 → Int32 → Option (Int32 × MS)} (hk47 : ∀ (σ : MS) (z0 : Int32) (z1 : Int32) (z2 : Int32), k47 (pUp A u σ) z0 z1 z2 = (k47' σ z0 z1 z2).map (pL A u)) {σ : MS} {x1 : Int32} {x2 : Int32} {x3 : Int32} {x4 : Int32} : f_X3_tryAt_159 N b g A.1 k47 (pUp A u σ) x1 x2 x3 x4 = (f_tryAt_159 N k47' σ x1 x2 x3 x4).map (pL A u) := by
  simp only [f_X3_tryAt_159, f_tryAt_159, s_behind hA, hk47, p_is, p_ldZ hA, p_stZ hA, p_ldL hA, p_stL hA, p_ib, p_fit, p_ucall, p_mcall, p_mcallv, p_mite, p_mbv, p_mb2, p_let, p_bs, p_ms, p_mn, p_pL, if_true, eq_self]
set_option maxRecDepth 100000 in
theorem s_tryAt_153 (hA : pGood b A) {k47 : UH → Int32 → Int32 → Int32 → Option (Int32 × UH)} {k47' : MS → Int32 → Int32 → Int32 → Option (Int32 × MS)} (hk47 : ∀ (σ : MS) (z0 : Int32) (z1 : Int32) (z2 : Int32), k47 (pUp A u σ) z0 z1 z2 = (k47' σ z0 z1 z2).map (pL A u)) {k57 : UH → Int32 → Int32 → Int32 → Int32 → Int32 → Option (Int32 × UH)} {k57' : MS → Int32 → Int32 → Int32 → Int32 → Int32 → Option (Int32 × MS)} (hk57 : ∀ (σ : MS) (z0 : Int32) (z1 : Int32) (z2 : Int32) (z3 : Int32) (z4 : Int32), k57 (pUp A u σ) z0 z1 z2 z3 z4 = (k57' σ z0 z1 z2 z3 z4).map (pL A u)) {σ : MS} {x1 : Int32} {x2 : Int32} {x3 : Int32} {x4 : Int32} {x5 : Int32} : f_X3_tryAt_153 N b g A.1 k47 k57 (pUp A u σ) x1 x2 x3 x4 x5 = (f_tryAt_153 N k47' k57' σ x1 x2 x3 x4 x5).map (pL A u) := by
  simp only [f_X3_tryAt_153, f_tryAt_153, hk47, hk57, p_is, p_ldZ hA, p_stZ hA, p_ldL hA, p_stL hA, p_ib, p_fit, p_ucall, p_mcall, p_mcallv, p_mite, p_mbv, p_mb2, p_let, p_bs, p_ms, p_mn, p_pL, if_true, eq_self]
set_option maxRecDepth 100000 in
theorem s_tryAt_147 (hA : pGood b A) {k47 : UH → Int32 → Int32 → Int32 → Option (Int32 × UH)} {k47' : MS → Int32 → Int32 → Int32 → Option (Int32 × MS)} (hk47 : ∀ (σ : MS) (z0 : Int32) (z1 : Int32) (z2 : Int32), k47 (pUp A u σ) z0 z1 z2 = (k47' σ z0 z1 z2).map (pL A u)) {k57 : UH → Int32 → Int32 → Int32 → Int32 → Int32 → Option (Int32 × UH)} {k57' : MS → Int32 → Int32 → Int32 → Int32 → Int32 → Option (Int32 × MS)} (hk57 : ∀ (σ : MS) (z0 : Int32) (z1 : Int32) (z2 : Int32) (z3 : Int32) (z4 : Int32), k57 (pUp A u σ) z0 z1 z2 z3 z4 = (k57' σ z0 z1 z2 z3 z4).map (pL A u)) {k74 : UH → Int32 → Int32 → Int32 → Int32 → Int32 → Int32 → Option (Int32 × UH)} {k74' : MS → Int32 → Int32 → Int32 → Int32 → Int32 → Int32 → Option (Int32 × MS)} (hk74 : ∀ (σ : MS) (z0 : Int32) (z1 : Int32) (z2 : Int32) (z3 : Int32) (z4 : Int32) (z5 : Int32), k74 (pUp A u σ) z0 z1 z2 z3 z4 z5 = (k74' σ z0 z1 z2 z3 z4 z5).map (pL A u)) {σ : MS} {x1 : Int32} {x2 : Int32} {x3 : Int32} {x4 : Int32} {x5 : Int32} {x6 : Int32} : f_X3_tryAt_147 N b g A.1 k47 k57 k74 (pUp A u σ) x1 x2 x3 x4 x5 x6 = (f_tryAt_147 N k47' k57' k74' σ x1 x2 x3 x4 x5 x6).map (pL A u) := by
  simp only [f_X3_tryAt_147, f_tryAt_147, hk47, hk57, hk74, p_is, p_ldZ hA, p_stZ hA, p_ldL hA, p_stL hA, p_ib, p_fit, p_ucall, p_mcall, p_mcallv, p_mite, p_mbv, p_mb2, p_let, p_bs, p_ms, p_mn, p_pL, if_true, eq_self]
set_option maxRecDepth 100000 in
theorem s_tryAt_74 (hA : pGood b A) {k47 : UH → Int32 → Int32 → Int32 → Option (Int32 × UH)} {k47' : MS → Int32 → Int32 → Int32 → Option (Int32 × MS)} (hk47 : ∀ (σ : MS) (z0 : Int32) (z1 : Int32) (z2 : Int32), k47 (pUp A u σ) z0 z1 z2 = (k47' σ z0 z1 z2).map (pL A u)) {k57 : UH → Int32 → Int32 → Int32 → Int32 → Int32 → Option (Int32 × UH)} {k57' : MS → Int32 → Int32 → Int32 → Int32 → Int32 → Option (Int32 × MS)} (hk57 : ∀ (σ : MS) (z0 : Int32) (z1 : Int32) (z2 : Int32) (z3 : Int32) (z4 : Int32), k57 (pUp A u σ) z0 z1 z2 z3 z4 = (k57' σ z0 z1 z2 z3 z4).map (pL A u)) : ∀ (n : Nat) (σ : MS) (x1 : Int32) (x2 : Int32) (x3 : Int32) (x4 : Int32) (x5 : Int32) (x6 : Int32), f_X3_tryAt_74 N b g A.1 k47 k57 n (pUp A u σ) x1 x2 x3 x4 x5 x6 = (f_tryAt_74 N k47' k57' n σ x1 x2 x3 x4 x5 x6).map (pL A u) := by
  intro n
  induction n with
  | zero => intro σ x1 x2 x3 x4 x5 x6; rfl
  | succ n ih =>
    intro σ x1 x2 x3 x4 x5 x6
    simp only [f_X3_tryAt_74, f_tryAt_74, s_tryAt_153 hA hk47 hk57, s_behind hA, s_tryAt_147 hA hk47 hk57 ih, hk47, hk57, p_gi (k := 24) rfl, p_gr (k := 32) rfl, p_gr (k := 68) rfl, p_ldI hA (j := 32) rfl, p_ldI hA (j := 68) rfl, p_is, p_ldZ hA, p_stZ hA, p_ldL hA, p_stL hA, p_ib, p_fit, p_ucall, p_mcall, p_mcallv, p_mite, p_mbv, p_mb2, p_let, p_bs, p_ms, p_mn, p_pL, if_true, eq_self, ih]
set_option maxRecDepth 100000 in
theorem s_tryAt_57 (hA : pGood b A) {k47 : UH → Int32 → Int32 → Int32 → Option (Int32 × UH)} {k47' : MS → Int32 → Int32 → Int32 → Option (Int32 × MS)} (hk47 : ∀ (σ : MS) (z0 : Int32) (z1 : Int32) (z2 : Int32), k47 (pUp A u σ) z0 z1 z2 = (k47' σ z0 z1 z2).map (pL A u)) : ∀ (n : Nat) (σ : MS) (x1 : Int32) (x2 : Int32) (x3 : Int32) (x4 : Int32) (x5 : Int32), f_X3_tryAt_57 N b g A.1 k47 n (pUp A u σ) x1 x2 x3 x4 x5 = (f_tryAt_57 N k47' n σ x1 x2 x3 x4 x5).map (pL A u) := by
  intro n
  induction n with
  | zero => intro σ x1 x2 x3 x4 x5; rfl
  | succ n ih =>
    intro σ x1 x2 x3 x4 x5
    simp only [f_X3_tryAt_57, f_tryAt_57, s_tryAt_159 hA hk47, s_tryAt_74 hA hk47 ih, hk47, p_gi (k := 23) rfl, p_is, p_ldZ hA, p_stZ hA, p_ldL hA, p_stL hA, p_ib, p_fit, p_ucall, p_mcall, p_mcallv, p_mite, p_mbv, p_mb2, p_let, p_bs, p_ms, p_mn, p_pL, if_true, eq_self, ih]
set_option maxRecDepth 100000 in
theorem s_tryAt_47 (hA : pGood b A)  : ∀ (n : Nat) (σ : MS) (x1 : Int32) (x2 : Int32) (x3 : Int32), f_X3_tryAt_47 N b g A.1 n (pUp A u σ) x1 x2 x3 = (f_tryAt_47 N n σ x1 x2 x3).map (pL A u) := by
  intro n
  induction n with
  | zero => intro σ x1 x2 x3; rfl
  | succ n ih =>
    intro σ x1 x2 x3
    simp only [f_X3_tryAt_47, f_tryAt_47, s_tryAt_57 hA ih, p_is, p_ldZ hA, p_stZ hA, p_ldL hA, p_stL hA, p_ib, p_fit, p_ucall, p_mcall, p_mcallv, p_mite, p_mbv, p_mb2, p_let, p_bs, p_ms, p_mn, p_pL, if_true, eq_self, ih]
set_option maxRecDepth 100000 in
theorem s_tryAt (hA : pGood b A)  {σ : MS} {x1 : Int32} : f_X3_tryAt N b g (pUp A u σ) A.1 x1 = (f_tryAt N σ x1).map (pL A u) := by
  simp only [f_X3_tryAt, f_tryAt, s_good hA, s_tryAt_15 hA, s_digs hA, s_digState hA, s_tryAt_47 hA, p_gi (k := 12) rfl, p_gr (k := 68) rfl, p_ldI hA (j := 68) rfl, p_is, p_ldZ hA, p_stZ hA, p_ldL hA, p_stL hA, p_ib, p_fit, p_ucall, p_mcall, p_mcallv, p_mite, p_mbv, p_mb2, p_let, p_bs, p_ms, p_mn, p_pL, if_true, eq_self]
set_option maxRecDepth 100000 in
theorem s_mostDug_46 (hA : pGood b A)  {σ : MS} {x1 : Int32} : f_X3_mostDug_46 N b g A.1 (pUp A u σ) x1 = (f_mostDug_46 N σ x1).map (pL A u) := by
  simp only [f_X3_mostDug_46, f_mostDug_46, p_is, p_ldZ hA, p_stZ hA, p_ldL hA, p_stL hA, p_ib, p_fit, p_ucall, p_mcall, p_mcallv, p_mite, p_mbv, p_mb2, p_let, p_bs, p_ms, p_mn, p_pL, if_true, eq_self]
set_option maxRecDepth 100000 in
theorem s_mostDug_39 (hA : pGood b A) {k4 : UH → Int32 → Int32 → Option (Int32 × UH)} {k4' : MS → Int32 → Int32 → Option (Int32 × MS)} (hk4 : ∀ (σ : MS) (z0 : Int32) (z1 : Int32), k4 (pUp A u σ) z0 z1 = (k4' σ z0 z1).map (pL A u)) {σ : MS} {x2 : Int32} {s0 : Int32} : f_X3_mostDug_39 N b g A.1 k4 (pUp A u σ) x2 s0 = (f_mostDug_39 N k4' σ x2 s0).map (pL A u) := by
  simp only [f_X3_mostDug_39, f_mostDug_39, hk4, p_is, p_ldZ hA, p_stZ hA, p_ldL hA, p_stL hA, p_ib, p_fit, p_ucall, p_mcall, p_mcallv, p_mite, p_mbv, p_mb2, p_let, p_bs, p_ms, p_mn, p_pL, if_true, eq_self]
set_option maxRecDepth 100000 in
theorem s_mostDug_4 (hA : pGood b A)  : ∀ (n : Nat) (σ : MS) (x1 : Int32) (x2 : Int32), f_X3_mostDug_4 N b g A.1 n (pUp A u σ) x1 x2 = (f_mostDug_4 N n σ x1 x2).map (pL A u) := by
  intro n
  induction n with
  | zero => intro σ x1 x2; rfl
  | succ n ih =>
    intro σ x1 x2
    simp only [f_X3_mostDug_4, f_mostDug_4, s_mostDug_46 hA, s_mostDug_39 hA ih, p_gi (k := 12) rfl, p_gi (k := 24) rfl, p_gr (k := 47) rfl, p_ldI hA (j := 47) rfl, p_is, p_ldZ hA, p_stZ hA, p_ldL hA, p_stL hA, p_ib, p_fit, p_ucall, p_mcall, p_mcallv, p_mite, p_mbv, p_mb2, p_let, p_bs, p_ms, p_mn, p_pL, if_true, eq_self, ih]
set_option maxRecDepth 100000 in
theorem s_mostDug (hA : pGood b A)  {σ : MS}  : f_X3_mostDug N b g (pUp A u σ) A.1 = (f_mostDug N σ).map (pL A u) := by
  simp only [f_X3_mostDug, f_mostDug, s_mostDug_4 hA, p_is, p_ldZ hA, p_stZ hA, p_ldL hA, p_stL hA, p_ib, p_fit, p_ucall, p_mcall, p_mcallv, p_mite, p_mbv, p_mb2, p_let, p_bs, p_ms, p_mn, p_pL, if_true, eq_self]
set_option maxRecDepth 100000 in
theorem s_make_39 (hA : pGood b A)  {σ : MS}  : f_X3_make_39 N b g A.1 (pUp A u σ) = (f_make_39 N σ).map (pL A u) := by
  simp only [f_X3_make_39, f_make_39, s_no hA, p_is, p_ldZ hA, p_stZ hA, p_ldL hA, p_stL hA, p_ib, p_fit, p_ucall, p_mcall, p_mcallv, p_mite, p_mbv, p_mb2, p_let, p_bs, p_ms, p_mn, p_pL, if_true, eq_self]
set_option maxRecDepth 100000 in
theorem s_make_59 (hA : pGood b A)  : ∀ (n : Nat) (σ : MS) (x3 : Int32) (x4 : Int32), f_X3_make_59 N b g A.1 n (pUp A u σ) x3 x4 = (f_make_59 N n σ x3 x4).map (pL A u) := by
  intro n
  induction n with
  | zero => intro σ x3 x4; rfl
  | succ n ih =>
    intro σ x3 x4
    simp only [f_X3_make_59, f_make_59, s_mostDug hA, p_gi (k := 24) rfl, p_gr (k := 47) rfl, p_stI hA (j := 47) rfl, p_is, p_ldZ hA, p_stZ hA, p_ldL hA, p_stL hA, p_ib, p_fit, p_ucall, p_mcall, p_mcallv, p_mite, p_mbv, p_mb2, p_let, p_bs, p_ms, p_mn, p_pL, if_true, eq_self, ih]
set_option maxRecDepth 100000 in
theorem s_make (hA : pGood b A)  {σ : MS} {x1 : Int32} {x2 : Int32} : f_X3_make N b g (pUp A u σ) A.1 x1 x2 = (f_make N σ x1 x2).map (pL A u) := by
  simp only [f_X3_make, f_make, s_good hA, s_make_39 hA, s_within hA, s_digState hA, s_behind hA, s_make_59 hA, p_gi (k := 12) rfl, p_gi (k := 23) rfl, p_gi (k := 24) rfl, p_is, p_ldZ hA, p_stZ hA, p_ldL hA, p_stL hA, p_ib, p_fit, p_ucall, p_mcall, p_mcallv, p_mite, p_mbv, p_mb2, p_let, p_bs, p_ms, p_mn, p_pL, if_true, eq_self]
set_option maxRecDepth 100000 in
theorem s_count_135 (hA : pGood b A)  {σ : MS} {s0 : Int32} : f_X3_count_135 N b g A.1 (pUp A u σ) s0 = (f_count_135 N σ s0).map (pL A u) := by
  simp only [f_X3_count_135, f_count_135, p_is, p_ldZ hA, p_stZ hA, p_ldL hA, p_stL hA, p_ib, p_fit, p_ucall, p_mcall, p_mcallv, p_mite, p_mbv, p_mb2, p_let, p_bs, p_ms, p_mn, p_pL, if_true, eq_self]
set_option maxRecDepth 100000 in
theorem s_count_151 (hA : pGood b A)  {σ : MS} {s0 : Int32} : f_X3_count_151 N b g A.1 (pUp A u σ) s0 = (f_count_151 N σ s0).map (pL A u) := by
  simp only [f_X3_count_151, f_count_151, p_is, p_ldZ hA, p_stZ hA, p_ldL hA, p_stL hA, p_ib, p_fit, p_ucall, p_mcall, p_mcallv, p_mite, p_mbv, p_mb2, p_let, p_bs, p_ms, p_mn, p_pL, if_true, eq_self]
set_option maxRecDepth 100000 in
theorem s_count_167 (hA : pGood b A)  {σ : MS} {s0 : Int32} : f_X3_count_167 N b g A.1 (pUp A u σ) s0 = (f_count_167 N σ s0).map (pL A u) := by
  simp only [f_X3_count_167, f_count_167, p_is, p_ldZ hA, p_stZ hA, p_ldL hA, p_stL hA, p_ib, p_fit, p_ucall, p_mcall, p_mcallv, p_mite, p_mbv, p_mb2, p_let, p_bs, p_ms, p_mn, p_pL, if_true, eq_self]
end
