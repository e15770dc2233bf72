/-! BY gen_sim.py -/
section
variable {N b : Nat} {g : uEnv} {A : pA} {u : UH}
set_option maxRecDepth 100000 in
theorem s_cost (hA : pGood b A)  {σ : MS} {x1 : Int32} {x2 : Int32} {x3 : Int32} : f_X3_cost N b g (pUp A u σ) A.1 x1 x2 x3 = (f_cost N σ x1 x2 x3).map (pL A u) := by
  simp only [f_X3_cost, f_cost, s_beside hA, s_need hA, s_slip hA, p_gr (k := 41) rfl, p_ldI hA (j := 41) rfl, p_is, p_ldZ hA, p_stZ hA, p_ldL hA, p_stL hA, p_ib, p_fit, p_ucall, p_mcall, p_mcallv, p_mite, p_mbv, p_mb2, p_let, p_bs, p_ms, p_mn, p_pL, if_true, eq_self]
set_option maxRecDepth 100000 in
theorem s_step_39 (hA : pGood b A)  {σ : MS}  : f_X3_step_39 N b g A.1 (pUp A u σ) = (f_step_39 N σ).map (pL A u) := by
  simp only [f_X3_step_39, f_step_39, s_no hA, p_is, p_ldZ hA, p_stZ hA, p_ldL hA, p_stL hA, p_ib, p_fit, p_ucall, p_mcall, p_mcallv, p_mite, p_mbv, p_mb2, p_let, p_bs, p_ms, p_mn, p_pL, if_true, eq_self]
set_option maxRecDepth 100000 in
theorem s_step_129 (hA : pGood b A)  {σ : MS} {s0 : Int32} : f_X3_step_129 N b g A.1 (pUp A u σ) s0 = (f_step_129 N σ s0).map (pL A u) := by
  simp only [f_X3_step_129, f_step_129, p_is, p_ldZ hA, p_stZ hA, p_ldL hA, p_stL hA, p_ib, p_fit, p_ucall, p_mcall, p_mcallv, p_mite, p_mbv, p_mb2, p_let, p_bs, p_ms, p_mn, p_pL, if_true, eq_self]
set_option maxRecDepth 100000 in
theorem s_step (hA : pGood b A)  {σ : MS} {x1 : Int32} {x2 : Int32} {x3 : Int32} {x4 : Int32} : f_X3_step N b g (pUp A u σ) A.1 x1 x2 x3 x4 = (f_step N σ x1 x2 x3 x4).map (pL A u) := by
  simp only [f_X3_step, f_step, s_good hA, s_isCell hA, s_step_39 hA, s_within hA, s_isGround hA, s_barred hA, s_beside hA, s_need hA, s_step_129 hA, s_slip hA, s_cost hA, p_gr (k := 41) rfl, p_ldI hA (j := 41) rfl, p_is, p_ldZ hA, p_stZ hA, p_ldL hA, p_stL hA, p_ib, p_fit, p_ucall, p_mcall, p_mcallv, p_mite, p_mbv, p_mb2, p_let, p_bs, p_ms, p_mn, p_pL, if_true, eq_self]
set_option maxRecDepth 100000 in
theorem s_lists_68 (hA : pGood b A) {k2 : UH → Int32 → Option (UH)} {k2' : MS → Int32 → Option (MS)} (hk2 : ∀ (σ : MS) (z0 : Int32), k2 (pUp A u σ) z0 = (k2' σ z0).map (pUp A u)) {k19 : UH → Int32 → Int32 → Option (UH)} {k19' : MS → Int32 → Int32 → Option (MS)} (hk19 : ∀ (σ : MS) (z0 : Int32) (z1 : Int32), k19 (pUp A u σ) z0 z1 = (k19' σ z0 z1).map (pUp A u)) {σ : MS} {x1 : Int32} {x2 : Int32} : f_X3_lists_68 N b g A.1 k2 k19 (pUp A u σ) x1 x2 = (f_lists_68 N k2' k19' σ x1 x2).map (pUp A u) := by
  simp only [f_X3_lists_68, f_lists_68, hk2, hk19, p_is, p_ldZ hA, p_stZ hA, p_ldL hA, p_stL hA, p_ib, p_fit, p_ucall, p_mcall, p_mcallv, p_mite, p_mbv, p_mb2, p_let, p_bs, p_ms, p_mn, p_pL, if_true, eq_self]
set_option maxRecDepth 100000 in
theorem s_lists_19 (hA : pGood b A) {k2 : UH → Int32 → Option (UH)} {k2' : MS → Int32 → Option (MS)} (hk2 : ∀ (σ : MS) (z0 : Int32), k2 (pUp A u σ) z0 = (k2' σ z0).map (pUp A u)) : ∀ (n : Nat) (σ : MS) (x1 : Int32) (x2 : Int32), f_X3_lists_19 N b g A.1 k2 n (pUp A u σ) x1 x2 = (f_lists_19 N k2' n σ x1 x2).map (pUp A u) := by
  intro n
  induction n with
  | zero => intro σ x1 x2; rfl
  | succ n ih =>
    intro σ x1 x2
    simp only [f_X3_lists_19, f_lists_19, s_lists_68 hA hk2 ih, hk2, p_gr (k := 46) rfl, p_gr (k := 52) rfl, p_gr (k := 53) rfl, p_ldI hA (j := 46) rfl, p_stI hA (j := 46) rfl, p_ldI hA (j := 52) rfl, p_stI hA (j := 52) rfl, p_ldI hA (j := 53) rfl, p_stI hA (j := 53) rfl, p_is, p_ldZ hA, p_stZ hA, p_ldL hA, p_stL hA, p_ib, p_fit, p_ucall, p_mcall, p_mcallv, p_mite, p_mbv, p_mb2, p_let, p_bs, p_ms, p_mn, p_pL, if_true, eq_self, ih]
set_option maxRecDepth 100000 in
theorem s_lists_2 (hA : pGood b A)  : ∀ (n : Nat) (σ : MS) (x1 : Int32), f_X3_lists_2 N b g A.1 n (pUp A u σ) x1 = (f_lists_2 N n σ x1).map (pUp A u) := by
  intro n
  induction n with
  | zero => intro σ x1; rfl
  | succ n ih =>
    intro σ x1
    simp only [f_X3_lists_2, f_lists_2, s_lists_19 hA ih, p_gi (k := 37) rfl, p_gr (k := 53) rfl, p_stI hA (j := 53) rfl, p_is, p_ldZ hA, p_stZ hA, p_ldL hA, p_stL hA, p_ib, p_fit, p_ucall, p_mcall, p_mcallv, p_mite, p_mbv, p_mb2, p_let, p_bs, p_ms, p_mn, p_pL, if_true, eq_self, ih]
set_option maxRecDepth 100000 in
theorem s_lists (hA : pGood b A)  {σ : MS}  : f_X3_lists N b g (pUp A u σ) A.1 = (f_lists N σ).map (pUp A u) := by
  simp only [f_X3_lists, f_lists, s_lists_2 hA, p_is, p_ldZ hA, p_stZ hA, p_ldL hA, p_stL hA, p_ib, p_fit, p_ucall, p_mcall, p_mcallv, p_mite, p_mbv, p_mb2, p_let, p_bs, p_ms, p_mn, p_pL, if_true, eq_self]
set_option maxRecDepth 100000 in
theorem s_isNear_48 (hA : pGood b A) {k17 : UH → Int32 → Int32 → Int32 → Int32 → Option (Int32 × UH)} {k17' : MS → Int32 → Int32 → Int32 → Int32 → Option (Int32 × MS)} (hk17 : ∀ (σ : MS) (z0 : Int32) (z1 : Int32) (z2 : Int32) (z3 : Int32), k17 (pUp A u σ) z0 z1 z2 z3 = (k17' σ z0 z1 z2 z3).map (pL A u)) {σ : MS} {x1 : Int32} {x2 : Int32} {x4 : Int32} {s0 : Int32} : f_X3_isNear_48 N b g A.1 k17 (pUp A u σ) x1 x2 x4 s0 = (f_isNear_48 N k17' σ x1 x2 x4 s0).map (pL A u) := by
  simp only [f_X3_isNear_48, f_isNear_48, hk17, p_is, p_ldZ hA, p_stZ hA, p_ldL hA, p_stL hA, p_ib, p_fit, p_ucall, p_mcall, p_mcallv, p_mite, p_mbv, p_mb2, p_let, p_bs, p_ms, p_mn, p_pL, if_true, eq_self]
set_option maxRecDepth 100000 in
theorem s_isNear_43 (hA : pGood b A) {k17 : UH → Int32 → Int32 → Int32 → Int32 → Option (Int32 × UH)} {k17' : MS → Int32 → Int32 → Int32 → Int32 → Option (Int32 × MS)} (hk17 : ∀ (σ : MS) (z0 : Int32) (z1 : Int32) (z2 : Int32) (z3 : Int32), k17 (pUp A u σ) z0 z1 z2 z3 = (k17' σ z0 z1 z2 z3).map (pL A u)) {σ : MS} {x1 : Int32} {x2 : Int32} {x4 : Int32} : f_X3_isNear_43 N b g A.1 k17 (pUp A u σ) x1 x2 x4 = (f_isNear_43 N k17' σ x1 x2 x4).map (pL A u) := by
  simp only [f_X3_isNear_43, f_isNear_43, s_isNear_48 hA hk17, hk17, p_is, p_ldZ hA, p_stZ hA, p_ldL hA, p_stL hA, p_ib, p_fit, p_ucall, p_mcall, p_mcallv, p_mite, p_mbv, p_mb2, p_let, p_bs, p_ms, p_mn, p_pL, if_true, eq_self]
set_option maxRecDepth 100000 in
theorem s_isNear_17 (hA : pGood b A)  : ∀ (n : Nat) (σ : MS) (x1 : Int32) (x2 : Int32) (x3 : Int32) (x4 : Int32), f_X3_isNear_17 N b g A.1 n (pUp A u σ) x1 x2 x3 x4 = (f_isNear_17 N n σ x1 x2 x3 x4).map (pL A u) := by
  intro n
  induction n with
  | zero => intro σ x1 x2 x3 x4; rfl
  | succ n ih =>
    intro σ x1 x2 x3 x4
    simp only [f_X3_isNear_17, f_isNear_17, s_beside hA, s_isNear_43 hA ih, s_isNear_48 hA ih, p_gr (k := 44) rfl, p_ldI hA (j := 44) rfl, p_is, p_ldZ hA, p_stZ hA, p_ldL hA, p_stL hA, p_ib, p_fit, p_ucall, p_mcall, p_mcallv, p_mite, p_mbv, p_mb2, p_let, p_bs, p_ms, p_mn, p_pL, if_true, eq_self, ih]
set_option maxRecDepth 100000 in
theorem s_isNear (hA : pGood b A)  {σ : MS} {x1 : Int32} {x2 : Int32} : f_X3_isNear N b g (pUp A u σ) A.1 x1 x2 = (f_isNear N σ x1 x2).map (pL A u) := by
  simp only [f_X3_isNear, f_isNear, s_isNear_17 hA, p_gr (k := 44) rfl, p_ldI hA (j := 44) rfl, p_is, p_ldZ hA, p_stZ hA, p_ldL hA, p_stL hA, p_ib, p_fit, p_ucall, p_mcall, p_mcallv, p_mite, p_mbv, p_mb2, p_let, p_bs, p_ms, p_mn, p_pL, if_true, eq_self]
set_option maxRecDepth 100000 in
theorem s_prepares_120 (hA : pGood b A) {k6 : UH → Int32 → Option (UH)} {k6' : MS → Int32 → Option (MS)} (hk6 : ∀ (σ : MS) (z0 : Int32), k6 (pUp A u σ) z0 = (k6' σ z0).map (pUp A u)) {k69 : UH → Int32 → Int32 → Option (UH)} {k69' : MS → Int32 → Int32 → Option (MS)} (hk69 : ∀ (σ : MS) (z0 : Int32) (z1 : Int32), k69 (pUp A u σ) z0 z1 = (k69' σ z0 z1).map (pUp A u)) {k76 : UH → Int32 → Int32 → Int32 → Option (UH)} {k76' : MS → Int32 → Int32 → Int32 → Option (MS)} (hk76 : ∀ (σ : MS) (z0 : Int32) (z1 : Int32) (z2 : Int32), k76 (pUp A u σ) z0 z1 z2 = (k76' σ z0 z1 z2).map (pUp A u)) {σ : MS} {x1 : Int32} {x2 : Int32} {x3 : Int32} {s0 : Int32} {s1 : Int32} : f_X3_prepares_120 N b g A.1 k6 k69 k76 (pUp A u σ) x1 x2 x3 s0 s1 (some (A.2 71)) = (f_prepares_120 N k6' k69' k76' σ x1 x2 x3 s0 s1).map (pUp A u) := by
  simp only [f_X3_prepares_120, f_prepares_120, hk6, hk69, hk76, p_gr (k := 71) rfl, p_stI hA (j := 71) rfl, p_is, p_ldZ hA, p_stZ hA, p_ldL hA, p_stL hA, p_ib, p_fit, p_ucall, p_mcall, p_mcallv, p_mite, p_mbv, p_mb2, p_let, p_bs, p_ms, p_mn, p_pL, if_true, eq_self]
set_option maxRecDepth 100000 in
theorem s_prepares_76 (hA : pGood b A) {k6 : UH → Int32 → Option (UH)} {k6' : MS → Int32 → Option (MS)} (hk6 : ∀ (σ : MS) (z0 : Int32), k6 (pUp A u σ) z0 = (k6' σ z0).map (pUp A u)) {k69 : UH → Int32 → Int32 → Option (UH)} {k69' : MS → Int32 → Int32 → Option (MS)} (hk69 : ∀ (σ : MS) (z0 : Int32) (z1 : Int32), k69 (pUp A u σ) z0 z1 = (k69' σ z0 z1).map (pUp A u)) : ∀ (n : Nat) (σ : MS) (x1 : Int32) (x2 : Int32) (x3 : Int32), f_X3_prepares_76 N b g A.1 k6 k69 n (pUp A u σ) x1 x2 x3 = (f_prepares_76 N k6' k69' n σ x1 x2 x3).map (pUp A u) := by
  intro n
  induction n with
  | zero => intro σ x1 x2 x3; rfl
  | succ n ih =>
    intro σ x1 x2 x3
    simp only [f_X3_prepares_76, f_prepares_76, s_barred hA, s_cost hA, s_prepares_120 hA hk6 hk69 ih, hk6, hk69, p_gi (k := 22) rfl, p_gr (k := 71) rfl, p_is, p_ldZ hA, p_stZ hA, p_ldL hA, p_stL hA, p_ib, p_fit, p_ucall, p_mcall, p_mcallv, p_mite, p_mbv, p_mb2, p_let, p_bs, p_ms, p_mn, p_pL, if_true, eq_self, ih]
set_option maxRecDepth 100000 in
theorem s_prepares_69 (hA : pGood b A) {k6 : UH → Int32 → Option (UH)} {k6' : MS → Int32 → Option (MS)} (hk6 : ∀ (σ : MS) (z0 : Int32), k6 (pUp A u σ) z0 = (k6' σ z0).map (pUp A u)) : ∀ (n : Nat) (σ : MS) (x1 : Int32) (x2 : Int32), f_X3_prepares_69 N b g A.1 k6 n (pUp A u σ) x1 x2 = (f_prepares_69 N k6' n σ x1 x2).map (pUp A u) := by
  intro n
  induction n with
  | zero => intro σ x1 x2; rfl
  | succ n ih =>
    intro σ x1 x2
    simp only [f_X3_prepares_69, f_prepares_69, s_prepares_76 hA hk6 ih, hk6, p_is, p_ldZ hA, p_stZ hA, p_ldL hA, p_stL hA, p_ib, p_fit, p_ucall, p_mcall, p_mcallv, p_mite, p_mbv, p_mb2, p_let, p_bs, p_ms, p_mn, p_pL, if_true, eq_self, ih]
set_option maxRecDepth 100000 in
theorem s_prepares_59 (hA : pGood b A) {k6 : UH → Int32 → Option (UH)} {k6' : MS → Int32 → Option (MS)} (hk6 : ∀ (σ : MS) (z0 : Int32), k6 (pUp A u σ) z0 = (k6' σ z0).map (pUp A u)) {k28 : UH → Int32 → Int32 → Option (UH)} {k28' : MS → Int32 → Int32 → Option (MS)} (hk28 : ∀ (σ : MS) (z0 : Int32) (z1 : Int32), k28 (pUp A u σ) z0 z1 = (k28' σ z0 z1).map (pUp A u)) {σ : MS} {x1 : Int32} {x2 : Int32} {s0 : Int32} {s1 : Int32} {s2 : Int32} : f_X3_prepares_59 N b g A.1 k6 k28 (pUp A u σ) x1 x2 s0 s1 s2 (some (A.2 72)) = (f_prepares_59 N k6' k28' σ x1 x2 s0 s1 s2).map (pUp A u) := by
  simp only [f_X3_prepares_59, f_prepares_59, hk6, hk28, p_gr (k := 72) rfl, p_stI hA (j := 72) rfl, p_is, p_ldZ hA, p_stZ hA, p_ldL hA, p_stL hA, p_ib, p_fit, p_ucall, p_mcall, p_mcallv, p_mite, p_mbv, p_mb2, p_let, p_bs, p_ms, p_mn, p_pL, if_true, eq_self]
set_option maxRecDepth 100000 in
theorem s_prepares_28 (hA : pGood b A) {k6 : UH → Int32 → Option (UH)} {k6' : MS → Int32 → Option (MS)} (hk6 : ∀ (σ : MS) (z0 : Int32), k6 (pUp A u σ) z0 = (k6' σ z0).map (pUp A u)) : ∀ (n : Nat) (σ : MS) (x1 : Int32) (x2 : Int32), f_X3_prepares_28 N b g A.1 k6 n (pUp A u σ) x1 x2 = (f_prepares_28 N k6' n σ x1 x2).map (pUp A u) := by
  intro n
  induction n with
  | zero => intro σ x1 x2; rfl
  | succ n ih =>
    intro σ x1 x2
    simp only [f_X3_prepares_28, f_prepares_28, s_prepares_69 hA hk6, s_isNear hA, s_prepares_59 hA hk6 ih, hk6, p_gi (k := 37) rfl, p_gr (k := 72) rfl, p_ldI hA (j := 72) rfl, p_is, p_ldZ hA, p_stZ hA, p_ldL hA, p_stL hA, p_ib, p_fit, p_ucall, p_mcall, p_mcallv, p_mite, p_mbv, p_mb2, p_let, p_bs, p_ms, p_mn, p_pL, if_true, eq_self, ih]
set_option maxRecDepth 100000 in
theorem s_prepares_6 (hA : pGood b A)  : ∀ (n : Nat) (σ : MS) (x1 : Int32), f_X3_prepares_6 N b g A.1 n (pUp A u σ) x1 = (f_prepares_6 N n σ x1).map (pUp A u) := by
  intro n
  induction n with
  | zero => intro σ x1; rfl
  | succ n ih =>
    intro σ x1
    simp only [f_X3_prepares_6, f_prepares_6, s_prepares_28 hA ih, p_gi (k := 35) rfl, p_gi (k := 36) rfl, p_gr (k := 72) rfl, p_stI hA (j := 72) rfl, p_is, p_ldZ hA, p_stZ hA, p_ldL hA, p_stL hA, p_ib, p_fit, p_ucall, p_mcall, p_mcallv, p_mite, p_mbv, p_mb2, p_let, p_bs, p_ms, p_mn, p_pL, if_true, eq_self, ih]
set_option maxRecDepth 100000 in
theorem s_prepares (hA : pGood b A)  {σ : MS}  : f_X3_prepares N b g (pUp A u σ) A.1 = (f_prepares N σ).map (pUp A u) := by
  simp only [f_X3_prepares, f_prepares, s_lists hA, s_prepares_6 hA, p_is, p_ldZ hA, p_stZ hA, p_ldL hA, p_stL hA, p_ib, p_fit, p_ucall, p_mcall, p_mcallv, p_mite, p_mbv, p_mb2, p_let, p_bs, p_ms, p_mn, p_pL, if_true, eq_self]
set_option maxRecDepth 100000 in
theorem s_digit (hA : pGood b A)  {σ : MS} {x0 : Int32} {x1 : Int32} : f_X3_digit N b g (pUp A u σ) x0 x1 = (f_digit N σ x0 x1).map (pL A u) := by
  simp only [f_X3_digit, f_digit, p_is, p_ldZ hA, p_stZ hA, p_ldL hA, p_stL hA, p_ib, p_fit, p_ucall, p_mcall, p_mcallv, p_mite, p_mbv, p_mb2, p_let, p_bs, p_ms, p_mn, p_pL, if_true, eq_self]
set_option maxRecDepth 100000 in
theorem s_canBe_85 (hA : pGood b A) {k2 : UH → Int32 → Int32 → Option (Int32 × UH)} {k2' : MS → Int32 → Int32 → Option (Int32 × MS)} (hk2 : ∀ (σ : MS) (z0 : Int32) (z1 : Int32), k2 (pUp A u σ) z0 z1 = (k2' σ z0 z1).map (pL A u)) {σ : MS} {x1 : Int32} {x2 : Int32} : f_X3_canBe_85 N b g A.1 k2 (pUp A u σ) x1 x2 = (f_canBe_85 N k2' σ x1 x2).map (pL A u) := by
  simp only [f_X3_canBe_85, f_canBe_85, hk2, p_is, p_ldZ hA, p_stZ hA, p_ldL hA, p_stL hA, p_ib, p_fit, p_ucall, p_mcall, p_mcallv, p_mite, p_mbv, p_mb2, p_let, p_bs, p_ms, p_mn, p_pL, if_true, eq_self]
set_option maxRecDepth 100000 in
theorem s_canBe_83 (hA : pGood b A)  {σ : MS}  : f_X3_canBe_83 N b g A.1 (pUp A u σ) = (f_canBe_83 N σ).map (pL A u) := by
  simp only [f_X3_canBe_83, f_canBe_83, p_is, p_ldZ hA, p_stZ hA, p_ldL hA, p_stL hA, p_ib, p_fit, p_ucall, p_mcall, p_mcallv, p_mite, p_mbv, p_mb2, p_let, p_bs, p_ms, p_mn, p_pL, if_true, eq_self]
set_option maxRecDepth 100000 in
theorem s_canBe_40 (hA : pGood b A) {k2 : UH → Int32 → Int32 → Option (Int32 × UH)} {k2' : MS → Int32 → Int32 → Option (Int32 × MS)} (hk2 : ∀ (σ : MS) (z0 : Int32) (z1 : Int32), k2 (pUp A u σ) z0 z1 = (k2' σ z0 z1).map (pL A u)) {σ : MS} {x1 : Int32} {x2 : Int32} {x3 : Int32} : f_X3_canBe_40 N b g A.1 k2 (pUp A u σ) x1 x2 x3 = (f_canBe_40 N k2' σ x1 x2 x3).map (pL A u) := by
  simp only [f_X3_canBe_40, f_canBe_40, s_canBe_85 hA hk2, s_canBe_83 hA, hk2, p_gi (k := 37) rfl, p_gr (k := 45) rfl, p_gr (k := 52) rfl, p_ldI hA (j := 45) rfl, p_ldI hA (j := 52) rfl, p_is, p_ldZ hA, p_stZ hA, p_ldL hA, p_stL hA, p_ib, p_fit, p_ucall, p_mcall, p_mcallv, p_mite, p_mbv, p_mb2, p_let, p_bs, p_ms, p_mn, p_pL, if_true, eq_self]
set_option maxRecDepth 100000 in
theorem s_canBe_38 (hA : pGood b A)  {σ : MS}  : f_X3_canBe_38 N b g A.1 (pUp A u σ) = (f_canBe_38 N σ).map (pL A u) := by
  simp only [f_X3_canBe_38, f_canBe_38, p_is, p_ldZ hA, p_stZ hA, p_ldL hA, p_stL hA, p_ib, p_fit, p_ucall, p_mcall, p_mcallv, p_mite, p_mbv, p_mb2, p_let, p_bs, p_ms, p_mn, p_pL, if_true, eq_self]
set_option maxRecDepth 100000 in
theorem s_canBe_2 (hA : pGood b A)  : ∀ (n : Nat) (σ : MS) (x1 : Int32) (x2 : Int32), f_X3_canBe_2 N b g A.1 n (pUp A u σ) x1 x2 = (f_canBe_2 N n σ x1 x2).map (pL A u) := by
  intro n
  induction n with
  | zero => intro σ x1 x2; rfl
  | succ n ih =>
    intro σ x1 x2
    simp only [f_X3_canBe_2, f_canBe_2, s_digit hA, s_canBe_40 hA ih, s_canBe_38 hA, p_gi (k := 37) rfl, p_gr (k := 53) rfl, p_ldI hA (j := 53) rfl, p_is, p_ldZ hA, p_stZ hA, p_ldL hA, p_stL hA, p_ib, p_fit, p_ucall, p_mcall, p_mcallv, p_mite, p_mbv, p_mb2, p_let, p_bs, p_ms, p_mn, p_pL, if_true, eq_self, ih]
set_option maxRecDepth 100000 in
theorem s_canBe (hA : pGood b A)  {σ : MS} {x1 : Int32} : f_X3_canBe N b g (pUp A u σ) A.1 x1 = (f_canBe N σ x1).map (pL A u) := by
  simp only [f_X3_canBe, f_canBe, s_canBe_2 hA, p_is, p_ldZ hA, p_stZ hA, p_ldL hA, p_stL hA, p_ib, p_fit, p_ucall, p_mcall, p_mcallv, p_mite, p_mbv, p_mb2, p_let, p_bs, p_ms, p_mn, p_pL, if_true, eq_self]
set_option maxRecDepth 100000 in
theorem s_floorOf_37 (hA : pGood b A)  {σ : MS} {s0 : Int32} : f_X3_floorOf_37 N b g A.1 (pUp A u σ) s0 = (f_floorOf_37 N σ s0).map (pL A u) := by
  simp only [f_X3_floorOf_37, f_floorOf_37, p_is, p_ldZ hA, p_stZ hA, p_ldL hA, p_stL hA, p_ib, p_fit, p_ucall, p_mcall, p_mcallv, p_mite, p_mbv, p_mb2, p_let, p_bs, p_ms, p_mn, p_pL, if_true, eq_self]
set_option maxRecDepth 100000 in
theorem s_floorOf (hA : pGood b A)  {σ : MS} {x1 : Int32} {x2 : Int32} : f_X3_floorOf N b g (pUp A u σ) A.1 x1 x2 = (f_floorOf N σ x1 x2).map (pL A u) := by
  simp only [f_X3_floorOf, f_floorOf, s_floorOf_37 hA, s_digit hA, p_gr (k := 42) rfl, p_gr (k := 43) rfl, p_gr (k := 52) rfl, p_ldI hA (j := 42) rfl, p_ldI hA (j := 43) rfl, p_ldI hA (j := 52) rfl, p_is, p_ldZ hA, p_stZ hA, p_ldL hA, p_stL hA, p_ib, p_fit, p_ucall, p_mcall, p_mcallv, p_mite, p_mbv, p_mb2, p_let, p_bs, p_ms, p_mn, p_pL, if_true, eq_self]
set_option maxRecDepth 100000 in
theorem s_lays_106 (hA : pGood b A) {k2 : UH → Int32 → Int32 → Option (UH)} {k2' : MS → Int32 → Int32 → Option (MS)} (hk2 : ∀ (σ : MS) (z0 : Int32) (z1 : Int32), k2 (pUp A u σ) z0 z1 = (k2' σ z0 z1).map (pUp A u)) {k17 : UH → Int32 → Int32 → Int32 → Option (UH)} {k17' : MS → Int32 → Int32 → Int32 → Option (MS)} (hk17 : ∀ (σ : MS) (z0 : Int32) (z1 : Int32) (z2 : Int32), k17 (pUp A u σ) z0 z1 z2 = (k17' σ z0 z1 z2).map (pUp A u)) {σ : MS} {x1 : Int32} {x2 : Int32} {x3 : Int32} : f_X3_lays_106 N b g A.1 k2 k17 (pUp A u σ) x1 x2 x3 = (f_lays_106 N k2' k17' σ x1 x2 x3).map (pUp A u) := by
  simp only [f_X3_lays_106, f_lays_106, hk2, hk17, p_is, p_ldZ hA, p_stZ hA, p_ldL hA, p_stL hA, p_ib, p_fit, p_ucall, p_mcall, p_mcallv, p_mite, p_mbv, p_mb2, p_let, p_bs, p_ms, p_mn, p_pL, if_true, eq_self]
set_option maxRecDepth 100000 in
theorem s_lays_74 (hA : pGood b A) {k2 : UH → Int32 → Int32 → Option (UH)} {k2' : MS → Int32 → Int32 → Option (MS)} (hk2 : ∀ (σ : MS) (z0 : Int32) (z1 : Int32), k2 (pUp A u σ) z0 z1 = (k2' σ z0 z1).map (pUp A u)) {k17 : UH → Int32 → Int32 → Int32 → Option (UH)} {k17' : MS → Int32 → Int32 → Int32 → Option (MS)} (hk17 : ∀ (σ : MS) (z0 : Int32) (z1 : Int32) (z2 : Int32), k17 (pUp A u σ) z0 z1 z2 = (k17' σ z0 z1 z2).map (pUp A u)) {σ : MS} {x1 : Int32} {x2 : Int32} {x3 : Int32} {x4 : Int32} : f_X3_lays_74 N b g A.1 k2 k17 (pUp A u σ) x1 x2 x3 x4 = (f_lays_74 N k2' k17' σ x1 x2 x3 x4).map (pUp A u) := by
  simp only [f_X3_lays_74, f_lays_74, s_floorOf hA, s_lays_106 hA hk2 hk17, hk2, hk17, p_gr (k := 70) rfl, p_gr (k := 71) rfl, p_ldI hA (j := 70) rfl, p_stI hA (j := 70) rfl, p_ldI hA (j := 71) rfl, p_stI hA (j := 71) rfl, p_is, p_ldZ hA, p_stZ hA, p_ldL hA, p_stL hA, p_ib, p_fit, p_ucall, p_mcall, p_mcallv, p_mite, p_mbv, p_mb2, p_let, p_bs, p_ms, p_mn, p_pL, if_true, eq_self]
set_option maxRecDepth 100000 in
theorem s_lays_17 (hA : pGood b A) {k2 : UH → Int32 → Int32 → Option (UH)} {k2' : MS → Int32 → Int32 → Option (MS)} (hk2 : ∀ (σ : MS) (z0 : Int32) (z1 : Int32), k2 (pUp A u σ) z0 z1 = (k2' σ z0 z1).map (pUp A u)) : ∀ (n : Nat) (σ : MS) (x1 : Int32) (x2 : Int32) (x3 : Int32), f_X3_lays_17 N b g A.1 k2 n (pUp A u σ) x1 x2 x3 = (f_lays_17 N k2' n σ x1 x2 x3).map (pUp A u) := by
  intro n
  induction n with
  | zero => intro σ x1 x2 x3; rfl
  | succ n ih =>
    intro σ x1 x2 x3
    simp only [f_X3_lays_17, f_lays_17, s_beside hA, s_lays_106 hA hk2 ih, s_lays_74 hA hk2 ih, s_digit hA, hk2, p_gr (k := 43) rfl, p_gr (k := 70) rfl, p_ldI hA (j := 43) rfl, p_stI hA (j := 43) rfl, p_ldI hA (j := 70) rfl, p_stI hA (j := 70) rfl, p_is, p_ldZ hA, p_stZ hA, p_ldL hA, p_stL hA, p_ib, p_fit, p_ucall, p_mcall, p_mcallv, p_mite, p_mbv, p_mb2, p_let, p_bs, p_ms, p_mn, p_pL, if_true, eq_self, ih]
set_option maxRecDepth 100000 in
theorem s_lays_2 (hA : pGood b A)  : ∀ (n : Nat) (σ : MS) (x1 : Int32) (x2 : Int32), f_X3_lays_2 N b g A.1 n (pUp A u σ) x1 x2 = (f_lays_2 N n σ x1 x2).map (pUp A u) := by
  intro n
  induction n with
  | zero => intro σ x1 x2; rfl
  | succ n ih =>
    intro σ x1 x2
    simp only [f_X3_lays_2, f_lays_2, s_lays_17 hA ih, p_gi (k := 35) rfl, p_gi (k := 36) rfl, p_is, p_ldZ hA, p_stZ hA, p_ldL hA, p_stL hA, p_ib, p_fit, p_ucall, p_mcall, p_mcallv, p_mite, p_mbv, p_mb2, p_let, p_bs, p_ms, p_mn, p_pL, if_true, eq_self, ih]
set_option maxRecDepth 100000 in
theorem s_lays (hA : pGood b A)  {σ : MS} {x1 : Int32} : f_X3_lays N b g (pUp A u σ) A.1 x1 = (f_lays N σ x1).map (pUp A u) := by
  simp only [f_X3_lays, f_lays, s_lays_2 hA, p_is, p_ldZ hA, p_stZ hA, p_ldL hA, p_stL hA, p_ib, p_fit, p_ucall, p_mcall, p_mcallv, p_mite, p_mbv, p_mb2, p_let, p_bs, p_ms, p_mn, p_pL, if_true, eq_self]
set_option maxRecDepth 100000 in
theorem s_news_34 (hA : pGood b A) {k2 : UH → Int32 → Int32 → Int32 → Option (Int32 × UH)} {k2' : MS → Int32 → Int32 → Int32 → Option (Int32 × MS)} (hk2 : ∀ (σ : MS) (z0 : Int32) (z1 : Int32) (z2 : Int32), k2 (pUp A u σ) z0 z1 z2 = (k2' σ z0 z1 z2).map (pL A u)) {σ : MS} {x1 : Int32} {x2 : Int32} {x3 : Int32} : f_X3_news_34 N b g A.1 k2 (pUp A u σ) x1 x2 x3 = (f_news_34 N k2' σ x1 x2 x3).map (pL A u) := by
  simp only [f_X3_news_34, f_news_34, hk2, p_is, p_ldZ hA, p_stZ hA, p_ldL hA, p_stL hA, p_ib, p_fit, p_ucall, p_mcall, p_mcallv, p_mite, p_mbv, p_mb2, p_let, p_bs, p_ms, p_mn, p_pL, if_true, eq_self]
set_option maxRecDepth 100000 in
theorem s_news_2 (hA : pGood b A)  : ∀ (n : Nat) (σ : MS) (x1 : Int32) (x2 : Int32) (x3 : Int32), f_X3_news_2 N b g A.1 n (pUp A u σ) x1 x2 x3 = (f_news_2 N n σ x1 x2 x3).map (pL A u) := by
  intro n
  induction n with
  | zero => intro σ x1 x2 x3; rfl
  | succ n ih =>
    intro σ x1 x2 x3
    simp only [f_X3_news_2, f_news_2, s_digit hA, s_news_34 hA ih, p_gi (k := 37) rfl, p_gr (k := 72) rfl, p_ldI hA (j := 72) rfl, p_is, p_ldZ hA, p_stZ hA, p_ldL hA, p_stL hA, p_ib, p_fit, p_ucall, p_mcall, p_mcallv, p_mite, p_mbv, p_mb2, p_let, p_bs, p_ms, p_mn, p_pL, if_true, eq_self, ih]
set_option maxRecDepth 100000 in
theorem s_news (hA : pGood b A)  {σ : MS} {x1 : Int32} {x2 : Int32} : f_X3_news N b g (pUp A u σ) A.1 x1 x2 = (f_news N σ x1 x2).map (pL A u) := by
  simp only [f_X3_news, f_news, s_news_2 hA, p_is, p_ldZ hA, p_stZ hA, p_ldL hA, p_stL hA, p_ib, p_fit, p_ucall, p_mcall, p_mcallv, p_mite, p_mbv, p_mb2, p_let, p_bs, p_ms, p_mn, p_pL, if_true, eq_self]
set_option maxRecDepth 100000 in
theorem s_power (hA : pGood b A)  {σ : MS} {x0 : Int32} : f_X3_power N b g (pUp A u σ) x0 = (f_power N σ x0).map (pL A u) := by
  simp only [f_X3_power, f_power, p_is, p_ldZ hA, p_stZ hA, p_ldL hA, p_stL hA, p_ib, p_fit, p_ucall, p_mcall, p_mcallv, p_mite, p_mbv, p_mb2, p_let, p_bs, p_ms, p_mn, p_pL, if_true, eq_self]
set_option maxRecDepth 100000 in
theorem s_weightOf (hA : pGood b A)  {σ : MS} {x1 : Int32} {x2 : Int32} : f_X3_weightOf N b g (pUp A u σ) A.1 x1 x2 = (f_weightOf N σ x1 x2).map (pL A u) := by
  simp only [f_X3_weightOf, f_weightOf, p_gr (k := 46) rfl, p_gr (k := 52) rfl, p_ldI hA (j := 46) rfl, p_ldI hA (j := 52) rfl, p_is, p_ldZ hA, p_stZ hA, p_ldL hA, p_stL hA, p_ib, p_fit, p_ucall, p_mcall, p_mcallv, p_mite, p_mbv, p_mb2, p_let, p_bs, p_ms, p_mn, p_pL, if_true, eq_self]
set_option maxRecDepth 100000 in
theorem s_over_90 (hA : pGood b A) {k6 : UH → Int32 → Int32 → Int32 → Int32 → Int64 → Int32 → Option (Int64 × UH)} {k6' : MS → Int32 → Int32 → Int32 → Int32 → Int64 → Int32 → Option (Int64 × MS)} (hk6 : ∀ (σ : MS) (z0 : Int32) (z1 : Int32) (z2 : Int32) (z3 : Int32) (z4 : Int64) (z5 : Int32), k6 (pUp A u σ) z0 z1 z2 z3 z4 z5 = (k6' σ z0 z1 z2 z3 z4 z5).map (pL A u)) {σ : MS} {x1 : Int32} {x2 : Int32} {x3 : Int32} {x4 : Int32} {x7 : Int32} {s0 : Int64} : f_X3_over_90 N b g A.1 k6 (pUp A u σ) x1 x2 x3 x4 x7 s0 = (f_over_90 N k6' σ x1 x2 x3 x4 x7 s0).map (pL A u) := by
  simp only [f_X3_over_90, f_over_90, hk6, p_is, p_ldZ hA, p_stZ hA, p_ldL hA, p_stL hA, p_ib, p_fit, p_ucall, p_mcall, p_mcallv, p_mite, p_mbv, p_mb2, p_let, p_bs, p_ms, p_mn, p_pL, if_true, eq_self]
set_option maxRecDepth 100000 in
theorem s_over_6 (hA : pGood b A)  : ∀ (n : Nat) (σ : MS) (x1 : Int32) (x2 : Int32) (x3 : Int32) (x4 : Int32) (x5 : Int64) (x7 : Int32), f_X3_over_6 N b g A.1 n (pUp A u σ) x1 x2 x3 x4 x5 x7 = (f_over_6 N n σ x1 x2 x3 x4 x5 x7).map (pL A u) := by
  intro n
  induction n with
  | zero => intro σ x1 x2 x3 x4 x5 x7; rfl
  | succ n ih =>
    intro σ x1 x2 x3 x4 x5 x7
    simp only [f_X3_over_6, f_over_6, s_power hA, s_over_90 hA ih, s_weightOf hA, p_gr (k := 48) rfl, p_gr (k := 53) rfl, p_ldI hA (j := 53) rfl, p_is, p_ldZ hA, p_stZ hA, p_ldL hA, p_stL hA, p_ib, p_fit, p_ucall, p_mcall, p_mcallv, p_mite, p_mbv, p_mb2, p_let, p_bs, p_ms, p_mn, p_pL, if_true, eq_self, ih]
set_option maxRecDepth 100000 in
theorem s_over (hA : pGood b A)  {σ : MS} {x1 : Int32} {x2 : Int32} {x3 : Int32} {x4 : Int32} : f_X3_over N b g (pUp A u σ) A.1 x1 x2 x3 x4 = (f_over N σ x1 x2 x3 x4).map (pL A u) := by
  simp only [f_X3_over, f_over, s_over_6 hA, p_is, p_ldZ hA, p_stZ hA, p_ldL hA, p_stL hA, p_ib, p_fit, p_ucall, p_mcall, p_mcallv, p_mite, p_mbv, p_mb2, p_let, p_bs, p_ms, p_mn, p_pL, if_true, eq_self]
set_option maxRecDepth 100000 in
theorem s_allOf_5 (hA : pGood b A)  : ∀ (n : Nat) (σ : MS) (x1 : Int32) (x2 : Int64) (x4 : Int32), f_X3_allOf_5 N b g A.1 n (pUp A u σ) x1 x2 x4 = (f_allOf_5 N n σ x1 x2 x4).map (pL A u) := by
  intro n
  induction n with
  | zero => intro σ x1 x2 x4; rfl
  | succ n ih =>
    intro σ x1 x2 x4
    simp only [f_X3_allOf_5, f_allOf_5, s_weightOf hA, p_gr (k := 53) rfl, p_ldI hA (j := 53) rfl, p_is, p_ldZ hA, p_stZ hA, p_ldL hA, p_stL hA, p_ib, p_fit, p_ucall, p_mcall, p_mcallv, p_mite, p_mbv, p_mb2, p_let, p_bs, p_ms, p_mn, p_pL, if_true, eq_self, ih]
set_option maxRecDepth 100000 in
theorem s_allOf (hA : pGood b A)  {σ : MS} {x1 : Int32} : f_X3_allOf N b g (pUp A u σ) A.1 x1 = (f_allOf N σ x1).map (pL A u) := by
  simp only [f_X3_allOf, f_allOf, s_allOf_5 hA, p_is, p_ldZ hA, p_stZ hA, p_ldL hA, p_stL hA, p_ib, p_fit, p_ucall, p_mcall, p_mcallv, p_mite, p_mbv, p_mb2, p_let, p_bs, p_ms, p_mn, p_pL, if_true, eq_self]
set_option maxRecDepth 100000 in
theorem s_left_35 (hA : pGood b A) {k5 : UH → Int32 → Int64 → Int32 → Option (Int64 × UH)} {k5' : MS → Int32 → Int64 → Int32 → Option (Int64 × MS)} (hk5 : ∀ (σ : MS) (z0 : Int32) (z1 : Int64) (z2 : Int32), k5 (pUp A u σ) z0 z1 z2 = (k5' σ z0 z1 z2).map (pL A u)) {σ : MS} {x1 : Int32} {x4 : Int32} {s0 : Int64} : f_X3_left_35 N b g A.1 k5 (pUp A u σ) x1 x4 s0 = (f_left_35 N k5' σ x1 x4 s0).map (pL A u) := by
  simp only [f_X3_left_35, f_left_35, hk5, p_is, p_ldZ hA, p_stZ hA, p_ldL hA, p_stL hA, p_ib, p_fit, p_ucall, p_mcall, p_mcallv, p_mite, p_mbv, p_mb2, p_let, p_bs, p_ms, p_mn, p_pL, if_true, eq_self]
set_option maxRecDepth 100000 in
theorem s_left_5 (hA : pGood b A)  : ∀ (n : Nat) (σ : MS) (x1 : Int32) (x2 : Int64) (x4 : Int32), f_X3_left_5 N b g A.1 n (pUp A u σ) x1 x2 x4 = (f_left_5 N n σ x1 x2 x4).map (pL A u) := by
  intro n
  induction n with
  | zero => intro σ x1 x2 x4; rfl
  | succ n ih =>
    intro σ x1 x2 x4
    simp only [f_X3_left_5, f_left_5, s_digit hA, s_allOf hA, s_left_35 hA ih, p_gi (k := 37) rfl, p_is, p_ldZ hA, p_stZ hA, p_ldL hA, p_stL hA, p_ib, p_fit, p_ucall, p_mcall, p_mcallv, p_mite, p_mbv, p_mb2, p_let, p_bs, p_ms, p_mn, p_pL, if_true, eq_self, ih]
set_option maxRecDepth 100000 in
theorem s_left (hA : pGood b A)  {σ : MS} {x1 : Int32} : f_X3_left N b g (pUp A u σ) A.1 x1 = (f_left N σ x1).map (pL A u) := by
  simp only [f_X3_left, f_left, s_left_5 hA, p_is, p_ldZ hA, p_stZ hA, p_ldL hA, p_stL hA, p_ib, p_fit, p_ucall, p_mcall, p_mcallv, p_mite, p_mbv, p_mb2, p_let, p_bs, p_ms, p_mn, p_pL, if_true, eq_self]
set_option maxRecDepth 100000 in
theorem s_lower_109 (hA : pGood b A) {k16 : UH → Int32 → Int32 → Int64 → Int64 → Int32 → Option (Int64 × UH)} {k16' : MS → Int32 → Int32 → Int64 → Int64 → Int32 → Option (Int64 × MS)} (hk16 : ∀ (σ : MS) (z0 : Int32) (z1 : Int32) (z2 : Int64) (z3 : Int64) (z4 : Int32), k16 (pUp A u σ) z0 z1 z2 z3 z4 = (k16' σ z0 z1 z2 z3 z4).map (pL A u)) {σ : MS} {x1 : Int32} {x2 : Int32} {x3 : Int64} {x5 : Int64} {x7 : Int32} : f_X3_lower_109 N b g A.1 k16 (pUp A u σ) x1 x2 x3 x5 x7 = (f_lower_109 N k16' σ x1 x2 x3 x5 x7).map (pL A u) := by
  simp only [f_X3_lower_109, f_lower_109, hk16, p_is, p_ldZ hA, p_stZ hA, p_ldL hA, p_stL hA, p_ib, p_fit, p_ucall, p_mcall, p_mcallv, p_mite, p_mbv, p_mb2, p_let, p_bs, p_ms, p_mn, p_pL, if_true, eq_self]
set_option maxRecDepth 100000 in
theorem s_lower_16 (hA : pGood b A)  : ∀ (n : Nat) (σ : MS) (x1 : Int32) (x2 : Int32) (x3 : Int64) (x5 : Int64) (x7 : Int32), f_X3_lower_16 N b g A.1 n (pUp A u σ) x1 x2 x3 x5 x7 = (f_lower_16 N n σ x1 x2 x3 x5 x7).map (pL A u) := by
  intro n
  induction n with
  | zero => intro σ x1 x2 x3 x5 x7; rfl
  | succ n ih =>
    intro σ x1 x2 x3 x5 x7
    simp only [f_X3_lower_16, f_lower_16, s_lower_109 hA ih, s_beside hA, p_gr (k := 48) rfl, p_gr (k := 70) rfl, p_ldI hA (j := 70) rfl, p_is, p_ldZ hA, p_stZ hA, p_ldL hA, p_stL hA, p_ib, p_fit, p_ucall, p_mcall, p_mcallv, p_mite, p_mbv, p_mb2, p_let, p_bs, p_ms, p_mn, p_pL, if_true, eq_self, ih]
set_option maxRecDepth 100000 in
theorem s_lower (hA : pGood b A)  {σ : MS} {x1 : Int32} {x2 : Int32} {x3 : Int64} : f_X3_lower N b g (pUp A u σ) A.1 x1 x2 x3 = (f_lower N σ x1 x2 x3).map (pL A u) := by
  simp only [f_X3_lower, f_lower, s_lower_16 hA, p_gr (k := 48) rfl, p_is, p_ldZ hA, p_stZ hA, p_ldL hA, p_stL hA, p_ib, p_fit, p_ucall, p_mcall, p_mcallv, p_mite, p_mbv, p_mb2, p_let, p_bs, p_ms, p_mn, p_pL, if_true, eq_self]
set_option maxRecDepth 100000 in
theorem s_solve_270 (hA : pGood b A) {k47 : UH → Int32 → Int32 → Int32 → Option (UH)} {k47' : MS → Int32 → Int32 → Int32 → Option (MS)} (hk47 : ∀ (σ : MS) (z0 : Int32) (z1 : Int32) (z2 : Int32), k47 (pUp A u σ) z0 z1 z2 = (k47' σ z0 z1 z2).map (pUp A u)) {σ : MS} {x1 : Int32} {x2 : Int32} {x3 : Int32} : f_X3_solve_270 N b g A.1 k47 (pUp A u σ) x1 x2 x3 = (f_solve_270 N k47' σ x1 x2 x3).map (pUp A u) := by
  simp only [f_X3_solve_270, f_solve_270, hk47, p_is, p_ldZ hA, p_stZ hA, p_ldL hA, p_stL hA, p_ib, p_fit, p_ucall, p_mcall, p_mcallv, p_mite, p_mbv, p_mb2, p_let, p_bs, p_ms, p_mn, p_pL, if_true, eq_self]
set_option maxRecDepth 100000 in
theorem s_solve_261 (hA : pGood b A) {k47 : UH → Int32 → Int32 → Int32 → Option (UH)} {k47' : MS → Int32 → Int32 → Int32 → Option (MS)} (hk47 : ∀ (σ : MS) (z0 : Int32) (z1 : Int32) (z2 : Int32), k47 (pUp A u σ) z0 z1 z2 = (k47' σ z0 z1 z2).map (pUp A u)) {k161 : UH → Int32 → Int32 → Int32 → Int64 → Int32 → Option (UH)} {k161' : MS → Int32 → Int32 → Int32 → Int64 → Int32 → Option (MS)} (hk161 : ∀ (σ : MS) (z0 : Int32) (z1 : Int32) (z2 : Int32) (z3 : Int64) (z4 : Int32), k161 (pUp A u σ) z0 z1 z2 z3 z4 = (k161' σ z0 z1 z2 z3 z4).map (pUp A u)) {k172 : UH → Int32 → Int32 → Int32 → Int64 → Int32 → Int32 → Option (UH)} {k172' : MS → Int32 → Int32 → Int32 → Int64 → Int32 → Int32 → Option (MS)} (hk172 : ∀ (σ : MS) (z0 : Int32) (z1 : Int32) (z2 : Int32) (z3 : Int64) (z4 : Int32) (z5 : Int32), k172 (pUp A u σ) z0 z1 z2 z3 z4 z5 = (k172' σ z0 z1 z2 z3 z4 z5).map (pUp A u)) {σ : MS} {x1 : Int32} {x2 : Int32} {x3 : Int32} {x4 : Int64} {x6 : Int32} {x7 : Int32} : f_X3_solve_261 N b g A.1 k47 k161 k172 (pUp A u σ) x1 x2 x3 x4 x6 x7 = (f_solve_261 N k47' k161' k172' σ x1 x2 x3 x4 x6 x7).map (pUp A u) := by
  simp only [f_X3_solve_261, f_solve_261, hk47, hk161, hk172, p_is, p_ldZ hA, p_stZ hA, p_ldL hA, p_stL hA, p_ib, p_fit, p_ucall, p_mcall, p_mcallv, p_mite, p_mbv, p_mb2, p_let, p_bs, p_ms, p_mn, p_pL, if_true, eq_self]
set_option maxRecDepth 100000 in
theorem s_solve_245 (hA : pGood b A) {k47 : UH → Int32 → Int32 → Int32 → Option (UH)} {k47' : MS → Int32 → Int32 → Int32 → Option (MS)} (hk47 : ∀ (σ : MS) (z0 : Int32) (z1 : Int32) (z2 : Int32), k47 (pUp A u σ) z0 z1 z2 = (k47' σ z0 z1 z2).map (pUp A u)) {k161 : UH → Int32 → Int32 → Int32 → Int64 → Int32 → Option (UH)} {k161' : MS → Int32 → Int32 → Int32 → Int64 → Int32 → Option (MS)} (hk161 : ∀ (σ : MS) (z0 : Int32) (z1 : Int32) (z2 : Int32) (z3 : Int64) (z4 : Int32), k161 (pUp A u σ) z0 z1 z2 z3 z4 = (k161' σ z0 z1 z2 z3 z4).map (pUp A u)) {k172 : UH → Int32 → Int32 → Int32 → Int64 → Int32 → Int32 → Option (UH)} {k172' : MS → Int32 → Int32 → Int32 → Int64 → Int32 → Int32 → Option (MS)} (hk172 : ∀ (σ : MS) (z0 : Int32) (z1 : Int32) (z2 : Int32) (z3 : Int64) (z4 : Int32) (z5 : Int32), k172 (pUp A u σ) z0 z1 z2 z3 z4 z5 = (k172' σ z0 z1 z2 z3 z4 z5).map (pUp A u)) {σ : MS} {x1 : Int32} {x2 : Int32} {x3 : Int32} {x4 : Int64} {x7 : Int32} {x8 : Int64} {s0 : Int32} : f_X3_solve_245 N b g A.1 k47 k161 k172 (pUp A u σ) x1 x2 x3 x4 x7 x8 s0 = (f_solve_245 N k47' k161' k172' σ x1 x2 x3 x4 x7 x8 s0).map (pUp A u) := by
  simp only [f_X3_solve_245, f_solve_245, s_solve_261 hA hk47 hk161 hk172, hk47, hk161, hk172, p_gr (k := 48) rfl, p_is, p_ldZ hA, p_stZ hA, p_ldL hA, p_stL hA, p_ib, p_fit, p_ucall, p_mcall, p_mcallv, p_mite, p_mbv, p_mb2, p_let, p_bs, p_ms, p_mn, p_pL, if_true, eq_self]
set_option maxRecDepth 100000 in
theorem s_solve_240 (hA : pGood b A) {k47 : UH → Int32 → Int32 → Int32 → Option (UH)} {k47' : MS → Int32 → Int32 → Int32 → Option (MS)} (hk47 : ∀ (σ : MS) (z0 : Int32) (z1 : Int32) (z2 : Int32), k47 (pUp A u σ) z0 z1 z2 = (k47' σ z0 z1 z2).map (pUp A u)) {k161 : UH → Int32 → Int32 → Int32 → Int64 → Int32 → Option (UH)} {k161' : MS → Int32 → Int32 → Int32 → Int64 → Int32 → Option (MS)} (hk161 : ∀ (σ : MS) (z0 : Int32) (z1 : Int32) (z2 : Int32) (z3 : Int64) (z4 : Int32), k161 (pUp A u σ) z0 z1 z2 z3 z4 = (k161' σ z0 z1 z2 z3 z4).map (pUp A u)) {k172 : UH → Int32 → Int32 → Int32 → Int64 → Int32 → Int32 → Option (UH)} {k172' : MS → Int32 → Int32 → Int32 → Int64 → Int32 → Int32 → Option (MS)} (hk172 : ∀ (σ : MS) (z0 : Int32) (z1 : Int32) (z2 : Int32) (z3 : Int64) (z4 : Int32) (z5 : Int32), k172 (pUp A u σ) z0 z1 z2 z3 z4 z5 = (k172' σ z0 z1 z2 z3 z4 z5).map (pUp A u)) {σ : MS} {x1 : Int32} {x2 : Int32} {x3 : Int32} {x4 : Int64} {x7 : Int32} {x8 : Int64} : f_X3_solve_240 N b g A.1 k47 k161 k172 (pUp A u σ) x1 x2 x3 x4 x7 x8 = (f_solve_240 N k47' k161' k172' σ x1 x2 x3 x4 x7 x8).map (pUp A u) := by
  simp only [f_X3_solve_240, f_solve_240, s_solve_245 hA hk47 hk161 hk172, hk47, hk161, hk172, p_is, p_ldZ hA, p_stZ hA, p_ldL hA, p_stL hA, p_ib, p_fit, p_ucall, p_mcall, p_mcallv, p_mite, p_mbv, p_mb2, p_let, p_bs, p_ms, p_mn, p_pL, if_true, eq_self]
set_option maxRecDepth 100000 in
theorem s_solve_172 (hA : pGood b A) {k47 : UH → Int32 → Int32 → Int32 → Option (UH)} {k47' : MS → Int32 → Int32 → Int32 → Option (MS)} (hk47 : ∀ (σ : MS) (z0 : Int32) (z1 : Int32) (z2 : Int32), k47 (pUp A u σ) z0 z1 z2 = (k47' σ z0 z1 z2).map (pUp A u)) {k161 : UH → Int32 → Int32 → Int32 → Int64 → Int32 → Option (UH)} {k161' : MS → Int32 → Int32 → Int32 → Int64 → Int32 → Option (MS)} (hk161 : ∀ (σ : MS) (z0 : Int32) (z1 : Int32) (z2 : Int32) (z3 : Int64) (z4 : Int32), k161 (pUp A u σ) z0 z1 z2 z3 z4 = (k161' σ z0 z1 z2 z3 z4).map (pUp A u)) : ∀ (n : Nat) (σ : MS) (x1 : Int32) (x2 : Int32) (x3 : Int32) (x4 : Int64) (x6 : Int32) (x7 : Int32), f_X3_solve_172 N b g A.1 k47 k161 n (pUp A u σ) x1 x2 x3 x4 x6 x7 = (f_solve_172 N k47' k161' n σ x1 x2 x3 x4 x6 x7).map (pUp A u) := by
  intro n
  induction n with
  | zero => intro σ x1 x2 x3 x4 x6 x7; rfl
  | succ n ih =>
    intro σ x1 x2 x3 x4 x6 x7
    simp only [f_X3_solve_172, f_solve_172, s_solve_261 hA hk47 hk161 ih, s_news hA, s_lower hA, s_solve_245 hA hk47 hk161 ih, s_solve_240 hA hk47 hk161 ih, hk47, hk161, p_gi (k := 35) rfl, p_gi (k := 36) rfl, p_gr (k := 48) rfl, p_is, p_ldZ hA, p_stZ hA, p_ldL hA, p_stL hA, p_ib, p_fit, p_ucall, p_mcall, p_mcallv, p_mite, p_mbv, p_mb2, p_let, p_bs, p_ms, p_mn, p_pL, if_true, eq_self, ih]
set_option maxRecDepth 100000 in
theorem s_solve_161 (hA : pGood b A) {k47 : UH → Int32 → Int32 → Int32 → Option (UH)} {k47' : MS → Int32 → Int32 → Int32 → Option (MS)} (hk47 : ∀ (σ : MS) (z0 : Int32) (z1 : Int32) (z2 : Int32), k47 (pUp A u σ) z0 z1 z2 = (k47' σ z0 z1 z2).map (pUp A u)) : ∀ (n : Nat) (σ : MS) (x1 : Int32) (x2 : Int32) (x3 : Int32) (x4 : Int64) (x6 : Int32), f_X3_solve_161 N b g A.1 k47 n (pUp A u σ) x1 x2 x3 x4 x6 = (f_solve_161 N k47' n σ x1 x2 x3 x4 x6).map (pUp A u) := by
  intro n
  induction n with
  | zero => intro σ x1 x2 x3 x4 x6; rfl
  | succ n ih =>
    intro σ x1 x2 x3 x4 x6
    simp only [f_X3_solve_161, f_solve_161, s_solve_270 hA hk47, s_solve_172 hA hk47 ih, hk47, p_is, p_ldZ hA, p_stZ hA, p_ldL hA, p_stL hA, p_ib, p_fit, p_ucall, p_mcall, p_mcallv, p_mite, p_mbv, p_mb2, p_let, p_bs, p_ms, p_mn, p_pL, if_true, eq_self, ih]
set_option maxRecDepth 100000 in
theorem s_solve_156 (hA : pGood b A) {k47 : UH → Int32 → Int32 → Int32 → Option (UH)} {k47' : MS → Int32 → Int32 → Int32 → Option (MS)} (hk47 : ∀ (σ : MS) (z0 : Int32) (z1 : Int32) (z2 : Int32), k47 (pUp A u σ) z0 z1 z2 = (k47' σ z0 z1 z2).map (pUp A u)) {σ : MS} {x1 : Int32} {x2 : Int32} {x3 : Int32} {s0 : Int64} : f_X3_solve_156 N b g A.1 k47 (pUp A u σ) x1 x2 x3 s0 = (f_solve_156 N k47' σ x1 x2 x3 s0).map (pUp A u) := by
  simp only [f_X3_solve_156, f_solve_156, s_solve_161 hA hk47, hk47, p_is, p_ldZ hA, p_stZ hA, p_ldL hA, p_stL hA, p_ib, p_fit, p_ucall, p_mcall, p_mcallv, p_mite, p_mbv, p_mb2, p_let, p_bs, p_ms, p_mn, p_pL, if_true, eq_self]
set_option maxRecDepth 100000 in
theorem s_solve_136 (hA : pGood b A) {k47 : UH → Int32 → Int32 → Int32 → Option (UH)} {k47' : MS → Int32 → Int32 → Int32 → Option (MS)} (hk47 : ∀ (σ : MS) (z0 : Int32) (z1 : Int32) (z2 : Int32), k47 (pUp A u σ) z0 z1 z2 = (k47' σ z0 z1 z2).map (pUp A u)) {k70 : UH → Int32 → Int32 → Int32 → Int32 → Option (UH)} {k70' : MS → Int32 → Int32 → Int32 → Int32 → Option (MS)} (hk70 : ∀ (σ : MS) (z0 : Int32) (z1 : Int32) (z2 : Int32) (z3 : Int32), k70 (pUp A u σ) z0 z1 z2 z3 = (k70' σ z0 z1 z2 z3).map (pUp A u)) {σ : MS} {x1 : Int32} {x2 : Int32} {x3 : Int32} {x4 : Int32} {s0 : Int64} {s1 : Int32} : f_X3_solve_136 N b g A.1 k47 k70 (pUp A u σ) x1 x2 x3 x4 s0 s1 (some (A.2 48)) = (f_solve_136 N k47' k70' σ x1 x2 x3 x4 s0 s1).map (pUp A u) := by
  simp only [f_X3_solve_136, f_solve_136, hk47, hk70, p_gr (k := 48) rfl, p_is, p_ldZ hA, p_stZ hA, p_ldL hA, p_stL hA, p_ib, p_fit, p_ucall, p_mcall, p_mcallv, p_mite, p_mbv, p_mb2, p_let, p_bs, p_ms, p_mn, p_pL, if_true, eq_self]
set_option maxRecDepth 100000 in
theorem s_solve_70 (hA : pGood b A) {k47 : UH → Int32 → Int32 → Int32 → Option (UH)} {k47' : MS → Int32 → Int32 → Int32 → Option (MS)} (hk47 : ∀ (σ : MS) (z0 : Int32) (z1 : Int32) (z2 : Int32), k47 (pUp A u σ) z0 z1 z2 = (k47' σ z0 z1 z2).map (pUp A u)) : ∀ (n : Nat) (σ : MS) (x1 : Int32) (x2 : Int32) (x3 : Int32) (x4 : Int32), f_X3_solve_70 N b g A.1 k47 n (pUp A u σ) x1 x2 x3 x4 = (f_solve_70 N k47' n σ x1 x2 x3 x4).map (pUp A u) := by
  intro n
  induction n with
  | zero => intro σ x1 x2 x3 x4; rfl
  | succ n ih =>
    intro σ x1 x2 x3 x4
    simp only [f_X3_solve_70, f_solve_70, s_solve_156 hA hk47, s_left hA, s_news hA, s_solve_136 hA hk47 ih, s_over hA, hk47, p_gi (k := 35) rfl, p_gi (k := 36) rfl, p_gr (k := 48) rfl, p_is, p_ldZ hA, p_stZ hA, p_ldL hA, p_stL hA, p_ib, p_fit, p_ucall, p_mcall, p_mcallv, p_mite, p_mbv, p_mb2, p_let, p_bs, p_ms, p_mn, p_pL, if_true, eq_self, ih]
set_option maxRecDepth 100000 in
theorem s_solve_47 (hA : pGood b A)  : ∀ (n : Nat) (σ : MS) (x1 : Int32) (x2 : Int32) (x3 : Int32), f_X3_solve_47 N b g A.1 n (pUp A u σ) x1 x2 x3 = (f_solve_47 N n σ x1 x2 x3).map (pUp A u) := by
  intro n
  induction n with
  | zero => intro σ x1 x2 x3; rfl
  | succ n ih =>
    intro σ x1 x2 x3
    simp only [f_X3_solve_47, f_solve_47, s_canBe hA, s_solve_270 hA ih, s_lays hA, s_solve_70 hA ih, p_is, p_ldZ hA, p_stZ hA, p_ldL hA, p_stL hA, p_ib, p_fit, p_ucall, p_mcall, p_mcallv, p_mite, p_mbv, p_mb2, p_let, p_bs, p_ms, p_mn, p_pL, if_true, eq_self, ih]
set_option maxRecDepth 100000 in
theorem s_solve_24 (hA : pGood b A)  {σ : MS} {x1 : Int32} {x2 : Int32} : f_X3_solve_24 N b g A.1 (pUp A u σ) x1 x2 = (f_solve_24 N σ x1 x2).map (pUp A u) := by
  simp only [f_X3_solve_24, f_solve_24, s_prepares hA, s_solve_47 hA, p_put hA (k := 49) rfl, p_put hA (k := 50) rfl, p_put hA (k := 51) rfl, p_is, p_ldZ hA, p_stZ hA, p_ldL hA, p_stL hA, p_ib, p_fit, p_ucall, p_mcall, p_mcallv, p_mite, p_mbv, p_mb2, p_let, p_bs, p_ms, p_mn, p_pL, if_true, eq_self]
end
