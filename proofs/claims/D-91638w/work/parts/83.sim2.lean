/-! BY gen_sim.py -/
section
variable {N b : Nat} {g : uEnv} {A : pA} {u : UH}
set_option maxRecDepth 100000 in
theorem s_pairs_116 (hA : pGood b A) {j1 : Nat} (hj1 : mInt j1 = true) {k16 : UH → Option Nat → Int32 → Int32 → Int32 → Option (Int32 × UH)} {k16' : MS → Int32 → Int32 → Int32 → Option (Int32 × MS)} (hk16 : ∀ (σ : MS) (z0 : Int32) (z1 : Int32) (z2 : Int32), k16 (pUp A u σ) (some (A.2 j1)) z0 z1 z2 = (k16' σ z0 z1 z2).map (pL A u)) {σ : MS} {x2 : Int32} {x3 : Int32} {x5 : Int32} {x8 : Int32} : f_X3_pairs_116 N b g A.1 k16 (pUp A u σ) (some (A.2 j1)) x2 x3 x5 x8 = (f_pairs_116 N j1 k16' σ x2 x3 x5 x8).map (pL A u) := by
  simp only [f_X3_pairs_116, f_pairs_116, s_pairs_150 hA hj1 hk16, s_pairs_151 hA hj1 hk16, hj1, hk16, p_gi (k := 13) rfl, p_gi (k := 22) rfl, p_ldI hA hj1, p_is, p_ldZ hA, p_stZ hA, p_ldL hA, p_stL hA, p_ib, p_fit, p_ucall, p_mcall, p_mcallv, p_mite, p_mbv, p_mb2, p_let, p_bs, p_ms, p_mn, p_pL, if_true, eq_self]
set_option maxRecDepth 100000 in
theorem s_pairs_91 (hA : pGood b A) {j1 : Nat} (hj1 : mInt j1 = true) {k16 : UH → Option Nat → Int32 → Int32 → Int32 → Option (Int32 × UH)} {k16' : MS → Int32 → Int32 → Int32 → Option (Int32 × MS)} (hk16 : ∀ (σ : MS) (z0 : Int32) (z1 : Int32) (z2 : Int32), k16 (pUp A u σ) (some (A.2 j1)) z0 z1 z2 = (k16' σ z0 z1 z2).map (pL A u)) {σ : MS} {x2 : Int32} {x3 : Int32} {x5 : Int32} {x7 : Int32} {s0 : Int32} {s1 : Int32} : f_X3_pairs_91 N b g A.1 k16 (pUp A u σ) (some (A.2 j1)) x2 x3 x5 x7 s0 s1 (some A.1) = (f_pairs_91 N j1 k16' σ x2 x3 x5 x7 s0 s1).map (pL A u) := by
  simp only [f_X3_pairs_91, f_pairs_91, s_number hA, s_wrong hA, s_pairs_116 hA hj1 hk16, hj1, hk16, p_gi (k := 13) rfl, p_is, p_ldZ hA, p_stZ hA, p_ldL hA, p_stL hA, p_ib, p_fit, p_ucall, p_mcall, p_mcallv, p_mite, p_mbv, p_mb2, p_let, p_bs, p_ms, p_mn, p_pL, if_true, eq_self]
set_option maxRecDepth 100000 in
theorem s_pairs_68 (hA : pGood b A) {j1 : Nat} (hj1 : mInt j1 = true) {k16 : UH → Option Nat → Int32 → Int32 → Int32 → Option (Int32 × UH)} {k16' : MS → Int32 → Int32 → Int32 → Option (Int32 × MS)} (hk16 : ∀ (σ : MS) (z0 : Int32) (z1 : Int32) (z2 : Int32), k16 (pUp A u σ) (some (A.2 j1)) z0 z1 z2 = (k16' σ z0 z1 z2).map (pL A u)) {σ : MS} {x2 : Int32} {x3 : Int32} {x5 : Int32} {s0 : Int32} : f_X3_pairs_68 N b g A.1 k16 (pUp A u σ) (some (A.2 j1)) x2 x3 x5 s0 = (f_pairs_68 N j1 k16' σ x2 x3 x5 s0).map (pL A u) := by
  simp only [f_X3_pairs_68, f_pairs_68, s_pairs_91 hA hj1 hk16, hj1, hk16, p_gi (k := 4) rfl, p_is, p_ldZ hA, p_stZ hA, p_ldL hA, p_stL hA, p_ib, p_fit, p_ucall, p_mcall, p_mcallv, p_mite, p_mbv, p_mb2, p_let, p_bs, p_ms, p_mn, p_pL, if_true, eq_self]
set_option maxRecDepth 100000 in
theorem s_pairs_39 (hA : pGood b A) {j1 : Nat} (hj1 : mInt j1 = true) {k16 : UH → Option Nat → Int32 → Int32 → Int32 → Option (Int32 × UH)} {k16' : MS → Int32 → Int32 → Int32 → Option (Int32 × MS)} (hk16 : ∀ (σ : MS) (z0 : Int32) (z1 : Int32) (z2 : Int32), k16 (pUp A u σ) (some (A.2 j1)) z0 z1 z2 = (k16' σ z0 z1 z2).map (pL A u)) {σ : MS} {x2 : Int32} {x3 : Int32} {s0 : Int32} {s1 : Int32} {s2 : Int32} : f_X3_pairs_39 N b g A.1 k16 (pUp A u σ) (some (A.2 j1)) x2 x3 s0 s1 s2 = (f_pairs_39 N j1 k16' σ x2 x3 s0 s1 s2).map (pL A u) := by
  simp only [f_X3_pairs_39, f_pairs_39, s_pairs_68 hA hj1 hk16, hj1, hk16, p_gi (k := 22) rfl, p_ldI hA hj1, p_is, p_ldZ hA, p_stZ hA, p_ldL hA, p_stL hA, p_ib, p_fit, p_ucall, p_mcall, p_mcallv, p_mite, p_mbv, p_mb2, p_let, p_bs, p_ms, p_mn, p_pL, if_true, eq_self]
set_option maxRecDepth 100000 in
theorem s_pairs_16 (hA : pGood b A) {j1 : Nat} (hj1 : mInt j1 = true) : ∀ (n : Nat) (σ : MS) (x2 : Int32) (x3 : Int32) (x4 : Int32), f_X3_pairs_16 N b g A.1 n (pUp A u σ) (some (A.2 j1)) x2 x3 x4 = (f_pairs_16 N j1 n σ x2 x3 x4).map (pL A u) := by
  intro n
  induction n with
  | zero => intro σ x2 x3 x4; rfl
  | succ n ih =>
    intro σ x2 x3 x4
    simp only [f_X3_pairs_16, f_pairs_16, s_pairs_39 hA hj1 ih, hj1, p_gi (k := 22) rfl, p_is, p_ldZ hA, p_stZ hA, p_ldL hA, p_stL hA, p_ib, p_fit, p_ucall, p_mcall, p_mcallv, p_mite, p_mbv, p_mb2, p_let, p_bs, p_ms, p_mn, p_pL, if_true, eq_self, ih]
set_option maxRecDepth 100000 in
theorem s_pairs_14 (hA : pGood b A) {j1 : Nat} (hj1 : mInt j1 = true) {σ : MS} {x2 : Int32} {x3 : Int32} {s0 : Int32} : f_X3_pairs_14 N b g A.1 (pUp A u σ) (some (A.2 j1)) x2 x3 s0 = (f_pairs_14 N j1 σ x2 x3 s0).map (pL A u) := by
  simp only [f_X3_pairs_14, f_pairs_14, s_pairs_16 hA hj1, hj1, p_is, p_ldZ hA, p_stZ hA, p_ldL hA, p_stL hA, p_ib, p_fit, p_ucall, p_mcall, p_mcallv, p_mite, p_mbv, p_mb2, p_let, p_bs, p_ms, p_mn, p_pL, if_true, eq_self]
set_option maxRecDepth 100000 in
theorem s_pairs (hA : pGood b A) {j1 : Nat} (hj1 : mInt j1 = true) {σ : MS} {x2 : Int32} : f_X3_pairs N b g (pUp A u σ) A.1 (some (A.2 j1)) x2 = (f_pairs N j1 σ x2).map (pL A u) := by
  simp only [f_X3_pairs, f_pairs, s_pairs_14 hA hj1, hj1, p_gi (k := 13) rfl, p_is, p_ldZ hA, p_stZ hA, p_ldL hA, p_stL hA, p_ib, p_fit, p_ucall, p_mcall, p_mcallv, p_mite, p_mbv, p_mb2, p_let, p_bs, p_ms, p_mn, p_pL, if_true, eq_self]
set_option maxRecDepth 100000 in
theorem s_signed_76 (hA : pGood b A)  {σ : MS} {x1 : Int32} {x2 : Int32} {x3 : Int32} {s0 : Int32} : f_X3_signed_76 N b g A.1 (pUp A u σ) x1 x2 x3 s0 = (f_signed_76 N σ x1 x2 x3 s0).map (pL A u) := by
  simp only [f_X3_signed_76, f_signed_76, s_within hA, s_wrong hA, s_next hA, p_is, p_ldZ hA, p_stZ hA, p_ldL hA, p_stL hA, p_ib, p_fit, p_ucall, p_mcall, p_mcallv, p_mite, p_mbv, p_mb2, p_let, p_bs, p_ms, p_mn, p_pL, if_true, eq_self]
set_option maxRecDepth 100000 in
theorem s_signed_39 (hA : pGood b A)  {σ : MS} {x1 : Int32} {x2 : Int32} {x3 : Int32} {x4 : Int32} : f_X3_signed_39 N b g A.1 (pUp A u σ) x1 x2 x3 x4 = (f_signed_39 N σ x1 x2 x3 x4).map (pL A u) := by
  simp only [f_X3_signed_39, f_signed_39, s_signed_76 hA, s_wrong hA, p_gi (k := 4) rfl, p_gi (k := 6) rfl, p_gi (k := 7) rfl, p_is, p_ldZ hA, p_stZ hA, p_ldL hA, p_stL hA, p_ib, p_fit, p_ucall, p_mcall, p_mcallv, p_mite, p_mbv, p_mb2, p_let, p_bs, p_ms, p_mn, p_pL, if_true, eq_self]
set_option maxRecDepth 100000 in
theorem s_signed_28 (hA : pGood b A)  {σ : MS} {x1 : Int32} {x2 : Int32} {x3 : Int32} {s0 : Int32} : f_X3_signed_28 N b g A.1 (pUp A u σ) x1 x2 x3 s0 = (f_signed_28 N σ x1 x2 x3 s0).map (pL A u) := by
  simp only [f_X3_signed_28, f_signed_28, s_signed_39 hA, s_next hA, p_is, p_ldZ hA, p_stZ hA, p_ldL hA, p_stL hA, p_ib, p_fit, p_ucall, p_mcall, p_mcallv, p_mite, p_mbv, p_mb2, p_let, p_bs, p_ms, p_mn, p_pL, if_true, eq_self]
set_option maxRecDepth 100000 in
theorem s_signed (hA : pGood b A)  {σ : MS} {x1 : Int32} {x2 : Int32} : f_X3_signed N b g (pUp A u σ) A.1 x1 x2 = (f_signed N σ x1 x2).map (pL A u) := by
  simp only [f_X3_signed, f_signed, s_signed_28 hA, p_gi (k := 4) rfl, p_gi (k := 6) rfl, p_gi (k := 13) rfl, p_is, p_ldZ hA, p_stZ hA, p_ldL hA, p_stL hA, p_ib, p_fit, p_ucall, p_mcall, p_mcallv, p_mite, p_mbv, p_mb2, p_let, p_bs, p_ms, p_mn, p_pL, if_true, eq_self]
set_option maxRecDepth 100000 in
theorem s_fault (hA : pGood b A)  {σ : MS}  : f_X3_fault N b g (pUp A u σ) A.1 = (f_fault N σ).map (pL A u) := by
  simp only [f_X3_fault, f_fault, p_gi (k := 9) rfl, p_put hA (k := 0) rfl, p_is, p_ldZ hA, p_stZ hA, p_ldL hA, p_stL hA, p_ib, p_fit, p_ucall, p_mcall, p_mcallv, p_mite, p_mbv, p_mb2, p_let, p_bs, p_ms, p_mn, p_pL, if_true, eq_self]
set_option maxRecDepth 100000 in
theorem s_where_21 (hA : pGood b A)  {σ : MS} {s0 : Int32} : f_X3_where_21 N b g A.1 (pUp A u σ) s0 = (f_where_21 N σ s0).map (pL A u) := by
  simp only [f_X3_where_21, f_where_21, p_is, p_ldZ hA, p_stZ hA, p_ldL hA, p_stL hA, p_ib, p_fit, p_ucall, p_mcall, p_mcallv, p_mite, p_mbv, p_mb2, p_let, p_bs, p_ms, p_mn, p_pL, if_true, eq_self]
set_option maxRecDepth 100000 in
theorem s_where (hA : pGood b A)  {σ : MS}  : f_X3_where N b g (pUp A u σ) A.1 = (f_where N σ).map (pL A u) := by
  simp only [f_X3_where, f_where, s_where_21 hA, p_gi (k := 10) rfl, p_gi (k := 39) rfl, p_put hA (k := 0) rfl, p_is, p_ldZ hA, p_stZ hA, p_ldL hA, p_stL hA, p_ib, p_fit, p_ucall, p_mcall, p_mcallv, p_mite, p_mbv, p_mb2, p_let, p_bs, p_ms, p_mn, p_pL, if_true, eq_self]
set_option maxRecDepth 100000 in
theorem s_isGround_26 (hA : pGood b A)  {σ : MS} {s0 : Int32} : f_X3_isGround_26 N b g A.1 (pUp A u σ) s0 = (f_isGround_26 N σ s0).map (pL A u) := by
  simp only [f_X3_isGround_26, f_isGround_26, p_is, p_ldZ hA, p_stZ hA, p_ldL hA, p_stL hA, p_ib, p_fit, p_ucall, p_mcall, p_mcallv, p_mite, p_mbv, p_mb2, p_let, p_bs, p_ms, p_mn, p_pL, if_true, eq_self]
set_option maxRecDepth 100000 in
theorem s_isGround_25 (hA : pGood b A)  {σ : MS}  : f_X3_isGround_25 N b g A.1 (pUp A u σ) = (f_isGround_25 N σ).map (pL A u) := by
  simp only [f_X3_isGround_25, f_isGround_25, s_isGround_26 hA, p_is, p_ldZ hA, p_stZ hA, p_ldL hA, p_stL hA, p_ib, p_fit, p_ucall, p_mcall, p_mcallv, p_mite, p_mbv, p_mb2, p_let, p_bs, p_ms, p_mn, p_pL, if_true, eq_self]
set_option maxRecDepth 100000 in
theorem s_isGround (hA : pGood b A)  {σ : MS} {x1 : Int32} : f_X3_isGround N b g (pUp A u σ) A.1 x1 = (f_isGround N σ x1).map (pL A u) := by
  simp only [f_X3_isGround, f_isGround, s_isGround_25 hA, s_within hA, s_isGround_26 hA, p_gi (k := 12) rfl, p_gi (k := 22) rfl, p_is, p_ldZ hA, p_stZ hA, p_ldL hA, p_stL hA, p_ib, p_fit, p_ucall, p_mcall, p_mcallv, p_mite, p_mbv, p_mb2, p_let, p_bs, p_ms, p_mn, p_pL, if_true, eq_self]
set_option maxRecDepth 100000 in
theorem s_sink_52 (hA : pGood b A)  {σ : MS} {s0 : Int32} : f_X3_sink_52 N b g A.1 (pUp A u σ) s0 = (f_sink_52 N σ s0).map (pL A u) := by
  simp only [f_X3_sink_52, f_sink_52, p_is, p_ldZ hA, p_stZ hA, p_ldL hA, p_stL hA, p_ib, p_fit, p_ucall, p_mcall, p_mcallv, p_mite, p_mbv, p_mb2, p_let, p_bs, p_ms, p_mn, p_pL, if_true, eq_self]
set_option maxRecDepth 100000 in
theorem s_sink (hA : pGood b A)  {σ : MS} {x1 : Int32} {x2 : Int32} : f_X3_sink N b g (pUp A u σ) A.1 x1 x2 = (f_sink N σ x1 x2).map (pL A u) := by
  simp only [f_X3_sink, f_sink, s_good hA, s_isGround hA, s_no hA, s_within hA, s_sink_52 hA, s_between hA (j0 := 18) rfl, s_between hA (j0 := 20) rfl, p_gr (k := 18) rfl, p_gr (k := 20) rfl, p_ldI hA (j := 18) rfl, p_ldI hA (j := 20) rfl, p_is, p_ldZ hA, p_stZ hA, p_ldL hA, p_stL hA, p_ib, p_fit, p_ucall, p_mcall, p_mcallv, p_mite, p_mbv, p_mb2, p_let, p_bs, p_ms, p_mn, p_pL, if_true, eq_self]
set_option maxRecDepth 100000 in
theorem s_grip_51 (hA : pGood b A)  {σ : MS} {s0 : Int32} : f_X3_grip_51 N b g A.1 (pUp A u σ) s0 = (f_grip_51 N σ s0).map (pL A u) := by
  simp only [f_X3_grip_51, f_grip_51, p_is, p_ldZ hA, p_stZ hA, p_ldL hA, p_stL hA, p_ib, p_fit, p_ucall, p_mcall, p_mcallv, p_mite, p_mbv, p_mb2, p_let, p_bs, p_ms, p_mn, p_pL, if_true, eq_self]
set_option maxRecDepth 100000 in
theorem s_grip (hA : pGood b A)  {σ : MS} {x1 : Int32} {x2 : Int32} : f_X3_grip N b g (pUp A u σ) A.1 x1 x2 = (f_grip N σ x1 x2).map (pL A u) := by
  simp only [f_X3_grip, f_grip, s_good hA, s_isGround hA, s_no hA, s_within hA, s_grip_51 hA, s_between hA (j0 := 19) rfl, s_between hA (j0 := 21) rfl, p_gr (k := 19) rfl, p_gr (k := 21) rfl, p_ldI hA (j := 19) rfl, p_ldI hA (j := 21) rfl, p_is, p_ldZ hA, p_stZ hA, p_ldL hA, p_stL hA, p_ib, p_fit, p_ucall, p_mcall, p_mcallv, p_mite, p_mbv, p_mb2, p_let, p_bs, p_ms, p_mn, p_pL, if_true, eq_self]
set_option maxRecDepth 100000 in
theorem s_not (hA : pGood b A)  {σ : MS} {x1 : Int32} : f_X3_not N b g (pUp A u σ) A.1 x1 = (f_not N σ x1).map (pL A u) := by
  simp only [f_X3_not, f_not, p_put hA (k := 39) rfl, p_is, p_ldZ hA, p_stZ hA, p_ldL hA, p_stL hA, p_ib, p_fit, p_ucall, p_mcall, p_mcallv, p_mite, p_mbv, p_mb2, p_let, p_bs, p_ms, p_mn, p_pL, if_true, eq_self]
set_option maxRecDepth 100000 in
theorem s_dead (hA : pGood b A)  {σ : MS} {x1 : Int32} : f_X3_dead N b g (pUp A u σ) A.1 x1 = (f_dead N σ x1).map (pL A u) := by
  simp only [f_X3_dead, f_dead, s_good hA, s_not hA, s_within hA, p_gi (k := 12) rfl, p_gi (k := 24) rfl, p_put hA (k := 38) rfl, p_put hA (k := 51) rfl, p_is, p_ldZ hA, p_stZ hA, p_ldL hA, p_stL hA, p_ib, p_fit, p_ucall, p_mcall, p_mcallv, p_mite, p_mbv, p_mb2, p_let, p_bs, p_ms, p_mn, p_pL, if_true, eq_self]
set_option maxRecDepth 100000 in
theorem s_map_18 (hA : pGood b A)  {σ : MS}  : f_X3_map_18 N b g A.1 (pUp A u σ) = (f_map_18 N σ).map (pL A u) := by
  simp only [f_X3_map_18, f_map_18, s_no hA, p_is, p_ldZ hA, p_stZ hA, p_ldL hA, p_stL hA, p_ib, p_fit, p_ucall, p_mcall, p_mcallv, p_mite, p_mbv, p_mb2, p_let, p_bs, p_ms, p_mn, p_pL, if_true, eq_self]
set_option maxRecDepth 100000 in
theorem s_map_44 (hA : pGood b A)  {σ : MS}  : f_X3_map_44 N b g A.1 (pUp A u σ) = (f_map_44 N σ).map (pL A u) := by
  simp only [f_X3_map_44, f_map_44, s_no hA, p_is, p_ldZ hA, p_stZ hA, p_ldL hA, p_stL hA, p_ib, p_fit, p_ucall, p_mcall, p_mcallv, p_mite, p_mbv, p_mb2, p_let, p_bs, p_ms, p_mn, p_pL, if_true, eq_self]
set_option maxRecDepth 100000 in
theorem s_map_82 (hA : pGood b A)  : ∀ (n : Nat) (σ : MS) (x1 : Int32) (x2 : Int32) (x3 : Int32), f_X3_map_82 N b g A.1 n (pUp A u σ) x1 x2 x3 = (f_map_82 N n σ x1 x2 x3).map (pL A u) := by
  intro n
  induction n with
  | zero => intro σ x1 x2 x3; rfl
  | succ n ih =>
    intro σ x1 x2 x3
    simp only [f_X3_map_82, f_map_82, p_gr (k := 41) rfl, p_gr (k := 42) rfl, p_gr (k := 43) rfl, p_stI hA (j := 41) rfl, p_stI hA (j := 42) rfl, p_stI hA (j := 43) rfl, p_is, p_ldZ hA, p_stZ hA, p_ldL hA, p_stL hA, p_ib, p_fit, p_ucall, p_mcall, p_mcallv, p_mite, p_mbv, p_mb2, p_let, p_bs, p_ms, p_mn, p_pL, if_true, eq_self, ih]
set_option maxRecDepth 100000 in
theorem s_map (hA : pGood b A)  {σ : MS} {x1 : Int32} {x2 : Int32} : f_X3_map N b g (pUp A u σ) A.1 x1 x2 = (f_map N σ x1 x2).map (pL A u) := by
  simp only [f_X3_map, f_map, s_good hA, s_map_18 hA, s_within hA, s_map_44 hA, s_map_82 hA, p_gi (k := 12) rfl, p_gi (k := 22) rfl, p_put hA (k := 34) rfl, p_put hA (k := 35) rfl, p_put hA (k := 36) rfl, p_put hA (k := 37) rfl, p_put hA (k := 40) rfl, p_put hA (k := 51) rfl, p_is, p_ldZ hA, p_stZ hA, p_ldL hA, p_stL hA, p_ib, p_fit, p_ucall, p_mcall, p_mcallv, p_mite, p_mbv, p_mb2, p_let, p_bs, p_ms, p_mn, p_pL, if_true, eq_self]
set_option maxRecDepth 100000 in
theorem s_isCell_31 (hA : pGood b A)  {σ : MS} {s0 : Int32} : f_X3_isCell_31 N b g A.1 (pUp A u σ) s0 = (f_isCell_31 N σ s0).map (pL A u) := by
  simp only [f_X3_isCell_31, f_isCell_31, p_is, p_ldZ hA, p_stZ hA, p_ldL hA, p_stL hA, p_ib, p_fit, p_ucall, p_mcall, p_mcallv, p_mite, p_mbv, p_mb2, p_let, p_bs, p_ms, p_mn, p_pL, if_true, eq_self]
set_option maxRecDepth 100000 in
theorem s_isCell_30 (hA : pGood b A)  {σ : MS}  : f_X3_isCell_30 N b g A.1 (pUp A u σ) = (f_isCell_30 N σ).map (pL A u) := by
  simp only [f_X3_isCell_30, f_isCell_30, s_isCell_31 hA, p_is, p_ldZ hA, p_stZ hA, p_ldL hA, p_stL hA, p_ib, p_fit, p_ucall, p_mcall, p_mcallv, p_mite, p_mbv, p_mb2, p_let, p_bs, p_ms, p_mn, p_pL, if_true, eq_self]
set_option maxRecDepth 100000 in
theorem s_isCell (hA : pGood b A)  {σ : MS} {x1 : Int32} : f_X3_isCell N b g (pUp A u σ) A.1 x1 = (f_isCell N σ x1).map (pL A u) := by
  simp only [f_X3_isCell, f_isCell, s_isCell_30 hA, s_within hA, s_isCell_31 hA, p_gi (k := 34) rfl, p_gi (k := 35) rfl, p_gi (k := 36) rfl, p_is, p_ldZ hA, p_stZ hA, p_ldL hA, p_stL hA, p_ib, p_fit, p_ucall, p_mcall, p_mcallv, p_mite, p_mbv, p_mb2, p_let, p_bs, p_ms, p_mn, p_pL, if_true, eq_self]
set_option maxRecDepth 100000 in
theorem s_height (hA : pGood b A)  {σ : MS} {x1 : Int32} {x2 : Int32} : f_X3_height N b g (pUp A u σ) A.1 x1 x2 = (f_height N σ x1 x2).map (pL A u) := by
  simp only [f_X3_height, f_height, s_good hA, s_isCell hA, s_not hA, s_within hA, p_gr (k := 41) rfl, p_put hA (k := 51) rfl, p_stI hA (j := 41) rfl, p_is, p_ldZ hA, p_stZ hA, p_ldL hA, p_stL hA, p_ib, p_fit, p_ucall, p_mcall, p_mcallv, p_mite, p_mbv, p_mb2, p_let, p_bs, p_ms, p_mn, p_pL, if_true, eq_self]
set_option maxRecDepth 100000 in
theorem s_ground_20 (hA : pGood b A)  {σ : MS}  : f_X3_ground_20 N b g A.1 (pUp A u σ) = (f_ground_20 N σ).map (pL A u) := by
  simp only [f_X3_ground_20, f_ground_20, s_not hA, p_is, p_ldZ hA, p_stZ hA, p_ldL hA, p_stL hA, p_ib, p_fit, p_ucall, p_mcall, p_mcallv, p_mite, p_mbv, p_mb2, p_let, p_bs, p_ms, p_mn, p_pL, if_true, eq_self]
set_option maxRecDepth 100000 in
theorem s_ground (hA : pGood b A)  {σ : MS} {x1 : Int32} {x2 : Int32} : f_X3_ground N b g (pUp A u σ) A.1 x1 x2 = (f_ground N σ x1 x2).map (pL A u) := by
  simp only [f_X3_ground, f_ground, s_good hA, s_isCell hA, s_ground_20 hA, s_isGround hA, s_not hA, p_gr (k := 42) rfl, p_gr (k := 43) rfl, p_put hA (k := 51) rfl, p_ldI hA (j := 42) rfl, p_stI hA (j := 42) rfl, p_ldI hA (j := 43) rfl, p_stI hA (j := 43) rfl, p_is, p_ldZ hA, p_stZ hA, p_ldL hA, p_stL hA, p_ib, p_fit, p_ucall, p_mcall, p_mcallv, p_mite, p_mbv, p_mb2, p_let, p_bs, p_ms, p_mn, p_pL, if_true, eq_self]
set_option maxRecDepth 100000 in
theorem s_doubt_114 (hA : pGood b A) {k80 : UH → Int32 → Int32 → Option (Int32 × UH)} {k80' : MS → Int32 → Int32 → Option (Int32 × MS)} (hk80 : ∀ (σ : MS) (z0 : Int32) (z1 : Int32), k80 (pUp A u σ) z0 z1 = (k80' σ z0 z1).map (pL A u)) {σ : MS} {x1 : Int32} {x2 : Int32} {s0 : Int32} {s1 : Int32} : f_X3_doubt_114 N b g A.1 k80 (pUp A u σ) x1 x2 s0 s1 (some (A.2 46)) = (f_doubt_114 N k80' σ x1 x2 s0 s1).map (pL A u) := by
  simp only [f_X3_doubt_114, f_doubt_114, hk80, p_gr (k := 46) rfl, p_stI hA (j := 46) rfl, p_is, p_ldZ hA, p_stZ hA, p_ldL hA, p_stL hA, p_ib, p_fit, p_ucall, p_mcall, p_mcallv, p_mite, p_mbv, p_mb2, p_let, p_bs, p_ms, p_mn, p_pL, if_true, eq_self]
set_option maxRecDepth 100000 in
theorem s_doubt_80 (hA : pGood b A)  : ∀ (n : Nat) (σ : MS) (x1 : Int32) (x2 : Int32), f_X3_doubt_80 N b g A.1 n (pUp A u σ) x1 x2 = (f_doubt_80 N n σ x1 x2).map (pL A u) := by
  intro n
  induction n with
  | zero => intro σ x1 x2; rfl
  | succ n ih =>
    intro σ x1 x2
    simp only [f_X3_doubt_80, f_doubt_80, s_doubt_114 hA ih, p_gi (k := 37) rfl, p_gr (k := 42) rfl, p_gr (k := 46) rfl, p_put hA (k := 37) rfl, p_put hA (k := 51) rfl, p_ldI hA (j := 42) rfl, p_ldI hA (j := 46) rfl, p_is, p_ldZ hA, p_stZ hA, p_ldL hA, p_stL hA, p_ib, p_fit, p_ucall, p_mcall, p_mcallv, p_mite, p_mbv, p_mb2, p_let, p_bs, p_ms, p_mn, p_pL, if_true, eq_self, ih]
set_option maxRecDepth 100000 in
theorem s_doubt (hA : pGood b A)  {σ : MS} {x1 : Int32} : f_X3_doubt N b g (pUp A u σ) A.1 x1 = (f_doubt N σ x1).map (pL A u) := by
  simp only [f_X3_doubt, f_doubt, s_good hA, s_isCell hA, s_no hA, s_doubt_80 hA, p_gi (k := 37) rfl, p_gr (k := 43) rfl, p_gr (k := 44) rfl, p_gr (k := 45) rfl, p_ldI hA (j := 43) rfl, p_stI hA (j := 43) rfl, p_ldI hA (j := 44) rfl, p_stI hA (j := 44) rfl, p_ldI hA (j := 45) rfl, p_stI hA (j := 45) rfl, p_is, p_ldZ hA, p_stZ hA, p_ldL hA, p_stL hA, p_ib, p_fit, p_ucall, p_mcall, p_mcallv, p_mite, p_mbv, p_mb2, p_let, p_bs, p_ms, p_mn, p_pL, if_true, eq_self]
set_option maxRecDepth 100000 in
theorem s_isDoubt_26 (hA : pGood b A)  {σ : MS} {s0 : Int32} : f_X3_isDoubt_26 N b g A.1 (pUp A u σ) s0 = (f_isDoubt_26 N σ s0).map (pL A u) := by
  simp only [f_X3_isDoubt_26, f_isDoubt_26, p_is, p_ldZ hA, p_stZ hA, p_ldL hA, p_stL hA, p_ib, p_fit, p_ucall, p_mcall, p_mcallv, p_mite, p_mbv, p_mb2, p_let, p_bs, p_ms, p_mn, p_pL, if_true, eq_self]
set_option maxRecDepth 100000 in
theorem s_isDoubt_25 (hA : pGood b A)  {σ : MS}  : f_X3_isDoubt_25 N b g A.1 (pUp A u σ) = (f_isDoubt_25 N σ).map (pL A u) := by
  simp only [f_X3_isDoubt_25, f_isDoubt_25, s_isDoubt_26 hA, p_is, p_ldZ hA, p_stZ hA, p_ldL hA, p_stL hA, p_ib, p_fit, p_ucall, p_mcall, p_mcallv, p_mite, p_mbv, p_mb2, p_let, p_bs, p_ms, p_mn, p_pL, if_true, eq_self]
set_option maxRecDepth 100000 in
theorem s_isDoubt (hA : pGood b A)  {σ : MS} {x1 : Int32} : f_X3_isDoubt N b g (pUp A u σ) A.1 x1 = (f_isDoubt N σ x1).map (pL A u) := by
  simp only [f_X3_isDoubt, f_isDoubt, s_isDoubt_25 hA, s_within hA, s_isDoubt_26 hA, p_gi (k := 34) rfl, p_gi (k := 37) rfl, p_is, p_ldZ hA, p_stZ hA, p_ldL hA, p_stL hA, p_ib, p_fit, p_ucall, p_mcall, p_mcallv, p_mite, p_mbv, p_mb2, p_let, p_bs, p_ms, p_mn, p_pL, if_true, eq_self]
set_option maxRecDepth 100000 in
theorem s_weigh_20 (hA : pGood b A)  {σ : MS}  : f_X3_weigh_20 N b g A.1 (pUp A u σ) = (f_weigh_20 N σ).map (pL A u) := by
  simp only [f_X3_weigh_20, f_weigh_20, s_not hA, p_is, p_ldZ hA, p_stZ hA, p_ldL hA, p_stL hA, p_ib, p_fit, p_ucall, p_mcall, p_mcallv, p_mite, p_mbv, p_mb2, p_let, p_bs, p_ms, p_mn, p_pL, if_true, eq_self]
set_option maxRecDepth 100000 in
theorem s_weigh_126 (hA : pGood b A)  {σ : MS}  : f_X3_weigh_126 N b g A.1 (pUp A u σ) = (f_weigh_126 N σ).map (pL A u) := by
  simp only [f_X3_weigh_126, f_weigh_126, s_not hA, p_is, p_ldZ hA, p_stZ hA, p_ldL hA, p_stL hA, p_ib, p_fit, p_ucall, p_mcall, p_mcallv, p_mite, p_mbv, p_mb2, p_let, p_bs, p_ms, p_mn, p_pL, if_true, eq_self]
set_option maxRecDepth 100000 in
theorem s_weigh_132 (hA : pGood b A)  {σ : MS} {x1 : Int32} {x2 : Int32} {x3 : Int32} : f_X3_weigh_132 N b g A.1 (pUp A u σ) x1 x2 x3 = (f_weigh_132 N σ x1 x2 x3).map (pL A u) := by
  simp only [f_X3_weigh_132, f_weigh_132, p_gr (k := 46) rfl, p_put hA (k := 51) rfl, p_stI hA (j := 46) rfl, p_is, p_ldZ hA, p_stZ hA, p_ldL hA, p_stL hA, p_ib, p_fit, p_ucall, p_mcall, p_mcallv, p_mite, p_mbv, p_mb2, p_let, p_bs, p_ms, p_mn, p_pL, if_true, eq_self]
set_option maxRecDepth 100000 in
theorem s_weigh_91 (hA : pGood b A) {k56 : UH → Int32 → Int32 → Int32 → Int32 → Int32 → Option (Int32 × UH)} {k56' : MS → Int32 → Int32 → Int32 → Int32 → Int32 → Option (Int32 × MS)} (hk56 : ∀ (σ : MS) (z0 : Int32) (z1 : Int32) (z2 : Int32) (z3 : Int32) (z4 : Int32), k56 (pUp A u σ) z0 z1 z2 z3 z4 = (k56' σ z0 z1 z2 z3 z4).map (pL A u)) {σ : MS} {x1 : Int32} {x2 : Int32} {x3 : Int32} {x5 : Int32} {s0 : Int32} {s1 : Int32} : f_X3_weigh_91 N b g A.1 k56 (pUp A u σ) x1 x2 x3 x5 s0 s1 = (f_weigh_91 N k56' σ x1 x2 x3 x5 s0 s1).map (pL A u) := by
  simp only [f_X3_weigh_91, f_weigh_91, hk56, p_is, p_ldZ hA, p_stZ hA, p_ldL hA, p_stL hA, p_ib, p_fit, p_ucall, p_mcall, p_mcallv, p_mite, p_mbv, p_mb2, p_let, p_bs, p_ms, p_mn, p_pL, if_true, eq_self]
set_option maxRecDepth 100000 in
theorem s_weigh_90 (hA : pGood b A) {k56 : UH → Int32 → Int32 → Int32 → Int32 → Int32 → Option (Int32 × UH)} {k56' : MS → Int32 → Int32 → Int32 → Int32 → Int32 → Option (Int32 × MS)} (hk56 : ∀ (σ : MS) (z0 : Int32) (z1 : Int32) (z2 : Int32) (z3 : Int32) (z4 : Int32), k56 (pUp A u σ) z0 z1 z2 z3 z4 = (k56' σ z0 z1 z2 z3 z4).map (pL A u)) {σ : MS} {x1 : Int32} {x2 : Int32} {x3 : Int32} {x5 : Int32} {s0 : Int32} : f_X3_weigh_90 N b g A.1 k56 (pUp A u σ) x1 x2 x3 x5 s0 = (f_weigh_90 N k56' σ x1 x2 x3 x5 s0).map (pL A u) := by
  simp only [f_X3_weigh_90, f_weigh_90, s_weigh_91 hA hk56, hk56, p_is, p_ldZ hA, p_stZ hA, p_ldL hA, p_stL hA, p_ib, p_fit, p_ucall, p_mcall, p_mcallv, p_mite, p_mbv, p_mb2, p_let, p_bs, p_ms, p_mn, p_pL, if_true, eq_self]
set_option maxRecDepth 100000 in
theorem s_weigh_56 (hA : pGood b A)  : ∀ (n : Nat) (σ : MS) (x1 : Int32) (x2 : Int32) (x3 : Int32) (x4 : Int32) (x5 : Int32), f_X3_weigh_56 N b g A.1 n (pUp A u σ) x1 x2 x3 x4 x5 = (f_weigh_56 N n σ x1 x2 x3 x4 x5).map (pL A u) := by
  intro n
  induction n with
  | zero => intro σ x1 x2 x3 x4 x5; rfl
  | succ n ih =>
    intro σ x1 x2 x3 x4 x5
    simp only [f_X3_weigh_56, f_weigh_56, s_weigh_126 hA, s_weigh_132 hA, s_weigh_90 hA ih, s_weigh_91 hA ih, p_gr (k := 45) rfl, p_gr (k := 46) rfl, p_ldI hA (j := 45) rfl, p_ldI hA (j := 46) rfl, p_is, p_ldZ hA, p_stZ hA, p_ldL hA, p_stL hA, p_ib, p_fit, p_ucall, p_mcall, p_mcallv, p_mite, p_mbv, p_mb2, p_let, p_bs, p_ms, p_mn, p_pL, if_true, eq_self, ih]
set_option maxRecDepth 100000 in
theorem s_weigh_51 (hA : pGood b A)  {σ : MS} {x1 : Int32} {x2 : Int32} {x3 : Int32} {s0 : Int32} : f_X3_weigh_51 N b g A.1 (pUp A u σ) x1 x2 x3 s0 = (f_weigh_51 N σ x1 x2 x3 s0).map (pL A u) := by
  simp only [f_X3_weigh_51, f_weigh_51, s_weigh_56 hA, p_is, p_ldZ hA, p_stZ hA, p_ldL hA, p_stL hA, p_ib, p_fit, p_ucall, p_mcall, p_mcallv, p_mite, p_mbv, p_mb2, p_let, p_bs, p_ms, p_mn, p_pL, if_true, eq_self]
set_option maxRecDepth 100000 in
theorem s_weigh (hA : pGood b A)  {σ : MS} {x1 : Int32} {x2 : Int32} {x3 : Int32} : f_X3_weigh N b g (pUp A u σ) A.1 x1 x2 x3 = (f_weigh N σ x1 x2 x3).map (pL A u) := by
  simp only [f_X3_weigh, f_weigh, s_good hA, s_isDoubt hA, s_weigh_20 hA, s_isGround hA, s_within hA, s_not hA, s_weigh_51 hA, p_is, p_ldZ hA, p_stZ hA, p_ldL hA, p_stL hA, p_ib, p_fit, p_ucall, p_mcall, p_mcallv, p_mite, p_mbv, p_mb2, p_let, p_bs, p_ms, p_mn, p_pL, if_true, eq_self]
set_option maxRecDepth 100000 in
theorem s_told_20 (hA : pGood b A)  {σ : MS}  : f_X3_told_20 N b g A.1 (pUp A u σ) = (f_told_20 N σ).map (pL A u) := by
  simp only [f_X3_told_20, f_told_20, s_not hA, p_is, p_ldZ hA, p_stZ hA, p_ldL hA, p_stL hA, p_ib, p_fit, p_ucall, p_mcall, p_mcallv, p_mite, p_mbv, p_mb2, p_let, p_bs, p_ms, p_mn, p_pL, if_true, eq_self]
set_option maxRecDepth 100000 in
theorem s_told (hA : pGood b A)  {σ : MS} {x1 : Int32} {x2 : Int32} : f_X3_told N b g (pUp A u σ) A.1 x1 x2 = (f_told N σ x1 x2).map (pL A u) := by
  simp only [f_X3_told, f_told, s_good hA, s_isDoubt hA, s_told_20 hA, s_isGround hA, s_not hA, p_gr (k := 45) rfl, p_gr (k := 46) rfl, p_put hA (k := 51) rfl, p_ldI hA (j := 45) rfl, p_stI hA (j := 45) rfl, p_ldI hA (j := 46) rfl, p_stI hA (j := 46) rfl, p_is, p_ldZ hA, p_stZ hA, p_ldL hA, p_stL hA, p_ib, p_fit, p_ucall, p_mcall, p_mcallv, p_mite, p_mbv, p_mb2, p_let, p_bs, p_ms, p_mn, p_pL, if_true, eq_self]
set_option maxRecDepth 100000 in
theorem s_forget (hA : pGood b A)  {σ : MS} {x1 : Int32} : f_X3_forget N b g (pUp A u σ) A.1 x1 = (f_forget N σ x1).map (pL A u) := by
  simp only [f_X3_forget, f_forget, s_good hA, s_isDoubt hA, s_not hA, p_gr (k := 45) rfl, p_put hA (k := 51) rfl, p_ldI hA (j := 45) rfl, p_stI hA (j := 45) rfl, p_is, p_ldZ hA, p_stZ hA, p_ldL hA, p_stL hA, p_ib, p_fit, p_ucall, p_mcall, p_mcallv, p_mite, p_mbv, p_mb2, p_let, p_bs, p_ms, p_mn, p_pL, if_true, eq_self]
set_option maxRecDepth 100000 in
theorem s_of_94 (hA : pGood b A)  {σ : MS} {s0 : Int32} : f_X3_of_94 N b g A.1 (pUp A u σ) s0 = (f_of_94 N σ s0).map (pL A u) := by
  simp only [f_X3_of_94, f_of_94, p_is, p_ldZ hA, p_stZ hA, p_ldL hA, p_stL hA, p_ib, p_fit, p_ucall, p_mcall, p_mcallv, p_mite, p_mbv, p_mb2, p_let, p_bs, p_ms, p_mn, p_pL, if_true, eq_self]
set_option maxRecDepth 100000 in
theorem s_of_73 (hA : pGood b A)  {σ : MS} {s0 : Int32} : f_X3_of_73 N b g A.1 (pUp A u σ) s0 = (f_of_73 N σ s0).map (pL A u) := by
  simp only [f_X3_of_73, f_of_73, p_is, p_ldZ hA, p_stZ hA, p_ldL hA, p_stL hA, p_ib, p_fit, p_ucall, p_mcall, p_mcallv, p_mite, p_mbv, p_mb2, p_let, p_bs, p_ms, p_mn, p_pL, if_true, eq_self]
set_option maxRecDepth 100000 in
theorem s_of (hA : pGood b A)  {σ : MS} {x1 : Int32} {x2 : Int32} : f_X3_of N b g (pUp A u σ) A.1 x1 x2 = (f_of N σ x1 x2).map (pL A u) := by
  simp only [f_X3_of, f_of, s_isCell hA, s_of_73 hA, s_of_94 hA, p_gr (k := 41) rfl, p_gr (k := 42) rfl, p_gr (k := 43) rfl, p_gr (k := 45) rfl, p_put hA (k := 0) rfl, p_ldI hA (j := 41) rfl, p_ldI hA (j := 42) rfl, p_ldI hA (j := 43) rfl, p_ldI hA (j := 45) rfl, p_is, p_ldZ hA, p_stZ hA, p_ldL hA, p_stL hA, p_ib, p_fit, p_ucall, p_mcall, p_mcallv, p_mite, p_mbv, p_mb2, p_let, p_bs, p_ms, p_mn, p_pL, if_true, eq_self]
set_option maxRecDepth 100000 in
theorem s_need_62 (hA : pGood b A)  {σ : MS} {s0 : Int32} : f_X3_need_62 N b g A.1 (pUp A u σ) s0 = (f_need_62 N σ s0).map (pL A u) := by
  simp only [f_X3_need_62, f_need_62, p_is, p_ldZ hA, p_stZ hA, p_ldL hA, p_stL hA, p_ib, p_fit, p_ucall, p_mcall, p_mcallv, p_mite, p_mbv, p_mb2, p_let, p_bs, p_ms, p_mn, p_pL, if_true, eq_self]
set_option maxRecDepth 100000 in
theorem s_need (hA : pGood b A)  {σ : MS} {x1 : Int32} {x2 : Int32} : f_X3_need N b g (pUp A u σ) A.1 x1 x2 = (f_need N σ x1 x2).map (pL A u) := by
  simp only [f_X3_need, f_need, s_between hA (j0 := 18) rfl, s_between hA (j0 := 20) rfl, s_down hA, s_need_62 hA, p_gi (k := 24) rfl, p_gi (k := 25) rfl, p_gi (k := 28) rfl, p_gi (k := 38) rfl, p_gr (k := 18) rfl, p_gr (k := 20) rfl, p_ldI hA (j := 18) rfl, p_ldI hA (j := 20) rfl, p_is, p_ldZ hA, p_stZ hA, p_ldL hA, p_stL hA, p_ib, p_fit, p_ucall, p_mcall, p_mcallv, p_mite, p_mbv, p_mb2, p_let, p_bs, p_ms, p_mn, p_pL, if_true, eq_self]
set_option maxRecDepth 100000 in
theorem s_slip_23 (hA : pGood b A)  : ∀ (n : Nat) (σ : MS) (x1 : Int32) (x2 : Int32) (x3 : Int32) (x4 : Int32), f_X3_slip_23 N b g A.1 n (pUp A u σ) x1 x2 x3 x4 = (f_slip_23 N n σ x1 x2 x3 x4).map (pL A u) := by
  intro n
  induction n with
  | zero => intro σ x1 x2 x3 x4; rfl
  | succ n ih =>
    intro σ x1 x2 x3 x4
    simp only [f_X3_slip_23, f_slip_23, s_between hA (j0 := 19) rfl, s_between hA (j0 := 21) rfl, p_gr (k := 19) rfl, p_gr (k := 21) rfl, p_ldI hA (j := 19) rfl, p_ldI hA (j := 21) rfl, p_is, p_ldZ hA, p_stZ hA, p_ldL hA, p_stL hA, p_ib, p_fit, p_ucall, p_mcall, p_mcallv, p_mite, p_mbv, p_mb2, p_let, p_bs, p_ms, p_mn, p_pL, if_true, eq_self, ih]
set_option maxRecDepth 100000 in
theorem s_slip (hA : pGood b A)  {σ : MS} {x1 : Int32} {x2 : Int32} : f_X3_slip N b g (pUp A u σ) A.1 x1 x2 = (f_slip N σ x1 x2).map (pL A u) := by
  simp only [f_X3_slip, f_slip, s_slip_23 hA, p_gi (k := 24) rfl, p_gi (k := 25) rfl, p_gi (k := 38) rfl, p_is, p_ldZ hA, p_stZ hA, p_ldL hA, p_stL hA, p_ib, p_fit, p_ucall, p_mcall, p_mcallv, p_mite, p_mbv, p_mb2, p_let, p_bs, p_ms, p_mn, p_pL, if_true, eq_self]
set_option maxRecDepth 100000 in
theorem s_barred_50 (hA : pGood b A)  {σ : MS}  : f_X3_barred_50 N b g A.1 (pUp A u σ) = (f_barred_50 N σ).map (pL A u) := by
  simp only [f_X3_barred_50, f_barred_50, p_is, p_ldZ hA, p_stZ hA, p_ldL hA, p_stL hA, p_ib, p_fit, p_ucall, p_mcall, p_mcallv, p_mite, p_mbv, p_mb2, p_let, p_bs, p_ms, p_mn, p_pL, if_true, eq_self]
set_option maxRecDepth 100000 in
theorem s_barred_104 (hA : pGood b A)  {σ : MS} {s0 : Int32} : f_X3_barred_104 N b g A.1 (pUp A u σ) s0 = (f_barred_104 N σ s0).map (pL A u) := by
  simp only [f_X3_barred_104, f_barred_104, p_is, p_ldZ hA, p_stZ hA, p_ldL hA, p_stL hA, p_ib, p_fit, p_ucall, p_mcall, p_mcallv, p_mite, p_mbv, p_mb2, p_let, p_bs, p_ms, p_mn, p_pL, if_true, eq_self]
set_option maxRecDepth 100000 in
theorem s_barred (hA : pGood b A)  {σ : MS} {x1 : Int32} {x2 : Int32} {x3 : Int32} : f_X3_barred N b g (pUp A u σ) A.1 x1 x2 x3 = (f_barred N σ x1 x2 x3).map (pL A u) := by
  simp only [f_X3_barred, f_barred, s_beside hA, s_barred_50 hA, s_between hA (j0 := 18) rfl, s_between hA (j0 := 20) rfl, s_between hA (j0 := 41) rfl, s_need hA, s_slip hA, s_barred_104 hA, p_gi (k := 24) rfl, p_gi (k := 25) rfl, p_gi (k := 26) rfl, p_gi (k := 27) rfl, p_gr (k := 18) rfl, p_gr (k := 20) rfl, p_gr (k := 41) rfl, p_ldI hA (j := 18) rfl, p_ldI hA (j := 20) rfl, p_ldI hA (j := 41) rfl, p_is, p_ldZ hA, p_stZ hA, p_ldL hA, p_stL hA, p_ib, p_fit, p_ucall, p_mcall, p_mcallv, p_mite, p_mbv, p_mb2, p_let, p_bs, p_ms, p_mn, p_pL, if_true, eq_self]
end
