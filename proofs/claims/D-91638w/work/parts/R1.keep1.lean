/-! BY gen_fr.py: PLAIN: what the model's functions keep -/
set_option maxRecDepth 100000 in
theorem kp_common_17 (N : Nat) : ∀ (n : Nat) (σ : MS) (x4 : Int64) (x6 : Int64) (r : Int64) (σ_ : MS), f_common_17 N n σ x4 x6 = some (r, σ_) → vKf σ σ_ := by
  intro n
  induction n with
  | zero =>
    intro σ x4 x6 r σ_ h
    cases h
  | succ n ih =>
    intro σ x4 x6 r σ_ h
    unfold f_common_17 at h
    by_cases c1 : (lg_cmp x6 0) = 0
    · have h := mif_t c1 h
      cases h
      exact vKf_r
    · have h := mif_f c1 h
      obtain ⟨c2, h⟩ := mif_n h
      obtain ⟨y3, ey3⟩ : ∃ z, z = x4 - x4 / x6 * x6 := ⟨_, rfl⟩
      have h := mlet_at ey3 h
      have w3 := ih _ _ _ _ _ h
      exact w3
set_option maxRecDepth 100000 in
theorem kp_common_12 (N : Nat) (σ : MS) (x2 : Int64) (s0 : Int64) (r : Int64) (σ_ : MS) (h : f_common_12 N σ x2 s0 = some (r, σ_)) : vKf σ σ_ := by
  unfold f_common_12 at h
  have w1 := kp_common_17 N _ _ _ _ _ _ h
  exact w1
set_option maxRecDepth 100000 in
theorem kp_common (N : Nat) (σ : MS) (x0 : Int64) (x2 : Int64) (r : Int64) (σ_ : MS) (h : f_common N σ x0 x2 = some (r, σ_)) : vKf σ σ_ := by
  unfold f_common at h
  by_cases c1 : 0 ≤ (lg_cmp x0 0)
  · have h := mif_t c1 h
    have w2 := kp_common_12 N σ x2 x0 _ _ h
    exact w2
  · have h := mif_f c1 h
    have w3 := kp_common_12 N σ x2 (-x0) _ _ h
    exact w3
set_option maxRecDepth 100000 in
theorem kp_part_23 (N : Nat) (σ : MS) (s0 : Int64) (r : Int64) (σ_ : MS) (h : f_part_23 N σ s0 = some (r, σ_)) : vKf σ σ_ := by
  unfold f_part_23 at h
  cases h
  exact vKf_r
set_option maxRecDepth 100000 in
theorem kp_part (N : Nat) (σ : MS) (x0 : Int64) (x2 : Int64) (x4 : Int32) (r : Int64) (σ_ : MS) (h : f_part N σ x0 x2 x4 = some (r, σ_)) : vKf σ σ_ := by
  unfold f_part at h
  obtain ⟨r3, σ1, c1, h⟩ := mcall_n h
  have w2 := kp_common N σ x0 x2 _ _ c1
  by_cases c3 : x4 = 0
  · have h := mif_t c3 h
    obtain ⟨c4, h⟩ := mif_n h
    have w5 := kp_part_23 N σ1 (x0 / r3) _ _ h
    exact (w2).t w5
  · have h := mif_f c3 h
    obtain ⟨c6, h⟩ := mif_n h
    have w7 := kp_part_23 N σ1 (x2 / r3) _ _ h
    exact (w2).t w7
set_option maxRecDepth 100000 in
theorem kp_mean_20 (N : Nat) (σ : MS) (r : Int64) (σ_ : MS) (h : f_mean_20 N σ = some (r, σ_)) : vKf σ σ_ := by
  unfold f_mean_20 at h
  obtain ⟨σ1, eσ1⟩ : ∃ z, z = mSet σ 39 1 := ⟨_, rfl⟩
  have h := mlet_at eσ1 h
  have w1 : vKf σ σ1 := by rw [eσ1]; exact vKf_set (by decide)
  cases h
  exact w1
set_option maxRecDepth 100000 in
theorem kp_mean (N : Nat) (σ : MS) (x1 : Int32) (x2 : Int32) (x3 : Int32) (r : Int64) (σ_ : MS) (h : f_mean N σ x1 x2 x3 = some (r, σ_)) : vKf σ σ_ := by
  unfold f_mean at h
  obtain ⟨σ1, c1, h⟩ := mcallv_n h
  have w2 := kp_good N σ _ c1
  obtain ⟨r5, σ3, c3, h⟩ := mcall_n h
  have w4 := kp_isCell N σ1 x1 _ _ c3
  by_cases c5 : r5 = 0
  · have h := mif_t c5 h
    have w6 := kp_mean_20 N σ3 _ _ h
    exact ((w2).t w4).t w6
  · have h := mif_f c5 h
    obtain ⟨r9, σ7, c7, h⟩ := mcall_n h
    have w8 := kp_isCell N σ3 x2 _ _ c7
    by_cases c9 : r9 = 0
    · have h := mif_t c9 h
      have w10 := kp_mean_20 N σ7 _ _ h
      exact (((w2).t w4).t w8).t w10
    · have h := mif_f c9 h
      obtain ⟨r13, σ11, c11, h⟩ := mcall_n h
      have w12 := kp_from N σ7 x1 x2 1 _ _ c11
      by_cases c13 : 0 ≤ (lg_cmp r13 0)
      · have h := mif_t c13 h
        obtain ⟨r17, σ15, c14, h⟩ := mcall_n h
        have w15 := kp_base N σ11 _ _ c14
        obtain ⟨r20, σ18, c16, h⟩ := mcall_n h
        have w17 := kp_left N σ15 r17 _ _ c16
        obtain ⟨r23, σ21, c18, h⟩ := mcall_n h
        have w19 := kp_part N σ18 r13 r20 x3 _ _ c18
        cases h
        exact ((((((w2).t w4).t w8).t w12).t w15).t w17).t w19
      · have h := mif_f c13 h
        obtain ⟨σ24, eσ24⟩ : ∃ z, z = mSet σ11 39 6 := ⟨_, rfl⟩
        have h := mlet_at eσ24 h
        have w20 : vKf σ11 σ24 := by rw [eσ24]; exact vKf_set (by decide)
        cases h
        exact ((((w2).t w4).t w8).t w12).t w20
set_option maxRecDepth 100000 in
theorem kp_stepOf_121 (N : Nat) (k35 : MS → Int32 → Int32 → Int64 → Int32 → Option (Int32 × MS)) (hk35 : ∀ (z0 : MS) (z1 : Int32) (z2 : Int32) (z3 : Int64) (z4 : Int32) (r : Int32) (s : MS), k35 z0 z1 z2 z3 z4 = some (r, s) → vKf z0 s) (σ : MS) (x1 : Int32) (x2 : Int32) (x3 : Int64) (x5 : Int32) (r : Int32) (σ_ : MS) (h : f_stepOf_121 N k35 σ x1 x2 x3 x5 = some (r, σ_)) : vKf σ σ_ := by
  unfold f_stepOf_121 at h
  obtain ⟨y1, ey1⟩ : ∃ z, z = x5 + 1 := ⟨_, rfl⟩
  have h := mlet_at ey1 h
  have w1 := hk35 _ _ _ _ _ _ _ h
  exact w1
set_option maxRecDepth 100000 in
theorem kp_stepOf_35 (N : Nat) : ∀ (n : Nat) (σ : MS) (x1 : Int32) (x2 : Int32) (x3 : Int64) (x5 : Int32) (r : Int32) (σ_ : MS), f_stepOf_35 N n σ x1 x2 x3 x5 = some (r, σ_) → vKf σ σ_ := by
  intro n
  induction n with
  | zero =>
    intro σ x1 x2 x3 x5 r σ_ h
    cases h
  | succ n ih =>
    intro σ x1 x2 x3 x5 r σ_ h
    unfold f_stepOf_35 at h
    by_cases c1 : 4 ≤ x5
    · have h := mif_t c1 h
      cases h
      exact vKf_r
    · have h := mif_f c1 h
      obtain ⟨c2, h⟩ := mif_n h
      obtain ⟨y3, ey3⟩ : ∃ z, z = σ.2.1 70 ((4 * x1) + x5).toNatClampNeg := ⟨_, rfl⟩
      have h := mlet_at ey3 h
      by_cases c3 : y3 = 0
      · have h := mif_t c3 h
        have w4 := kp_stepOf_121 N (f_stepOf_35 N n) ih σ x1 x2 x3 x5 _ _ h
        exact w4
      · have h := mif_f c3 h
        obtain ⟨r7, σ5, c5, h⟩ := mcall_n h
        have w6 := kp_beside N σ x1 x5 _ _ c5
        obtain ⟨c7, h⟩ := mif_n h
        obtain ⟨y9, ey9⟩ : ∃ z, z = σ5.2.2 ((100 * x2) + r7).toNatClampNeg := ⟨_, rfl⟩
        have h := mlet_at ey9 h
        by_cases c8 : 0 ≤ (lg_cmp y9 1000000000000000)
        · have h := mif_t c8 h
          have w9 := kp_stepOf_121 N (f_stepOf_35 N n) ih σ5 x1 x2 x3 x5 _ _ h
          exact (w6).t w9
        · have h := mif_f c8 h
          obtain ⟨c10, h⟩ := mif_n h
          obtain ⟨y12, ey12⟩ : ∃ z, z = σ5.2.1 70 ((4 * x1) + x5).toNatClampNeg := ⟨_, rfl⟩
          have h := mlet_at ey12 h
          obtain ⟨c11, h⟩ := mif_n h
          obtain ⟨y14, ey14⟩ : ∃ z, z = σ5.2.2 ((100 * x2) + x1).toNatClampNeg := ⟨_, rfl⟩
          have h := mlet_at ey14 h
          by_cases c12 : (lg_cmp (y9 + (x3 * (y12.toInt64))) y14) = 0
          · have h := mif_t c12 h
            cases h
            exact w6
          · have h := mif_f c12 h
            have w13 := kp_stepOf_121 N (f_stepOf_35 N n) ih σ5 x1 x2 x3 x5 _ _ h
            exact (w6).t w13
set_option maxRecDepth 100000 in
theorem kp_stepOf_31 (N : Nat) (σ : MS) (x1 : Int32) (x2 : Int32) (s0 : Int64) (r : Int32) (σ_ : MS) (h : f_stepOf_31 N σ x1 x2 s0 = some (r, σ_)) : vKf σ σ_ := by
  unfold f_stepOf_31 at h
  have w1 := kp_stepOf_35 N _ _ _ _ _ _ _ _ h
  exact w1
set_option maxRecDepth 100000 in
theorem kp_stepOf (N : Nat) (σ : MS) (x1 : Int32) (x2 : Int32) (r : Int32) (σ_ : MS) (h : f_stepOf N σ x1 x2 = some (r, σ_)) : vKf σ σ_ := by
  unfold f_stepOf at h
  by_cases c1 : x1 = (σ.1 49)
  · have h := mif_t c1 h
    cases h
    exact vKf_r
  · have h := mif_f c1 h
    obtain ⟨σ2, c2, h⟩ := mcallv_n h
    have w3 := kp_lays N σ x2 _ c2
    by_cases c4 : (σ2.1 50) = 0
    · have h := mif_t c4 h
      have w5 := kp_stepOf_31 N σ2 x1 x2 1 _ _ h
      exact (w3).t w5
    · have h := mif_f c4 h
      obtain ⟨r7, σ5, c6, h⟩ := mcall_n h
      have w7 := kp_left N σ2 x2 _ _ c6
      have w8 := kp_stepOf_31 N σ5 x1 x2 r7 _ _ h
      exact ((w3).t w7).t w8
set_option maxRecDepth 100000 in
theorem kp_way_20 (N : Nat) (σ : MS) (r : Int32) (σ_ : MS) (h : f_way_20 N σ = some (r, σ_)) : vKf σ σ_ := by
  unfold f_way_20 at h
  obtain ⟨r3, σ1, c1, h⟩ := mcall_n h
  have w2 := kp_no N σ 1 _ _ c1
  cases h
  exact w2
set_option maxRecDepth 100000 in
theorem kp_way_65 (N : Nat) (k29 : MS → Int32 → Int32 → Int32 → Int32 → Option (Int32 × MS)) (hk29 : ∀ (z0 : MS) (z1 : Int32) (z2 : Int32) (z3 : Int32) (z4 : Int32) (r : Int32) (s : MS), k29 z0 z1 z2 z3 z4 = some (r, s) → vKf z0 s) (σ : MS) (x1 : Int32) (x2 : Int32) (x3 : Int32) (x4 : Int32) (r : Int32) (σ_ : MS) (h : f_way_65 N k29 σ x1 x2 x3 x4 = some (r, σ_)) : vKf σ σ_ := by
  unfold f_way_65 at h
  obtain ⟨y1, ey1⟩ : ∃ z, z = x4 + 1 := ⟨_, rfl⟩
  have h := mlet_at ey1 h
  have w1 := hk29 _ _ _ _ _ _ _ h
  exact w1
set_option maxRecDepth 100000 in
theorem kp_way_29 (N : Nat) : ∀ (n : Nat) (σ : MS) (x1 : Int32) (x2 : Int32) (x3 : Int32) (x4 : Int32) (r : Int32) (σ_ : MS), f_way_29 N n σ x1 x2 x3 x4 = some (r, σ_) → vKf σ σ_ := by
  intro n
  induction n with
  | zero =>
    intro σ x1 x2 x3 x4 r σ_ h
    cases h
  | succ n ih =>
    intro σ x1 x2 x3 x4 r σ_ h
    unfold f_way_29 at h
    by_cases c1 : (σ.1 37) ≤ x4
    · have h := mif_t c1 h
      obtain ⟨r4, σ2, c2, h⟩ := mcall_n h
      have w3 := kp_from N σ x1 x2 x3 _ _ c2
      by_cases c4 : 0 ≤ (lg_cmp r4 0)
      · have h := mif_t c4 h
        obtain ⟨r8, σ6, c5, h⟩ := mcall_n h
        have w6 := kp_base N σ2 _ _ c5
        obtain ⟨r11, σ9, c7, h⟩ := mcall_n h
        have w8 := kp_stepOf N σ6 x1 r8 _ _ c7
        cases h
        exact ((w3).t w6).t w8
      · have h := mif_f c4 h
        obtain ⟨r14, σ12, c9, h⟩ := mcall_n h
        have w10 := kp_no N σ2 6 _ _ c9
        cases h
        exact (w3).t w10
    · have h := mif_f c1 h
      obtain ⟨c11, h⟩ := mif_n h
      obtain ⟨y16, ey16⟩ : ∃ z, z = σ.2.1 45 x4.toNatClampNeg := ⟨_, rfl⟩
      have h := mlet_at ey16 h
      by_cases c12 : y16 = (-1)
      · have h := mif_t c12 h
        obtain ⟨r20, σ18, c13, h⟩ := mcall_n h
        have w14 := kp_isNear N σ x1 x4 _ _ c13
        by_cases c15 : r20 = 0
        · have h := mif_t c15 h
          have w16 := kp_way_65 N (f_way_29 N n) ih σ18 x1 x2 x3 x4 _ _ h
          exact (w14).t w16
        · have h := mif_f c15 h
          obtain ⟨r24, σ22, c17, h⟩ := mcall_n h
          have w18 := kp_no N σ18 5 _ _ c17
          cases h
          exact (w14).t w18
      · have h := mif_f c12 h
        have w19 := kp_way_65 N (f_way_29 N n) ih σ x1 x2 x3 x4 _ _ h
        exact w19
set_option maxRecDepth 100000 in
theorem kp_way (N : Nat) (σ : MS) (x1 : Int32) (x2 : Int32) (x3 : Int32) (r : Int32) (σ_ : MS) (h : f_way N σ x1 x2 x3 = some (r, σ_)) : vKf σ σ_ := by
  unfold f_way at h
  obtain ⟨σ1, c1, h⟩ := mcallv_n h
  have w2 := kp_good N σ _ c1
  obtain ⟨r5, σ3, c3, h⟩ := mcall_n h
  have w4 := kp_isCell N σ1 x1 _ _ c3
  by_cases c5 : r5 = 0
  · have h := mif_t c5 h
    have w6 := kp_way_20 N σ3 _ _ h
    exact ((w2).t w4).t w6
  · have h := mif_f c5 h
    obtain ⟨r9, σ7, c7, h⟩ := mcall_n h
    have w8 := kp_isCell N σ3 x2 _ _ c7
    by_cases c9 : r9 = 0
    · have h := mif_t c9 h
      have w10 := kp_way_20 N σ7 _ _ h
      exact (((w2).t w4).t w8).t w10
    · have h := mif_f c9 h
      have w11 := kp_way_29 N _ _ _ _ _ _ _ _ h
      exact (((w2).t w4).t w8).t w11
set_option maxRecDepth 100000 in
theorem kp_truthMany_34 (N : Nat) (k4 : MS → Int32 → Int32 → Option (Int32 × MS)) (hk4 : ∀ (z0 : MS) (z1 : Int32) (z2 : Int32) (r : Int32) (s : MS), k4 z0 z1 z2 = some (r, s) → vKf z0 s) (σ : MS) (x2 : Int32) (s0 : Int32) (r : Int32) (σ_ : MS) (h : f_truthMany_34 N k4 σ x2 s0 = some (r, σ_)) : vKf σ σ_ := by
  unfold f_truthMany_34 at h
  obtain ⟨y1, ey1⟩ : ∃ z, z = x2 + 1 := ⟨_, rfl⟩
  have h := mlet_at ey1 h
  have w1 := hk4 _ _ _ _ _ h
  exact w1
set_option maxRecDepth 100000 in
theorem kp_truthMany_4 (N : Nat) : ∀ (n : Nat) (σ : MS) (x1 : Int32) (x2 : Int32) (r : Int32) (σ_ : MS), f_truthMany_4 N n σ x1 x2 = some (r, σ_) → vKf σ σ_ := by
  intro n
  induction n with
  | zero =>
    intro σ x1 x2 r σ_ h
    cases h
  | succ n ih =>
    intro σ x1 x2 r σ_ h
    unfold f_truthMany_4 at h
    by_cases c1 : (σ.1 37) ≤ x2
    · have h := mif_t c1 h
      cases h
      exact vKf_r
    · have h := mif_f c1 h
      obtain ⟨c2, h⟩ := mif_n h
      obtain ⟨y3, ey3⟩ : ∃ z, z = σ.2.1 45 x2.toNatClampNeg := ⟨_, rfl⟩
      have h := mlet_at ey3 h
      by_cases c3 : y3 = (-1)
      · have h := mif_t c3 h
        obtain ⟨c4, h⟩ := mif_n h
        obtain ⟨y6, ey6⟩ : ∃ z, z = σ.2.1 53 x2.toNatClampNeg := ⟨_, rfl⟩
        have h := mlet_at ey6 h
        have w5 := kp_truthMany_34 N (f_truthMany_4 N n) ih σ x2 (x1 * y6) _ _ h
        exact w5
      · have h := mif_f c3 h
        have w6 := kp_truthMany_34 N (f_truthMany_4 N n) ih σ x2 x1 _ _ h
        exact w6
set_option maxRecDepth 100000 in
theorem kp_truthMany (N : Nat) (σ : MS) (r : Int32) (σ_ : MS) (h : f_truthMany N σ = some (r, σ_)) : vKf σ σ_ := by
  unfold f_truthMany at h
  have w1 := kp_truthMany_4 N _ _ _ _ _ _ h
  exact w1
set_option maxRecDepth 100000 in
theorem kp_truths (N : Nat) (σ : MS) (r : Int32) (σ_ : MS) (h : f_truths N σ = some (r, σ_)) : vKf σ σ_ := by
  unfold f_truths at h
  obtain ⟨σ1, eσ1⟩ : ∃ z, z = mSet σ 0 0 := ⟨_, rfl⟩
  have h := mlet_at eσ1 h
  have w1 : vKf σ σ1 := by rw [eσ1]; exact vKf_set (by decide)
  by_cases c2 : (σ1.1 34) = 0
  · have h := mif_t c2 h
    cases h
    exact w1
  · have h := mif_f c2 h
    obtain ⟨σ3, c3, h⟩ := mcallv_n h
    have w4 := kp_lists N σ1 _ c3
    obtain ⟨r7, σ5, c5, h⟩ := mcall_n h
    have w6 := kp_truthMany N σ3 _ _ c5
    cases h
    exact ((w1).t w4).t w6
set_option maxRecDepth 100000 in
theorem kp_all_64 (N : Nat) (k15 : MS → Int32 → Int32 → Int32 → Option (Int32 × MS)) (hk15 : ∀ (z0 : MS) (z1 : Int32) (z2 : Int32) (z3 : Int32) (r : Int32) (s : MS), k15 z0 z1 z2 z3 = some (r, s) → vKf z0 s) (σ : MS) (x2 : Int32) (x3 : Int32) (x4 : Int32) (r : Int32) (σ_ : MS) (h : f_all_64 N k15 σ x2 x3 x4 = some (r, σ_)) : vKf σ σ_ := by
  unfold f_all_64 at h
  obtain ⟨y1, ey1⟩ : ∃ z, z = x4 + (-1) := ⟨_, rfl⟩
  have h := mlet_at ey1 h
  have w1 := hk15 _ _ _ _ _ _ h
  exact w1
set_option maxRecDepth 100000 in
theorem kp_all_15 (N : Nat) : ∀ (n : Nat) (σ : MS) (x2 : Int32) (x3 : Int32) (x4 : Int32) (r : Int32) (σ_ : MS), f_all_15 N n σ x2 x3 x4 = some (r, σ_) → vKf σ σ_ := by
  intro n
  induction n with
  | zero =>
    intro σ x2 x3 x4 r σ_ h
    cases h
  | succ n ih =>
    intro σ x2 x3 x4 r σ_ h
    unfold f_all_15 at h
    by_cases c1 : x4 < 0
    · have h := mif_t c1 h
      cases h
      exact vKf_r
    · have h := mif_f c1 h
      obtain ⟨c2, h⟩ := mif_n h
      obtain ⟨y3, ey3⟩ : ∃ z, z = σ.2.1 45 x4.toNatClampNeg := ⟨_, rfl⟩
      have h := mlet_at ey3 h
      by_cases c3 : y3 = (-1)
      · have h := mif_t c3 h
        obtain ⟨c4, h⟩ := mif_n h
        obtain ⟨y6, ey6⟩ : ∃ z, z = σ.2.1 53 x4.toNatClampNeg := ⟨_, rfl⟩
        have h := mlet_at ey6 h
        obtain ⟨c5, h⟩ := mif_n h
        obtain ⟨r10, σ8, c6, h⟩ := mcall_n h
        have w7 := kp_power N σ x4 _ _ c6
        obtain ⟨y11, ey11⟩ : ∃ z, z = x2 + (((x3 - x3 / y6 * y6) + 1) * r10) := ⟨_, rfl⟩
        have h := mlet_at ey11 h
        obtain ⟨c8, h⟩ := mif_n h
        obtain ⟨y13, ey13⟩ : ∃ z, z = σ8.2.1 53 x4.toNatClampNeg := ⟨_, rfl⟩
        have h := mlet_at ey13 h
        obtain ⟨c9, h⟩ := mif_n h
        obtain ⟨y15, ey15⟩ : ∃ z, z = x3 / y13 := ⟨_, rfl⟩
        have h := mlet_at ey15 h
        have w10 := kp_all_64 N (f_all_15 N n) ih σ8 y11 y15 x4 _ _ h
        exact (w7).t w10
      · have h := mif_f c3 h
        have w11 := kp_all_64 N (f_all_15 N n) ih σ x2 x3 x4 _ _ h
        exact w11
set_option maxRecDepth 100000 in
theorem kp_all (N : Nat) (σ : MS) (x1 : Int32) (r : Int32) (σ_ : MS) (h : f_all N σ x1 = some (r, σ_)) : vKf σ σ_ := by
  unfold f_all at h
  obtain ⟨r3, σ1, c1, h⟩ := mcall_n h
  have w2 := kp_base N σ _ _ c1
  obtain ⟨y4, ey4⟩ : ∃ z, z = (σ1.1 37) - 1 := ⟨_, rfl⟩
  have h := mlet_at ey4 h
  have w3 := kp_all_15 N _ _ _ _ _ _ _ h
  exact (w2).t w3
set_option maxRecDepth 100000 in
theorem kp_truth (N : Nat) (σ : MS) (x1 : Int32) (x2 : Int32) (r : Int32) (σ_ : MS) (h : f_truth N σ x1 x2 = some (r, σ_)) : vKf σ σ_ := by
  unfold f_truth at h
  obtain ⟨σ1, eσ1⟩ : ∃ z, z = mSet σ 0 0 := ⟨_, rfl⟩
  have h := mlet_at eσ1 h
  have w1 : vKf σ σ1 := by rw [eσ1]; exact vKf_set (by decide)
  obtain ⟨r4, σ2, c2, h⟩ := mcall_n h
  have w3 := kp_isDoubt N σ1 x2 _ _ c2
  by_cases c4 : r4 = 0
  · have h := mif_t c4 h
    cases h
    exact (w1).t w3
  · have h := mif_f c4 h
    obtain ⟨σ6, c5, h⟩ := mcallv_n h
    have w6 := kp_lists N σ2 _ c5
    obtain ⟨r10, σ8, c7, h⟩ := mcall_n h
    have w8 := kp_truthMany N σ6 _ _ c7
    obtain ⟨r13, σ11, c9, h⟩ := mcall_n h
    have w10 := kp_within N σ8 x1 0 (r10 - 1) _ _ c9
    by_cases c11 : r13 = 0
    · have h := mif_t c11 h
      cases h
      exact ((((w1).t w3).t w6).t w8).t w10
    · have h := mif_f c11 h
      obtain ⟨r17, σ15, c12, h⟩ := mcall_n h
      have w13 := kp_all N σ11 x1 _ _ c12
      obtain ⟨r20, σ18, c14, h⟩ := mcall_n h
      have w15 := kp_digit N σ15 r17 x2 _ _ c14
      obtain ⟨c16, h⟩ := mif_n h
      obtain ⟨y22, ey22⟩ : ∃ z, z = σ18.2.1 52 (((4 * x2) + r20) - 1).toNatClampNeg := ⟨_, rfl⟩
      have h := mlet_at ey22 h
      cases h
      exact ((((((w1).t w3).t w6).t w8).t w10).t w13).t w15
set_option maxRecDepth 100000 in
theorem kp_sees_52 (N : Nat) (k6 : MS → Int32 → Int32 → Int32 → Int32 → Option (Int32 × MS)) (hk6 : ∀ (z0 : MS) (z1 : Int32) (z2 : Int32) (z3 : Int32) (z4 : Int32) (r : Int32) (s : MS), k6 z0 z1 z2 z3 z4 = some (r, s) → vKf z0 s) (σ : MS) (x2 : Int32) (x3 : Int32) (x4 : Int32) (x5 : Int32) (r : Int32) (σ_ : MS) (h : f_sees_52 N k6 σ x2 x3 x4 x5 = some (r, σ_)) : vKf σ σ_ := by
  unfold f_sees_52 at h
  obtain ⟨y1, ey1⟩ : ∃ z, z = x5 + 1 := ⟨_, rfl⟩
  have h := mlet_at ey1 h
  have w1 := hk6 _ _ _ _ _ _ _ h
  exact w1
set_option maxRecDepth 100000 in
theorem kp_sees_6 (N : Nat) : ∀ (n : Nat) (σ : MS) (x2 : Int32) (x3 : Int32) (x4 : Int32) (x5 : Int32) (r : Int32) (σ_ : MS), f_sees_6 N n σ x2 x3 x4 x5 = some (r, σ_) → vKf σ σ_ := by
  intro n
  induction n with
  | zero =>
    intro σ x2 x3 x4 x5 r σ_ h
    cases h
  | succ n ih =>
    intro σ x2 x3 x4 x5 r σ_ h
    unfold f_sees_6 at h
    by_cases c1 : (σ.1 37) ≤ x5
    · have h := mif_t c1 h
      cases h
      exact vKf_r
    · have h := mif_f c1 h
      obtain ⟨r4, σ2, c2, h⟩ := mcall_n h
      have w3 := kp_digit N σ x4 x5 _ _ c2
      by_cases c4 : r4 = 0
      · have h := mif_t c4 h
        obtain ⟨r8, σ6, c5, h⟩ := mcall_n h
        have w6 := kp_isNear N σ2 x2 x5 _ _ c5
        by_cases c7 : r8 = 0
        · have h := mif_t c7 h
          have w8 := kp_sees_52 N (f_sees_6 N n) ih σ6 x2 x3 x4 x5 _ _ h
          exact ((w3).t w6).t w8
        · have h := mif_f c7 h
          obtain ⟨r12, σ10, c9, h⟩ := mcall_n h
          have w10 := kp_digit N σ6 x3 x5 _ _ c9
          obtain ⟨r15, σ13, c11, h⟩ := mcall_n h
          have w12 := kp_power N σ10 x5 _ _ c11
          obtain ⟨y16, ey16⟩ : ∃ z, z = x4 + (r12 * r15) := ⟨_, rfl⟩
          have h := mlet_at ey16 h
          have w13 := kp_sees_52 N (f_sees_6 N n) ih σ13 x2 x3 y16 x5 _ _ h
          exact ((((w3).t w6).t w10).t w12).t w13
      · have h := mif_f c4 h
        have w14 := kp_sees_52 N (f_sees_6 N n) ih σ2 x2 x3 x4 x5 _ _ h
        exact (w3).t w14
set_option maxRecDepth 100000 in
theorem kp_sees (N : Nat) (σ : MS) (x1 : Int32) (x2 : Int32) (x3 : Int32) (r : Int32) (σ_ : MS) (h : f_sees N σ x1 x2 x3 = some (r, σ_)) : vKf σ σ_ := by
  unfold f_sees at h
  have w1 := kp_sees_6 N _ _ _ _ _ _ _ _ h
  exact w1
set_option maxRecDepth 100000 in
theorem kp_goes_84 (N : Nat) (k26 : MS → Int32 → Int32 → Int32 → Int32 → Int32 → Option (Int32 × MS)) (hk26 : ∀ (z0 : MS) (z1 : Int32) (z2 : Int32) (z3 : Int32) (z4 : Int32) (z5 : Int32) (r : Int32) (s : MS), k26 z0 z1 z2 z3 z4 z5 = some (r, s) → vKf z0 s) (σ : MS) (x3 : Int32) (x4 : Int32) (x5 : Int32) (x6 : Int32) (x8 : Int32) (s0 : Int32) (r : Int32) (σ_ : MS) (h : f_goes_84 N k26 σ x3 x4 x5 x6 x8 s0 = some (r, σ_)) : vKf σ σ_ := by
  unfold f_goes_84 at h
  by_cases c1 : s0 = 0
  · have h := mif_t c1 h
    have w2 := hk26 _ _ _ _ _ _ _ _ h
    exact w2
  · have h := mif_f c1 h
    obtain ⟨c3, h⟩ := mif_n h
    obtain ⟨y3, ey3⟩ : ∃ z, z = σ.2.1 70 ((4 * x5) + x8).toNatClampNeg := ⟨_, rfl⟩
    have h := mlet_at ey3 h
    obtain ⟨y4, ey4⟩ : ∃ z, z = x6 + y3 := ⟨_, rfl⟩
    have h := mlet_at ey4 h
    obtain ⟨r7, σ5, c4, h⟩ := mcall_n h
    have w5 := kp_beside N σ x5 x8 _ _ c4
    have w6 := hk26 _ _ _ _ _ _ _ _ h
    exact (w5).t w6
set_option maxRecDepth 100000 in
theorem kp_goes_26 (N : Nat) : ∀ (n : Nat) (σ : MS) (x3 : Int32) (x4 : Int32) (x5 : Int32) (x6 : Int32) (x7 : Int32) (r : Int32) (σ_ : MS), f_goes_26 N n σ x3 x4 x5 x6 x7 = some (r, σ_) → vKf σ σ_ := by
  intro n
  induction n with
  | zero =>
    intro σ x3 x4 x5 x6 x7 r σ_ h
    cases h
  | succ n ih =>
    intro σ x3 x4 x5 x6 x7 r σ_ h
    unfold f_goes_26 at h
    by_cases c1 : x7 = 0
    · have h := mif_t c1 h
      cases h
      exact vKf_r
    · have h := mif_f c1 h
      obtain ⟨c2, h⟩ := mif_n h
      obtain ⟨σ3, eσ3⟩ : ∃ z, z = mArr σ 54 (σ.1 55).toNatClampNeg x5 := ⟨_, rfl⟩
      have h := mlet_at eσ3 h
      have w3 : vKf σ σ3 := by rw [eσ3]; exact vKf_arr (by decide)
      obtain ⟨σ4, eσ4⟩ : ∃ z, z = mSet σ3 55 ((σ3.1 55) + 1) := ⟨_, rfl⟩
      have h := mlet_at eσ4 h
      have w4 : vKf σ3 σ4 := by rw [eσ4]; exact vKf_set (by decide)
      obtain ⟨r7, σ5, c5, h⟩ := mcall_n h
      have w6 := kp_sees N σ4 x4 x5 x3 _ _ c5
      obtain ⟨r10, σ8, c7, h⟩ := mcall_n h
      have w8 := kp_stepOf N σ5 x5 r7 _ _ c7
      by_cases c9 : 4 ≤ r10
      · have h := mif_t c9 h
        have w10 := kp_goes_84 N (f_goes_26 N n) ih σ8 x3 r7 x5 x6 r10 0 _ _ h
        exact ((((w3).t w4).t w6).t w8).t w10
      · have h := mif_f c9 h
        have w11 := kp_goes_84 N (f_goes_26 N n) ih σ8 x3 r7 x5 x6 r10 1 _ _ h
        exact ((((w3).t w4).t w6).t w8).t w11
set_option maxRecDepth 100000 in
theorem kp_goes (N : Nat) (σ : MS) (x1 : Int32) (x2 : Int32) (r : Int32) (σ_ : MS) (h : f_goes N σ x1 x2 = some (r, σ_)) : vKf σ σ_ := by
  unfold f_goes at h
  obtain ⟨r3, σ1, c1, h⟩ := mcall_n h
  have w2 := kp_all N σ x2 _ _ c1
  obtain ⟨r6, σ4, c3, h⟩ := mcall_n h
  have w4 := kp_base N σ1 _ _ c3
  obtain ⟨σ7, eσ7⟩ : ∃ z, z = mSet σ4 55 0 := ⟨_, rfl⟩
  have h := mlet_at eσ7 h
  have w5 : vKf σ4 σ7 := by rw [eσ7]; exact vKf_set (by decide)
  have w6 := kp_goes_26 N _ _ _ _ _ _ _ _ _ h
  exact (((w2).t w4).t w5).t w6
set_option maxRecDepth 100000 in
theorem kp_run_20 (N : Nat) (σ : MS) (r : Int32) (σ_ : MS) (h : f_run_20 N σ = some (r, σ_)) : vKf σ σ_ := by
  unfold f_run_20 at h
  obtain ⟨r3, σ1, c1, h⟩ := mcall_n h
  have w2 := kp_no N σ 1 _ _ c1
  cases h
  exact w2
set_option maxRecDepth 100000 in
theorem kp_run (N : Nat) (σ : MS) (x1 : Int32) (x2 : Int32) (x3 : Int32) (x4 : Int32) (r : Int32) (σ_ : MS) (h : f_run N σ x1 x2 x3 x4 = some (r, σ_)) : vKf σ σ_ := by
  unfold f_run at h
  obtain ⟨σ1, c1, h⟩ := mcallv_n h
  have w2 := kp_good N σ _ c1
  obtain ⟨r5, σ3, c3, h⟩ := mcall_n h
  have w4 := kp_isCell N σ1 x1 _ _ c3
  by_cases c5 : r5 = 0
  · have h := mif_t c5 h
    have w6 := kp_run_20 N σ3 _ _ h
    exact ((w2).t w4).t w6
  · have h := mif_f c5 h
    obtain ⟨r9, σ7, c7, h⟩ := mcall_n h
    have w8 := kp_isCell N σ3 x2 _ _ c7
    by_cases c9 : r9 = 0
    · have h := mif_t c9 h
      have w10 := kp_run_20 N σ7 _ _ h
      exact (((w2).t w4).t w8).t w10
    · have h := mif_f c9 h
      obtain ⟨σ11, c11, h⟩ := mcallv_n h
      have w12 := kp_lists N σ7 _ c11
      obtain ⟨r15, σ13, c13, h⟩ := mcall_n h
      have w14 := kp_truthMany N σ11 _ _ c13
      obtain ⟨r18, σ16, c15, h⟩ := mcall_n h
      have w16 := kp_within N σ13 x4 0 (r15 - 1) _ _ c15
      by_cases c17 : r18 = 0
      · have h := mif_t c17 h
        obtain ⟨r33, σ31, c18, h⟩ := mcall_n h
        have w19 := kp_no N σ16 1 _ _ c18
        cases h
        exact ((((((w2).t w4).t w8).t w12).t w14).t w16).t w19
      · have h := mif_f c17 h
        obtain ⟨r22, σ20, c20, h⟩ := mcall_n h
        have w21 := kp_from N σ16 x1 x2 x3 _ _ c20
        by_cases c22 : 0 ≤ (lg_cmp r22 0)
        · have h := mif_t c22 h
          obtain ⟨σ24, eσ24⟩ : ∃ z, z = mSet σ20 73 1 := ⟨_, rfl⟩
          have h := mlet_at eσ24 h
          have w23 : vKf σ20 σ24 := by rw [eσ24]; exact vKf_set (by decide)
          obtain ⟨r27, σ25, c24, h⟩ := mcall_n h
          have w25 := kp_goes N σ24 x1 x4 _ _ c24
          cases h
          exact ((((((((w2).t w4).t w8).t w12).t w14).t w16).t w21).t w23).t w25
        · have h := mif_f c22 h
          obtain ⟨r30, σ28, c26, h⟩ := mcall_n h
          have w27 := kp_no N σ20 6 _ _ c26
          cases h
          exact (((((((w2).t w4).t w8).t w12).t w14).t w16).t w21).t w27
set_option maxRecDepth 100000 in
theorem kp_led_47 (N : Nat) (σ : MS) (s0 : Int32) (r : Int32) (σ_ : MS) (h : f_led_47 N σ s0 = some (r, σ_)) : vKf σ σ_ := by
  unfold f_led_47 at h
  cases h
  exact vKf_r
set_option maxRecDepth 100000 in
theorem kp_led_27 (N : Nat) (σ : MS) (x1 : Int32) (s0 : Int32) (r : Int32) (σ_ : MS) (h : f_led_27 N σ x1 s0 = some (r, σ_)) : vKf σ σ_ := by
  unfold f_led_27 at h
  obtain ⟨σ1, eσ1⟩ : ∃ z, z = mSet σ 0 s0 := ⟨_, rfl⟩
  have h := mlet_at eσ1 h
  have w1 : vKf σ σ1 := by rw [eσ1]; exact vKf_set (by decide)
  by_cases c2 : (σ1.1 0) ≤ 0
  · have h := mif_t c2 h
    obtain ⟨c3, h⟩ := mif_n h
    obtain ⟨y4, ey4⟩ : ∃ z, z = σ1.2.1 54 x1.toNatClampNeg := ⟨_, rfl⟩
    have h := mlet_at ey4 h
    have w4 := kp_led_47 N σ1 y4 _ _ h
    exact (w1).t w4
  · have h := mif_f c2 h
    have w5 := kp_led_47 N σ1 0 _ _ h
    exact (w1).t w5
set_option maxRecDepth 100000 in
theorem kp_led_26 (N : Nat) (σ : MS) (x1 : Int32) (r : Int32) (σ_ : MS) (h : f_led_26 N σ x1 = some (r, σ_)) : vKf σ σ_ := by
  unfold f_led_26 at h
  have w1 := kp_led_27 N σ x1 1 _ _ h
  exact w1
set_option maxRecDepth 100000 in
theorem kp_led (N : Nat) (σ : MS) (x1 : Int32) (r : Int32) (σ_ : MS) (h : f_led N σ x1 = some (r, σ_)) : vKf σ σ_ := by
  unfold f_led at h
  by_cases c1 : (σ.1 73) = 0
  · have h := mif_t c1 h
    have w2 := kp_led_26 N σ x1 _ _ h
    exact w2
  · have h := mif_f c1 h
    obtain ⟨r4, σ2, c3, h⟩ := mcall_n h
    have w4 := kp_within N σ x1 0 ((σ.1 55) - 1) _ _ c3
    by_cases c5 : r4 = 0
    · have h := mif_t c5 h
      have w6 := kp_led_26 N σ2 x1 _ _ h
      exact (w4).t w6
    · have h := mif_f c5 h
      have w7 := kp_led_27 N σ2 x1 0 _ _ h
      exact (w4).t w7
set_option maxRecDepth 100000 in
theorem kp_regret_20 (N : Nat) (σ : MS) (r : Int32) (σ_ : MS) (h : f_regret_20 N σ = some (r, σ_)) : vKf σ σ_ := by
  unfold f_regret_20 at h
  obtain ⟨r3, σ1, c1, h⟩ := mcall_n h
  have w2 := kp_no N σ 1 _ _ c1
  cases h
  exact w2
set_option maxRecDepth 100000 in
theorem kp_regret_151 (N : Nat) : ∀ (n : Nat) (σ : MS) (x3 : Int32) (x4 : Int32) (x5 : Int32) (r : Int32) (σ_ : MS), f_regret_151 N n σ x3 x4 x5 = some (r, σ_) → vKf σ σ_ := by
  intro n
  induction n with
  | zero =>
    intro σ x3 x4 x5 r σ_ h
    cases h
  | succ n ih =>
    intro σ x3 x4 x5 r σ_ h
    unfold f_regret_151 at h
    by_cases c1 : x3 ≤ x5
    · have h := mif_t c1 h
      cases h
      exact vKf_r
    · have h := mif_f c1 h
      obtain ⟨c2, h⟩ := mif_n h
      obtain ⟨y3, ey3⟩ : ∃ z, z = σ.2.1 74 x5.toNatClampNeg := ⟨_, rfl⟩
      have h := mlet_at ey3 h
      obtain ⟨c3, h⟩ := mif_n h
      obtain ⟨σ5, eσ5⟩ : ∃ z, z = mArr σ 54 x5.toNatClampNeg y3 := ⟨_, rfl⟩
      have h := mlet_at eσ5 h
      have w4 : vKf σ σ5 := by rw [eσ5]; exact vKf_arr (by decide)
      obtain ⟨y6, ey6⟩ : ∃ z, z = x5 + 1 := ⟨_, rfl⟩
      have h := mlet_at ey6 h
      have w5 := ih _ _ _ _ _ _ h
      exact (w4).t w5
set_option maxRecDepth 100000 in
theorem kp_regret_135 (N : Nat) (k85 : MS → Int32 → Int32 → Int32 → Int32 → Option (Int32 × MS)) (hk85 : ∀ (z0 : MS) (z1 : Int32) (z2 : Int32) (z3 : Int32) (z4 : Int32) (r : Int32) (s : MS), k85 z0 z1 z2 z3 z4 = some (r, s) → vKf z0 s) (σ : MS) (x1 : Int32) (x3 : Int32) (x5 : Int32) (s0 : Int32) (r : Int32) (σ_ : MS) (h : f_regret_135 N k85 σ x1 x3 x5 s0 = some (r, σ_)) : vKf σ σ_ := by
  unfold f_regret_135 at h
  obtain ⟨y1, ey1⟩ : ∃ z, z = x5 + 1 := ⟨_, rfl⟩
  have h := mlet_at ey1 h
  have w1 := hk85 _ _ _ _ _ _ _ h
  exact w1
set_option maxRecDepth 100000 in
theorem kp_regret_85 (N : Nat) : ∀ (n : Nat) (σ : MS) (x1 : Int32) (x3 : Int32) (x4 : Int32) (x5 : Int32) (r : Int32) (σ_ : MS), f_regret_85 N n σ x1 x3 x4 x5 = some (r, σ_) → vKf σ σ_ := by
  intro n
  induction n with
  | zero =>
    intro σ x1 x3 x4 x5 r σ_ h
    cases h
  | succ n ih =>
    intro σ x1 x3 x4 x5 r σ_ h
    unfold f_regret_85 at h
    obtain ⟨r3, σ1, c1, h⟩ := mcall_n h
    have w2 := kp_truthMany N σ _ _ c1
    by_cases c3 : r3 ≤ x5
    · have h := mif_t c3 h
      obtain ⟨σ5, eσ5⟩ : ∃ z, z = mSet σ1 55 x3 := ⟨_, rfl⟩
      have h := mlet_at eσ5 h
      have w4 : vKf σ1 σ5 := by rw [eσ5]; exact vKf_set (by decide)
      have w5 := kp_regret_151 N _ _ _ _ _ _ _ h
      exact ((w2).t w4).t w5
    · have h := mif_f c3 h
      obtain ⟨r8, σ6, c6, h⟩ := mcall_n h
      have w7 := kp_goes N σ1 x1 x5 _ _ c6
      obtain ⟨r11, σ9, c8, h⟩ := mcall_n h
      have w9 := kp_all N σ6 x5 _ _ c8
      obtain ⟨c10, h⟩ := mif_n h
      obtain ⟨y13, ey13⟩ : ∃ z, z = σ9.2.2 ((100 * r11) + x1).toNatClampNeg := ⟨_, rfl⟩
      have h := mlet_at ey13 h
      obtain ⟨y14, ey14⟩ : ∃ z, z = r8 - (y13.toInt32) := ⟨_, rfl⟩
      have h := mlet_at ey14 h
      by_cases c11 : y14 ≤ x4
      · have h := mif_t c11 h
        have w12 := kp_regret_135 N (f_regret_85 N n) ih σ9 x1 x3 x5 x4 _ _ h
        exact (((w2).t w7).t w9).t w12
      · have h := mif_f c11 h
        have w13 := kp_regret_135 N (f_regret_85 N n) ih σ9 x1 x3 x5 y14 _ _ h
        exact (((w2).t w7).t w9).t w13
set_option maxRecDepth 100000 in
theorem kp_regret_53 (N : Nat) : ∀ (n : Nat) (σ : MS) (x1 : Int32) (x3 : Int32) (x4 : Int32) (r : Int32) (σ_ : MS), f_regret_53 N n σ x1 x3 x4 = some (r, σ_) → vKf σ σ_ := by
  intro n
  induction n with
  | zero =>
    intro σ x1 x3 x4 r σ_ h
    cases h
  | succ n ih =>
    intro σ x1 x3 x4 r σ_ h
    unfold f_regret_53 at h
    by_cases c1 : x3 ≤ x4
    · have h := mif_t c1 h
      have w2 := kp_regret_85 N _ _ _ _ _ _ _ _ h
      exact w2
    · have h := mif_f c1 h
      obtain ⟨c3, h⟩ := mif_n h
      obtain ⟨y3, ey3⟩ : ∃ z, z = σ.2.1 54 x4.toNatClampNeg := ⟨_, rfl⟩
      have h := mlet_at ey3 h
      obtain ⟨c4, h⟩ := mif_n h
      obtain ⟨σ5, eσ5⟩ : ∃ z, z = mArr σ 74 x4.toNatClampNeg y3 := ⟨_, rfl⟩
      have h := mlet_at eσ5 h
      have w5 : vKf σ σ5 := by rw [eσ5]; exact vKf_arr (by decide)
      obtain ⟨y6, ey6⟩ : ∃ z, z = x4 + 1 := ⟨_, rfl⟩
      have h := mlet_at ey6 h
      have w6 := ih _ _ _ _ _ _ h
      exact (w5).t w6
set_option maxRecDepth 100000 in
theorem kp_regret (N : Nat) (σ : MS) (x1 : Int32) (x2 : Int32) (r : Int32) (σ_ : MS) (h : f_regret N σ x1 x2 = some (r, σ_)) : vKf σ σ_ := by
  unfold f_regret at h
  obtain ⟨σ1, c1, h⟩ := mcallv_n h
  have w2 := kp_good N σ _ c1
  obtain ⟨r5, σ3, c3, h⟩ := mcall_n h
  have w4 := kp_isCell N σ1 x1 _ _ c3
  by_cases c5 : r5 = 0
  · have h := mif_t c5 h
    have w6 := kp_regret_20 N σ3 _ _ h
    exact ((w2).t w4).t w6
  · have h := mif_f c5 h
    obtain ⟨r9, σ7, c7, h⟩ := mcall_n h
    have w8 := kp_isCell N σ3 x2 _ _ c7
    by_cases c9 : r9 = 0
    · have h := mif_t c9 h
      have w10 := kp_regret_20 N σ7 _ _ h
      exact (((w2).t w4).t w8).t w10
    · have h := mif_f c9 h
      obtain ⟨r13, σ11, c11, h⟩ := mcall_n h
      have w12 := kp_from N σ7 x1 x2 0 _ _ c11
      by_cases c13 : 0 ≤ (lg_cmp r13 0)
      · have h := mif_t c13 h
        obtain ⟨y15, ey15⟩ : ∃ z, z = σ11.1 55 := ⟨_, rfl⟩
        have h := mlet_at ey15 h
        have w14 := kp_regret_53 N _ _ _ _ _ _ _ h
        exact ((((w2).t w4).t w8).t w12).t w14
      · have h := mif_f c13 h
        obtain ⟨r18, σ16, c15, h⟩ := mcall_n h
        have w16 := kp_no N σ11 6 _ _ c15
        cases h
        exact ((((w2).t w4).t w8).t w12).t w16
set_option maxRecDepth 100000 in
theorem kp_worth_105 (N : Nat) : ∀ (n : Nat) (σ : MS) (x1 : Int32) (x2 : Int32) (x4 : Int32) (x5 : Int64) (x7 : Int32) (x8 : Int64) (x10 : Int32) (r : Int64) (σ_ : MS), f_worth_105 N n σ x1 x2 x4 x5 x7 x8 x10 = some (r, σ_) → vKf σ σ_ := by
  intro n
  induction n with
  | zero =>
    intro σ x1 x2 x4 x5 x7 x8 x10 r σ_ h
    cases h
  | succ n ih =>
    intro σ x1 x2 x4 x5 x7 x8 x10 r σ_ h
    unfold f_worth_105 at h
    obtain ⟨c1, h⟩ := mif_n h
    obtain ⟨y2, ey2⟩ : ∃ z, z = σ.2.1 53 x1.toNatClampNeg := ⟨_, rfl⟩
    have h := mlet_at ey2 h
    by_cases c2 : y2 ≤ x10
    · have h := mif_t c2 h
      obtain ⟨r6, σ4, c3, h⟩ := mcall_n h
      have w4 := kp_part N σ x5 x8 x4 _ _ c3
      cases h
      exact w4
    · have h := mif_f c2 h
      obtain ⟨r9, σ7, c5, h⟩ := mcall_n h
      have w6 := kp_weightOf N σ x1 x10 _ _ c5
      obtain ⟨r12, σ10, c7, h⟩ := mcall_n h
      have w8 := kp_power N σ7 x1 _ _ c7
      obtain ⟨c9, h⟩ := mif_n h
      obtain ⟨y14, ey14⟩ : ∃ z, z = σ10.2.2 ((100 * (x7 + ((x10 + 1) * r12))) + x2).toNatClampNeg := ⟨_, rfl⟩
      have h := mlet_at ey14 h
      obtain ⟨y15, ey15⟩ : ∃ z, z = x5 - ((r9.toInt64) * y14) := ⟨_, rfl⟩
      have h := mlet_at ey15 h
      obtain ⟨y16, ey16⟩ : ∃ z, z = x10 + 1 := ⟨_, rfl⟩
      have h := mlet_at ey16 h
      have w10 := ih _ _ _ _ _ _ _ _ _ _ h
      exact ((w6).t w8).t w10
set_option maxRecDepth 100000 in
theorem kp_worth_48 (N : Nat) (σ : MS) (x1 : Int32) (x2 : Int32) (x3 : Int32) (x4 : Int32) (s0 : Int32) (r : Int64) (σ_ : MS) (h : f_worth_48 N σ x1 x2 x3 x4 s0 = some (r, σ_)) : vKf σ σ_ := by
  unfold f_worth_48 at h
  obtain ⟨σ1, eσ1⟩ : ∃ z, z = mSet σ 39 s0 := ⟨_, rfl⟩
  have h := mlet_at eσ1 h
  have w1 : vKf σ σ1 := by rw [eσ1]; exact vKf_set (by decide)
  by_cases c2 : (σ1.1 39) ≤ 0
  · have h := mif_t c2 h
    obtain ⟨r5, σ3, c3, h⟩ := mcall_n h
    have w4 := kp_from N σ1 x2 x3 1 _ _ c3
    by_cases c5 : 0 ≤ (lg_cmp r5 0)
    · have h := mif_t c5 h
      obtain ⟨r9, σ7, c6, h⟩ := mcall_n h
      have w7 := kp_base N σ3 _ _ c6
      obtain ⟨r12, σ10, c8, h⟩ := mcall_n h
      have w9 := kp_left N σ7 r9 _ _ c8
      have w10 := kp_worth_105 N _ _ _ _ _ _ _ _ _ _ _ h
      exact ((((w1).t w4).t w7).t w9).t w10
    · have h := mif_f c5 h
      obtain ⟨σ13, eσ13⟩ : ∃ z, z = mSet σ3 39 6 := ⟨_, rfl⟩
      have h := mlet_at eσ13 h
      have w11 : vKf σ3 σ13 := by rw [eσ13]; exact vKf_set (by decide)
      cases h
      exact ((w1).t w4).t w11
  · have h := mif_f c2 h
    cases h
    exact w1
set_option maxRecDepth 100000 in
theorem kp_worth_29 (N : Nat) (σ : MS) (x1 : Int32) (x2 : Int32) (x3 : Int32) (x4 : Int32) (r : Int64) (σ_ : MS) (h : f_worth_29 N σ x1 x2 x3 x4 = some (r, σ_)) : vKf σ σ_ := by
  unfold f_worth_29 at h
  have w1 := kp_worth_48 N σ x1 x2 x3 x4 1 _ _ h
  exact w1
set_option maxRecDepth 100000 in
theorem kp_worth (N : Nat) (σ : MS) (x1 : Int32) (x2 : Int32) (x3 : Int32) (x4 : Int32) (r : Int64) (σ_ : MS) (h : f_worth N σ x1 x2 x3 x4 = some (r, σ_)) : vKf σ σ_ := by
  unfold f_worth at h
  obtain ⟨σ1, c1, h⟩ := mcallv_n h
  have w2 := kp_good N σ _ c1
  obtain ⟨r5, σ3, c3, h⟩ := mcall_n h
  have w4 := kp_isDoubt N σ1 x1 _ _ c3
  by_cases c5 : r5 = 0
  · have h := mif_t c5 h
    have w6 := kp_worth_29 N σ3 x1 x2 x3 x4 _ _ h
    exact ((w2).t w4).t w6
  · have h := mif_f c5 h
    obtain ⟨r9, σ7, c7, h⟩ := mcall_n h
    have w8 := kp_isCell N σ3 x2 _ _ c7
    by_cases c9 : r9 = 0
    · have h := mif_t c9 h
      have w10 := kp_worth_29 N σ7 x1 x2 x3 x4 _ _ h
      exact (((w2).t w4).t w8).t w10
    · have h := mif_f c9 h
      obtain ⟨r13, σ11, c11, h⟩ := mcall_n h
      have w12 := kp_isCell N σ7 x3 _ _ c11
      by_cases c13 : r13 = 0
      · have h := mif_t c13 h
        have w14 := kp_worth_29 N σ11 x1 x2 x3 x4 _ _ h
        exact ((((w2).t w4).t w8).t w12).t w14
      · have h := mif_f c13 h
        obtain ⟨c15, h⟩ := mif_n h
        obtain ⟨y16, ey16⟩ : ∃ z, z = σ11.2.1 45 x1.toNatClampNeg := ⟨_, rfl⟩
        have h := mlet_at ey16 h
        by_cases c16 : y16 = (-1)
        · have h := mif_t c16 h
          have w17 := kp_worth_48 N σ11 x1 x2 x3 x4 0 _ _ h
          exact ((((w2).t w4).t w8).t w12).t w17
        · have h := mif_f c16 h
          have w18 := kp_worth_48 N σ11 x1 x2 x3 x4 5 _ _ h
          exact ((((w2).t w4).t w8).t w12).t w18
set_option maxRecDepth 100000 in
theorem kp_spared_142 (N : Nat) (k90 : MS → Int32 → Int32 → Int64 → Int64 → Int32 → Option (Int32 × MS)) (hk90 : ∀ (z0 : MS) (z1 : Int32) (z2 : Int32) (z3 : Int64) (z4 : Int64) (z5 : Int32) (r : Int32) (s : MS), k90 z0 z1 z2 z3 z4 z5 = some (r, s) → vKf z0 s) (σ : MS) (x1 : Int32) (x2 : Int32) (x5 : Int64) (x9 : Int32) (s0 : Int64) (r : Int32) (σ_ : MS) (h : f_spared_142 N k90 σ x1 x2 x5 x9 s0 = some (r, σ_)) : vKf σ σ_ := by
  unfold f_spared_142 at h
  obtain ⟨y1, ey1⟩ : ∃ z, z = x9 + 1 := ⟨_, rfl⟩
  have h := mlet_at ey1 h
  have w1 := hk90 _ _ _ _ _ _ _ _ h
  exact w1
set_option maxRecDepth 100000 in
theorem kp_spared_90 (N : Nat) : ∀ (n : Nat) (σ : MS) (x1 : Int32) (x2 : Int32) (x5 : Int64) (x7 : Int64) (x9 : Int32) (r : Int32) (σ_ : MS), f_spared_90 N n σ x1 x2 x5 x7 x9 = some (r, σ_) → vKf σ σ_ := by
  intro n
  induction n with
  | zero =>
    intro σ x1 x2 x5 x7 x9 r σ_ h
    cases h
  | succ n ih =>
    intro σ x1 x2 x5 x7 x9 r σ_ h
    unfold f_spared_90 at h
    obtain ⟨c1, h⟩ := mif_n h
    obtain ⟨y2, ey2⟩ : ∃ z, z = σ.2.1 53 x1.toNatClampNeg := ⟨_, rfl⟩
    have h := mlet_at ey2 h
    by_cases c2 : y2 ≤ x9
    · have h := mif_t c2 h
      cases h
      exact vKf_r
    · have h := mif_f c2 h
      obtain ⟨r6, σ4, c3, h⟩ := mcall_n h
      have w4 := kp_base N σ _ _ c3
      obtain ⟨r9, σ7, c5, h⟩ := mcall_n h
      have w6 := kp_power N σ4 x1 _ _ c5
      obtain ⟨c7, h⟩ := mif_n h
      obtain ⟨y11, ey11⟩ : ∃ z, z = σ7.2.2 ((100 * (r6 + ((x9 + 1) * r9))) + x2).toNatClampNeg := ⟨_, rfl⟩
      have h := mlet_at ey11 h
      by_cases c8 : (lg_cmp y11 x7) ≤ 0
      · have h := mif_t c8 h
        have w9 := kp_spared_142 N (f_spared_90 N n) ih σ7 x1 x2 x5 x9 x7 _ _ h
        exact ((w4).t w6).t w9
      · have h := mif_f c8 h
        have w10 := kp_spared_142 N (f_spared_90 N n) ih σ7 x1 x2 x5 x9 y11 _ _ h
        exact ((w4).t w6).t w10
set_option maxRecDepth 100000 in
theorem kp_spared_47 (N : Nat) (σ : MS) (x1 : Int32) (x2 : Int32) (x3 : Int32) (s0 : Int32) (r : Int32) (σ_ : MS) (h : f_spared_47 N σ x1 x2 x3 s0 = some (r, σ_)) : vKf σ σ_ := by
  unfold f_spared_47 at h
  by_cases c1 : s0 ≤ 0
  · have h := mif_t c1 h
    obtain ⟨r4, σ2, c2, h⟩ := mcall_n h
    have w3 := kp_from N σ x2 x3 0 _ _ c2
    by_cases c4 : 0 ≤ (lg_cmp r4 0)
    · have h := mif_t c4 h
      have w5 := kp_spared_90 N _ _ _ _ _ _ _ _ _ h
      exact (w3).t w5
    · have h := mif_f c4 h
      obtain ⟨r8, σ6, c6, h⟩ := mcall_n h
      have w7 := kp_no N σ2 6 _ _ c6
      cases h
      exact (w3).t w7
  · have h := mif_f c1 h
    obtain ⟨r11, σ9, c8, h⟩ := mcall_n h
    have w9 := kp_no N σ s0 _ _ c8
    cases h
    exact w9
set_option maxRecDepth 100000 in
theorem kp_spared_28 (N : Nat) (σ : MS) (x1 : Int32) (x2 : Int32) (x3 : Int32) (r : Int32) (σ_ : MS) (h : f_spared_28 N σ x1 x2 x3 = some (r, σ_)) : vKf σ σ_ := by
  unfold f_spared_28 at h
  have w1 := kp_spared_47 N σ x1 x2 x3 1 _ _ h
  exact w1
set_option maxRecDepth 100000 in
theorem kp_spared (N : Nat) (σ : MS) (x1 : Int32) (x2 : Int32) (x3 : Int32) (r : Int32) (σ_ : MS) (h : f_spared N σ x1 x2 x3 = some (r, σ_)) : vKf σ σ_ := by
  unfold f_spared at h
  obtain ⟨σ1, c1, h⟩ := mcallv_n h
  have w2 := kp_good N σ _ c1
  obtain ⟨r5, σ3, c3, h⟩ := mcall_n h
  have w4 := kp_isDoubt N σ1 x1 _ _ c3
  by_cases c5 : r5 = 0
  · have h := mif_t c5 h
    have w6 := kp_spared_28 N σ3 x1 x2 x3 _ _ h
    exact ((w2).t w4).t w6
  · have h := mif_f c5 h
    obtain ⟨r9, σ7, c7, h⟩ := mcall_n h
    have w8 := kp_isCell N σ3 x2 _ _ c7
    by_cases c9 : r9 = 0
    · have h := mif_t c9 h
      have w10 := kp_spared_28 N σ7 x1 x2 x3 _ _ h
      exact (((w2).t w4).t w8).t w10
    · have h := mif_f c9 h
      obtain ⟨r13, σ11, c11, h⟩ := mcall_n h
      have w12 := kp_isCell N σ7 x3 _ _ c11
      by_cases c13 : r13 = 0
      · have h := mif_t c13 h
        have w14 := kp_spared_28 N σ11 x1 x2 x3 _ _ h
        exact ((((w2).t w4).t w8).t w12).t w14
      · have h := mif_f c13 h
        obtain ⟨c15, h⟩ := mif_n h
        obtain ⟨y16, ey16⟩ : ∃ z, z = σ11.2.1 45 x1.toNatClampNeg := ⟨_, rfl⟩
        have h := mlet_at ey16 h
        by_cases c16 : y16 = (-1)
        · have h := mif_t c16 h
          have w17 := kp_spared_47 N σ11 x1 x2 x3 0 _ _ h
          exact ((((w2).t w4).t w8).t w12).t w17
        · have h := mif_f c16 h
          have w18 := kp_spared_47 N σ11 x1 x2 x3 5 _ _ h
          exact ((((w2).t w4).t w8).t w12).t w18
set_option maxRecDepth 100000 in
theorem kp_order_75 (N : Nat) (σ : MS) (r : Int32) (σ_ : MS) (h : f_order_75 N σ = some (r, σ_)) : vKf σ σ_ := by
  unfold f_order_75 at h
  obtain ⟨σ1, eσ1⟩ : ∃ z, z = mSet σ 58 ((σ.1 58) + 1) := ⟨_, rfl⟩
  have h := mlet_at eσ1 h
  have w1 : vKf σ σ1 := by rw [eσ1]; exact vKf_set (by decide)
  cases h
  exact w1
set_option maxRecDepth 100000 in
theorem kp_order (N : Nat) (σ : MS) (x1 : Int32) (x2 : Int32) (x3 : Int32) (x4 : Int32) (r : Int32) (σ_ : MS) (h : f_order N σ x1 x2 x3 x4 = some (r, σ_)) : vKf σ σ_ := by
  unfold f_order at h
  obtain ⟨y1, ey1⟩ : ∃ z, z = (512 * (σ.1 40)) + (4 * (σ.1 58)) := ⟨_, rfl⟩
  have h := mlet_at ey1 h
  by_cases c1 : 8 ≤ (σ.1 40)
  · have h := mif_t c1 h
    have w2 := kp_order_75 N σ _ _ h
    exact w2
  · have h := mif_f c1 h
    by_cases c3 : 128 ≤ (σ.1 58)
    · have h := mif_t c3 h
      have w4 := kp_order_75 N σ _ _ h
      exact w4
    · have h := mif_f c3 h
      obtain ⟨c5, h⟩ := mif_n h
      obtain ⟨σ5, eσ5⟩ : ∃ z, z = mArr σ 56 y1.toNatClampNeg x1 := ⟨_, rfl⟩
      have h := mlet_at eσ5 h
      have w6 : vKf σ σ5 := by rw [eσ5]; exact vKf_arr (by decide)
      obtain ⟨c7, h⟩ := mif_n h
      obtain ⟨σ7, eσ7⟩ : ∃ z, z = mArr σ5 56 (y1 + 1).toNatClampNeg x2 := ⟨_, rfl⟩
      have h := mlet_at eσ7 h
      have w8 : vKf σ5 σ7 := by rw [eσ7]; exact vKf_arr (by decide)
      obtain ⟨c9, h⟩ := mif_n h
      obtain ⟨σ9, eσ9⟩ : ∃ z, z = mArr σ7 56 (y1 + 2).toNatClampNeg x3 := ⟨_, rfl⟩
      have h := mlet_at eσ9 h
      have w10 : vKf σ7 σ9 := by rw [eσ9]; exact vKf_arr (by decide)
      obtain ⟨c11, h⟩ := mif_n h
      obtain ⟨σ11, eσ11⟩ : ∃ z, z = mArr σ9 56 (y1 + 3).toNatClampNeg x4 := ⟨_, rfl⟩
      have h := mlet_at eσ11 h
      have w12 : vKf σ9 σ11 := by rw [eσ11]; exact vKf_arr (by decide)
      have w13 := kp_order_75 N σ11 _ _ h
      exact ((((w6).t w8).t w10).t w12).t w13
set_option maxRecDepth 100000 in
theorem kp_lands_32 (N : Nat) (σ : MS) (σ_ : MS) (h : f_lands_32 N σ = some σ_) : vKf σ σ_ := by
  unfold f_lands_32 at h
  cases h
  exact vKf_r
set_option maxRecDepth 100000 in
theorem kp_lands (N : Nat) (σ : MS) (x1 : Int32) (σ_ : MS) (h : f_lands N σ x1 = some σ_) : vKf σ σ_ := by
  unfold f_lands at h
  by_cases c1 : 8 ≤ (σ.1 40)
  · have h := mif_t c1 h
    have w2 := kp_lands_32 N σ _ h
    exact w2
  · have h := mif_f c1 h
    obtain ⟨c3, h⟩ := mif_n h
    obtain ⟨σ3, eσ3⟩ : ∃ z, z = mArr σ 56 (((512 * (σ.1 40)) + (4 * x1)) + 3).toNatClampNeg (σ.1 58) := ⟨_, rfl⟩
    have h := mlet_at eσ3 h
    have w4 : vKf σ σ3 := by rw [eσ3]; exact vKf_arr (by decide)
    have w5 := kp_lands_32 N σ3 _ h
    exact (w4).t w5
set_option maxRecDepth 100000 in
theorem kp_acts_299 (N : Nat) (σ : MS) (s0 : Int32) (r : Int32) (σ_ : MS) (h : f_acts_299 N σ s0 = some (r, σ_)) : vKf σ σ_ := by
  unfold f_acts_299 at h
  cases h
  exact vKf_r
set_option maxRecDepth 100000 in
theorem kp_acts_284 (N : Nat) (k38 : MS → Int32 → Int32 → Int32 → Int32 → Int32 → Int32 → Option (Int32 × MS)) (hk38 : ∀ (z0 : MS) (z1 : Int32) (z2 : Int32) (z3 : Int32) (z4 : Int32) (z5 : Int32) (z6 : Int32) (r : Int32) (s : MS), k38 z0 z1 z2 z3 z4 z5 z6 = some (r, s) → vKf z0 s) (σ : MS) (x1 : Int32) (x3 : Int32) (x5 : Int32) (x6 : Int32) (x7 : Int32) (x8 : Int32) (r : Int32) (σ_ : MS) (h : f_acts_284 N k38 σ x1 x3 x5 x6 x7 x8 = some (r, σ_)) : vKf σ σ_ := by
  unfold f_acts_284 at h
  have w1 := hk38 _ _ _ _ _ _ _ _ _ h
  exact w1
set_option maxRecDepth 100000 in
theorem kp_acts_217 (N : Nat) (k38 : MS → Int32 → Int32 → Int32 → Int32 → Int32 → Int32 → Option (Int32 × MS)) (hk38 : ∀ (z0 : MS) (z1 : Int32) (z2 : Int32) (z3 : Int32) (z4 : Int32) (z5 : Int32) (z6 : Int32) (r : Int32) (s : MS), k38 z0 z1 z2 z3 z4 z5 z6 = some (r, s) → vKf z0 s) (k175 : MS → Int32 → Int32 → Int32 → Int32 → Int32 → Int32 → Int32 → Int32 → Int32 → Option (Int32 × MS)) (hk175 : ∀ (z0 : MS) (z1 : Int32) (z2 : Int32) (z3 : Int32) (z4 : Int32) (z5 : Int32) (z6 : Int32) (z7 : Int32) (z8 : Int32) (z9 : Int32) (r : Int32) (s : MS), k175 z0 z1 z2 z3 z4 z5 z6 z7 z8 z9 = some (r, s) → vKf z0 s) (σ : MS) (x1 : Int32) (x3 : Int32) (x5 : Int32) (x6 : Int32) (x7 : Int32) (x8 : Int32) (x10 : Int32) (x11 : Int32) (x12 : Int32) (x13 : Int32) (s0 : Int32) (r : Int32) (σ_ : MS) (h : f_acts_217 N k38 k175 σ x1 x3 x5 x6 x7 x8 x10 x11 x12 x13 s0 = some (r, σ_)) : vKf σ σ_ := by
  unfold f_acts_217 at h
  by_cases c1 : s0 ≤ 0
  · have h := mif_t c1 h
    obtain ⟨r4, σ2, c2, h⟩ := mcall_n h
    have w3 := kp_floorOf N σ x13 x5 _ _ c2
    obtain ⟨r7, σ5, c4, h⟩ := mcall_n h
    have w5 := kp_cost N σ2 x6 x10 r4 _ _ c4
    obtain ⟨σ8, eσ8⟩ : ∃ z, z = mSet σ5 67 ((σ.1 67) + r7) := ⟨_, rfl⟩
    have h := mlet_at eσ8 h
    have w6 : vKf σ5 σ8 := by rw [eσ8]; exact vKf_set (by decide)
    obtain ⟨σ9, eσ9⟩ : ∃ z, z = mSet σ8 66 ((σ8.1 66) + 1) := ⟨_, rfl⟩
    have h := mlet_at eσ9 h
    have w7 : vKf σ8 σ9 := by rw [eσ9]; exact vKf_set (by decide)
    obtain ⟨r12, σ10, c8, h⟩ := mcall_n h
    have w9 := kp_sees N σ9 x7 x13 x5 _ _ c8
    obtain ⟨y13, ey13⟩ : ∃ z, z = x12 + 1 := ⟨_, rfl⟩
    have h := mlet_at ey13 h
    have w10 := hk175 _ _ _ _ _ _ _ _ _ _ _ _ h
    exact (((((w3).t w5).t w6).t w7).t w9).t w10
  · have h := mif_f c1 h
    cases h
    exact vKf_r
set_option maxRecDepth 100000 in
theorem kp_acts_175 (N : Nat) (k38 : MS → Int32 → Int32 → Int32 → Int32 → Int32 → Int32 → Option (Int32 × MS)) (hk38 : ∀ (z0 : MS) (z1 : Int32) (z2 : Int32) (z3 : Int32) (z4 : Int32) (z5 : Int32) (z6 : Int32) (r : Int32) (s : MS), k38 z0 z1 z2 z3 z4 z5 z6 = some (r, s) → vKf z0 s) : ∀ (n : Nat) (σ : MS) (x1 : Int32) (x3 : Int32) (x5 : Int32) (x6 : Int32) (x7 : Int32) (x8 : Int32) (x10 : Int32) (x11 : Int32) (x12 : Int32) (r : Int32) (σ_ : MS), f_acts_175 N k38 n σ x1 x3 x5 x6 x7 x8 x10 x11 x12 = some (r, σ_) → vKf σ σ_ := by
  intro n
  induction n with
  | zero =>
    intro σ x1 x3 x5 x6 x7 x8 x10 x11 x12 r σ_ h
    cases h
  | succ n ih =>
    intro σ x1 x3 x5 x6 x7 x8 x10 x11 x12 r σ_ h
    unfold f_acts_175 at h
    by_cases c1 : x11 ≤ x12
    · have h := mif_t c1 h
      have w2 := kp_acts_284 N k38 hk38 σ x1 x3 x5 x6 x7 x8 _ _ h
      exact w2
    · have h := mif_f c1 h
      obtain ⟨r4, σ2, c3, h⟩ := mcall_n h
      have w4 := kp_beside N σ x6 x10 _ _ c3
      by_cases c5 : 0 ≤ r4
      · have h := mif_t c5 h
        obtain ⟨r8, σ6, c6, h⟩ := mcall_n h
        have w7 := kp_floorOf N σ2 r4 x5 _ _ c6
        obtain ⟨r11, σ9, c8, h⟩ := mcall_n h
        have w9 := kp_barred N σ6 x6 x10 r8 _ _ c8
        have w10 := kp_acts_217 N k38 hk38 (f_acts_175 N k38 n) ih σ9 x1 x3 x5 x6 x7 x8 x10 x11 x12 r4 r11 _ _ h
        exact (((w4).t w7).t w9).t w10
      · have h := mif_f c5 h
        have w11 := kp_acts_217 N k38 hk38 (f_acts_175 N k38 n) ih σ2 x1 x3 x5 x6 x7 x8 x10 x11 x12 r4 1 _ _ h
        exact (w4).t w11
set_option maxRecDepth 100000 in
theorem kp_acts_38 (N : Nat) : ∀ (n : Nat) (σ : MS) (x1 : Int32) (x3 : Int32) (x5 : Int32) (x6 : Int32) (x7 : Int32) (x8 : Int32) (r : Int32) (σ_ : MS), f_acts_38 N n σ x1 x3 x5 x6 x7 x8 = some (r, σ_) → vKf σ σ_ := by
  intro n
  induction n with
  | zero =>
    intro σ x1 x3 x5 x6 x7 x8 r σ_ h
    cases h
  | succ n ih =>
    intro σ x1 x3 x5 x6 x7 x8 r σ_ h
    unfold f_acts_38 at h
    obtain ⟨c1, h⟩ := mif_n h
    obtain ⟨y2, ey2⟩ : ∃ z, z = σ.2.1 57 x1.toNatClampNeg := ⟨_, rfl⟩
    have h := mlet_at ey2 h
    by_cases c2 : y2 ≤ x8
    · have h := mif_t c2 h
      by_cases c3 : x6 = x3
      · have h := mif_t c3 h
        have w4 := kp_acts_299 N σ 0 _ _ h
        exact w4
      · have h := mif_f c3 h
        have w5 := kp_acts_299 N σ 6 _ _ h
        exact w5
    · have h := mif_f c2 h
      obtain ⟨y5, ey5⟩ : ∃ z, z = (512 * x1) + (4 * x8) := ⟨_, rfl⟩
      have h := mlet_at ey5 h
      obtain ⟨c6, h⟩ := mif_n h
      obtain ⟨y7, ey7⟩ : ∃ z, z = σ.2.1 56 (y5 + 1).toNatClampNeg := ⟨_, rfl⟩
      have h := mlet_at ey7 h
      obtain ⟨c7, h⟩ := mif_n h
      obtain ⟨y9, ey9⟩ : ∃ z, z = σ.2.1 56 (y5 + 2).toNatClampNeg := ⟨_, rfl⟩
      have h := mlet_at ey9 h
      obtain ⟨y10, ey10⟩ : ∃ z, z = x8 + 1 := ⟨_, rfl⟩
      have h := mlet_at ey10 h
      obtain ⟨c8, h⟩ := mif_n h
      obtain ⟨y12, ey12⟩ : ∃ z, z = σ.2.1 56 y5.toNatClampNeg := ⟨_, rfl⟩
      have h := mlet_at ey12 h
      by_cases c9 : y12 = 2
      · have h := mif_t c9 h
        obtain ⟨c10, h⟩ := mif_n h
        obtain ⟨y30, ey30⟩ : ∃ z, z = σ.2.1 56 (y5 + 3).toNatClampNeg := ⟨_, rfl⟩
        have h := mlet_at ey30 h
        have w11 := kp_acts_284 N (f_acts_38 N n) ih σ x1 x3 x5 x6 x7 y30 _ _ h
        exact w11
      · have h := mif_f c9 h
        obtain ⟨c12, h⟩ := mif_n h
        obtain ⟨y15, ey15⟩ : ∃ z, z = σ.2.1 56 y5.toNatClampNeg := ⟨_, rfl⟩
        have h := mlet_at ey15 h
        by_cases c13 : y15 = 1
        · have h := mif_t c13 h
          obtain ⟨r19, σ17, c14, h⟩ := mcall_n h
          have w15 := kp_digit N σ x7 y7 _ _ c14
          by_cases c16 : r19 = 0
          · have h := mif_t c16 h
            cases h
            exact w15
          · have h := mif_f c16 h
            obtain ⟨r23, σ21, c17, h⟩ := mcall_n h
            have w18 := kp_digit N σ17 x5 y7 _ _ c17
            obtain ⟨c19, h⟩ := mif_n h
            obtain ⟨y25, ey25⟩ : ∃ z, z = σ21.2.1 52 (((4 * y7) + r23) - 1).toNatClampNeg := ⟨_, rfl⟩
            have h := mlet_at ey25 h
            by_cases c20 : y25 = y9
            · have h := mif_t c20 h
              have w21 := kp_acts_284 N (f_acts_38 N n) ih σ21 x1 x3 x5 x6 x7 y10 _ _ h
              exact ((w15).t w18).t w21
            · have h := mif_f c20 h
              obtain ⟨c22, h⟩ := mif_n h
              obtain ⟨y28, ey28⟩ : ∃ z, z = σ21.2.1 56 (y5 + 3).toNatClampNeg := ⟨_, rfl⟩
              have h := mlet_at ey28 h
              have w23 := kp_acts_284 N (f_acts_38 N n) ih σ21 x1 x3 x5 x6 x7 y28 _ _ h
              exact ((w15).t w18).t w23
        · have h := mif_f c13 h
          have w24 := kp_acts_175 N (f_acts_38 N n) ih _ _ _ _ _ _ _ _ _ _ _ _ _ h
          exact w24
set_option maxRecDepth 100000 in
theorem kp_acts (N : Nat) (σ : MS) (x1 : Int32) (x2 : Int32) (x3 : Int32) (x4 : Int32) (r : Int32) (σ_ : MS) (h : f_acts N σ x1 x2 x3 x4 = some (r, σ_)) : vKf σ σ_ := by
  unfold f_acts at h
  obtain ⟨r3, σ1, c1, h⟩ := mcall_n h
  have w2 := kp_all N σ x4 _ _ c1
  obtain ⟨r6, σ4, c3, h⟩ := mcall_n h
  have w4 := kp_base N σ1 _ _ c3
  obtain ⟨r9, σ7, c5, h⟩ := mcall_n h
  have w6 := kp_sees N σ4 r6 x2 r3 _ _ c5
  obtain ⟨σ10, eσ10⟩ : ∃ z, z = mSet σ7 66 0 := ⟨_, rfl⟩
  have h := mlet_at eσ10 h
  have w7 : vKf σ7 σ10 := by rw [eσ10]; exact vKf_set (by decide)
  obtain ⟨σ11, eσ11⟩ : ∃ z, z = mSet σ10 67 0 := ⟨_, rfl⟩
  have h := mlet_at eσ11 h
  have w8 : vKf σ10 σ11 := by rw [eσ11]; exact vKf_set (by decide)
  have w9 := kp_acts_38 N _ _ _ _ _ _ _ _ _ _ h
  exact (((((w2).t w4).t w6).t w7).t w8).t w9
set_option maxRecDepth 100000 in
theorem kp_failing_41 (N : Nat) (σ : MS) (r : Int32) (σ_ : MS) (h : f_failing_41 N σ = some (r, σ_)) : vKf σ σ_ := by
  unfold f_failing_41 at h
  obtain ⟨r3, σ1, c1, h⟩ := mcall_n h
  have w2 := kp_no N σ 1 _ _ c1
  cases h
  exact w2
set_option maxRecDepth 100000 in
theorem kp_failing_172 (N : Nat) (k93 : MS → Int32 → Int32 → Int32 → Int32 → Int32 → Int32 → Option (Int32 × MS)) (hk93 : ∀ (z0 : MS) (z1 : Int32) (z2 : Int32) (z3 : Int32) (z4 : Int32) (z5 : Int32) (z6 : Int32) (r : Int32) (s : MS), k93 z0 z1 z2 z3 z4 z5 z6 = some (r, s) → vKf z0 s) (σ : MS) (x1 : Int32) (x2 : Int32) (x3 : Int32) (x4 : Int32) (x5 : Int32) (x6 : Int32) (r : Int32) (σ_ : MS) (h : f_failing_172 N k93 σ x1 x2 x3 x4 x5 x6 = some (r, σ_)) : vKf σ σ_ := by
  unfold f_failing_172 at h
  obtain ⟨y1, ey1⟩ : ∃ z, z = x6 + 1 := ⟨_, rfl⟩
  have h := mlet_at ey1 h
  have w1 := hk93 _ _ _ _ _ _ _ _ _ h
  exact w1
set_option maxRecDepth 100000 in
theorem kp_failing_169 (N : Nat) (k93 : MS → Int32 → Int32 → Int32 → Int32 → Int32 → Int32 → Option (Int32 × MS)) (hk93 : ∀ (z0 : MS) (z1 : Int32) (z2 : Int32) (z3 : Int32) (z4 : Int32) (z5 : Int32) (z6 : Int32) (r : Int32) (s : MS), k93 z0 z1 z2 z3 z4 z5 z6 = some (r, s) → vKf z0 s) (σ : MS) (x1 : Int32) (x2 : Int32) (x3 : Int32) (x4 : Int32) (x5 : Int32) (x6 : Int32) (r : Int32) (σ_ : MS) (h : f_failing_169 N k93 σ x1 x2 x3 x4 x5 x6 = some (r, σ_)) : vKf σ σ_ := by
  unfold f_failing_169 at h
  obtain ⟨y1, ey1⟩ : ∃ z, z = x5 + 1 := ⟨_, rfl⟩
  have h := mlet_at ey1 h
  have w1 := kp_failing_172 N k93 hk93 σ x1 x2 x3 x4 y1 x6 _ _ h
  exact w1
set_option maxRecDepth 100000 in
theorem kp_failing_134 (N : Nat) (k93 : MS → Int32 → Int32 → Int32 → Int32 → Int32 → Int32 → Option (Int32 × MS)) (hk93 : ∀ (z0 : MS) (z1 : Int32) (z2 : Int32) (z3 : Int32) (z4 : Int32) (z5 : Int32) (z6 : Int32) (r : Int32) (s : MS), k93 z0 z1 z2 z3 z4 z5 z6 = some (r, s) → vKf z0 s) (σ : MS) (x1 : Int32) (x2 : Int32) (x3 : Int32) (x4 : Int32) (x5 : Int32) (x6 : Int32) (s0 : Int32) (r : Int32) (σ_ : MS) (h : f_failing_134 N k93 σ x1 x2 x3 x4 x5 x6 s0 = some (r, σ_)) : vKf σ σ_ := by
  unfold f_failing_134 at h
  by_cases c1 : s0 = 0
  · have h := mif_t c1 h
    have w2 := kp_failing_172 N k93 hk93 σ x1 x2 x3 x4 x5 x6 _ _ h
    exact w2
  · have h := mif_f c1 h
    by_cases c3 : x5 = 0
    · have h := mif_t c3 h
      obtain ⟨σ3, eσ3⟩ : ∃ z, z = mSet σ 63 x6 := ⟨_, rfl⟩
      have h := mlet_at eσ3 h
      have w4 : vKf σ σ3 := by rw [eσ3]; exact vKf_set (by decide)
      obtain ⟨σ4, eσ4⟩ : ∃ z, z = mSet σ3 64 s0 := ⟨_, rfl⟩
      have h := mlet_at eσ4 h
      have w5 : vKf σ3 σ4 := by rw [eσ4]; exact vKf_set (by decide)
      obtain ⟨σ5, eσ5⟩ : ∃ z, z = mSet σ4 65 (σ4.1 66) := ⟨_, rfl⟩
      have h := mlet_at eσ5 h
      have w6 : vKf σ4 σ5 := by rw [eσ5]; exact vKf_set (by decide)
      have w7 := kp_failing_169 N k93 hk93 σ5 x1 x2 x3 x4 x5 x6 _ _ h
      exact (((w4).t w5).t w6).t w7
    · have h := mif_f c3 h
      have w8 := kp_failing_169 N k93 hk93 σ x1 x2 x3 x4 x5 x6 _ _ h
      exact w8
set_option maxRecDepth 100000 in
theorem kp_failing_132 (N : Nat) (k93 : MS → Int32 → Int32 → Int32 → Int32 → Int32 → Int32 → Option (Int32 × MS)) (hk93 : ∀ (z0 : MS) (z1 : Int32) (z2 : Int32) (z3 : Int32) (z4 : Int32) (z5 : Int32) (z6 : Int32) (r : Int32) (s : MS), k93 z0 z1 z2 z3 z4 z5 z6 = some (r, s) → vKf z0 s) (σ : MS) (x1 : Int32) (x2 : Int32) (x3 : Int32) (x4 : Int32) (x5 : Int32) (x6 : Int32) (x7 : Int32) (r : Int32) (σ_ : MS) (h : f_failing_132 N k93 σ x1 x2 x3 x4 x5 x6 x7 = some (r, σ_)) : vKf σ σ_ := by
  unfold f_failing_132 at h
  have w1 := kp_failing_134 N k93 hk93 σ x1 x2 x3 x4 x5 x6 x7 _ _ h
  exact w1
set_option maxRecDepth 100000 in
theorem kp_failing_93 (N : Nat) : ∀ (n : Nat) (σ : MS) (x1 : Int32) (x2 : Int32) (x3 : Int32) (x4 : Int32) (x5 : Int32) (x6 : Int32) (r : Int32) (σ_ : MS), f_failing_93 N n σ x1 x2 x3 x4 x5 x6 = some (r, σ_) → vKf σ σ_ := by
  intro n
  induction n with
  | zero =>
    intro σ x1 x2 x3 x4 x5 x6 r σ_ h
    cases h
  | succ n ih =>
    intro σ x1 x2 x3 x4 x5 x6 r σ_ h
    unfold f_failing_93 at h
    obtain ⟨r3, σ1, c1, h⟩ := mcall_n h
    have w2 := kp_truthMany N σ _ _ c1
    by_cases c3 : r3 ≤ x6
    · have h := mif_t c3 h
      cases h
      exact w2
    · have h := mif_f c3 h
      obtain ⟨r7, σ5, c4, h⟩ := mcall_n h
      have w5 := kp_acts N σ1 x1 x2 x3 x6 _ _ c4
      by_cases c6 : r7 = 0
      · have h := mif_t c6 h
        by_cases c7 : (σ5.1 67) ≤ x4
        · have h := mif_t c7 h
          have w8 := kp_failing_132 N (f_failing_93 N n) ih σ5 x1 x2 x3 x4 x5 x6 r7 _ _ h
          exact ((w2).t w5).t w8
        · have h := mif_f c7 h
          have w9 := kp_failing_134 N (f_failing_93 N n) ih σ5 x1 x2 x3 x4 x5 x6 7 _ _ h
          exact ((w2).t w5).t w9
      · have h := mif_f c6 h
        have w10 := kp_failing_132 N (f_failing_93 N n) ih σ5 x1 x2 x3 x4 x5 x6 r7 _ _ h
        exact ((w2).t w5).t w10
set_option maxRecDepth 100000 in
theorem kp_failing (N : Nat) (σ : MS) (x1 : Int32) (x2 : Int32) (x3 : Int32) (x4 : Int32) (r : Int32) (σ_ : MS) (h : f_failing N σ x1 x2 x3 x4 = some (r, σ_)) : vKf σ σ_ := by
  unfold f_failing at h
  obtain ⟨σ1, c1, h⟩ := mcallv_n h
  have w2 := kp_good N σ _ c1
  by_cases c3 : (σ1.1 34) = 0
  · have h := mif_t c3 h
    have w4 := kp_failing_41 N σ1 _ _ h
    exact (w2).t w4
  · have h := mif_f c3 h
    obtain ⟨r6, σ4, c5, h⟩ := mcall_n h
    have w6 := kp_within N σ1 x1 0 ((σ1.1 40) - 1) _ _ c5
    by_cases c7 : r6 = 0
    · have h := mif_t c7 h
      have w8 := kp_failing_41 N σ4 _ _ h
      exact ((w2).t w6).t w8
    · have h := mif_f c7 h
      obtain ⟨r10, σ8, c9, h⟩ := mcall_n h
      have w10 := kp_isCell N σ4 x2 _ _ c9
      by_cases c11 : r10 = 0
      · have h := mif_t c11 h
        have w12 := kp_failing_41 N σ8 _ _ h
        exact (((w2).t w6).t w10).t w12
      · have h := mif_f c11 h
        obtain ⟨r14, σ12, c13, h⟩ := mcall_n h
        have w14 := kp_isCell N σ8 x3 _ _ c13
        by_cases c15 : r14 = 0
        · have h := mif_t c15 h
          have w16 := kp_failing_41 N σ12 _ _ h
          exact ((((w2).t w6).t w10).t w14).t w16
        · have h := mif_f c15 h
          obtain ⟨r18, σ16, c17, h⟩ := mcall_n h
          have w18 := kp_within N σ12 x4 0 9999999 _ _ c17
          by_cases c19 : r18 = 0
          · have h := mif_t c19 h
            obtain ⟨r27, σ25, c20, h⟩ := mcall_n h
            have w21 := kp_no N σ16 2 _ _ c20
            cases h
            exact (((((w2).t w6).t w10).t w14).t w18).t w21
          · have h := mif_f c19 h
            obtain ⟨σ20, c22, h⟩ := mcallv_n h
            have w23 := kp_lists N σ16 _ c22
            obtain ⟨σ22, eσ22⟩ : ∃ z, z = mSet σ20 63 (-2) := ⟨_, rfl⟩
            have h := mlet_at eσ22 h
            have w24 : vKf σ20 σ22 := by rw [eσ22]; exact vKf_set (by decide)
            obtain ⟨σ23, eσ23⟩ : ∃ z, z = mSet σ22 64 (-2) := ⟨_, rfl⟩
            have h := mlet_at eσ23 h
            have w25 : vKf σ22 σ23 := by rw [eσ23]; exact vKf_set (by decide)
            obtain ⟨σ24, eσ24⟩ : ∃ z, z = mSet σ23 65 (-2) := ⟨_, rfl⟩
            have h := mlet_at eσ24 h
            have w26 : vKf σ23 σ24 := by rw [eσ24]; exact vKf_set (by decide)
            have w27 := kp_failing_93 N _ _ _ _ _ _ _ _ _ _ h
            exact (((((((((w2).t w6).t w10).t w14).t w18).t w23).t w24).t w25).t w26).t w27
set_option maxRecDepth 100000 in
theorem kp_first_41 (N : Nat) (σ : MS) (s0 : Int32) (r : Int32) (σ_ : MS) (h : f_first_41 N σ s0 = some (r, σ_)) : vKf σ σ_ := by
  unfold f_first_41 at h
  cases h
  exact vKf_r
set_option maxRecDepth 100000 in
theorem kp_first (N : Nat) (σ : MS) (x1 : Int32) (r : Int32) (σ_ : MS) (h : f_first N σ x1 = some (r, σ_)) : vKf σ σ_ := by
  unfold f_first at h
  obtain ⟨σ1, eσ1⟩ : ∃ z, z = mSet σ 0 0 := ⟨_, rfl⟩
  have h := mlet_at eσ1 h
  have w1 : vKf σ σ1 := by rw [eσ1]; exact vKf_set (by decide)
  by_cases c2 : x1 = 0
  · have h := mif_t c2 h
    have w3 := kp_first_41 N σ1 (σ1.1 63) _ _ h
    exact (w1).t w3
  · have h := mif_f c2 h
    by_cases c4 : x1 = 1
    · have h := mif_t c4 h
      have w5 := kp_first_41 N σ1 (σ1.1 64) _ _ h
      exact (w1).t w5
    · have h := mif_f c4 h
      by_cases c6 : x1 = 2
      · have h := mif_t c6 h
        have w7 := kp_first_41 N σ1 (σ1.1 65) _ _ h
        exact (w1).t w7
      · have h := mif_f c6 h
        have w8 := kp_first_41 N σ1 (-1) _ _ h
        exact (w1).t w8
set_option maxRecDepth 100000 in
theorem kp_costs_41 (N : Nat) (σ : MS) (r : Int32) (σ_ : MS) (h : f_costs_41 N σ = some (r, σ_)) : vKf σ σ_ := by
  unfold f_costs_41 at h
  obtain ⟨r3, σ1, c1, h⟩ := mcall_n h
  have w2 := kp_no N σ 1 _ _ c1
  cases h
  exact w2
set_option maxRecDepth 100000 in
theorem kp_costs_103 (N : Nat) (k57 : MS → Int32 → Int32 → Int32 → Int32 → Int32 → Option (Int32 × MS)) (hk57 : ∀ (z0 : MS) (z1 : Int32) (z2 : Int32) (z3 : Int32) (z4 : Int32) (z5 : Int32) (r : Int32) (s : MS), k57 z0 z1 z2 z3 z4 z5 = some (r, s) → vKf z0 s) (σ : MS) (x1 : Int32) (x2 : Int32) (x3 : Int32) (x5 : Int32) (s0 : Int32) (r : Int32) (σ_ : MS) (h : f_costs_103 N k57 σ x1 x2 x3 x5 s0 = some (r, σ_)) : vKf σ σ_ := by
  unfold f_costs_103 at h
  obtain ⟨y1, ey1⟩ : ∃ z, z = x5 + 1 := ⟨_, rfl⟩
  have h := mlet_at ey1 h
  have w1 := hk57 _ _ _ _ _ _ _ _ h
  exact w1
set_option maxRecDepth 100000 in
theorem kp_costs_57 (N : Nat) : ∀ (n : Nat) (σ : MS) (x1 : Int32) (x2 : Int32) (x3 : Int32) (x4 : Int32) (x5 : Int32) (r : Int32) (σ_ : MS), f_costs_57 N n σ x1 x2 x3 x4 x5 = some (r, σ_) → vKf σ σ_ := by
  intro n
  induction n with
  | zero =>
    intro σ x1 x2 x3 x4 x5 r σ_ h
    cases h
  | succ n ih =>
    intro σ x1 x2 x3 x4 x5 r σ_ h
    unfold f_costs_57 at h
    obtain ⟨r3, σ1, c1, h⟩ := mcall_n h
    have w2 := kp_truthMany N σ _ _ c1
    by_cases c3 : r3 ≤ x5
    · have h := mif_t c3 h
      cases h
      exact w2
    · have h := mif_f c3 h
      obtain ⟨r7, σ5, c4, h⟩ := mcall_n h
      have w5 := kp_acts N σ1 x1 x2 x3 x5 _ _ c4
      by_cases c6 : r7 ≤ 0
      · have h := mif_t c6 h
        by_cases c7 : (σ5.1 67) ≤ x4
        · have h := mif_t c7 h
          have w8 := kp_costs_103 N (f_costs_57 N n) ih σ5 x1 x2 x3 x5 x4 _ _ h
          exact ((w2).t w5).t w8
        · have h := mif_f c7 h
          have w9 := kp_costs_103 N (f_costs_57 N n) ih σ5 x1 x2 x3 x5 (σ5.1 67) _ _ h
          exact ((w2).t w5).t w9
      · have h := mif_f c6 h
        obtain ⟨r12, σ10, c10, h⟩ := mcall_n h
        have w11 := kp_no N σ5 6 _ _ c10
        cases h
        exact ((w2).t w5).t w11
set_option maxRecDepth 100000 in
theorem kp_costs (N : Nat) (σ : MS) (x1 : Int32) (x2 : Int32) (x3 : Int32) (r : Int32) (σ_ : MS) (h : f_costs N σ x1 x2 x3 = some (r, σ_)) : vKf σ σ_ := by
  unfold f_costs at h
  obtain ⟨σ1, c1, h⟩ := mcallv_n h
  have w2 := kp_good N σ _ c1
  by_cases c3 : (σ1.1 34) = 0
  · have h := mif_t c3 h
    have w4 := kp_costs_41 N σ1 _ _ h
    exact (w2).t w4
  · have h := mif_f c3 h
    obtain ⟨r6, σ4, c5, h⟩ := mcall_n h
    have w6 := kp_within N σ1 x1 0 ((σ1.1 40) - 1) _ _ c5
    by_cases c7 : r6 = 0
    · have h := mif_t c7 h
      have w8 := kp_costs_41 N σ4 _ _ h
      exact ((w2).t w6).t w8
    · have h := mif_f c7 h
      obtain ⟨r10, σ8, c9, h⟩ := mcall_n h
      have w10 := kp_isCell N σ4 x2 _ _ c9
      by_cases c11 : r10 = 0
      · have h := mif_t c11 h
        have w12 := kp_costs_41 N σ8 _ _ h
        exact (((w2).t w6).t w10).t w12
      · have h := mif_f c11 h
        obtain ⟨r14, σ12, c13, h⟩ := mcall_n h
        have w14 := kp_isCell N σ8 x3 _ _ c13
        by_cases c15 : r14 = 0
        · have h := mif_t c15 h
          have w16 := kp_costs_41 N σ12 _ _ h
          exact ((((w2).t w6).t w10).t w14).t w16
        · have h := mif_f c15 h
          obtain ⟨σ16, c17, h⟩ := mcallv_n h
          have w18 := kp_lists N σ12 _ c17
          have w19 := kp_costs_57 N _ _ _ _ _ _ _ _ _ h
          exact (((((w2).t w6).t w10).t w14).t w18).t w19
set_option maxRecDepth 100000 in
theorem kp_dig_25 (N : Nat) (σ : MS) (r : Int32) (σ_ : MS) (h : f_dig_25 N σ = some (r, σ_)) : vKf σ σ_ := by
  unfold f_dig_25 at h
  obtain ⟨r3, σ1, c1, h⟩ := mcall_n h
  have w2 := kp_not N σ 1 _ _ c1
  obtain ⟨c3, h⟩ := mif_n h
  cases h
  exact w2
set_option maxRecDepth 100000 in
theorem kp_dig (N : Nat) (σ : MS) (x1 : Int32) (x2 : Int32) (r : Int32) (σ_ : MS) (h : f_dig N σ x1 x2 = some (r, σ_)) : vKf σ σ_ := by
  unfold f_dig at h
  obtain ⟨σ1, c1, h⟩ := mcallv_n h
  have w2 := kp_good N σ _ c1
  by_cases c3 : (σ1.1 12) = 0
  · have h := mif_t c3 h
    have w4 := kp_dig_25 N σ1 _ _ h
    exact (w2).t w4
  · have h := mif_f c3 h
    obtain ⟨r6, σ4, c5, h⟩ := mcall_n h
    have w6 := kp_within N σ1 x1 0 ((σ1.1 24) - 1) _ _ c5
    by_cases c7 : r6 = 0
    · have h := mif_t c7 h
      have w8 := kp_dig_25 N σ4 _ _ h
      exact ((w2).t w6).t w8
    · have h := mif_f c7 h
      obtain ⟨r10, σ8, c9, h⟩ := mcall_n h
      have w10 := kp_within N σ4 x2 0 4 _ _ c9
      by_cases c11 : r10 = 0
      · have h := mif_t c11 h
        obtain ⟨r16, σ14, c12, h⟩ := mcall_n h
        have w13 := kp_not N σ8 2 _ _ c12
        obtain ⟨c14, h⟩ := mif_n h
        cases h
        exact (((w2).t w6).t w10).t w13
      · have h := mif_f c11 h
        obtain ⟨c15, h⟩ := mif_n h
        obtain ⟨σ13, eσ13⟩ : ∃ z, z = mArr σ8 47 x1.toNatClampNeg x2 := ⟨_, rfl⟩
        have h := mlet_at eσ13 h
        have w16 : vKf σ8 σ13 := by rw [eσ13]; exact vKf_arr (by decide)
        cases h
        exact (((w2).t w6).t w10).t w16
set_option maxRecDepth 100000 in
theorem kp_behind_74 (N : Nat) (k12 : MS → Int32 → Int32 → Int32 → Int32 → Int32 → Int32 → Option (Int32 × MS)) (hk12 : ∀ (z0 : MS) (z1 : Int32) (z2 : Int32) (z3 : Int32) (z4 : Int32) (z5 : Int32) (z6 : Int32) (r : Int32) (s : MS), k12 z0 z1 z2 z3 z4 z5 z6 = some (r, s) → vKf z0 s) (σ : MS) (x2 : Int32) (x3 : Int32) (x4 : Int32) (x5 : Int32) (x7 : Int32) (s0 : Int32) (s1 : Int32) (s2 : Int32) (r : Int32) (σ_ : MS) (h : f_behind_74 N k12 σ x2 x3 x4 x5 x7 s0 s1 s2 = some (r, σ_)) : vKf σ σ_ := by
  unfold f_behind_74 at h
  obtain ⟨y1, ey1⟩ : ∃ z, z = s2 + (s1 * s0) := ⟨_, rfl⟩
  have h := mlet_at ey1 h
  obtain ⟨y2, ey2⟩ : ∃ z, z = x4 / 5 := ⟨_, rfl⟩
  have h := mlet_at ey2 h
  obtain ⟨y3, ey3⟩ : ∃ z, z = x5 * 5 := ⟨_, rfl⟩
  have h := mlet_at ey3 h
  obtain ⟨y4, ey4⟩ : ∃ z, z = x7 + 1 := ⟨_, rfl⟩
  have h := mlet_at ey4 h
  have w1 := hk12 _ _ _ _ _ _ _ _ _ h
  exact w1
set_option maxRecDepth 100000 in
theorem kp_behind_46 (N : Nat) (k12 : MS → Int32 → Int32 → Int32 → Int32 → Int32 → Int32 → Option (Int32 × MS)) (hk12 : ∀ (z0 : MS) (z1 : Int32) (z2 : Int32) (z3 : Int32) (z4 : Int32) (z5 : Int32) (z6 : Int32) (r : Int32) (s : MS), k12 z0 z1 z2 z3 z4 z5 z6 = some (r, s) → vKf z0 s) (σ : MS) (x2 : Int32) (x3 : Int32) (x4 : Int32) (x5 : Int32) (x6 : Int32) (x7 : Int32) (s0 : Int32) (s1 : Int32) (r : Int32) (σ_ : MS) (h : f_behind_46 N k12 σ x2 x3 x4 x5 x6 x7 s0 s1 = some (r, σ_)) : vKf σ σ_ := by
  unfold f_behind_46 at h
  obtain ⟨y1, ey1⟩ : ∃ z, z = s1 + s0 := ⟨_, rfl⟩
  have h := mlet_at ey1 h
  by_cases c1 : 0 ≤ y1
  · have h := mif_t c1 h
    by_cases c2 : y1 ≤ 4
    · have h := mif_t c2 h
      have w3 := kp_behind_74 N k12 hk12 σ x2 x3 x4 x5 x7 y1 x5 x6 _ _ h
      exact w3
    · have h := mif_f c2 h
      have w4 := kp_behind_74 N k12 hk12 σ x2 x3 x4 x5 x7 4 x5 x6 _ _ h
      exact w4
  · have h := mif_f c1 h
    have w5 := kp_behind_74 N k12 hk12 σ x2 x3 x4 x5 x7 0 x5 x6 _ _ h
    exact w5
set_option maxRecDepth 100000 in
theorem kp_behind_12 (N : Nat) : ∀ (n : Nat) (σ : MS) (x2 : Int32) (x3 : Int32) (x4 : Int32) (x5 : Int32) (x6 : Int32) (x7 : Int32) (r : Int32) (σ_ : MS), f_behind_12 N n σ x2 x3 x4 x5 x6 x7 = some (r, σ_) → vKf σ σ_ := by
  intro n
  induction n with
  | zero =>
    intro σ x2 x3 x4 x5 x6 x7 r σ_ h
    cases h
  | succ n ih =>
    intro σ x2 x3 x4 x5 x6 x7 r σ_ h
    unfold f_behind_12 at h
    by_cases c1 : (σ.1 24) ≤ x7
    · have h := mif_t c1 h
      cases h
      exact vKf_r
    · have h := mif_f c1 h
      by_cases c2 : x7 = x3
      · have h := mif_t c2 h
        obtain ⟨c3, h⟩ := mif_n h
        obtain ⟨y6, ey6⟩ : ∃ z, z = σ.2.1 31 x2.toNatClampNeg := ⟨_, rfl⟩
        have h := mlet_at ey6 h
        have w4 := kp_behind_46 N (f_behind_12 N n) ih σ x2 x3 x4 x5 x6 x7 y6 (x4 - x4 / 5 * 5) _ _ h
        exact w4
      · have h := mif_f c2 h
        obtain ⟨c5, h⟩ := mif_n h
        obtain ⟨y4, ey4⟩ : ∃ z, z = σ.2.1 30 x2.toNatClampNeg := ⟨_, rfl⟩
        have h := mlet_at ey4 h
        have w6 := kp_behind_46 N (f_behind_12 N n) ih σ x2 x3 x4 x5 x6 x7 y4 (x4 - x4 / 5 * 5) _ _ h
        exact w6
set_option maxRecDepth 100000 in
theorem kp_behind (N : Nat) (σ : MS) (x1 : Int32) (x2 : Int32) (x3 : Int32) (r : Int32) (σ_ : MS) (h : f_behind N σ x1 x2 x3 = some (r, σ_)) : vKf σ σ_ := by
  unfold f_behind at h
  have w1 := kp_behind_12 N _ _ _ _ _ _ _ _ _ _ h
  exact w1
set_option maxRecDepth 100000 in
theorem kp_digs_180 (N : Nat) (k67 : MS → Int32 → Int32 → Option (MS)) (hk67 : ∀ (z0 : MS) (z1 : Int32) (z2 : Int32) (s : MS), k67 z0 z1 z2 = some s → vKf z0 s) (k75 : MS → Int32 → Int32 → Int32 → Option (MS)) (hk75 : ∀ (z0 : MS) (z1 : Int32) (z2 : Int32) (z3 : Int32) (s : MS), k75 z0 z1 z2 z3 = some s → vKf z0 s) (k83 : MS → Int32 → Int32 → Int32 → Int32 → Option (MS)) (hk83 : ∀ (z0 : MS) (z1 : Int32) (z2 : Int32) (z3 : Int32) (z4 : Int32) (s : MS), k83 z0 z1 z2 z3 z4 = some s → vKf z0 s) (k95 : MS → Int32 → Int32 → Int32 → Int32 → Int32 → Option (MS)) (hk95 : ∀ (z0 : MS) (z1 : Int32) (z2 : Int32) (z3 : Int32) (z4 : Int32) (z5 : Int32) (s : MS), k95 z0 z1 z2 z3 z4 z5 = some s → vKf z0 s) (σ : MS) (x1 : Int32) (x2 : Int32) (x3 : Int32) (x4 : Int32) (x5 : Int32) (σ_ : MS) (h : f_digs_180 N k67 k75 k83 k95 σ x1 x2 x3 x4 x5 = some σ_) : vKf σ σ_ := by
  unfold f_digs_180 at h
  obtain ⟨y1, ey1⟩ : ∃ z, z = x5 + 1 := ⟨_, rfl⟩
  have h := mlet_at ey1 h
  have w1 := hk95 _ _ _ _ _ _ _ h
  exact w1
set_option maxRecDepth 100000 in
theorem kp_digs_95 (N : Nat) (k67 : MS → Int32 → Int32 → Option (MS)) (hk67 : ∀ (z0 : MS) (z1 : Int32) (z2 : Int32) (s : MS), k67 z0 z1 z2 = some s → vKf z0 s) (k75 : MS → Int32 → Int32 → Int32 → Option (MS)) (hk75 : ∀ (z0 : MS) (z1 : Int32) (z2 : Int32) (z3 : Int32) (s : MS), k75 z0 z1 z2 z3 = some s → vKf z0 s) (k83 : MS → Int32 → Int32 → Int32 → Int32 → Option (MS)) (hk83 : ∀ (z0 : MS) (z1 : Int32) (z2 : Int32) (z3 : Int32) (z4 : Int32) (s : MS), k83 z0 z1 z2 z3 z4 = some s → vKf z0 s) : ∀ (n : Nat) (σ : MS) (x1 : Int32) (x2 : Int32) (x3 : Int32) (x4 : Int32) (x5 : Int32) (σ_ : MS), f_digs_95 N k67 k75 k83 n σ x1 x2 x3 x4 x5 = some σ_ → vKf σ σ_ := by
  intro n
  induction n with
  | zero =>
    intro σ x1 x2 x3 x4 x5 σ_ h
    cases h
  | succ n ih =>
    intro σ x1 x2 x3 x4 x5 σ_ h
    unfold f_digs_95 at h
    by_cases c1 : (σ.1 24) ≤ x5
    · have h := mif_t c1 h
      obtain ⟨y2, ey2⟩ : ∃ z, z = x4 + 1 := ⟨_, rfl⟩
      have h := mlet_at ey2 h
      have w2 := hk83 _ _ _ _ _ _ h
      exact w2
    · have h := mif_f c1 h
      obtain ⟨r5, σ3, c3, h⟩ := mcall_n h
      have w4 := kp_behind N σ x3 x4 x5 _ _ c3
      obtain ⟨c5, h⟩ := mif_n h
      obtain ⟨y7, ey7⟩ : ∃ z, z = σ3.2.1 68 r5.toNatClampNeg := ⟨_, rfl⟩
      have h := mlet_at ey7 h
      by_cases c6 : y7 = 2000000000
      · have h := mif_t c6 h
        have w7 := kp_digs_180 N k67 hk67 k75 hk75 k83 hk83 (f_digs_95 N k67 k75 k83 n) ih σ3 x1 x2 x3 x4 x5 _ h
        exact (w4).t w7
      · have h := mif_f c6 h
        obtain ⟨c8, h⟩ := mif_n h
        obtain ⟨y10, ey10⟩ : ∃ z, z = σ3.2.1 32 x4.toNatClampNeg := ⟨_, rfl⟩
        have h := mlet_at ey10 h
        obtain ⟨c9, h⟩ := mif_n h
        obtain ⟨y12, ey12⟩ : ∃ z, z = σ3.2.1 68 x3.toNatClampNeg := ⟨_, rfl⟩
        have h := mlet_at ey12 h
        by_cases c10 : ((y7 + (10000 * y10)) + 1) < y12
        · have h := mif_t c10 h
          obtain ⟨c11, h⟩ := mif_n h
          obtain ⟨y15, ey15⟩ : ∃ z, z = σ3.2.1 32 x4.toNatClampNeg := ⟨_, rfl⟩
          have h := mlet_at ey15 h
          obtain ⟨c12, h⟩ := mif_n h
          obtain ⟨σ17, eσ17⟩ : ∃ z, z = mArr σ3 68 x3.toNatClampNeg ((y7 + (10000 * y15)) + 1) := ⟨_, rfl⟩
          have h := mlet_at eσ17 h
          have w13 : vKf σ3 σ17 := by rw [eσ17]; exact vKf_arr (by decide)
          have w14 := kp_digs_180 N k67 hk67 k75 hk75 k83 hk83 (f_digs_95 N k67 k75 k83 n) ih σ17 x1 1 x3 x4 x5 _ h
          exact ((w4).t w13).t w14
        · have h := mif_f c10 h
          have w15 := kp_digs_180 N k67 hk67 k75 hk75 k83 hk83 (f_digs_95 N k67 k75 k83 n) ih σ3 x1 x2 x3 x4 x5 _ h
          exact (w4).t w15
set_option maxRecDepth 100000 in
theorem kp_digs_83 (N : Nat) (k67 : MS → Int32 → Int32 → Option (MS)) (hk67 : ∀ (z0 : MS) (z1 : Int32) (z2 : Int32) (s : MS), k67 z0 z1 z2 = some s → vKf z0 s) (k75 : MS → Int32 → Int32 → Int32 → Option (MS)) (hk75 : ∀ (z0 : MS) (z1 : Int32) (z2 : Int32) (z3 : Int32) (s : MS), k75 z0 z1 z2 z3 = some s → vKf z0 s) : ∀ (n : Nat) (σ : MS) (x1 : Int32) (x2 : Int32) (x3 : Int32) (x4 : Int32) (σ_ : MS), f_digs_83 N k67 k75 n σ x1 x2 x3 x4 = some σ_ → vKf σ σ_ := by
  intro n
  induction n with
  | zero =>
    intro σ x1 x2 x3 x4 σ_ h
    cases h
  | succ n ih =>
    intro σ x1 x2 x3 x4 σ_ h
    unfold f_digs_83 at h
    by_cases c1 : (σ.1 23) ≤ x4
    · have h := mif_t c1 h
      obtain ⟨y2, ey2⟩ : ∃ z, z = x3 + 1 := ⟨_, rfl⟩
      have h := mlet_at ey2 h
      have w2 := hk75 _ _ _ _ _ h
      exact w2
    · have h := mif_f c1 h
      have w3 := kp_digs_95 N k67 hk67 k75 hk75 (f_digs_83 N k67 k75 n) ih _ _ _ _ _ _ _ _ h
      exact w3
set_option maxRecDepth 100000 in
theorem kp_digs_75 (N : Nat) (k67 : MS → Int32 → Int32 → Option (MS)) (hk67 : ∀ (z0 : MS) (z1 : Int32) (z2 : Int32) (s : MS), k67 z0 z1 z2 = some s → vKf z0 s) : ∀ (n : Nat) (σ : MS) (x1 : Int32) (x2 : Int32) (x3 : Int32) (σ_ : MS), f_digs_75 N k67 n σ x1 x2 x3 = some σ_ → vKf σ σ_ := by
  intro n
  induction n with
  | zero =>
    intro σ x1 x2 x3 σ_ h
    cases h
  | succ n ih =>
    intro σ x1 x2 x3 σ_ h
    unfold f_digs_75 at h
    by_cases c1 : x1 ≤ x3
    · have h := mif_t c1 h
      have w2 := hk67 _ _ _ _ h
      exact w2
    · have h := mif_f c1 h
      have w3 := kp_digs_83 N k67 hk67 (f_digs_75 N k67 n) ih _ _ _ _ _ _ _ h
      exact w3
set_option maxRecDepth 100000 in
theorem kp_digs_67 (N : Nat) : ∀ (n : Nat) (σ : MS) (x1 : Int32) (x2 : Int32) (σ_ : MS), f_digs_67 N n σ x1 x2 = some σ_ → vKf σ σ_ := by
  intro n
  induction n with
  | zero =>
    intro σ x1 x2 σ_ h
    cases h
  | succ n ih =>
    intro σ x1 x2 σ_ h
    unfold f_digs_67 at h
    by_cases c1 : x2 = 0
    · have h := mif_t c1 h
      cases h
      exact vKf_r
    · have h := mif_f c1 h
      have w2 := kp_digs_75 N (f_digs_67 N n) ih _ _ _ _ _ _ h
      exact w2
set_option maxRecDepth 100000 in
theorem kp_digs_58 (N : Nat) (k37 : MS → Int32 → Int32 → Option (MS)) (hk37 : ∀ (z0 : MS) (z1 : Int32) (z2 : Int32) (s : MS), k37 z0 z1 z2 = some s → vKf z0 s) (σ : MS) (x1 : Int32) (x2 : Int32) (s0 : Int32) (s1 : Int32) (σ_ : MS) (h : f_digs_58 N k37 σ x1 x2 s0 s1 = some σ_) : vKf σ σ_ := by
  unfold f_digs_58 at h
  obtain ⟨c1, h⟩ := mif_n h
  obtain ⟨σ2, eσ2⟩ : ∃ z, z = mArr σ 68 s1.toNatClampNeg s0 := ⟨_, rfl⟩
  have h := mlet_at eσ2 h
  have w2 : vKf σ σ2 := by rw [eσ2]; exact vKf_arr (by decide)
  obtain ⟨y3, ey3⟩ : ∃ z, z = x2 + 1 := ⟨_, rfl⟩
  have h := mlet_at ey3 h
  have w3 := hk37 _ _ _ _ h
  exact (w2).t w3
set_option maxRecDepth 100000 in
theorem kp_digs_37 (N : Nat) : ∀ (n : Nat) (σ : MS) (x1 : Int32) (x2 : Int32) (σ_ : MS), f_digs_37 N n σ x1 x2 = some σ_ → vKf σ σ_ := by
  intro n
  induction n with
  | zero =>
    intro σ x1 x2 σ_ h
    cases h
  | succ n ih =>
    intro σ x1 x2 σ_ h
    unfold f_digs_37 at h
    by_cases c1 : x1 ≤ x2
    · have h := mif_t c1 h
      have w2 := kp_digs_67 N _ _ _ _ _ h
      exact w2
    · have h := mif_f c1 h
      by_cases c3 : x2 = 0
      · have h := mif_t c3 h
        have w4 := kp_digs_58 N (f_digs_37 N n) ih σ x1 x2 0 x2 _ h
        exact w4
      · have h := mif_f c3 h
        have w5 := kp_digs_58 N (f_digs_37 N n) ih σ x1 x2 2000000000 x2 _ h
        exact w5
set_option maxRecDepth 100000 in
theorem kp_digs_17 (N : Nat) : ∀ (n : Nat) (σ : MS) (x1 : Int32) (x2 : Int32) (σ_ : MS), f_digs_17 N n σ x1 x2 = some σ_ → vKf σ σ_ := by
  intro n
  induction n with
  | zero =>
    intro σ x1 x2 σ_ h
    cases h
  | succ n ih =>
    intro σ x1 x2 σ_ h
    unfold f_digs_17 at h
    by_cases c1 : (σ.1 24) ≤ x2
    · have h := mif_t c1 h
      have w2 := kp_digs_37 N _ _ _ _ _ h
      exact w2
    · have h := mif_f c1 h
      obtain ⟨y2, ey2⟩ : ∃ z, z = x1 * 5 := ⟨_, rfl⟩
      have h := mlet_at ey2 h
      obtain ⟨y3, ey3⟩ : ∃ z, z = x2 + 1 := ⟨_, rfl⟩
      have h := mlet_at ey3 h
      have w3 := ih _ _ _ _ h
      exact w3
set_option maxRecDepth 100000 in
theorem kp_digs (N : Nat) (σ : MS) (σ_ : MS) (h : f_digs N σ = some σ_) : vKf σ σ_ := by
  unfold f_digs at h
  by_cases c1 : (σ.1 69) = 0
  · have h := mif_t c1 h
    obtain ⟨σ2, eσ2⟩ : ∃ z, z = mSet σ 69 1 := ⟨_, rfl⟩
    have h := mlet_at eσ2 h
    have w2 : vKf σ σ2 := by rw [eσ2]; exact vKf_set (by decide)
    have w3 := kp_digs_17 N _ _ _ _ _ h
    exact (w2).t w3
  · have h := mif_f c1 h
    cases h
    exact vKf_r
set_option maxRecDepth 100000 in
theorem kp_digState_9 (N : Nat) : ∀ (n : Nat) (σ : MS) (x1 : Int32) (x2 : Int32) (r : Int32) (σ_ : MS), f_digState_9 N n σ x1 x2 = some (r, σ_) → vKf σ σ_ := by
  intro n
  induction n with
  | zero =>
    intro σ x1 x2 r σ_ h
    cases h
  | succ n ih =>
    intro σ x1 x2 r σ_ h
    unfold f_digState_9 at h
    by_cases c1 : x2 < 0
    · have h := mif_t c1 h
      cases h
      exact vKf_r
    · have h := mif_f c1 h
      obtain ⟨c2, h⟩ := mif_n h
      obtain ⟨y3, ey3⟩ : ∃ z, z = σ.2.1 47 x2.toNatClampNeg := ⟨_, rfl⟩
      have h := mlet_at ey3 h
      obtain ⟨y4, ey4⟩ : ∃ z, z = (5 * x1) + y3 := ⟨_, rfl⟩
      have h := mlet_at ey4 h
      obtain ⟨y5, ey5⟩ : ∃ z, z = x2 + (-1) := ⟨_, rfl⟩
      have h := mlet_at ey5 h
      have w3 := ih _ _ _ _ _ h
      exact w3
set_option maxRecDepth 100000 in
theorem kp_digState (N : Nat) (σ : MS) (r : Int32) (σ_ : MS) (h : f_digState N σ = some (r, σ_)) : vKf σ σ_ := by
  unfold f_digState at h
  obtain ⟨y1, ey1⟩ : ∃ z, z = (σ.1 24) - 1 := ⟨_, rfl⟩
  have h := mlet_at ey1 h
  have w1 := kp_digState_9 N _ _ _ _ _ _ h
  exact w1
set_option maxRecDepth 100000 in
theorem kp_out_52 (N : Nat) (σ : MS) (s0 : Int32) (r : Int32) (σ_ : MS) (h : f_out_52 N σ s0 = some (r, σ_)) : vKf σ σ_ := by
  unfold f_out_52 at h
  cases h
  exact vKf_r
set_option maxRecDepth 100000 in
theorem kp_out (N : Nat) (σ : MS) (r : Int32) (σ_ : MS) (h : f_out N σ = some (r, σ_)) : vKf σ σ_ := by
  unfold f_out at h
  obtain ⟨σ1, c1, h⟩ := mcallv_n h
  have w2 := kp_good N σ _ c1
  by_cases c3 : (σ1.1 12) = 0
  · have h := mif_t c3 h
    obtain ⟨r17, σ15, c4, h⟩ := mcall_n h
    have w5 := kp_no N σ1 1 _ _ c4
    cases h
    exact (w2).t w5
  · have h := mif_f c3 h
    obtain ⟨σ4, c6, h⟩ := mcallv_n h
    have w7 := kp_digs N σ1 _ c6
    obtain ⟨r8, σ6, c8, h⟩ := mcall_n h
    have w9 := kp_digState N σ4 _ _ c8
    obtain ⟨c10, h⟩ := mif_n h
    obtain ⟨y10, ey10⟩ : ∃ z, z = σ6.2.1 68 r8.toNatClampNeg := ⟨_, rfl⟩
    have h := mlet_at ey10 h
    by_cases c11 : y10 = 2000000000
    · have h := mif_t c11 h
      obtain ⟨r14, σ12, c12, h⟩ := mcall_n h
      have w13 := kp_no N σ6 6 _ _ c12
      have w14 := kp_out_52 N σ12 r14 _ _ h
      exact ((((w2).t w7).t w9).t w13).t w14
    · have h := mif_f c11 h
      have w15 := kp_out_52 N σ6 (y10 / 10000) _ _ h
      exact (((w2).t w7).t w9).t w15
set_option maxRecDepth 100000 in
theorem kp_tryAt_15 (N : Nat) (σ : MS) (r : Int32) (σ_ : MS) (h : f_tryAt_15 N σ = some (r, σ_)) : vKf σ σ_ := by
  unfold f_tryAt_15 at h
  obtain ⟨r3, σ1, c1, h⟩ := mcall_n h
  have w2 := kp_no N σ 1 _ _ c1
  cases h
  exact w2
set_option maxRecDepth 100000 in
theorem kp_tryAt_159 (N : Nat) (k47 : MS → Int32 → Int32 → Int32 → Option (Int32 × MS)) (hk47 : ∀ (z0 : MS) (z1 : Int32) (z2 : Int32) (z3 : Int32) (r : Int32) (s : MS), k47 z0 z1 z2 z3 = some (r, s) → vKf z0 s) (σ : MS) (x1 : Int32) (x2 : Int32) (x3 : Int32) (x4 : Int32) (r : Int32) (σ_ : MS) (h : f_tryAt_159 N k47 σ x1 x2 x3 x4 = some (r, σ_)) : vKf σ σ_ := by
  unfold f_tryAt_159 at h
  by_cases c1 : x3 = x1
  · have h := mif_t c1 h
    cases h
    exact vKf_r
  · have h := mif_f c1 h
    obtain ⟨r4, σ2, c2, h⟩ := mcall_n h
    have w3 := kp_behind N σ x2 (x4 / 10) (x4 - x4 / 10 * 10) _ _ c2
    obtain ⟨y5, ey5⟩ : ∃ z, z = x3 + 1 := ⟨_, rfl⟩
    have h := mlet_at ey5 h
    have w4 := hk47 _ _ _ _ _ _ h
    exact (w3).t w4
set_option maxRecDepth 100000 in
theorem kp_tryAt_153 (N : Nat) (k47 : MS → Int32 → Int32 → Int32 → Option (Int32 × MS)) (hk47 : ∀ (z0 : MS) (z1 : Int32) (z2 : Int32) (z3 : Int32) (r : Int32) (s : MS), k47 z0 z1 z2 z3 = some (r, s) → vKf z0 s) (k57 : MS → Int32 → Int32 → Int32 → Int32 → Int32 → Option (Int32 × MS)) (hk57 : ∀ (z0 : MS) (z1 : Int32) (z2 : Int32) (z3 : Int32) (z4 : Int32) (z5 : Int32) (r : Int32) (s : MS), k57 z0 z1 z2 z3 z4 z5 = some (r, s) → vKf z0 s) (σ : MS) (x1 : Int32) (x2 : Int32) (x3 : Int32) (x4 : Int32) (x5 : Int32) (r : Int32) (σ_ : MS) (h : f_tryAt_153 N k47 k57 σ x1 x2 x3 x4 x5 = some (r, σ_)) : vKf σ σ_ := by
  unfold f_tryAt_153 at h
  obtain ⟨y1, ey1⟩ : ∃ z, z = x5 + 1 := ⟨_, rfl⟩
  have h := mlet_at ey1 h
  have w1 := hk57 _ _ _ _ _ _ _ _ h
  exact w1
set_option maxRecDepth 100000 in
theorem kp_tryAt_147 (N : Nat) (k47 : MS → Int32 → Int32 → Int32 → Option (Int32 × MS)) (hk47 : ∀ (z0 : MS) (z1 : Int32) (z2 : Int32) (z3 : Int32) (r : Int32) (s : MS), k47 z0 z1 z2 z3 = some (r, s) → vKf z0 s) (k57 : MS → Int32 → Int32 → Int32 → Int32 → Int32 → Option (Int32 × MS)) (hk57 : ∀ (z0 : MS) (z1 : Int32) (z2 : Int32) (z3 : Int32) (z4 : Int32) (z5 : Int32) (r : Int32) (s : MS), k57 z0 z1 z2 z3 z4 z5 = some (r, s) → vKf z0 s) (k74 : MS → Int32 → Int32 → Int32 → Int32 → Int32 → Int32 → Option (Int32 × MS)) (hk74 : ∀ (z0 : MS) (z1 : Int32) (z2 : Int32) (z3 : Int32) (z4 : Int32) (z5 : Int32) (z6 : Int32) (r : Int32) (s : MS), k74 z0 z1 z2 z3 z4 z5 z6 = some (r, s) → vKf z0 s) (σ : MS) (x1 : Int32) (x2 : Int32) (x3 : Int32) (x4 : Int32) (x5 : Int32) (x6 : Int32) (r : Int32) (σ_ : MS) (h : f_tryAt_147 N k47 k57 k74 σ x1 x2 x3 x4 x5 x6 = some (r, σ_)) : vKf σ σ_ := by
  unfold f_tryAt_147 at h
  obtain ⟨y1, ey1⟩ : ∃ z, z = x6 + 1 := ⟨_, rfl⟩
  have h := mlet_at ey1 h
  have w1 := hk74 _ _ _ _ _ _ _ _ _ h
  exact w1
set_option maxRecDepth 100000 in
theorem kp_tryAt_74 (N : Nat) (k47 : MS → Int32 → Int32 → Int32 → Option (Int32 × MS)) (hk47 : ∀ (z0 : MS) (z1 : Int32) (z2 : Int32) (z3 : Int32) (r : Int32) (s : MS), k47 z0 z1 z2 z3 = some (r, s) → vKf z0 s) (k57 : MS → Int32 → Int32 → Int32 → Int32 → Int32 → Option (Int32 × MS)) (hk57 : ∀ (z0 : MS) (z1 : Int32) (z2 : Int32) (z3 : Int32) (z4 : Int32) (z5 : Int32) (r : Int32) (s : MS), k57 z0 z1 z2 z3 z4 z5 = some (r, s) → vKf z0 s) : ∀ (n : Nat) (σ : MS) (x1 : Int32) (x2 : Int32) (x3 : Int32) (x4 : Int32) (x5 : Int32) (x6 : Int32) (r : Int32) (σ_ : MS), f_tryAt_74 N k47 k57 n σ x1 x2 x3 x4 x5 x6 = some (r, σ_) → vKf σ σ_ := by
  intro n
  induction n with
  | zero =>
    intro σ x1 x2 x3 x4 x5 x6 r σ_ h
    cases h
  | succ n ih =>
    intro σ x1 x2 x3 x4 x5 x6 r σ_ h
    unfold f_tryAt_74 at h
    by_cases c1 : (σ.1 24) ≤ x6
    · have h := mif_t c1 h
      have w2 := kp_tryAt_153 N k47 hk47 k57 hk57 σ x1 x2 x3 x4 x5 _ _ h
      exact w2
    · have h := mif_f c1 h
      by_cases c3 : 0 ≤ x4
      · have h := mif_t c3 h
        have w4 := kp_tryAt_153 N k47 hk47 k57 hk57 σ x1 x2 x3 x4 x5 _ _ h
        exact w4
      · have h := mif_f c3 h
        obtain ⟨r5, σ3, c5, h⟩ := mcall_n h
        have w6 := kp_behind N σ x2 x5 x6 _ _ c5
        obtain ⟨c7, h⟩ := mif_n h
        obtain ⟨y7, ey7⟩ : ∃ z, z = σ3.2.1 68 r5.toNatClampNeg := ⟨_, rfl⟩
        have h := mlet_at ey7 h
        by_cases c8 : 2000000000 ≤ y7
        · have h := mif_t c8 h
          have w9 := kp_tryAt_147 N k47 hk47 k57 hk57 (f_tryAt_74 N k47 k57 n) ih σ3 x1 x2 x3 x4 x5 x6 _ _ h
          exact (w6).t w9
        · have h := mif_f c8 h
          obtain ⟨c10, h⟩ := mif_n h
          obtain ⟨y10, ey10⟩ : ∃ z, z = σ3.2.1 32 x5.toNatClampNeg := ⟨_, rfl⟩
          have h := mlet_at ey10 h
          obtain ⟨c11, h⟩ := mif_n h
          obtain ⟨y12, ey12⟩ : ∃ z, z = σ3.2.1 68 x2.toNatClampNeg := ⟨_, rfl⟩
          have h := mlet_at ey12 h
          by_cases c12 : ((y7 + (10000 * y10)) + 1) = y12
          · have h := mif_t c12 h
            obtain ⟨y14, ey14⟩ : ∃ z, z = (10 * x5) + x6 := ⟨_, rfl⟩
            have h := mlet_at ey14 h
            have w13 := kp_tryAt_147 N k47 hk47 k57 hk57 (f_tryAt_74 N k47 k57 n) ih σ3 x1 x2 x3 y14 x5 x6 _ _ h
            exact (w6).t w13
          · have h := mif_f c12 h
            have w14 := kp_tryAt_147 N k47 hk47 k57 hk57 (f_tryAt_74 N k47 k57 n) ih σ3 x1 x2 x3 x4 x5 x6 _ _ h
            exact (w6).t w14
set_option maxRecDepth 100000 in
theorem kp_tryAt_57 (N : Nat) (k47 : MS → Int32 → Int32 → Int32 → Option (Int32 × MS)) (hk47 : ∀ (z0 : MS) (z1 : Int32) (z2 : Int32) (z3 : Int32) (r : Int32) (s : MS), k47 z0 z1 z2 z3 = some (r, s) → vKf z0 s) : ∀ (n : Nat) (σ : MS) (x1 : Int32) (x2 : Int32) (x3 : Int32) (x4 : Int32) (x5 : Int32) (r : Int32) (σ_ : MS), f_tryAt_57 N k47 n σ x1 x2 x3 x4 x5 = some (r, σ_) → vKf σ σ_ := by
  intro n
  induction n with
  | zero =>
    intro σ x1 x2 x3 x4 x5 r σ_ h
    cases h
  | succ n ih =>
    intro σ x1 x2 x3 x4 x5 r σ_ h
    unfold f_tryAt_57 at h
    by_cases c1 : (σ.1 23) ≤ x5
    · have h := mif_t c1 h
      have w2 := kp_tryAt_159 N k47 hk47 σ x1 x2 x3 x4 _ _ h
      exact w2
    · have h := mif_f c1 h
      by_cases c3 : 0 ≤ x4
      · have h := mif_t c3 h
        have w4 := kp_tryAt_159 N k47 hk47 σ x1 x2 x3 x4 _ _ h
        exact w4
      · have h := mif_f c3 h
        have w5 := kp_tryAt_74 N k47 hk47 (f_tryAt_57 N k47 n) ih _ _ _ _ _ _ _ _ _ _ h
        exact w5
set_option maxRecDepth 100000 in
theorem kp_tryAt_47 (N : Nat) : ∀ (n : Nat) (σ : MS) (x1 : Int32) (x2 : Int32) (x3 : Int32) (r : Int32) (σ_ : MS), f_tryAt_47 N n σ x1 x2 x3 = some (r, σ_) → vKf σ σ_ := by
  intro n
  induction n with
  | zero =>
    intro σ x1 x2 x3 r σ_ h
    cases h
  | succ n ih =>
    intro σ x1 x2 x3 r σ_ h
    unfold f_tryAt_47 at h
    by_cases c1 : x2 ≤ 0
    · have h := mif_t c1 h
      cases h
      exact vKf_r
    · have h := mif_f c1 h
      have w2 := kp_tryAt_57 N (f_tryAt_47 N n) ih _ _ _ _ _ _ _ _ _ h
      exact w2
set_option maxRecDepth 100000 in
theorem kp_tryAt (N : Nat) (σ : MS) (x1 : Int32) (r : Int32) (σ_ : MS) (h : f_tryAt N σ x1 = some (r, σ_)) : vKf σ σ_ := by
  unfold f_tryAt at h
  obtain ⟨σ1, c1, h⟩ := mcallv_n h
  have w2 := kp_good N σ _ c1
  by_cases c3 : (σ1.1 12) = 0
  · have h := mif_t c3 h
    have w4 := kp_tryAt_15 N σ1 _ _ h
    exact (w2).t w4
  · have h := mif_f c3 h
    by_cases c5 : 0 ≤ x1
    · have h := mif_t c5 h
      obtain ⟨σ5, c6, h⟩ := mcallv_n h
      have w7 := kp_digs N σ1 _ c6
      obtain ⟨r9, σ7, c8, h⟩ := mcall_n h
      have w9 := kp_digState N σ5 _ _ c8
      obtain ⟨c10, h⟩ := mif_n h
      obtain ⟨y11, ey11⟩ : ∃ z, z = σ7.2.1 68 r9.toNatClampNeg := ⟨_, rfl⟩
      have h := mlet_at ey11 h
      by_cases c11 : y11 = 2000000000
      · have h := mif_t c11 h
        cases h
        exact ((w2).t w7).t w9
      · have h := mif_f c11 h
        have w12 := kp_tryAt_47 N _ _ _ _ _ _ _ h
        exact (((w2).t w7).t w9).t w12
    · have h := mif_f c5 h
      have w13 := kp_tryAt_15 N σ1 _ _ h
      exact (w2).t w13
set_option maxRecDepth 100000 in
theorem kp_mostDug_46 (N : Nat) (σ : MS) (x1 : Int32) (r : Int32) (σ_ : MS) (h : f_mostDug_46 N σ x1 = some (r, σ_)) : vKf σ σ_ := by
  unfold f_mostDug_46 at h
  cases h
  exact vKf_r
set_option maxRecDepth 100000 in
theorem kp_mostDug_39 (N : Nat) (k4 : MS → Int32 → Int32 → Option (Int32 × MS)) (hk4 : ∀ (z0 : MS) (z1 : Int32) (z2 : Int32) (r : Int32) (s : MS), k4 z0 z1 z2 = some (r, s) → vKf z0 s) (σ : MS) (x2 : Int32) (s0 : Int32) (r : Int32) (σ_ : MS) (h : f_mostDug_39 N k4 σ x2 s0 = some (r, σ_)) : vKf σ σ_ := by
  unfold f_mostDug_39 at h
  obtain ⟨y1, ey1⟩ : ∃ z, z = x2 + 1 := ⟨_, rfl⟩
  have h := mlet_at ey1 h
  have w1 := hk4 _ _ _ _ _ h
  exact w1
set_option maxRecDepth 100000 in
theorem kp_mostDug_4 (N : Nat) : ∀ (n : Nat) (σ : MS) (x1 : Int32) (x2 : Int32) (r : Int32) (σ_ : MS), f_mostDug_4 N n σ x1 x2 = some (r, σ_) → vKf σ σ_ := by
  intro n
  induction n with
  | zero =>
    intro σ x1 x2 r σ_ h
    cases h
  | succ n ih =>
    intro σ x1 x2 r σ_ h
    unfold f_mostDug_4 at h
    by_cases c1 : (σ.1 24) ≤ x2
    · have h := mif_t c1 h
      have w2 := kp_mostDug_46 N σ x1 _ _ h
      exact w2
    · have h := mif_f c1 h
      by_cases c3 : (σ.1 12) = 0
      · have h := mif_t c3 h
        have w4 := kp_mostDug_46 N σ x1 _ _ h
        exact w4
      · have h := mif_f c3 h
        obtain ⟨c5, h⟩ := mif_n h
        obtain ⟨y4, ey4⟩ : ∃ z, z = σ.2.1 47 x2.toNatClampNeg := ⟨_, rfl⟩
        have h := mlet_at ey4 h
        by_cases c6 : y4 ≤ x1
        · have h := mif_t c6 h
          have w7 := kp_mostDug_39 N (f_mostDug_4 N n) ih σ x2 x1 _ _ h
          exact w7
        · have h := mif_f c6 h
          obtain ⟨c8, h⟩ := mif_n h
          obtain ⟨y7, ey7⟩ : ∃ z, z = σ.2.1 47 x2.toNatClampNeg := ⟨_, rfl⟩
          have h := mlet_at ey7 h
          have w9 := kp_mostDug_39 N (f_mostDug_4 N n) ih σ x2 y7 _ _ h
          exact w9
set_option maxRecDepth 100000 in
theorem kp_mostDug (N : Nat) (σ : MS) (r : Int32) (σ_ : MS) (h : f_mostDug N σ = some (r, σ_)) : vKf σ σ_ := by
  unfold f_mostDug at h
  have w1 := kp_mostDug_4 N _ _ _ _ _ _ h
  exact w1
set_option maxRecDepth 100000 in
theorem kp_make_39 (N : Nat) (σ : MS) (r : Int32) (σ_ : MS) (h : f_make_39 N σ = some (r, σ_)) : vKf σ σ_ := by
  unfold f_make_39 at h
  obtain ⟨r3, σ1, c1, h⟩ := mcall_n h
  have w2 := kp_no N σ 1 _ _ c1
  cases h
  exact w2
set_option maxRecDepth 100000 in
theorem kp_make_59 (N : Nat) : ∀ (n : Nat) (σ : MS) (x3 : Int32) (x4 : Int32) (r : Int32) (σ_ : MS), f_make_59 N n σ x3 x4 = some (r, σ_) → vKf σ σ_ := by
  intro n
  induction n with
  | zero =>
    intro σ x3 x4 r σ_ h
    cases h
  | succ n ih =>
    intro σ x3 x4 r σ_ h
    unfold f_make_59 at h
    by_cases c1 : (σ.1 24) ≤ x4
    · have h := mif_t c1 h
      obtain ⟨r4, σ2, c2, h⟩ := mcall_n h
      have w3 := kp_mostDug N σ _ _ c2
      cases h
      exact w3
    · have h := mif_f c1 h
      obtain ⟨c4, h⟩ := mif_n h
      obtain ⟨σ6, eσ6⟩ : ∃ z, z = mArr σ 47 x4.toNatClampNeg (x3 - x3 / 5 * 5) := ⟨_, rfl⟩
      have h := mlet_at eσ6 h
      have w5 : vKf σ σ6 := by rw [eσ6]; exact vKf_arr (by decide)
      obtain ⟨y7, ey7⟩ : ∃ z, z = x3 / 5 := ⟨_, rfl⟩
      have h := mlet_at ey7 h
      obtain ⟨y8, ey8⟩ : ∃ z, z = x4 + 1 := ⟨_, rfl⟩
      have h := mlet_at ey8 h
      have w6 := ih _ _ _ _ _ h
      exact (w5).t w6
set_option maxRecDepth 100000 in
theorem kp_make (N : Nat) (σ : MS) (x1 : Int32) (x2 : Int32) (r : Int32) (σ_ : MS) (h : f_make N σ x1 x2 = some (r, σ_)) : vKf σ σ_ := by
  unfold f_make at h
  obtain ⟨σ1, c1, h⟩ := mcallv_n h
  have w2 := kp_good N σ _ c1
  by_cases c3 : (σ1.1 12) = 0
  · have h := mif_t c3 h
    have w4 := kp_make_39 N σ1 _ _ h
    exact (w2).t w4
  · have h := mif_f c3 h
    obtain ⟨r6, σ4, c5, h⟩ := mcall_n h
    have w6 := kp_within N σ1 x1 0 ((σ1.1 23) - 1) _ _ c5
    by_cases c7 : r6 = 0
    · have h := mif_t c7 h
      have w8 := kp_make_39 N σ4 _ _ h
      exact ((w2).t w6).t w8
    · have h := mif_f c7 h
      obtain ⟨r10, σ8, c9, h⟩ := mcall_n h
      have w10 := kp_within N σ4 x2 0 ((σ4.1 24) - 1) _ _ c9
      by_cases c11 : r10 = 0
      · have h := mif_t c11 h
        have w12 := kp_make_39 N σ8 _ _ h
        exact (((w2).t w6).t w10).t w12
      · have h := mif_f c11 h
        obtain ⟨r14, σ12, c13, h⟩ := mcall_n h
        have w14 := kp_digState N σ8 _ _ c13
        obtain ⟨r17, σ15, c15, h⟩ := mcall_n h
        have w16 := kp_behind N σ12 r14 x1 x2 _ _ c15
        have w17 := kp_make_59 N _ _ _ _ _ _ h
        exact (((((w2).t w6).t w10).t w14).t w16).t w17
set_option maxRecDepth 100000 in
theorem kp_count_135 (N : Nat) (σ : MS) (s0 : Int32) (r : Int32) (σ_ : MS) (h : f_count_135 N σ s0 = some (r, σ_)) : vKf σ σ_ := by
  unfold f_count_135 at h
  cases h
  exact vKf_r
set_option maxRecDepth 100000 in
theorem kp_count_151 (N : Nat) (σ : MS) (s0 : Int32) (r : Int32) (σ_ : MS) (h : f_count_151 N σ s0 = some (r, σ_)) : vKf σ σ_ := by
  unfold f_count_151 at h
  cases h
  exact vKf_r
set_option maxRecDepth 100000 in
theorem kp_count_167 (N : Nat) (σ : MS) (s0 : Int32) (r : Int32) (σ_ : MS) (h : f_count_167 N σ s0 = some (r, σ_)) : vKf σ σ_ := by
  unfold f_count_167 at h
  cases h
  exact vKf_r
set_option maxRecDepth 100000 in
theorem kp_count_183 (N : Nat) (σ : MS) (s0 : Int32) (r : Int32) (σ_ : MS) (h : f_count_183 N σ s0 = some (r, σ_)) : vKf σ σ_ := by
  unfold f_count_183 at h
  cases h
  exact vKf_r
set_option maxRecDepth 100000 in
theorem kp_count_199 (N : Nat) (σ : MS) (s0 : Int32) (r : Int32) (σ_ : MS) (h : f_count_199 N σ s0 = some (r, σ_)) : vKf σ σ_ := by
  unfold f_count_199 at h
  cases h
  exact vKf_r
set_option maxRecDepth 100000 in
theorem kp_count_215 (N : Nat) (σ : MS) (s0 : Int32) (r : Int32) (σ_ : MS) (h : f_count_215 N σ s0 = some (r, σ_)) : vKf σ σ_ := by
  unfold f_count_215 at h
  cases h
  exact vKf_r
set_option maxRecDepth 100000 in
theorem kp_count_231 (N : Nat) (σ : MS) (s0 : Int32) (r : Int32) (σ_ : MS) (h : f_count_231 N σ s0 = some (r, σ_)) : vKf σ σ_ := by
  unfold f_count_231 at h
  cases h
  exact vKf_r
set_option maxRecDepth 100000 in
theorem kp_count_257 (N : Nat) (σ : MS) (s0 : Int32) (r : Int32) (σ_ : MS) (h : f_count_257 N σ s0 = some (r, σ_)) : vKf σ σ_ := by
  unfold f_count_257 at h
  cases h
  exact vKf_r
set_option maxRecDepth 100000 in
theorem kp_count_273 (N : Nat) (σ : MS) (s0 : Int32) (r : Int32) (σ_ : MS) (h : f_count_273 N σ s0 = some (r, σ_)) : vKf σ σ_ := by
  unfold f_count_273 at h
  cases h
  exact vKf_r
set_option maxRecDepth 100000 in
theorem kp_count_48 (N : Nat) (σ : MS) (x1 : Int32) (x2 : Int32) (r : Int32) (σ_ : MS) (h : f_count_48 N σ x1 x2 = some (r, σ_)) : vKf σ σ_ := by
  unfold f_count_48 at h
  by_cases c1 : x1 = 0
  · have h := mif_t c1 h
    by_cases c2 : (σ.1 12) = 0
    · have h := mif_t c2 h
      have w3 := kp_count_135 N σ 0 _ _ h
      exact w3
    · have h := mif_f c2 h
      have w4 := kp_count_135 N σ (σ.1 22) _ _ h
      exact w4
  · have h := mif_f c1 h
    by_cases c5 : x1 = 1
    · have h := mif_t c5 h
      by_cases c6 : (σ.1 12) = 0
      · have h := mif_t c6 h
        have w7 := kp_count_151 N σ 0 _ _ h
        exact w7
      · have h := mif_f c6 h
        have w8 := kp_count_151 N σ (σ.1 23) _ _ h
        exact w8
    · have h := mif_f c5 h
      by_cases c9 : x1 = 2
      · have h := mif_t c9 h
        by_cases c10 : (σ.1 12) = 0
        · have h := mif_t c10 h
          have w11 := kp_count_167 N σ 0 _ _ h
          exact w11
        · have h := mif_f c10 h
          have w12 := kp_count_167 N σ (σ.1 24) _ _ h
          exact w12
      · have h := mif_f c9 h
        by_cases c13 : x1 = 3
        · have h := mif_t c13 h
          by_cases c14 : (σ.1 12) = 0
          · have h := mif_t c14 h
            have w15 := kp_count_183 N σ 0 _ _ h
            exact w15
          · have h := mif_f c14 h
            have w16 := kp_count_183 N σ (σ.1 25) _ _ h
            exact w16
        · have h := mif_f c13 h
          by_cases c17 : x1 = 4
          · have h := mif_t c17 h
            by_cases c18 : (σ.1 12) = 0
            · have h := mif_t c18 h
              have w19 := kp_count_199 N σ 0 _ _ h
              exact w19
            · have h := mif_f c18 h
              have w20 := kp_count_199 N σ (σ.1 26) _ _ h
              exact w20
          · have h := mif_f c17 h
            by_cases c21 : x1 = 5
            · have h := mif_t c21 h
              by_cases c22 : (σ.1 12) = 0
              · have h := mif_t c22 h
                have w23 := kp_count_215 N σ 0 _ _ h
                exact w23
              · have h := mif_f c22 h
                have w24 := kp_count_215 N σ (σ.1 27) _ _ h
                exact w24
            · have h := mif_f c21 h
              by_cases c25 : x1 = 6
              · have h := mif_t c25 h
                by_cases c26 : (σ.1 12) = 0
                · have h := mif_t c26 h
                  have w27 := kp_count_231 N σ 0 _ _ h
                  exact w27
                · have h := mif_f c26 h
                  have w28 := kp_count_231 N σ (σ.1 28) _ _ h
                  exact w28
              · have h := mif_f c25 h
                by_cases c29 : x1 = 7
                · have h := mif_t c29 h
                  cases h
                  exact vKf_r
                · have h := mif_f c29 h
                  by_cases c30 : x1 = 8
                  · have h := mif_t c30 h
                    by_cases c31 : (σ.1 34) = 0
                    · have h := mif_t c31 h
                      have w32 := kp_count_257 N σ 0 _ _ h
                      exact w32
                    · have h := mif_f c31 h
                      have w33 := kp_count_257 N σ ((σ.1 35) * (σ.1 36)) _ _ h
                      exact w33
                  · have h := mif_f c30 h
                    by_cases c34 : x1 = 9
                    · have h := mif_t c34 h
                      by_cases c35 : (σ.1 34) = 0
                      · have h := mif_t c35 h
                        have w36 := kp_count_273 N σ 0 _ _ h
                        exact w36
                      · have h := mif_f c35 h
                        have w37 := kp_count_273 N σ (σ.1 37) _ _ h
                        exact w37
                    · have h := mif_f c34 h
                      by_cases c38 : x1 = 10
                      · have h := mif_t c38 h
                        cases h
                        exact vKf_r
                      · have h := mif_f c38 h
                        by_cases c39 : x1 = 11
                        · have h := mif_t c39 h
                          cases h
                          exact vKf_r
                        · have h := mif_f c39 h
                          by_cases c40 : x1 = 12
                          · have h := mif_t c40 h
                            obtain ⟨r25, σ23, c41, h⟩ := mcall_n h
                            have w42 := kp_mostDug N σ _ _ c41
                            cases h
                            exact w42
                          · have h := mif_f c40 h
                            by_cases c43 : x1 = 13
                            · have h := mif_t c43 h
                              cases h
                              exact vKf_r
                            · have h := mif_f c43 h
                              cases h
                              exact vKf_r
set_option maxRecDepth 100000 in
theorem kp_count_40 (N : Nat) (k9 : MS → Int32 → Int32 → Int32 → Option (Int32 × MS)) (hk9 : ∀ (z0 : MS) (z1 : Int32) (z2 : Int32) (z3 : Int32) (r : Int32) (s : MS), k9 z0 z1 z2 z3 = some (r, s) → vKf z0 s) (σ : MS) (x1 : Int32) (x3 : Int32) (s0 : Int32) (s1 : Int32) (r : Int32) (σ_ : MS) (h : f_count_40 N k9 σ x1 x3 s0 s1 = some (r, σ_)) : vKf σ σ_ := by
  unfold f_count_40 at h
  obtain ⟨y1, ey1⟩ : ∃ z, z = s1 + s0 := ⟨_, rfl⟩
  have h := mlet_at ey1 h
  obtain ⟨y2, ey2⟩ : ∃ z, z = x3 + 1 := ⟨_, rfl⟩
  have h := mlet_at ey2 h
  have w1 := hk9 _ _ _ _ _ _ h
  exact w1
set_option maxRecDepth 100000 in
theorem kp_count_9 (N : Nat) : ∀ (n : Nat) (σ : MS) (x1 : Int32) (x2 : Int32) (x3 : Int32) (r : Int32) (σ_ : MS), f_count_9 N n σ x1 x2 x3 = some (r, σ_) → vKf σ σ_ := by
  intro n
  induction n with
  | zero =>
    intro σ x1 x2 x3 r σ_ h
    cases h
  | succ n ih =>
    intro σ x1 x2 x3 r σ_ h
    unfold f_count_9 at h
    by_cases c1 : (σ.1 37) ≤ x3
    · have h := mif_t c1 h
      have w2 := kp_count_48 N σ x1 x2 _ _ h
      exact w2
    · have h := mif_f c1 h
      by_cases c3 : (σ.1 34) = 0
      · have h := mif_t c3 h
        have w4 := kp_count_48 N σ x1 x2 _ _ h
        exact w4
      · have h := mif_f c3 h
        obtain ⟨c5, h⟩ := mif_n h
        obtain ⟨y4, ey4⟩ : ∃ z, z = σ.2.1 45 x3.toNatClampNeg := ⟨_, rfl⟩
        have h := mlet_at ey4 h
        by_cases c6 : y4 = (-1)
        · have h := mif_t c6 h
          have w7 := kp_count_40 N (f_count_9 N n) ih σ x1 x3 1 x2 _ _ h
          exact w7
        · have h := mif_f c6 h
          have w8 := kp_count_40 N (f_count_9 N n) ih σ x1 x3 0 x2 _ _ h
          exact w8
set_option maxRecDepth 100000 in
theorem kp_count (N : Nat) (σ : MS) (x1 : Int32) (r : Int32) (σ_ : MS) (h : f_count N σ x1 = some (r, σ_)) : vKf σ σ_ := by
  unfold f_count at h
  obtain ⟨σ1, eσ1⟩ : ∃ z, z = mSet σ 0 0 := ⟨_, rfl⟩
  have h := mlet_at eσ1 h
  have w1 : vKf σ σ1 := by rw [eσ1]; exact vKf_set (by decide)
  have w2 := kp_count_9 N _ _ _ _ _ _ _ h
  exact (w1).t w2
set_option maxRecDepth 100000 in
theorem kp_trouble (N : Nat) (σ : MS) (r : Int32) (σ_ : MS) (h : f_trouble N σ = some (r, σ_)) : vKf σ σ_ := by
  unfold f_trouble at h
  obtain ⟨σ1, eσ1⟩ : ∃ z, z = mSet σ 0 0 := ⟨_, rfl⟩
  have h := mlet_at eσ1 h
  have w1 : vKf σ σ1 := by rw [eσ1]; exact vKf_set (by decide)
  cases h
  exact w1
set_option maxRecDepth 100000 in
theorem kp_word_26 (N : Nat) (σ : MS) (r : Int32) (σ_ : MS) (h : f_word_26 N σ = some (r, σ_)) : vKf σ σ_ := by
  unfold f_word_26 at h
  cases h
  exact vKf_r
set_option maxRecDepth 100000 in
theorem kp_word_63 (N : Nat) (tx : List Int32) (k32 : MS → Int32 → Int32 → Option (Int32 × MS)) (hk32 : ∀ (z0 : MS) (z1 : Int32) (z2 : Int32) (r : Int32) (s : MS), k32 z0 z1 z2 = some (r, s) → vKf z0 s) (σ : MS) (x3 : Int32) (s0 : Int32) (r : Int32) (σ_ : MS) (h : f_word_63 N tx k32 σ x3 s0 = some (r, σ_)) : vKf σ σ_ := by
  unfold f_word_63 at h
  obtain ⟨y1, ey1⟩ : ∃ z, z = x3 + 1 := ⟨_, rfl⟩
  have h := mlet_at ey1 h
  have w1 := hk32 _ _ _ _ _ h
  exact w1
set_option maxRecDepth 100000 in
theorem kp_word_62 (N : Nat) (tx : List Int32) (k32 : MS → Int32 → Int32 → Option (Int32 × MS)) (hk32 : ∀ (z0 : MS) (z1 : Int32) (z2 : Int32) (r : Int32) (s : MS), k32 z0 z1 z2 = some (r, s) → vKf z0 s) (σ : MS) (x3 : Int32) (r : Int32) (σ_ : MS) (h : f_word_62 N tx k32 σ x3 = some (r, σ_)) : vKf σ σ_ := by
  unfold f_word_62 at h
  have w1 := kp_word_63 N tx k32 hk32 σ x3 0 _ _ h
  exact w1
set_option maxRecDepth 100000 in
theorem kp_word_32 (N : Nat) (tx : List Int32) : ∀ (n : Nat) (σ : MS) (x2 : Int32) (x3 : Int32) (r : Int32) (σ_ : MS), f_word_32 N tx n σ x2 x3 = some (r, σ_) → vKf σ σ_ := by
  intro n
  induction n with
  | zero =>
    intro σ x2 x3 r σ_ h
    cases h
  | succ n ih =>
    intro σ x2 x3 r σ_ h
    unfold f_word_32 at h
    obtain ⟨y1, ey1⟩ : ∃ z, z = σ.1 8 := ⟨_, rfl⟩
    have h := mlet_at ey1 h
    by_cases c1 : y1 ≤ x3
    · have h := mif_t c1 h
      obtain ⟨c2, h⟩ := mif_n h
      cases h
      exact vKf_r
    · have h := mif_f c1 h
      by_cases c3 : x2 = 0
      · have h := mif_t c3 h
        have w4 := kp_word_62 N tx (f_word_32 N tx n) ih σ x3 _ _ h
        exact w4
      · have h := mif_f c3 h
        obtain ⟨c5, h⟩ := mif_n h
        obtain ⟨y7, ey7⟩ : ∃ z, z = σ.2.1 11 x3.toNatClampNeg := ⟨_, rfl⟩
        have h := mlet_at ey7 h
        obtain ⟨c6, h⟩ := mif_n h
        obtain ⟨r12, er12⟩ : ∃ z, z = tx.getD x3.toNatClampNeg 0 := ⟨_, rfl⟩
        have h := mlet_at er12 h
        by_cases c7 : y7 = r12
        · have h := mif_t c7 h
          have w8 := kp_word_63 N tx (f_word_32 N tx n) ih σ x3 1 _ _ h
          exact w8
        · have h := mif_f c7 h
          have w9 := kp_word_62 N tx (f_word_32 N tx n) ih σ x3 _ _ h
          exact w9
set_option maxRecDepth 100000 in
theorem kp_word (N : Nat) (tx : List Int32) (σ : MS) (r : Int32) (σ_ : MS) (h : f_word N tx σ = some (r, σ_)) : vKf σ σ_ := by
  unfold f_word at h
  obtain ⟨y1, ey1⟩ : ∃ z, z = σ.1 13 := ⟨_, rfl⟩
  have h := mlet_at ey1 h
  by_cases c1 : y1 = 0
  · have h := mif_t c1 h
    obtain ⟨y3, ey3⟩ : ∃ z, z = σ.1 6 := ⟨_, rfl⟩
    have h := mlet_at ey3 h
    by_cases c2 : y3 = 2
    · have h := mif_t c2 h
      obtain ⟨y5, ey5⟩ : ∃ z, z = σ.1 8 := ⟨_, rfl⟩
      have h := mlet_at ey5 h
      obtain ⟨r10, er10⟩ : ∃ z, z = Int32.ofNat tx.length := ⟨_, rfl⟩
      have h := mlet_at er10 h
      by_cases c3 : y5 = r10
      · have h := mif_t c3 h
        have w4 := kp_word_32 N tx _ _ _ _ _ _ h
        exact w4
      · have h := mif_f c3 h
        have w5 := kp_word_26 N σ _ _ h
        exact w5
    · have h := mif_f c2 h
      have w6 := kp_word_26 N σ _ _ h
      exact w6
  · have h := mif_f c1 h
    have w7 := kp_word_26 N σ _ _ h
    exact w7
set_option maxRecDepth 100000 in
theorem kp_isName_113 (N : Nat) (σ : MS) (s0 : Int32) (r : Int32) (σ_ : MS) (h : f_isName_113 N σ s0 = some (r, σ_)) : vKf σ σ_ := by
  unfold f_isName_113 at h
  obtain ⟨c1, h⟩ := mif_n h
  cases h
  exact vKf_r
set_option maxRecDepth 100000 in
theorem kp_isName_112 (N : Nat) (σ : MS) (r : Int32) (σ_ : MS) (h : f_isName_112 N σ = some (r, σ_)) : vKf σ σ_ := by
  unfold f_isName_112 at h
  have w1 := kp_isName_113 N σ 0 _ _ h
  exact w1
set_option maxRecDepth 100000 in
theorem kp_isName_95 (N : Nat) (σ : MS) (s0 : Int32) (r : Int32) (σ_ : MS) (h : f_isName_95 N σ s0 = some (r, σ_)) : vKf σ σ_ := by
  unfold f_isName_95 at h
  obtain ⟨y1, ey1⟩ : ∃ z, z = σ.1 6 := ⟨_, rfl⟩
  have h := mlet_at ey1 h
  by_cases c1 : y1 = 2
  · have h := mif_t c1 h
    by_cases c2 : s0 = 0
    · have h := mif_t c2 h
      have w3 := kp_isName_113 N σ 1 _ _ h
      exact w3
    · have h := mif_f c2 h
      have w4 := kp_isName_112 N σ _ _ h
      exact w4
  · have h := mif_f c1 h
    have w5 := kp_isName_112 N σ _ _ h
    exact w5
set_option maxRecDepth 100000 in
theorem kp_isName_90 (N : Nat) (σ : MS) (r : Int32) (σ_ : MS) (h : f_isName_90 N σ = some (r, σ_)) : vKf σ σ_ := by
  unfold f_isName_90 at h
  have w1 := kp_isName_95 N σ 1 _ _ h
  exact w1
set_option maxRecDepth 100000 in
theorem kp_isName (N : Nat) (σ : MS) (r : Int32) (σ_ : MS) (h : f_isName N σ = some (r, σ_)) : vKf σ σ_ := by
  unfold f_isName at h
  obtain ⟨r4, σ2, c1, h⟩ := mcall_n h
  have w2 := kp_word N (pTx 32) σ _ _ c1
  by_cases c3 : r4 = 0
  · have h := mif_t c3 h
    obtain ⟨r9, σ7, c4, h⟩ := mcall_n h
    have w5 := kp_word N (pTx 33) σ2 _ _ c4
    by_cases c6 : r9 = 0
    · have h := mif_t c6 h
      obtain ⟨r14, σ12, c7, h⟩ := mcall_n h
      have w8 := kp_word N (pTx 34) σ7 _ _ c7
      by_cases c9 : r14 = 0
      · have h := mif_t c9 h
        obtain ⟨r19, σ17, c10, h⟩ := mcall_n h
        have w11 := kp_word N (pTx 35) σ12 _ _ c10
        by_cases c12 : r19 = 0
        · have h := mif_t c12 h
          obtain ⟨r24, σ22, c13, h⟩ := mcall_n h
          have w14 := kp_word N (pTx 36) σ17 _ _ c13
          by_cases c15 : r24 = 0
          · have h := mif_t c15 h
            obtain ⟨r29, σ27, c16, h⟩ := mcall_n h
            have w17 := kp_word N (pTx 37) σ22 _ _ c16
            by_cases c18 : r29 = 0
            · have h := mif_t c18 h
              obtain ⟨r34, σ32, c19, h⟩ := mcall_n h
              have w20 := kp_word N (pTx 38) σ27 _ _ c19
              by_cases c21 : r34 = 0
              · have h := mif_t c21 h
                obtain ⟨r39, σ37, c22, h⟩ := mcall_n h
                have w23 := kp_word N (pTx 39) σ32 _ _ c22
                by_cases c24 : r39 = 0
                · have h := mif_t c24 h
                  obtain ⟨r44, σ42, c25, h⟩ := mcall_n h
                  have w26 := kp_word N (pTx 40) σ37 _ _ c25
                  by_cases c27 : r44 = 0
                  · have h := mif_t c27 h
                    obtain ⟨r49, σ47, c28, h⟩ := mcall_n h
                    have w29 := kp_word N (pTx 41) σ42 _ _ c28
                    by_cases c30 : r49 = 0
                    · have h := mif_t c30 h
                      have w31 := kp_isName_95 N σ47 0 _ _ h
                      exact ((((((((((w2).t w5).t w8).t w11).t w14).t w17).t w20).t w23).t w26).t w29).t w31
                    · have h := mif_f c30 h
                      have w32 := kp_isName_90 N σ47 _ _ h
                      exact ((((((((((w2).t w5).t w8).t w11).t w14).t w17).t w20).t w23).t w26).t w29).t w32
                  · have h := mif_f c27 h
                    have w33 := kp_isName_90 N σ42 _ _ h
                    exact (((((((((w2).t w5).t w8).t w11).t w14).t w17).t w20).t w23).t w26).t w33
                · have h := mif_f c24 h
                  have w34 := kp_isName_90 N σ37 _ _ h
                  exact ((((((((w2).t w5).t w8).t w11).t w14).t w17).t w20).t w23).t w34
              · have h := mif_f c21 h
                have w35 := kp_isName_90 N σ32 _ _ h
                exact (((((((w2).t w5).t w8).t w11).t w14).t w17).t w20).t w35
            · have h := mif_f c18 h
              have w36 := kp_isName_90 N σ27 _ _ h
              exact ((((((w2).t w5).t w8).t w11).t w14).t w17).t w36
          · have h := mif_f c15 h
            have w37 := kp_isName_90 N σ22 _ _ h
            exact (((((w2).t w5).t w8).t w11).t w14).t w37
        · have h := mif_f c12 h
          have w38 := kp_isName_90 N σ17 _ _ h
          exact ((((w2).t w5).t w8).t w11).t w38
      · have h := mif_f c9 h
        have w39 := kp_isName_90 N σ12 _ _ h
        exact (((w2).t w5).t w8).t w39
    · have h := mif_f c6 h
      have w40 := kp_isName_90 N σ7 _ _ h
      exact ((w2).t w5).t w40
  · have h := mif_f c3 h
    have w41 := kp_isName_90 N σ2 _ _ h
    exact (w2).t w41
set_option maxRecDepth 100000 in
theorem kp_must (N : Nat) (tx : List Int32) (σ : MS) (r : Int32) (σ_ : MS) (h : f_must N tx σ = some (r, σ_)) : vKf σ σ_ := by
  unfold f_must at h
  obtain ⟨y1, ey1⟩ : ∃ z, z = σ.1 13 := ⟨_, rfl⟩
  have h := mlet_at ey1 h
  by_cases c1 : y1 = 0
  · have h := mif_t c1 h
    obtain ⟨r6, σ4, c2, h⟩ := mcall_n h
    have w3 := kp_word N tx σ _ _ c2
    by_cases c4 : r6 = 0
    · have h := mif_t c4 h
      obtain ⟨y11, ey11⟩ : ∃ z, z = σ4.1 4 := ⟨_, rfl⟩
      have h := mlet_at ey11 h
      obtain ⟨r15, σ13, c5, h⟩ := mcall_n h
      have w6 := kp_wrong N σ4 1 y11 _ _ c5
      obtain ⟨c7, h⟩ := mif_n h
      cases h
      exact (w3).t w6
    · have h := mif_f c4 h
      obtain ⟨σ9, c8, h⟩ := mcallv_n h
      have w9 := kp_next N σ4 _ c8
      cases h
      exact (w3).t w9
  · have h := mif_f c1 h
    cases h
    exact vKf_r
set_option maxRecDepth 100000 in
theorem kp_groundLine_203 (N : Nat) (σ : MS) (σ_ : MS) (h : f_groundLine_203 N σ = some σ_) : vKf σ σ_ := by
  unfold f_groundLine_203 at h
  cases h
  exact vKf_r
set_option maxRecDepth 100000 in
theorem kp_tryLine_223 (N : Nat) (σ : MS) (σ_ : MS) (h : f_tryLine_223 N σ = some σ_) : vKf σ σ_ := by
  unfold f_tryLine_223 at h
  cases h
  exact vKf_r
set_option maxRecDepth 100000 in
theorem kp_tryLine_83 (N : Nat) : ∀ (n : Nat) (σ : MS) (x1 : Int32) (σ_ : MS), f_tryLine_83 N n σ x1 = some σ_ → vKf σ σ_ := by
  intro n
  induction n with
  | zero =>
    intro σ x1 σ_ h
    cases h
  | succ n ih =>
    intro σ x1 σ_ h
    unfold f_tryLine_83 at h
    obtain ⟨y1, ey1⟩ : ∃ z, z = σ.1 8 := ⟨_, rfl⟩
    have h := mlet_at ey1 h
    by_cases c1 : y1 ≤ x1
    · have h := mif_t c1 h
      obtain ⟨y4, ey4⟩ : ∃ z, z = σ.1 23 := ⟨_, rfl⟩
      have h := mlet_at ey4 h
      obtain ⟨y5, ey5⟩ : ∃ z, z = σ.1 8 := ⟨_, rfl⟩
      have h := mlet_at ey5 h
      obtain ⟨c2, h⟩ := mif_n h
      obtain ⟨σ7, eσ7⟩ : ∃ z, z = mArr σ 17 y4.toNatClampNeg y5 := ⟨_, rfl⟩
      have h := mlet_at eσ7 h
      have w3 : vKf σ σ7 := by rw [eσ7]; exact vKf_arr (by decide)
      obtain ⟨σ9, c4, h⟩ := mcallv_n h
      have w5 := kp_next N σ7 _ c4
      obtain ⟨r14, σ12, c6, h⟩ := mcall_n h
      have w7 := kp_must N (pTx 49) σ9 _ _ c6
      obtain ⟨y16, ey16⟩ : ∃ z, z = σ12.1 23 := ⟨_, rfl⟩
      have h := mlet_at ey16 h
      obtain ⟨r20, σ18, c8, h⟩ := mcall_n h
      have w9 := kp_signed N σ12 (-4) 4 _ _ c8
      obtain ⟨c10, h⟩ := mif_n h
      obtain ⟨σ22, eσ22⟩ : ∃ z, z = mArr σ18 30 y16.toNatClampNeg r20 := ⟨_, rfl⟩
      have h := mlet_at eσ22 h
      have w11 : vKf σ18 σ22 := by rw [eσ22]; exact vKf_arr (by decide)
      obtain ⟨r26, σ24, c12, h⟩ := mcall_n h
      have w13 := kp_must N (pTx 50) σ22 _ _ c12
      obtain ⟨y28, ey28⟩ : ∃ z, z = σ24.1 23 := ⟨_, rfl⟩
      have h := mlet_at ey28 h
      obtain ⟨r32, σ30, c14, h⟩ := mcall_n h
      have w15 := kp_signed N σ24 (-4) 4 _ _ c14
      obtain ⟨c16, h⟩ := mif_n h
      obtain ⟨σ34, eσ34⟩ : ∃ z, z = mArr σ30 31 y28.toNatClampNeg r32 := ⟨_, rfl⟩
      have h := mlet_at eσ34 h
      have w17 : vKf σ30 σ34 := by rw [eσ34]; exact vKf_arr (by decide)
      obtain ⟨r38, σ36, c18, h⟩ := mcall_n h
      have w19 := kp_must N (pTx 51) σ34 _ _ c18
      obtain ⟨y40, ey40⟩ : ∃ z, z = σ36.1 23 := ⟨_, rfl⟩
      have h := mlet_at ey40 h
      obtain ⟨r44, σ42, c20, h⟩ := mcall_n h
      have w21 := kp_number N σ36 1 99 _ _ c20
      obtain ⟨c22, h⟩ := mif_n h
      obtain ⟨σ46, eσ46⟩ : ∃ z, z = mArr σ42 32 y40.toNatClampNeg r44 := ⟨_, rfl⟩
      have h := mlet_at eσ46 h
      have w23 : vKf σ42 σ46 := by rw [eσ46]; exact vKf_arr (by decide)
      obtain ⟨y47, ey47⟩ : ∃ z, z = σ46.1 13 := ⟨_, rfl⟩
      have h := mlet_at ey47 h
      by_cases c24 : y47 = 0
      · have h := mif_t c24 h
        obtain ⟨y49, ey49⟩ : ∃ z, z = σ46.1 23 := ⟨_, rfl⟩
        have h := mlet_at ey49 h
        obtain ⟨σ50, eσ50⟩ : ∃ z, z = mSet σ46 23 ((y49 + 1)) := ⟨_, rfl⟩
        have h := mlet_at eσ50 h
        have w25 : vKf σ46 σ50 := by rw [eσ50]; exact vKf_set (by decide)
        have w26 := kp_tryLine_223 N σ50 _ h
        exact ((((((((((((w3).t w5).t w7).t w9).t w11).t w13).t w15).t w17).t w19).t w21).t w23).t w25).t w26
      · have h := mif_f c24 h
        have w27 := kp_tryLine_223 N σ46 _ h
        exact (((((((((((w3).t w5).t w7).t w9).t w11).t w13).t w15).t w17).t w19).t w21).t w23).t w27
    · have h := mif_f c1 h
      obtain ⟨y52, ey52⟩ : ∃ z, z = σ.1 23 := ⟨_, rfl⟩
      have h := mlet_at ey52 h
      obtain ⟨c28, h⟩ := mif_n h
      obtain ⟨y55, ey55⟩ : ∃ z, z = σ.2.1 11 x1.toNatClampNeg := ⟨_, rfl⟩
      have h := mlet_at ey55 h
      obtain ⟨c29, h⟩ := mif_n h
      obtain ⟨σ57, eσ57⟩ : ∃ z, z = mArr σ 16 ((8 * y52) + x1).toNatClampNeg y55 := ⟨_, rfl⟩
      have h := mlet_at eσ57 h
      have w30 : vKf σ σ57 := by rw [eσ57]; exact vKf_arr (by decide)
      obtain ⟨y58, ey58⟩ : ∃ z, z = x1 + 1 := ⟨_, rfl⟩
      have h := mlet_at ey58 h
      have w31 := ih _ _ _ h
      exact (w30).t w31
