/-! BY gen_fr.py: PLAIN: what the model's functions keep -/
set_option maxRecDepth 100000 in
theorem kp_tryLine_73 (N : Nat) (σ : MS) (σ_ : MS) (h : f_tryLine_73 N σ = some σ_) : vKf σ σ_ := by
  unfold f_tryLine_73 at h
  obtain ⟨y1, ey1⟩ : ∃ z, z = σ.1 13 := ⟨_, rfl⟩
  have h := mlet_at ey1 h
  by_cases c1 : y1 = 0
  · have h := mif_t c1 h
    have w2 := kp_tryLine_83 N _ _ _ _ h
    exact w2
  · have h := mif_f c1 h
    cases h
    exact vKf_r
set_option maxRecDepth 100000 in
theorem kp_tryLine_47 (N : Nat) (σ : MS) (σ_ : MS) (h : f_tryLine_47 N σ = some σ_) : vKf σ σ_ := by
  unfold f_tryLine_47 at h
  obtain ⟨y1, ey1⟩ : ∃ z, z = σ.1 13 := ⟨_, rfl⟩
  have h := mlet_at ey1 h
  by_cases c1 : y1 = 0
  · have h := mif_t c1 h
    obtain ⟨y3, ey3⟩ : ∃ z, z = σ.1 23 := ⟨_, rfl⟩
    have h := mlet_at ey3 h
    by_cases c2 : y3 = 6
    · have h := mif_t c2 h
      obtain ⟨y5, ey5⟩ : ∃ z, z = σ.1 4 := ⟨_, rfl⟩
      have h := mlet_at ey5 h
      obtain ⟨r9, σ7, c3, h⟩ := mcall_n h
      have w4 := kp_wrong N σ 5 y5 _ _ c3
      have w5 := kp_tryLine_73 N σ7 _ h
      exact (w4).t w5
    · have h := mif_f c2 h
      have w6 := kp_tryLine_73 N σ _ h
      exact w6
  · have h := mif_f c1 h
    have w7 := kp_tryLine_73 N σ _ h
    exact w7
set_option maxRecDepth 100000 in
theorem kp_tryLine (N : Nat) (σ : MS) (σ_ : MS) (h : f_tryLine N σ = some σ_) : vKf σ σ_ := by
  unfold f_tryLine at h
  obtain ⟨r4, σ2, c1, h⟩ := mcall_n h
  have w2 := kp_isName N σ _ _ c1
  by_cases c3 : r4 = 0
  · have h := mif_t c3 h
    obtain ⟨y19, ey19⟩ : ∃ z, z = σ2.1 4 := ⟨_, rfl⟩
    have h := mlet_at ey19 h
    obtain ⟨r23, σ21, c4, h⟩ := mcall_n h
    have w5 := kp_wrong N σ2 1 y19 _ _ c4
    cases h
    exact (w2).t w5
  · have h := mif_f c3 h
    obtain ⟨y8, ey8⟩ : ∃ z, z = σ2.1 23 := ⟨_, rfl⟩
    have h := mlet_at ey8 h
    obtain ⟨r12, σ10, c6, h⟩ := mcall_n h
    have w7 := kp_find N 16 17 σ2 y8 _ _ c6
    by_cases c8 : r12 < 0
    · have h := mif_t c8 h
      have w9 := kp_tryLine_47 N σ10 _ h
      exact ((w2).t w7).t w9
    · have h := mif_f c8 h
      obtain ⟨y14, ey14⟩ : ∃ z, z = σ10.1 4 := ⟨_, rfl⟩
      have h := mlet_at ey14 h
      obtain ⟨r18, σ16, c10, h⟩ := mcall_n h
      have w11 := kp_wrong N σ10 3 y14 _ _ c10
      have w12 := kp_tryLine_47 N σ16 _ h
      exact (((w2).t w7).t w11).t w12
set_option maxRecDepth 100000 in
theorem kp_line_187 (N : Nat) (σ : MS) (σ_ : MS) (h : f_line_187 N σ = some σ_) : vKf σ σ_ := by
  unfold f_line_187 at h
  cases h
  exact vKf_r
set_option maxRecDepth 100000 in
theorem kp_book_195 (N : Nat) : ∀ (n : Nat) (σ : MS) (x2 : Int32) (r : Int32) (σ_ : MS), f_book_195 N n σ x2 = some (r, σ_) → vKf σ σ_ := by
  intro n
  induction n with
  | zero =>
    intro σ x2 r σ_ h
    cases h
  | succ n ih =>
    intro σ x2 r σ_ h
    unfold f_book_195 at h
    by_cases c1 : 6 ≤ x2
    · have h := mif_t c1 h
      obtain ⟨y2, ey2⟩ : ∃ z, z = σ.1 22 := ⟨_, rfl⟩
      have h := mlet_at ey2 h
      cases h
      exact vKf_r
    · have h := mif_f c1 h
      obtain ⟨c2, h⟩ := mif_n h
      obtain ⟨σ5, eσ5⟩ : ∃ z, z = mArr σ 47 x2.toNatClampNeg 0 := ⟨_, rfl⟩
      have h := mlet_at eσ5 h
      have w3 : vKf σ σ5 := by rw [eσ5]; exact vKf_arr (by decide)
      obtain ⟨y6, ey6⟩ : ∃ z, z = x2 + 1 := ⟨_, rfl⟩
      have h := mlet_at ey6 h
      have w4 := ih _ _ _ _ h
      exact (w3).t w4
set_option maxRecDepth 100000 in
theorem kp_wayWord_53 (N : Nat) (σ : MS) (s0 : Int32) (r : Int32) (σ_ : MS) (h : f_wayWord_53 N σ s0 = some (r, σ_)) : vKf σ σ_ := by
  unfold f_wayWord_53 at h
  cases h
  exact vKf_r
set_option maxRecDepth 100000 in
theorem kp_wayWord (N : Nat) (σ : MS) (r : Int32) (σ_ : MS) (h : f_wayWord N σ = some (r, σ_)) : vKf σ σ_ := by
  unfold f_wayWord at h
  obtain ⟨r4, σ2, c1, h⟩ := mcall_n h
  have w2 := kp_word N (pTx 38) σ _ _ c1
  by_cases c3 : r4 = 0
  · have h := mif_t c3 h
    obtain ⟨r9, σ7, c4, h⟩ := mcall_n h
    have w5 := kp_word N (pTx 39) σ2 _ _ c4
    by_cases c6 : r9 = 0
    · have h := mif_t c6 h
      obtain ⟨r14, σ12, c7, h⟩ := mcall_n h
      have w8 := kp_word N (pTx 40) σ7 _ _ c7
      by_cases c9 : r14 = 0
      · have h := mif_t c9 h
        obtain ⟨r19, σ17, c10, h⟩ := mcall_n h
        have w11 := kp_word N (pTx 41) σ12 _ _ c10
        by_cases c12 : r19 = 0
        · have h := mif_t c12 h
          have w13 := kp_wayWord_53 N σ17 (-1) _ _ h
          exact ((((w2).t w5).t w8).t w11).t w13
        · have h := mif_f c12 h
          have w14 := kp_wayWord_53 N σ17 3 _ _ h
          exact ((((w2).t w5).t w8).t w11).t w14
      · have h := mif_f c9 h
        have w15 := kp_wayWord_53 N σ12 2 _ _ h
        exact (((w2).t w5).t w8).t w15
    · have h := mif_f c6 h
      have w16 := kp_wayWord_53 N σ7 1 _ _ h
      exact ((w2).t w5).t w16
  · have h := mif_f c3 h
    have w17 := kp_wayWord_53 N σ2 0 _ _ h
    exact (w2).t w17
set_option maxRecDepth 100000 in
theorem kp_opens_87 (N : Nat) (σ : MS) (x2 : Int32) (x4 : Int32) (r : Int32) (σ_ : MS) (h : f_opens_87 N σ x2 x4 = some (r, σ_)) : vKf σ σ_ := by
  unfold f_opens_87 at h
  obtain ⟨r4, σ2, c1, h⟩ := mcall_n h
  have w2 := kp_order N σ 0 x2 x4 0 _ _ c1
  cases h
  exact w2
set_option maxRecDepth 100000 in
theorem kp_opens_30 (N : Nat) (σ : MS) (x1 : Int32) (x2 : Int32) (x3 : Int32) (r : Int32) (σ_ : MS) (h : f_opens_30 N σ x1 x2 x3 = some (r, σ_)) : vKf σ σ_ := by
  unfold f_opens_30 at h
  obtain ⟨y1, ey1⟩ : ∃ z, z = σ.1 59 := ⟨_, rfl⟩
  have h := mlet_at ey1 h
  by_cases c1 : y1 = 40
  · have h := mif_t c1 h
    obtain ⟨y97, ey97⟩ : ∃ z, z = σ.1 4 := ⟨_, rfl⟩
    have h := mlet_at ey97 h
    obtain ⟨r101, σ99, c2, h⟩ := mcall_n h
    have w3 := kp_wrong N σ 5 y97 _ _ c2
    obtain ⟨c4, h⟩ := mif_n h
    cases h
    exact w3
  · have h := mif_f c1 h
    obtain ⟨y3, ey3⟩ : ∃ z, z = σ.1 59 := ⟨_, rfl⟩
    have h := mlet_at ey3 h
    obtain ⟨σ4, eσ4⟩ : ∃ z, z = mSet σ 59 ((y3 + 1)) := ⟨_, rfl⟩
    have h := mlet_at eσ4 h
    have w5 : vKf σ σ4 := by rw [eσ4]; exact vKf_set (by decide)
    obtain ⟨σ6, c6, h⟩ := mcallv_n h
    have w7 := kp_next N σ4 _ c6
    by_cases c8 : x3 = 0
    · have h := mif_t c8 h
      obtain ⟨y91, ey91⟩ : ∃ z, z = σ6.1 6 := ⟨_, rfl⟩
      have h := mlet_at ey91 h
      by_cases c9 : y91 = 3
      · have h := mif_t c9 h
        obtain ⟨r96, σ94, c10, h⟩ := mcall_n h
        have w11 := kp_number N σ6 1 9 _ _ c10
        have w12 := kp_opens_87 N σ94 x2 r96 _ _ h
        exact (((w5).t w7).t w11).t w12
      · have h := mif_f c9 h
        have w13 := kp_opens_87 N σ6 x2 1 _ _ h
        exact ((w5).t w7).t w13
    · have h := mif_f c8 h
      obtain ⟨y9, ey9⟩ : ∃ z, z = σ6.1 6 := ⟨_, rfl⟩
      have h := mlet_at ey9 h
      by_cases c14 : y9 = 3
      · have h := mif_t c14 h
        obtain ⟨y11, ey11⟩ : ∃ z, z = σ6.1 7 := ⟨_, rfl⟩
        have h := mlet_at ey11 h
        obtain ⟨y12, ey12⟩ : ∃ z, z = σ6.1 37 := ⟨_, rfl⟩
        have h := mlet_at ey12 h
        by_cases c15 : y11 < y12
        · have h := mif_t c15 h
          obtain ⟨σ15, c16, h⟩ := mcallv_n h
          have w17 := kp_next N σ6 _ c16
          obtain ⟨r20, σ18, c18, h⟩ := mcall_n h
          have w19 := kp_must N (pTx 36) σ15 _ _ c18
          obtain ⟨y21, ey21⟩ : ∃ z, z = σ18.1 13 := ⟨_, rfl⟩
          have h := mlet_at ey21 h
          by_cases c20 : y21 = 0
          · have h := mif_t c20 h
            obtain ⟨r26, σ24, c21, h⟩ := mcall_n h
            have w22 := kp_isName N σ18 _ _ c21
            by_cases c23 : r26 = 0
            · have h := mif_t c23 h
              obtain ⟨y73, ey73⟩ : ∃ z, z = σ24.1 4 := ⟨_, rfl⟩
              have h := mlet_at ey73 h
              obtain ⟨r77, σ75, c24, h⟩ := mcall_n h
              have w25 := kp_wrong N σ24 1 y73 _ _ c24
              obtain ⟨c26, h⟩ := mif_n h
              cases h
              exact (((((w5).t w7).t w17).t w19).t w22).t w25
            · have h := mif_f c23 h
              obtain ⟨y30, ey30⟩ : ∃ z, z = σ24.1 22 := ⟨_, rfl⟩
              have h := mlet_at ey30 h
              obtain ⟨r34, σ32, c27, h⟩ := mcall_n h
              have w28 := kp_find N 14 15 σ24 y30 _ _ c27
              by_cases c29 : 0 ≤ r34
              · have h := mif_t c29 h
                obtain ⟨σ37, c30, h⟩ := mcallv_n h
                have w31 := kp_next N σ32 _ c30
                obtain ⟨y39, ey39⟩ : ∃ z, z = σ37.1 6 := ⟨_, rfl⟩
                have h := mlet_at ey39 h
                by_cases c32 : y39 = 40
                · have h := mif_t c32 h
                  by_cases c33 : x1 = 6
                  · have h := mif_t c33 h
                    obtain ⟨y55, ey55⟩ : ∃ z, z = σ37.1 4 := ⟨_, rfl⟩
                    have h := mlet_at ey55 h
                    obtain ⟨r59, σ57, c34, h⟩ := mcall_n h
                    have w35 := kp_wrong N σ37 5 y55 _ _ c34
                    obtain ⟨c36, h⟩ := mif_n h
                    cases h
                    exact (((((((w5).t w7).t w17).t w19).t w22).t w28).t w31).t w35
                  · have h := mif_f c33 h
                    obtain ⟨σ43, c37, h⟩ := mcallv_n h
                    have w38 := kp_next N σ37 _ c37
                    obtain ⟨r49, σ47, c39, h⟩ := mcall_n h
                    have w40 := kp_order N σ43 1 y11 r34 0 _ _ c39
                    obtain ⟨c41, h⟩ := mif_n h
                    obtain ⟨σ51, eσ51⟩ : ∃ z, z = mArr σ47 60 x1.toNatClampNeg r49 := ⟨_, rfl⟩
                    have h := mlet_at eσ51 h
                    have w42 : vKf σ47 σ51 := by rw [eσ51]; exact vKf_arr (by decide)
                    obtain ⟨c43, h⟩ := mif_n h
                    obtain ⟨σ54, eσ54⟩ : ∃ z, z = mArr σ51 62 x1.toNatClampNeg (vp_nar .boolean 0) := ⟨_, rfl⟩
                    have h := mlet_at eσ54 h
                    have w44 : vKf σ51 σ54 := by rw [eσ54]; exact vKf_arr (by decide)
                    cases h
                    exact ((((((((((w5).t w7).t w17).t w19).t w22).t w28).t w31).t w38).t w40).t w42).t w44
                · have h := mif_f c32 h
                  obtain ⟨y61, ey61⟩ : ∃ z, z = σ37.1 4 := ⟨_, rfl⟩
                  have h := mlet_at ey61 h
                  obtain ⟨r65, σ63, c45, h⟩ := mcall_n h
                  have w46 := kp_wrong N σ37 1 y61 _ _ c45
                  obtain ⟨c47, h⟩ := mif_n h
                  cases h
                  exact (((((((w5).t w7).t w17).t w19).t w22).t w28).t w31).t w46
              · have h := mif_f c29 h
                obtain ⟨y67, ey67⟩ : ∃ z, z = σ32.1 4 := ⟨_, rfl⟩
                have h := mlet_at ey67 h
                obtain ⟨r71, σ69, c48, h⟩ := mcall_n h
                have w49 := kp_wrong N σ32 2 y67 _ _ c48
                obtain ⟨c50, h⟩ := mif_n h
                cases h
                exact ((((((w5).t w7).t w17).t w19).t w22).t w28).t w49
          · have h := mif_f c20 h
            cases h
            exact (((w5).t w7).t w17).t w19
        · have h := mif_f c15 h
          obtain ⟨y79, ey79⟩ : ∃ z, z = σ6.1 4 := ⟨_, rfl⟩
          have h := mlet_at ey79 h
          obtain ⟨r83, σ81, c51, h⟩ := mcall_n h
          have w52 := kp_wrong N σ6 2 y79 _ _ c51
          obtain ⟨c53, h⟩ := mif_n h
          cases h
          exact ((w5).t w7).t w52
      · have h := mif_f c14 h
        obtain ⟨y85, ey85⟩ : ∃ z, z = σ6.1 4 := ⟨_, rfl⟩
        have h := mlet_at ey85 h
        obtain ⟨r89, σ87, c54, h⟩ := mcall_n h
        have w55 := kp_wrong N σ6 1 y85 _ _ c54
        obtain ⟨c56, h⟩ := mif_n h
        cases h
        exact ((w5).t w7).t w55
set_option maxRecDepth 100000 in
theorem kp_opens (N : Nat) (σ : MS) (x1 : Int32) (r : Int32) (σ_ : MS) (h : f_opens N σ x1 = some (r, σ_)) : vKf σ σ_ := by
  unfold f_opens at h
  obtain ⟨r4, σ2, c1, h⟩ := mcall_n h
  have w2 := kp_wayWord N σ _ _ c1
  obtain ⟨r8, σ6, c3, h⟩ := mcall_n h
  have w4 := kp_word N (pTx 35) σ2 _ _ c3
  by_cases c5 : 0 ≤ r4
  · have h := mif_t c5 h
    have w6 := kp_opens_30 N σ6 x1 r4 r8 _ _ h
    exact ((w2).t w4).t w6
  · have h := mif_f c5 h
    by_cases c7 : r8 = 0
    · have h := mif_t c7 h
      obtain ⟨y11, ey11⟩ : ∃ z, z = σ6.1 4 := ⟨_, rfl⟩
      have h := mlet_at ey11 h
      obtain ⟨r15, σ13, c8, h⟩ := mcall_n h
      have w9 := kp_wrong N σ6 1 y11 _ _ c8
      obtain ⟨c10, h⟩ := mif_n h
      cases h
      exact ((w2).t w4).t w9
    · have h := mif_f c7 h
      have w11 := kp_opens_30 N σ6 x1 r4 r8 _ _ h
      exact ((w2).t w4).t w11
set_option maxRecDepth 100000 in
theorem kp_reads_244 (N : Nat) (σ : MS) (σ_ : MS) (h : f_reads_244 N σ = some σ_) : vKf σ σ_ := by
  unfold f_reads_244 at h
  cases h
  exact vKf_r
set_option maxRecDepth 100000 in
theorem kp_reads_234 (N : Nat) (σ : MS) (σ_ : MS) (h : f_reads_234 N σ = some σ_) : vKf σ σ_ := by
  unfold f_reads_234 at h
  obtain ⟨y1, ey1⟩ : ∃ z, z = σ.1 4 := ⟨_, rfl⟩
  have h := mlet_at ey1 h
  obtain ⟨r5, σ3, c1, h⟩ := mcall_n h
  have w2 := kp_wrong N σ 1 y1 _ _ c1
  have w3 := kp_reads_244 N σ3 _ h
  exact (w2).t w3
set_option maxRecDepth 100000 in
theorem kp_reads_220 (N : Nat) (k4 : MS → Int32 → Int32 → Option (MS)) (hk4 : ∀ (z0 : MS) (z1 : Int32) (z2 : Int32) (s : MS), k4 z0 z1 z2 = some s → vKf z0 s) (σ : MS) (x1 : Int32) (x2 : Int32) (σ_ : MS) (h : f_reads_220 N k4 σ x1 x2 = some σ_) : vKf σ σ_ := by
  unfold f_reads_220 at h
  have w1 := hk4 _ _ _ _ h
  exact w1
set_option maxRecDepth 100000 in
theorem kp_reads_211 (N : Nat) (k4 : MS → Int32 → Int32 → Option (MS)) (hk4 : ∀ (z0 : MS) (z1 : Int32) (z2 : Int32) (s : MS), k4 z0 z1 z2 = some s → vKf z0 s) (σ : MS) (x1 : Int32) (s0 : Int32) (σ_ : MS) (h : f_reads_211 N k4 σ x1 s0 = some σ_) : vKf σ σ_ := by
  unfold f_reads_211 at h
  by_cases c1 : s0 = 0
  · have h := mif_t c1 h
    have w2 := kp_reads_220 N k4 hk4 σ x1 s0 _ h
    exact w2
  · have h := mif_f c1 h
    obtain ⟨σ3, c3, h⟩ := mcallv_n h
    have w4 := kp_next N σ _ c3
    have w5 := kp_reads_220 N k4 hk4 σ3 x1 s0 _ h
    exact (w4).t w5
set_option maxRecDepth 100000 in
theorem kp_reads_189 (N : Nat) (k4 : MS → Int32 → Int32 → Option (MS)) (hk4 : ∀ (z0 : MS) (z1 : Int32) (z2 : Int32) (s : MS), k4 z0 z1 z2 = some s → vKf z0 s) (σ : MS) (x1 : Int32) (x2 : Int32) (x4 : Int32) (σ_ : MS) (h : f_reads_189 N k4 σ x1 x2 x4 = some σ_) : vKf σ σ_ := by
  unfold f_reads_189 at h
  by_cases c1 : x4 = 0
  · have h := mif_t c1 h
    have w2 := hk4 _ _ _ _ h
    exact w2
  · have h := mif_f c1 h
    obtain ⟨y2, ey2⟩ : ∃ z, z = σ.1 6 := ⟨_, rfl⟩
    have h := mlet_at ey2 h
    by_cases c3 : y2 = 59
    · have h := mif_t c3 h
      have w4 := kp_reads_211 N k4 hk4 σ x1 1 _ h
      exact w4
    · have h := mif_f c3 h
      have w5 := kp_reads_211 N k4 hk4 σ x1 0 _ h
      exact w5
set_option maxRecDepth 100000 in
theorem kp_reads_186 (N : Nat) (k4 : MS → Int32 → Int32 → Option (MS)) (hk4 : ∀ (z0 : MS) (z1 : Int32) (z2 : Int32) (s : MS), k4 z0 z1 z2 = some s → vKf z0 s) (k35 : MS → Int32 → Int32 → Int32 → Option (MS)) (hk35 : ∀ (z0 : MS) (z1 : Int32) (z2 : Int32) (z3 : Int32) (s : MS), k35 z0 z1 z2 z3 = some s → vKf z0 s) (σ : MS) (x1 : Int32) (x2 : Int32) (x4 : Int32) (σ_ : MS) (h : f_reads_186 N k4 k35 σ x1 x2 x4 = some σ_) : vKf σ σ_ := by
  unfold f_reads_186 at h
  have w1 := hk35 _ _ _ _ _ h
  exact w1
set_option maxRecDepth 100000 in
theorem kp_reads_183 (N : Nat) (k4 : MS → Int32 → Int32 → Option (MS)) (hk4 : ∀ (z0 : MS) (z1 : Int32) (z2 : Int32) (s : MS), k4 z0 z1 z2 = some s → vKf z0 s) (k35 : MS → Int32 → Int32 → Int32 → Option (MS)) (hk35 : ∀ (z0 : MS) (z1 : Int32) (z2 : Int32) (z3 : Int32) (s : MS), k35 z0 z1 z2 z3 = some s → vKf z0 s) (σ : MS) (x1 : Int32) (x2 : Int32) (x4 : Int32) (s0 : Int32) (σ_ : MS) (h : f_reads_183 N k4 k35 σ x1 x2 x4 s0 = some σ_) : vKf σ σ_ := by
  unfold f_reads_183 at h
  obtain ⟨σ3, c1, h⟩ := mcallv_n h
  have w2 := kp_lands N σ s0 _ c1
  have w3 := kp_reads_186 N k4 hk4 k35 hk35 σ3 x1 x2 x4 _ h
  exact (w2).t w3
set_option maxRecDepth 100000 in
theorem kp_reads_83 (N : Nat) (k4 : MS → Int32 → Int32 → Option (MS)) (hk4 : ∀ (z0 : MS) (z1 : Int32) (z2 : Int32) (s : MS), k4 z0 z1 z2 = some s → vKf z0 s) (k35 : MS → Int32 → Int32 → Int32 → Option (MS)) (hk35 : ∀ (z0 : MS) (z1 : Int32) (z2 : Int32) (z3 : Int32) (s : MS), k35 z0 z1 z2 z3 = some s → vKf z0 s) (σ : MS) (x1 : Int32) (x2 : Int32) (x4 : Int32) (s0 : Int32) (σ_ : MS) (h : f_reads_83 N k4 k35 σ x1 x2 x4 s0 = some σ_) : vKf σ σ_ := by
  unfold f_reads_83 at h
  by_cases c1 : s0 = 0
  · have h := mif_t c1 h
    obtain ⟨c2, h⟩ := mif_n h
    obtain ⟨y4, ey4⟩ : ∃ z, z = σ.2.1 62 x1.toNatClampNeg := ⟨_, rfl⟩
    have h := mlet_at ey4 h
    by_cases c3 : y4 = 0
    · have h := mif_t c3 h
      obtain ⟨c4, h⟩ := mif_n h
      obtain ⟨y8, ey8⟩ : ∃ z, z = σ.2.1 60 x1.toNatClampNeg := ⟨_, rfl⟩
      have h := mlet_at ey8 h
      have w5 := kp_reads_183 N k4 hk4 k35 hk35 σ x1 x2 x4 y8 _ h
      exact w5
    · have h := mif_f c3 h
      obtain ⟨c6, h⟩ := mif_n h
      obtain ⟨y11, ey11⟩ : ∃ z, z = σ.2.1 61 x1.toNatClampNeg := ⟨_, rfl⟩
      have h := mlet_at ey11 h
      have w7 := kp_reads_183 N k4 hk4 k35 hk35 σ x1 x2 x4 y11 _ h
      exact w7
  · have h := mif_f c1 h
    obtain ⟨σ13, c8, h⟩ := mcallv_n h
    have w9 := kp_next N σ _ c8
    obtain ⟨y15, ey15⟩ : ∃ z, z = σ13.1 6 := ⟨_, rfl⟩
    have h := mlet_at ey15 h
    by_cases c10 : y15 = 40
    · have h := mif_t c10 h
      obtain ⟨σ18, c11, h⟩ := mcallv_n h
      have w12 := kp_next N σ13 _ c11
      obtain ⟨r24, σ22, c13, h⟩ := mcall_n h
      have w14 := kp_order N σ18 2 0 0 0 _ _ c13
      obtain ⟨c15, h⟩ := mif_n h
      obtain ⟨σ26, eσ26⟩ : ∃ z, z = mArr σ22 61 x1.toNatClampNeg r24 := ⟨_, rfl⟩
      have h := mlet_at eσ26 h
      have w16 : vKf σ22 σ26 := by rw [eσ26]; exact vKf_arr (by decide)
      obtain ⟨c17, h⟩ := mif_n h
      obtain ⟨y29, ey29⟩ : ∃ z, z = σ26.2.1 60 x1.toNatClampNeg := ⟨_, rfl⟩
      have h := mlet_at ey29 h
      obtain ⟨σ31, c18, h⟩ := mcallv_n h
      have w19 := kp_lands N σ26 y29 _ c18
      obtain ⟨c20, h⟩ := mif_n h
      obtain ⟨σ35, eσ35⟩ : ∃ z, z = mArr σ31 62 x1.toNatClampNeg (vp_nar .boolean 1) := ⟨_, rfl⟩
      have h := mlet_at eσ35 h
      have w21 : vKf σ31 σ35 := by rw [eσ35]; exact vKf_arr (by decide)
      obtain ⟨y36, ey36⟩ : ∃ z, z = x1 + 1 := ⟨_, rfl⟩
      have h := mlet_at ey36 h
      have w22 := kp_reads_186 N k4 hk4 k35 hk35 σ35 y36 x2 0 _ h
      exact ((((((w9).t w12).t w14).t w16).t w19).t w21).t w22
    · have h := mif_f c10 h
      obtain ⟨y37, ey37⟩ : ∃ z, z = σ13.1 4 := ⟨_, rfl⟩
      have h := mlet_at ey37 h
      obtain ⟨r41, σ39, c23, h⟩ := mcall_n h
      have w24 := kp_wrong N σ13 1 y37 _ _ c23
      cases h
      exact (w9).t w24
set_option maxRecDepth 100000 in
theorem kp_reads_82 (N : Nat) (k4 : MS → Int32 → Int32 → Option (MS)) (hk4 : ∀ (z0 : MS) (z1 : Int32) (z2 : Int32) (s : MS), k4 z0 z1 z2 = some s → vKf z0 s) (k35 : MS → Int32 → Int32 → Int32 → Option (MS)) (hk35 : ∀ (z0 : MS) (z1 : Int32) (z2 : Int32) (z3 : Int32) (s : MS), k35 z0 z1 z2 z3 = some s → vKf z0 s) (σ : MS) (x1 : Int32) (x2 : Int32) (x4 : Int32) (σ_ : MS) (h : f_reads_82 N k4 k35 σ x1 x2 x4 = some σ_) : vKf σ σ_ := by
  unfold f_reads_82 at h
  have w1 := kp_reads_83 N k4 hk4 k35 hk35 σ x1 x2 x4 0 _ h
  exact w1
set_option maxRecDepth 100000 in
theorem kp_reads_35 (N : Nat) (k4 : MS → Int32 → Int32 → Option (MS)) (hk4 : ∀ (z0 : MS) (z1 : Int32) (z2 : Int32) (s : MS), k4 z0 z1 z2 = some s → vKf z0 s) : ∀ (n : Nat) (σ : MS) (x1 : Int32) (x2 : Int32) (x4 : Int32) (σ_ : MS), f_reads_35 N k4 n σ x1 x2 x4 = some σ_ → vKf σ σ_ := by
  intro n
  induction n with
  | zero =>
    intro σ x1 x2 x4 σ_ h
    cases h
  | succ n ih =>
    intro σ x1 x2 x4 σ_ h
    unfold f_reads_35 at h
    by_cases c1 : x4 = 0
    · have h := mif_t c1 h
      have w2 := kp_reads_189 N k4 hk4 σ x1 x2 x4 _ h
      exact w2
    · have h := mif_f c1 h
      by_cases c3 : x1 ≤ 0
      · have h := mif_t c3 h
        have w4 := kp_reads_189 N k4 hk4 σ x1 x2 x4 _ h
        exact w4
      · have h := mif_f c3 h
        obtain ⟨y3, ey3⟩ : ∃ z, z = σ.1 6 := ⟨_, rfl⟩
        have h := mlet_at ey3 h
        by_cases c5 : y3 = 41
        · have h := mif_t c5 h
          obtain ⟨σ6, c6, h⟩ := mcallv_n h
          have w7 := kp_next N σ _ c6
          obtain ⟨y8, ey8⟩ : ∃ z, z = x1 + (-1) := ⟨_, rfl⟩
          have h := mlet_at ey8 h
          obtain ⟨c8, h⟩ := mif_n h
          obtain ⟨y11, ey11⟩ : ∃ z, z = σ6.2.1 62 y8.toNatClampNeg := ⟨_, rfl⟩
          have h := mlet_at ey11 h
          by_cases c9 : y11 = 0
          · have h := mif_t c9 h
            obtain ⟨r16, σ14, c10, h⟩ := mcall_n h
            have w11 := kp_word N (pTx 37) σ6 _ _ c10
            by_cases c12 : r16 = 0
            · have h := mif_t c12 h
              have w13 := kp_reads_82 N k4 hk4 (f_reads_35 N k4 n) ih σ14 y8 x2 x4 _ h
              exact ((w7).t w11).t w13
            · have h := mif_f c12 h
              have w14 := kp_reads_83 N k4 hk4 (f_reads_35 N k4 n) ih σ14 y8 x2 x4 1 _ h
              exact ((w7).t w11).t w14
          · have h := mif_f c9 h
            have w15 := kp_reads_82 N k4 hk4 (f_reads_35 N k4 n) ih σ6 y8 x2 x4 _ h
            exact (w7).t w15
        · have h := mif_f c5 h
          have w16 := kp_reads_189 N k4 hk4 σ x1 x2 x4 _ h
          exact w16
set_option maxRecDepth 100000 in
theorem kp_reads_4 (N : Nat) : ∀ (n : Nat) (σ : MS) (x1 : Int32) (x2 : Int32) (σ_ : MS), f_reads_4 N n σ x1 x2 = some σ_ → vKf σ σ_ := by
  intro n
  induction n with
  | zero =>
    intro σ x1 x2 σ_ h
    cases h
  | succ n ih =>
    intro σ x1 x2 σ_ h
    unfold f_reads_4 at h
    by_cases c1 : x2 = 0
    · have h := mif_t c1 h
      by_cases c2 : 0 < x1
      · have h := mif_t c2 h
        have w3 := kp_reads_234 N σ _ h
        exact w3
      · have h := mif_f c2 h
        obtain ⟨y3, ey3⟩ : ∃ z, z = σ.1 6 := ⟨_, rfl⟩
        have h := mlet_at ey3 h
        by_cases c4 : y3 = 0
        · have h := mif_t c4 h
          have w5 := kp_reads_244 N σ _ h
          exact w5
        · have h := mif_f c4 h
          have w6 := kp_reads_234 N σ _ h
          exact w6
    · have h := mif_f c1 h
      obtain ⟨r8, σ6, c7, h⟩ := mcall_n h
      have w8 := kp_opens N σ x1 _ _ c7
      obtain ⟨y9, ey9⟩ : ∃ z, z = σ6.1 13 := ⟨_, rfl⟩
      have h := mlet_at ey9 h
      by_cases c9 : y9 = 0
      · have h := mif_t c9 h
        by_cases c10 : r8 = 0
        · have h := mif_t c10 h
          have w11 := kp_reads_35 N (f_reads_4 N n) ih _ _ _ _ _ _ h
          exact (w8).t w11
        · have h := mif_f c10 h
          obtain ⟨y12, ey12⟩ : ∃ z, z = x1 + 1 := ⟨_, rfl⟩
          have h := mlet_at ey12 h
          have w12 := ih _ _ _ _ h
          exact (w8).t w12
      · have h := mif_f c9 h
        cases h
        exact w8
set_option maxRecDepth 100000 in
theorem kp_reads (N : Nat) (σ : MS) (σ_ : MS) (h : f_reads N σ = some σ_) : vKf σ σ_ := by
  unfold f_reads at h
  have w1 := kp_reads_4 N _ _ _ _ _ h
  exact w1
set_option maxRecDepth 100000 in
theorem kq_plan (N : Nat) (σ : MS) (x1 : Int32) (r : Int32) (σ_ : MS) (h : f_plan N σ x1 = some (r, σ_)) : vKa σ σ_ := by
  unfold f_plan at h
  obtain ⟨σ2, c1, h⟩ := mcallv_n h
  have w2 := (kp_good N σ _ c1).a
  obtain ⟨y4, ey4⟩ : ∃ z, z = σ2.1 34 := ⟨_, rfl⟩
  have h := mlet_at ey4 h
  by_cases c3 : y4 = 0
  · have h := mif_t c3 h
    obtain ⟨r48, σ46, c4, h⟩ := mcall_n h
    have w5 := (kp_no N σ2 1 _ _ c4).a
    cases h
    exact (w2).t w5
  · have h := mif_f c3 h
    obtain ⟨y6, ey6⟩ : ∃ z, z = σ2.1 2 := ⟨_, rfl⟩
    have h := mlet_at ey6 h
    obtain ⟨r9, σ7, c6, h⟩ := mcall_n h
    have w7 := (kp_within N σ2 x1 0 y6 _ _ c6).a
    by_cases c8 : r9 = 0
    · have h := mif_t c8 h
      obtain ⟨r44, σ42, c9, h⟩ := mcall_n h
      have w10 := (kp_no N σ7 2 _ _ c9).a
      cases h
      exact ((w2).t w7).t w10
    · have h := mif_f c8 h
      obtain ⟨σ11, eσ11⟩ : ∃ z, z = mSet σ7 2 (0) := ⟨_, rfl⟩
      have h := mlet_at eσ11 h
      have w11 : vKa σ7 σ11 := by rw [eσ11]; exact vKa_set (by decide)
      obtain ⟨σ12, eσ12⟩ : ∃ z, z = mSet σ11 9 (0) := ⟨_, rfl⟩
      have h := mlet_at eσ12 h
      have w12 : vKa σ11 σ12 := by rw [eσ12]; exact vKa_set (by decide)
      obtain ⟨σ13, eσ13⟩ : ∃ z, z = mSet σ12 58 (0) := ⟨_, rfl⟩
      have h := mlet_at eσ13 h
      have w13 : vKa σ12 σ13 := by rw [eσ13]; exact vKa_set (by decide)
      obtain ⟨σ14, eσ14⟩ : ∃ z, z = mSet σ13 59 (0) := ⟨_, rfl⟩
      have h := mlet_at eσ14 h
      have w14 : vKa σ13 σ14 := by rw [eσ14]; exact vKa_set (by decide)
      obtain ⟨σ16, c15, h⟩ := mcallv_n h
      have w16 := (kp_begins N σ14 x1 _ c15).a
      obtain ⟨σ19, c17, h⟩ := mcallv_n h
      have w18 := (kp_reads N σ16 _ c17).a
      obtain ⟨y21, ey21⟩ : ∃ z, z = σ19.1 13 := ⟨_, rfl⟩
      have h := mlet_at ey21 h
      by_cases c19 : y21 = 0
      · have h := mif_t c19 h
        obtain ⟨y23, ey23⟩ : ∃ z, z = σ19.1 40 := ⟨_, rfl⟩
        have h := mlet_at ey23 h
        by_cases c20 : y23 = 8
        · have h := mif_t c20 h
          obtain ⟨r36, σ34, c21, h⟩ := mcall_n h
          have w22 := (kp_no N σ19 3 _ _ c21).a
          cases h
          exact ((((((((w2).t w7).t w11).t w12).t w13).t w14).t w16).t w18).t w22
        · have h := mif_f c20 h
          obtain ⟨y26, ey26⟩ : ∃ z, z = σ19.1 40 := ⟨_, rfl⟩
          have h := mlet_at ey26 h
          obtain ⟨y27, ey27⟩ : ∃ z, z = σ19.1 58 := ⟨_, rfl⟩
          have h := mlet_at ey27 h
          obtain ⟨c23, h⟩ := mif_n h
          obtain ⟨σ29, eσ29⟩ : ∃ z, z = mArr σ19 57 y26.toNatClampNeg y27 := ⟨_, rfl⟩
          have h := mlet_at eσ29 h
          have w24 : vKa σ19 σ29 := by rw [eσ29]; exact vKa_arr (by decide)
          obtain ⟨y30, ey30⟩ : ∃ z, z = σ29.1 40 := ⟨_, rfl⟩
          have h := mlet_at ey30 h
          obtain ⟨σ31, eσ31⟩ : ∃ z, z = mSet σ29 40 ((y30 + 1)) := ⟨_, rfl⟩
          have h := mlet_at eσ31 h
          have w25 : vKa σ29 σ31 := by rw [eσ31]; exact vKa_set (by decide)
          obtain ⟨y32, ey32⟩ : ∃ z, z = σ31.1 40 := ⟨_, rfl⟩
          have h := mlet_at ey32 h
          cases h
          exact (((((((((w2).t w7).t w11).t w12).t w13).t w14).t w16).t w18).t w24).t w25
      · have h := mif_f c19 h
        obtain ⟨r40, σ38, c26, h⟩ := mcall_n h
        have w27 := (kp_no N σ19 4 _ _ c26).a
        cases h
        exact ((((((((w2).t w7).t w11).t w12).t w13).t w14).t w16).t w18).t w27
