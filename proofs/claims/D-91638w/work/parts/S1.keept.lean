/-! BY gen_fr4.py: PLAIN: reading goes on: all that a line of a book calls -/
set_option maxRecDepth 100000 in
theorem kt_within_15 (N : Nat) (σ : MS) (s0 : Int32) (r : Int32) (σ_ : MS) (h : f_within_15 N σ s0 = some (r, σ_)) : vKt σ σ_ := by
  unfold f_within_15 at h
  obtain ⟨c1, h⟩ := mif_n h
  cases h
  exact vKt_r
set_option maxRecDepth 100000 in
theorem kt_within_14 (N : Nat) (σ : MS) (r : Int32) (σ_ : MS) (h : f_within_14 N σ = some (r, σ_)) : vKt σ σ_ := by
  unfold f_within_14 at h
  have w1 := kt_within_15 N σ 0 _ _ h
  exact w1
set_option maxRecDepth 100000 in
theorem kt_within (N : Nat) (σ : MS) (x0 : Int32) (x1 : Int32) (x2 : Int32) (r : Int32) (σ_ : MS) (h : f_within N σ x0 x1 x2 = some (r, σ_)) : vKt σ σ_ := by
  unfold f_within at h
  by_cases c1 : x0 < x1
  · have h := mif_t c1 h
    have w2 := kt_within_14 N σ _ _ h
    exact w2
  · have h := mif_f c1 h
    by_cases c3 : x2 < x0
    · have h := mif_t c3 h
      have w4 := kt_within_14 N σ _ _ h
      exact w4
    · have h := mif_f c3 h
      have w5 := kt_within_15 N σ 1 _ _ h
      exact w5
set_option maxRecDepth 100000 in
theorem kt_find_77 (N : Nat) (j1 : Nat) (hj1 : vOkE j1 = true) (j2 : Nat) (hj2 : vOkE j2 = true) (k3 : MS → Int32 → Int32 → Option (Int32 × MS)) (hk3 : ∀ (z0 : MS) (z1 : Int32) (z2 : Int32) (r : Int32) (s : MS), k3 z0 z1 z2 = some (r, s) → vKt z0 s) (σ : MS) (x3 : Int32) (x4 : Int32) (x5 : Int32) (r : Int32) (σ_ : MS) (h : f_find_77 N j1 j2 k3 σ x3 x4 x5 = some (r, σ_)) : vKt σ σ_ := by
  unfold f_find_77 at h
  by_cases c1 : x5 = 0
  · have h := mif_t c1 h
    obtain ⟨y2, ey2⟩ : ∃ z, z = x4 + 1 := ⟨_, rfl⟩
    have h := mlet_at ey2 h
    have w2 := hk3 _ _ _ _ _ h
    exact w2
  · have h := mif_f c1 h
    cases h
    exact vKt_r
set_option maxRecDepth 100000 in
theorem kt_find_69 (N : Nat) (j1 : Nat) (hj1 : vOkE j1 = true) (j2 : Nat) (hj2 : vOkE j2 = true) (k3 : MS → Int32 → Int32 → Option (Int32 × MS)) (hk3 : ∀ (z0 : MS) (z1 : Int32) (z2 : Int32) (r : Int32) (s : MS), k3 z0 z1 z2 = some (r, s) → vKt z0 s) (k30 : MS → Int32 → Int32 → Int32 → Int32 → Option (Int32 × MS)) (hk30 : ∀ (z0 : MS) (z1 : Int32) (z2 : Int32) (z3 : Int32) (z4 : Int32) (r : Int32) (s : MS), k30 z0 z1 z2 z3 z4 = some (r, s) → vKt z0 s) (σ : MS) (x3 : Int32) (x4 : Int32) (x6 : Int32) (s0 : Int32) (r : Int32) (σ_ : MS) (h : f_find_69 N j1 j2 k3 k30 σ x3 x4 x6 s0 = some (r, σ_)) : vKt σ σ_ := by
  unfold f_find_69 at h
  obtain ⟨y1, ey1⟩ : ∃ z, z = x6 + 1 := ⟨_, rfl⟩
  have h := mlet_at ey1 h
  have w1 := hk30 _ _ _ _ _ _ _ h
  exact w1
set_option maxRecDepth 100000 in
theorem kt_find_30 (N : Nat) (j1 : Nat) (hj1 : vOkE j1 = true) (j2 : Nat) (hj2 : vOkE j2 = true) (k3 : MS → Int32 → Int32 → Option (Int32 × MS)) (hk3 : ∀ (z0 : MS) (z1 : Int32) (z2 : Int32) (r : Int32) (s : MS), k3 z0 z1 z2 = some (r, s) → vKt z0 s) : ∀ (n : Nat) (σ : MS) (x3 : Int32) (x4 : Int32) (x5 : Int32) (x6 : Int32) (r : Int32) (σ_ : MS), f_find_30 N j1 j2 k3 n σ x3 x4 x5 x6 = some (r, σ_) → vKt σ σ_ := by
  intro n
  induction n with
  | zero =>
    intro σ x3 x4 x5 x6 r σ_ h
    cases h
  | succ n ih =>
    intro σ x3 x4 x5 x6 r σ_ h
    unfold f_find_30 at h
    by_cases c1 : (σ.1 8) ≤ x6
    · have h := mif_t c1 h
      have w2 := kt_find_77 N j1 hj1 j2 hj2 k3 hk3 σ x3 x4 x5 _ _ h
      exact w2
    · have h := mif_f c1 h
      by_cases c3 : x5 = 0
      · have h := mif_t c3 h
        have w4 := kt_find_77 N j1 hj1 j2 hj2 k3 hk3 σ x3 x4 x5 _ _ h
        exact w4
      · have h := mif_f c3 h
        obtain ⟨c5, h⟩ := mif_n h
        obtain ⟨y4, ey4⟩ : ∃ z, z = σ.2.1 j1 ((8 * x4) + x6).toNatClampNeg := ⟨_, rfl⟩
        have h := mlet_at ey4 h
        obtain ⟨c6, h⟩ := mif_n h
        obtain ⟨y6, ey6⟩ : ∃ z, z = σ.2.1 11 x6.toNatClampNeg := ⟨_, rfl⟩
        have h := mlet_at ey6 h
        by_cases c7 : y4 = y6
        · have h := mif_t c7 h
          have w8 := kt_find_69 N j1 hj1 j2 hj2 k3 hk3 (f_find_30 N j1 j2 k3 n) ih σ x3 x4 x6 1 _ _ h
          exact w8
        · have h := mif_f c7 h
          have w9 := kt_find_69 N j1 hj1 j2 hj2 k3 hk3 (f_find_30 N j1 j2 k3 n) ih σ x3 x4 x6 0 _ _ h
          exact w9
set_option maxRecDepth 100000 in
theorem kt_find_25 (N : Nat) (j1 : Nat) (hj1 : vOkE j1 = true) (j2 : Nat) (hj2 : vOkE j2 = true) (k3 : MS → Int32 → Int32 → Option (Int32 × MS)) (hk3 : ∀ (z0 : MS) (z1 : Int32) (z2 : Int32) (r : Int32) (s : MS), k3 z0 z1 z2 = some (r, s) → vKt z0 s) (σ : MS) (x3 : Int32) (x4 : Int32) (s0 : Int32) (r : Int32) (σ_ : MS) (h : f_find_25 N j1 j2 k3 σ x3 x4 s0 = some (r, σ_)) : vKt σ σ_ := by
  unfold f_find_25 at h
  have w1 := kt_find_30 N j1 hj1 j2 hj2 k3 hk3 _ _ _ _ _ _ _ _ h
  exact w1
set_option maxRecDepth 100000 in
theorem kt_find_3 (N : Nat) (j1 : Nat) (hj1 : vOkE j1 = true) (j2 : Nat) (hj2 : vOkE j2 = true) : ∀ (n : Nat) (σ : MS) (x3 : Int32) (x4 : Int32) (r : Int32) (σ_ : MS), f_find_3 N j1 j2 n σ x3 x4 = some (r, σ_) → vKt σ σ_ := by
  intro n
  induction n with
  | zero =>
    intro σ x3 x4 r σ_ h
    cases h
  | succ n ih =>
    intro σ x3 x4 r σ_ h
    unfold f_find_3 at h
    by_cases c1 : x3 ≤ x4
    · have h := mif_t c1 h
      cases h
      exact vKt_r
    · have h := mif_f c1 h
      obtain ⟨c2, h⟩ := mif_n h
      obtain ⟨y3, ey3⟩ : ∃ z, z = σ.2.1 j2 x4.toNatClampNeg := ⟨_, rfl⟩
      have h := mlet_at ey3 h
      by_cases c3 : y3 = (σ.1 8)
      · have h := mif_t c3 h
        have w4 := kt_find_25 N j1 hj1 j2 hj2 (f_find_3 N j1 j2 n) ih σ x3 x4 1 _ _ h
        exact w4
      · have h := mif_f c3 h
        have w5 := kt_find_25 N j1 hj1 j2 hj2 (f_find_3 N j1 j2 n) ih σ x3 x4 0 _ _ h
        exact w5
set_option maxRecDepth 100000 in
theorem kt_find (N : Nat) (j1 : Nat) (hj1 : vOkE j1 = true) (j2 : Nat) (hj2 : vOkE j2 = true) (σ : MS) (x3 : Int32) (r : Int32) (σ_ : MS) (h : f_find N j1 j2 σ x3 = some (r, σ_)) : vKt σ σ_ := by
  unfold f_find at h
  have w1 := kt_find_3 N j1 hj1 j2 hj2 _ _ _ _ _ _ h
  exact w1
set_option maxRecDepth 100000 in
theorem kt_number (N : Nat) (σ : MS) (x1 : Int32) (x2 : Int32) (r : Int32) (σ_ : MS) (h : f_number N σ x1 x2 = some (r, σ_)) : vKt σ σ_ := by
  unfold f_number at h
  by_cases c1 : (σ.1 13) = 0
  · have h := mif_t c1 h
    by_cases c2 : (σ.1 6) = 3
    · have h := mif_t c2 h
      obtain ⟨y3, ey3⟩ : ∃ z, z = σ.1 7 := ⟨_, rfl⟩
      have h := mlet_at ey3 h
      obtain ⟨r6, σ4, c3, h⟩ := mcall_n h
      have w4 := kt_within N σ y3 x1 x2 _ _ c3
      by_cases c5 : r6 = 0
      · have h := mif_t c5 h
        obtain ⟨r12, σ10, c6, h⟩ := mcall_n h
        have w7 := (kt_wrong N σ4 4 (σ4.1 4) _ _ c6).1
        cases h
        exact (w4).t w7
      · have h := mif_f c5 h
        obtain ⟨σ8, c8, h⟩ := mcallv_n h
        have w9 := kt_next N σ4 _ c8
        cases h
        exact (w4).t w9
    · have h := mif_f c2 h
      obtain ⟨r15, σ13, c10, h⟩ := mcall_n h
      have w11 := (kt_wrong N σ 1 (σ.1 4) _ _ c10).1
      cases h
      exact w11
  · have h := mif_f c1 h
    cases h
    exact vKt_r
set_option maxRecDepth 100000 in
theorem kt_pairs_220 (N : Nat) (j1 : Nat) (hj1 : vOkE j1 = true) (k16 : MS → Int32 → Int32 → Int32 → Option (Int32 × MS)) (hk16 : ∀ (z0 : MS) (z1 : Int32) (z2 : Int32) (z3 : Int32) (r : Int32) (s : MS), k16 z0 z1 z2 z3 = some (r, s) → vKt z0 s) (σ : MS) (x2 : Int32) (x3 : Int32) (x4 : Int32) (r : Int32) (σ_ : MS) (h : f_pairs_220 N j1 k16 σ x2 x3 x4 = some (r, σ_)) : vKt σ σ_ := by
  unfold f_pairs_220 at h
  have w1 := hk16 _ _ _ _ _ _ h
  exact w1
set_option maxRecDepth 100000 in
theorem kt_pairs_209 (N : Nat) (j1 : Nat) (hj1 : vOkE j1 = true) (k16 : MS → Int32 → Int32 → Int32 → Option (Int32 × MS)) (hk16 : ∀ (z0 : MS) (z1 : Int32) (z2 : Int32) (z3 : Int32) (r : Int32) (s : MS), k16 z0 z1 z2 z3 = some (r, s) → vKt z0 s) (σ : MS) (x2 : Int32) (x3 : Int32) (s0 : Int32) (r : Int32) (σ_ : MS) (h : f_pairs_209 N j1 k16 σ x2 x3 s0 = some (r, σ_)) : vKt σ σ_ := by
  unfold f_pairs_209 at h
  by_cases c1 : s0 = 0
  · have h := mif_t c1 h
    have w2 := kt_pairs_220 N j1 hj1 k16 hk16 σ x2 x3 s0 _ _ h
    exact w2
  · have h := mif_f c1 h
    obtain ⟨σ2, c3, h⟩ := mcallv_n h
    have w4 := kt_next N σ _ c3
    have w5 := kt_pairs_220 N j1 hj1 k16 hk16 σ2 x2 x3 s0 _ _ h
    exact (w4).t w5
set_option maxRecDepth 100000 in
theorem kt_pairs_164 (N : Nat) (j1 : Nat) (hj1 : vOkE j1 = true) (k16 : MS → Int32 → Int32 → Int32 → Option (Int32 × MS)) (hk16 : ∀ (z0 : MS) (z1 : Int32) (z2 : Int32) (z3 : Int32) (r : Int32) (s : MS), k16 z0 z1 z2 z3 = some (r, s) → vKt z0 s) (σ : MS) (x2 : Int32) (x3 : Int32) (x5 : Int32) (x8 : Int32) (s0 : Int32) (s1 : Int32) (r : Int32) (σ_ : MS) (h : f_pairs_164 N j1 k16 σ x2 x3 x5 x8 s0 s1 = some (r, σ_)) : vKt σ σ_ := by
  unfold f_pairs_164 at h
  obtain ⟨r3, σ1, c1, h⟩ := mcall_n h
  have w2 := kt_number N σ s1 s0 _ _ c1
  by_cases c3 : (σ1.1 13) = 0
  · have h := mif_t c3 h
    obtain ⟨c4, h⟩ := mif_n h
    obtain ⟨σ6, eσ6⟩ : ∃ z, z = mArr σ1 j1 x5.toNatClampNeg x8 := ⟨_, rfl⟩
    have h := mlet_at eσ6 h
    have w5 : vKt σ1 σ6 := by rw [eσ6]; exact vKt_arr
    obtain ⟨c6, h⟩ := mif_n h
    obtain ⟨σ8, eσ8⟩ : ∃ z, z = mArr σ6 j1 (x5 + 1).toNatClampNeg r3 := ⟨_, rfl⟩
    have h := mlet_at eσ8 h
    have w7 : vKt σ6 σ8 := by rw [eσ8]; exact vKt_arr
    obtain ⟨y9, ey9⟩ : ∃ z, z = x3 + 1 := ⟨_, rfl⟩
    have h := mlet_at ey9 h
    by_cases c8 : (σ8.1 6) = 44
    · have h := mif_t c8 h
      have w9 := kt_pairs_209 N j1 hj1 k16 hk16 σ8 x2 y9 1 _ _ h
      exact (((w2).t w5).t w7).t w9
    · have h := mif_f c8 h
      have w10 := kt_pairs_209 N j1 hj1 k16 hk16 σ8 x2 y9 0 _ _ h
      exact (((w2).t w5).t w7).t w10
  · have h := mif_f c3 h
    cases h
    exact w2
set_option maxRecDepth 100000 in
theorem kt_pairs_151 (N : Nat) (j1 : Nat) (hj1 : vOkE j1 = true) (k16 : MS → Int32 → Int32 → Int32 → Option (Int32 × MS)) (hk16 : ∀ (z0 : MS) (z1 : Int32) (z2 : Int32) (z3 : Int32) (r : Int32) (s : MS), k16 z0 z1 z2 z3 = some (r, s) → vKt z0 s) (σ : MS) (x2 : Int32) (x3 : Int32) (x5 : Int32) (x8 : Int32) (s0 : Int32) (r : Int32) (σ_ : MS) (h : f_pairs_151 N j1 k16 σ x2 x3 x5 x8 s0 = some (r, σ_)) : vKt σ σ_ := by
  unfold f_pairs_151 at h
  by_cases c1 : x2 = 0
  · have h := mif_t c1 h
    have w2 := kt_pairs_164 N j1 hj1 k16 hk16 σ x2 x3 x5 x8 150 s0 _ _ h
    exact w2
  · have h := mif_f c1 h
    have w3 := kt_pairs_164 N j1 hj1 k16 hk16 σ x2 x3 x5 x8 300 s0 _ _ h
    exact w3
set_option maxRecDepth 100000 in
theorem kt_pairs_150 (N : Nat) (j1 : Nat) (hj1 : vOkE j1 = true) (k16 : MS → Int32 → Int32 → Int32 → Option (Int32 × MS)) (hk16 : ∀ (z0 : MS) (z1 : Int32) (z2 : Int32) (z3 : Int32) (r : Int32) (s : MS), k16 z0 z1 z2 z3 = some (r, s) → vKt z0 s) (σ : MS) (x2 : Int32) (x3 : Int32) (x5 : Int32) (x8 : Int32) (r : Int32) (σ_ : MS) (h : f_pairs_150 N j1 k16 σ x2 x3 x5 x8 = some (r, σ_)) : vKt σ σ_ := by
  unfold f_pairs_150 at h
  have w1 := kt_pairs_151 N j1 hj1 k16 hk16 σ x2 x3 x5 x8 0 _ _ h
  exact w1
set_option maxRecDepth 100000 in
theorem kt_pairs_116 (N : Nat) (j1 : Nat) (hj1 : vOkE j1 = true) (k16 : MS → Int32 → Int32 → Int32 → Option (Int32 × MS)) (hk16 : ∀ (z0 : MS) (z1 : Int32) (z2 : Int32) (z3 : Int32) (r : Int32) (s : MS), k16 z0 z1 z2 z3 = some (r, s) → vKt z0 s) (σ : MS) (x2 : Int32) (x3 : Int32) (x5 : Int32) (x8 : Int32) (r : Int32) (σ_ : MS) (h : f_pairs_116 N j1 k16 σ x2 x3 x5 x8 = some (r, σ_)) : vKt σ σ_ := by
  unfold f_pairs_116 at h
  by_cases c1 : x2 = 0
  · have h := mif_t c1 h
    have w2 := kt_pairs_150 N j1 hj1 k16 hk16 σ x2 x3 x5 x8 _ _ h
    exact w2
  · have h := mif_f c1 h
    by_cases c3 : x3 ≤ 0
    · have h := mif_t c3 h
      have w4 := kt_pairs_150 N j1 hj1 k16 hk16 σ x2 x3 x5 x8 _ _ h
      exact w4
    · have h := mif_f c3 h
      by_cases c5 : (σ.1 13) = 0
      · have h := mif_t c5 h
        obtain ⟨c6, h⟩ := mif_n h
        obtain ⟨y5, ey5⟩ : ∃ z, z = σ.2.1 j1 (((8 * (σ.1 22)) + (2 * x3)) - 1).toNatClampNeg := ⟨_, rfl⟩
        have h := mlet_at ey5 h
        have w7 := kt_pairs_151 N j1 hj1 k16 hk16 σ x2 x3 x5 x8 y5 _ _ h
        exact w7
      · have h := mif_f c5 h
        have w8 := kt_pairs_150 N j1 hj1 k16 hk16 σ x2 x3 x5 x8 _ _ h
        exact w8
set_option maxRecDepth 100000 in
theorem kt_pairs_91 (N : Nat) (j1 : Nat) (hj1 : vOkE j1 = true) (k16 : MS → Int32 → Int32 → Int32 → Option (Int32 × MS)) (hk16 : ∀ (z0 : MS) (z1 : Int32) (z2 : Int32) (z3 : Int32) (r : Int32) (s : MS), k16 z0 z1 z2 z3 = some (r, s) → vKt z0 s) (σ : MS) (x2 : Int32) (x3 : Int32) (x5 : Int32) (x7 : Int32) (s0 : Int32) (s1 : Int32) (r : Int32) (σ_ : MS) (h : f_pairs_91 N j1 k16 σ x2 x3 x5 x7 s0 s1 = some (r, σ_)) : vKt σ σ_ := by
  unfold f_pairs_91 at h
  obtain ⟨r3, σ1, c1, h⟩ := mcall_n h
  have w2 := kt_number N σ s1 s0 _ _ c1
  by_cases c3 : (σ1.1 13) = 0
  · have h := mif_t c3 h
    by_cases c4 : x3 = 4
    · have h := mif_t c4 h
      obtain ⟨r8, σ6, c5, h⟩ := mcall_n h
      have w6 := (kt_wrong N σ1 5 x7 _ _ c5).1
      have w7 := kt_pairs_116 N j1 hj1 k16 hk16 σ6 x2 x3 x5 r3 _ _ h
      exact ((w2).t w6).t w7
    · have h := mif_f c4 h
      have w8 := kt_pairs_116 N j1 hj1 k16 hk16 σ1 x2 x3 x5 r3 _ _ h
      exact (w2).t w8
  · have h := mif_f c3 h
    have w9 := kt_pairs_116 N j1 hj1 k16 hk16 σ1 x2 x3 x5 r3 _ _ h
    exact (w2).t w9
set_option maxRecDepth 100000 in
theorem kt_pairs_68 (N : Nat) (j1 : Nat) (hj1 : vOkE j1 = true) (k16 : MS → Int32 → Int32 → Int32 → Option (Int32 × MS)) (hk16 : ∀ (z0 : MS) (z1 : Int32) (z2 : Int32) (z3 : Int32) (r : Int32) (s : MS), k16 z0 z1 z2 z3 = some (r, s) → vKt z0 s) (σ : MS) (x2 : Int32) (x3 : Int32) (x5 : Int32) (s0 : Int32) (r : Int32) (σ_ : MS) (h : f_pairs_68 N j1 k16 σ x2 x3 x5 s0 = some (r, σ_)) : vKt σ σ_ := by
  unfold f_pairs_68 at h
  obtain ⟨y1, ey1⟩ : ∃ z, z = σ.1 4 := ⟨_, rfl⟩
  have h := mlet_at ey1 h
  by_cases c1 : x2 = 0
  · have h := mif_t c1 h
    have w2 := kt_pairs_91 N j1 hj1 k16 hk16 σ x2 x3 x5 y1 90 s0 _ _ h
    exact w2
  · have h := mif_f c1 h
    have w3 := kt_pairs_91 N j1 hj1 k16 hk16 σ x2 x3 x5 y1 999 s0 _ _ h
    exact w3
set_option maxRecDepth 100000 in
theorem kt_pairs_39 (N : Nat) (j1 : Nat) (hj1 : vOkE j1 = true) (k16 : MS → Int32 → Int32 → Int32 → Option (Int32 × MS)) (hk16 : ∀ (z0 : MS) (z1 : Int32) (z2 : Int32) (z3 : Int32) (r : Int32) (s : MS), k16 z0 z1 z2 z3 = some (r, s) → vKt z0 s) (σ : MS) (x2 : Int32) (x3 : Int32) (s0 : Int32) (s1 : Int32) (s2 : Int32) (r : Int32) (σ_ : MS) (h : f_pairs_39 N j1 k16 σ x2 x3 s0 s1 s2 = some (r, σ_)) : vKt σ σ_ := by
  unfold f_pairs_39 at h
  obtain ⟨y1, ey1⟩ : ∃ z, z = s2 + (s1 * s0) := ⟨_, rfl⟩
  have h := mlet_at ey1 h
  by_cases c1 : x3 = 0
  · have h := mif_t c1 h
    have w2 := kt_pairs_68 N j1 hj1 k16 hk16 σ x2 x3 y1 0 _ _ h
    exact w2
  · have h := mif_f c1 h
    obtain ⟨c3, h⟩ := mif_n h
    obtain ⟨y4, ey4⟩ : ∃ z, z = σ.2.1 j1 (((8 * (σ.1 22)) + (2 * x3)) - 2).toNatClampNeg := ⟨_, rfl⟩
    have h := mlet_at ey4 h
    have w4 := kt_pairs_68 N j1 hj1 k16 hk16 σ x2 x3 y1 (y4 + 1) _ _ h
    exact w4
set_option maxRecDepth 100000 in
theorem kt_pairs_16 (N : Nat) (j1 : Nat) (hj1 : vOkE j1 = true) : ∀ (n : Nat) (σ : MS) (x2 : Int32) (x3 : Int32) (x4 : Int32) (r : Int32) (σ_ : MS), f_pairs_16 N j1 n σ x2 x3 x4 = some (r, σ_) → vKt σ σ_ := by
  intro n
  induction n with
  | zero =>
    intro σ x2 x3 x4 r σ_ h
    cases h
  | succ n ih =>
    intro σ x2 x3 x4 r σ_ h
    unfold f_pairs_16 at h
    by_cases c1 : x4 = 0
    · have h := mif_t c1 h
      cases h
      exact vKt_r
    · have h := mif_f c1 h
      by_cases c2 : 4 ≤ x3
      · have h := mif_t c2 h
        have w3 := kt_pairs_39 N j1 hj1 (f_pairs_16 N j1 n) ih σ x2 x3 3 2 (8 * (σ.1 22)) _ _ h
        exact w3
      · have h := mif_f c2 h
        have w4 := kt_pairs_39 N j1 hj1 (f_pairs_16 N j1 n) ih σ x2 x3 x3 2 (8 * (σ.1 22)) _ _ h
        exact w4
set_option maxRecDepth 100000 in
theorem kt_pairs_14 (N : Nat) (j1 : Nat) (hj1 : vOkE j1 = true) (σ : MS) (x2 : Int32) (x3 : Int32) (s0 : Int32) (r : Int32) (σ_ : MS) (h : f_pairs_14 N j1 σ x2 x3 s0 = some (r, σ_)) : vKt σ σ_ := by
  unfold f_pairs_14 at h
  have w1 := kt_pairs_16 N j1 hj1 _ _ _ _ _ _ _ h
  exact w1
set_option maxRecDepth 100000 in
theorem kt_pairs (N : Nat) (j1 : Nat) (hj1 : vOkE j1 = true) (σ : MS) (x2 : Int32) (r : Int32) (σ_ : MS) (h : f_pairs N j1 σ x2 = some (r, σ_)) : vKt σ σ_ := by
  unfold f_pairs at h
  by_cases c1 : (σ.1 13) = 0
  · have h := mif_t c1 h
    have w2 := kt_pairs_14 N j1 hj1 σ x2 0 1 _ _ h
    exact w2
  · have h := mif_f c1 h
    have w3 := kt_pairs_14 N j1 hj1 σ x2 0 0 _ _ h
    exact w3
set_option maxRecDepth 100000 in
theorem kt_signed_76 (N : Nat) (σ : MS) (x1 : Int32) (x2 : Int32) (x3 : Int32) (s0 : Int32) (r : Int32) (σ_ : MS) (h : f_signed_76 N σ x1 x2 x3 s0 = some (r, σ_)) : vKt σ σ_ := by
  unfold f_signed_76 at h
  obtain ⟨r3, σ1, c1, h⟩ := mcall_n h
  have w2 := kt_within N σ s0 x1 x2 _ _ c1
  by_cases c3 : r3 = 0
  · have h := mif_t c3 h
    obtain ⟨r9, σ7, c4, h⟩ := mcall_n h
    have w5 := (kt_wrong N σ1 4 x3 _ _ c4).1
    cases h
    exact (w2).t w5
  · have h := mif_f c3 h
    obtain ⟨σ5, c6, h⟩ := mcallv_n h
    have w7 := kt_next N σ1 _ c6
    cases h
    exact (w2).t w7
set_option maxRecDepth 100000 in
theorem kt_signed_39 (N : Nat) (σ : MS) (x1 : Int32) (x2 : Int32) (x3 : Int32) (x4 : Int32) (r : Int32) (σ_ : MS) (h : f_signed_39 N σ x1 x2 x3 x4 = some (r, σ_)) : vKt σ σ_ := by
  unfold f_signed_39 at h
  by_cases c1 : (σ.1 6) = 3
  · have h := mif_t c1 h
    by_cases c2 : x4 = 0
    · have h := mif_t c2 h
      have w3 := kt_signed_76 N σ x1 x2 x3 (σ.1 7) _ _ h
      exact w3
    · have h := mif_f c2 h
      have w4 := kt_signed_76 N σ x1 x2 x3 (-(σ.1 7)) _ _ h
      exact w4
  · have h := mif_f c1 h
    obtain ⟨r5, σ3, c5, h⟩ := mcall_n h
    have w6 := (kt_wrong N σ 1 (σ.1 4) _ _ c5).1
    cases h
    exact w6
set_option maxRecDepth 100000 in
theorem kt_signed_28 (N : Nat) (σ : MS) (x1 : Int32) (x2 : Int32) (x3 : Int32) (s0 : Int32) (r : Int32) (σ_ : MS) (h : f_signed_28 N σ x1 x2 x3 s0 = some (r, σ_)) : vKt σ σ_ := by
  unfold f_signed_28 at h
  by_cases c1 : s0 = 0
  · have h := mif_t c1 h
    have w2 := kt_signed_39 N σ x1 x2 x3 s0 _ _ h
    exact w2
  · have h := mif_f c1 h
    obtain ⟨σ2, c3, h⟩ := mcallv_n h
    have w4 := kt_next N σ _ c3
    have w5 := kt_signed_39 N σ2 x1 x2 x3 s0 _ _ h
    exact (w4).t w5
set_option maxRecDepth 100000 in
theorem kt_signed (N : Nat) (σ : MS) (x1 : Int32) (x2 : Int32) (r : Int32) (σ_ : MS) (h : f_signed N σ x1 x2 = some (r, σ_)) : vKt σ σ_ := by
  unfold f_signed at h
  by_cases c1 : (σ.1 13) = 0
  · have h := mif_t c1 h
    obtain ⟨y2, ey2⟩ : ∃ z, z = σ.1 4 := ⟨_, rfl⟩
    have h := mlet_at ey2 h
    by_cases c2 : (σ.1 6) = 45
    · have h := mif_t c2 h
      have w3 := kt_signed_28 N σ x1 x2 y2 1 _ _ h
      exact w3
    · have h := mif_f c2 h
      have w4 := kt_signed_28 N σ x1 x2 y2 0 _ _ h
      exact w4
  · have h := mif_f c1 h
    cases h
    exact vKt_r
set_option maxRecDepth 100000 in
theorem kt_word_26 (N : Nat) (σ : MS) (r : Int32) (σ_ : MS) (h : f_word_26 N σ = some (r, σ_)) : vKt σ σ_ := by
  unfold f_word_26 at h
  cases h
  exact vKt_r
set_option maxRecDepth 100000 in
theorem kt_word_63 (N : Nat) (tx : List Int32) (k32 : MS → Int32 → Int32 → Option (Int32 × MS)) (hk32 : ∀ (z0 : MS) (z1 : Int32) (z2 : Int32) (r : Int32) (s : MS), k32 z0 z1 z2 = some (r, s) → vKt z0 s) (σ : MS) (x3 : Int32) (s0 : Int32) (r : Int32) (σ_ : MS) (h : f_word_63 N tx k32 σ x3 s0 = some (r, σ_)) : vKt σ σ_ := by
  unfold f_word_63 at h
  obtain ⟨y1, ey1⟩ : ∃ z, z = x3 + 1 := ⟨_, rfl⟩
  have h := mlet_at ey1 h
  have w1 := hk32 _ _ _ _ _ h
  exact w1
set_option maxRecDepth 100000 in
theorem kt_word_62 (N : Nat) (tx : List Int32) (k32 : MS → Int32 → Int32 → Option (Int32 × MS)) (hk32 : ∀ (z0 : MS) (z1 : Int32) (z2 : Int32) (r : Int32) (s : MS), k32 z0 z1 z2 = some (r, s) → vKt z0 s) (σ : MS) (x3 : Int32) (r : Int32) (σ_ : MS) (h : f_word_62 N tx k32 σ x3 = some (r, σ_)) : vKt σ σ_ := by
  unfold f_word_62 at h
  have w1 := kt_word_63 N tx k32 hk32 σ x3 0 _ _ h
  exact w1
set_option maxRecDepth 100000 in
theorem kt_word_32 (N : Nat) (tx : List Int32) : ∀ (n : Nat) (σ : MS) (x2 : Int32) (x3 : Int32) (r : Int32) (σ_ : MS), f_word_32 N tx n σ x2 x3 = some (r, σ_) → vKt σ σ_ := by
  intro n
  induction n with
  | zero =>
    intro σ x2 x3 r σ_ h
    cases h
  | succ n ih =>
    intro σ x2 x3 r σ_ h
    unfold f_word_32 at h
    obtain ⟨y1, ey1⟩ : ∃ z, z = σ.1 8 := ⟨_, rfl⟩
    have h := mlet_at ey1 h
    by_cases c1 : y1 ≤ x3
    · have h := mif_t c1 h
      obtain ⟨c2, h⟩ := mif_n h
      cases h
      exact vKt_r
    · have h := mif_f c1 h
      by_cases c3 : x2 = 0
      · have h := mif_t c3 h
        have w4 := kt_word_62 N tx (f_word_32 N tx n) ih σ x3 _ _ h
        exact w4
      · have h := mif_f c3 h
        obtain ⟨c5, h⟩ := mif_n h
        obtain ⟨y7, ey7⟩ : ∃ z, z = σ.2.1 11 x3.toNatClampNeg := ⟨_, rfl⟩
        have h := mlet_at ey7 h
        obtain ⟨c6, h⟩ := mif_n h
        obtain ⟨r12, er12⟩ : ∃ z, z = tx.getD x3.toNatClampNeg 0 := ⟨_, rfl⟩
        have h := mlet_at er12 h
        by_cases c7 : y7 = r12
        · have h := mif_t c7 h
          have w8 := kt_word_63 N tx (f_word_32 N tx n) ih σ x3 1 _ _ h
          exact w8
        · have h := mif_f c7 h
          have w9 := kt_word_62 N tx (f_word_32 N tx n) ih σ x3 _ _ h
          exact w9
set_option maxRecDepth 100000 in
theorem kt_word (N : Nat) (tx : List Int32) (σ : MS) (r : Int32) (σ_ : MS) (h : f_word N tx σ = some (r, σ_)) : vKt σ σ_ := by
  unfold f_word at h
  obtain ⟨y1, ey1⟩ : ∃ z, z = σ.1 13 := ⟨_, rfl⟩
  have h := mlet_at ey1 h
  by_cases c1 : y1 = 0
  · have h := mif_t c1 h
    obtain ⟨y3, ey3⟩ : ∃ z, z = σ.1 6 := ⟨_, rfl⟩
    have h := mlet_at ey3 h
    by_cases c2 : y3 = 2
    · have h := mif_t c2 h
      obtain ⟨y5, ey5⟩ : ∃ z, z = σ.1 8 := ⟨_, rfl⟩
      have h := mlet_at ey5 h
      obtain ⟨r10, er10⟩ : ∃ z, z = Int32.ofNat tx.length := ⟨_, rfl⟩
      have h := mlet_at er10 h
      by_cases c3 : y5 = r10
      · have h := mif_t c3 h
        have w4 := kt_word_32 N tx _ _ _ _ _ _ h
        exact w4
      · have h := mif_f c3 h
        have w5 := kt_word_26 N σ _ _ h
        exact w5
    · have h := mif_f c2 h
      have w6 := kt_word_26 N σ _ _ h
      exact w6
  · have h := mif_f c1 h
    have w7 := kt_word_26 N σ _ _ h
    exact w7
set_option maxRecDepth 100000 in
theorem kt_isName_113 (N : Nat) (σ : MS) (s0 : Int32) (r : Int32) (σ_ : MS) (h : f_isName_113 N σ s0 = some (r, σ_)) : vKt σ σ_ := by
  unfold f_isName_113 at h
  obtain ⟨c1, h⟩ := mif_n h
  cases h
  exact vKt_r
set_option maxRecDepth 100000 in
theorem kt_isName_112 (N : Nat) (σ : MS) (r : Int32) (σ_ : MS) (h : f_isName_112 N σ = some (r, σ_)) : vKt σ σ_ := by
  unfold f_isName_112 at h
  have w1 := kt_isName_113 N σ 0 _ _ h
  exact w1
set_option maxRecDepth 100000 in
theorem kt_isName_95 (N : Nat) (σ : MS) (s0 : Int32) (r : Int32) (σ_ : MS) (h : f_isName_95 N σ s0 = some (r, σ_)) : vKt σ σ_ := by
  unfold f_isName_95 at h
  obtain ⟨y1, ey1⟩ : ∃ z, z = σ.1 6 := ⟨_, rfl⟩
  have h := mlet_at ey1 h
  by_cases c1 : y1 = 2
  · have h := mif_t c1 h
    by_cases c2 : s0 = 0
    · have h := mif_t c2 h
      have w3 := kt_isName_113 N σ 1 _ _ h
      exact w3
    · have h := mif_f c2 h
      have w4 := kt_isName_112 N σ _ _ h
      exact w4
  · have h := mif_f c1 h
    have w5 := kt_isName_112 N σ _ _ h
    exact w5
set_option maxRecDepth 100000 in
theorem kt_isName_90 (N : Nat) (σ : MS) (r : Int32) (σ_ : MS) (h : f_isName_90 N σ = some (r, σ_)) : vKt σ σ_ := by
  unfold f_isName_90 at h
  have w1 := kt_isName_95 N σ 1 _ _ h
  exact w1
set_option maxRecDepth 100000 in
theorem kt_isName (N : Nat) (σ : MS) (r : Int32) (σ_ : MS) (h : f_isName N σ = some (r, σ_)) : vKt σ σ_ := by
  unfold f_isName at h
  obtain ⟨r4, σ2, c1, h⟩ := mcall_n h
  have w2 := kt_word N (pTx 32) σ _ _ c1
  by_cases c3 : r4 = 0
  · have h := mif_t c3 h
    obtain ⟨r9, σ7, c4, h⟩ := mcall_n h
    have w5 := kt_word N (pTx 33) σ2 _ _ c4
    by_cases c6 : r9 = 0
    · have h := mif_t c6 h
      obtain ⟨r14, σ12, c7, h⟩ := mcall_n h
      have w8 := kt_word N (pTx 34) σ7 _ _ c7
      by_cases c9 : r14 = 0
      · have h := mif_t c9 h
        obtain ⟨r19, σ17, c10, h⟩ := mcall_n h
        have w11 := kt_word N (pTx 35) σ12 _ _ c10
        by_cases c12 : r19 = 0
        · have h := mif_t c12 h
          obtain ⟨r24, σ22, c13, h⟩ := mcall_n h
          have w14 := kt_word N (pTx 36) σ17 _ _ c13
          by_cases c15 : r24 = 0
          · have h := mif_t c15 h
            obtain ⟨r29, σ27, c16, h⟩ := mcall_n h
            have w17 := kt_word N (pTx 37) σ22 _ _ c16
            by_cases c18 : r29 = 0
            · have h := mif_t c18 h
              obtain ⟨r34, σ32, c19, h⟩ := mcall_n h
              have w20 := kt_word N (pTx 38) σ27 _ _ c19
              by_cases c21 : r34 = 0
              · have h := mif_t c21 h
                obtain ⟨r39, σ37, c22, h⟩ := mcall_n h
                have w23 := kt_word N (pTx 39) σ32 _ _ c22
                by_cases c24 : r39 = 0
                · have h := mif_t c24 h
                  obtain ⟨r44, σ42, c25, h⟩ := mcall_n h
                  have w26 := kt_word N (pTx 40) σ37 _ _ c25
                  by_cases c27 : r44 = 0
                  · have h := mif_t c27 h
                    obtain ⟨r49, σ47, c28, h⟩ := mcall_n h
                    have w29 := kt_word N (pTx 41) σ42 _ _ c28
                    by_cases c30 : r49 = 0
                    · have h := mif_t c30 h
                      have w31 := kt_isName_95 N σ47 0 _ _ h
                      exact ((((((((((w2).t w5).t w8).t w11).t w14).t w17).t w20).t w23).t w26).t w29).t w31
                    · have h := mif_f c30 h
                      have w32 := kt_isName_90 N σ47 _ _ h
                      exact ((((((((((w2).t w5).t w8).t w11).t w14).t w17).t w20).t w23).t w26).t w29).t w32
                  · have h := mif_f c27 h
                    have w33 := kt_isName_90 N σ42 _ _ h
                    exact (((((((((w2).t w5).t w8).t w11).t w14).t w17).t w20).t w23).t w26).t w33
                · have h := mif_f c24 h
                  have w34 := kt_isName_90 N σ37 _ _ h
                  exact ((((((((w2).t w5).t w8).t w11).t w14).t w17).t w20).t w23).t w34
              · have h := mif_f c21 h
                have w35 := kt_isName_90 N σ32 _ _ h
                exact (((((((w2).t w5).t w8).t w11).t w14).t w17).t w20).t w35
            · have h := mif_f c18 h
              have w36 := kt_isName_90 N σ27 _ _ h
              exact ((((((w2).t w5).t w8).t w11).t w14).t w17).t w36
          · have h := mif_f c15 h
            have w37 := kt_isName_90 N σ22 _ _ h
            exact (((((w2).t w5).t w8).t w11).t w14).t w37
        · have h := mif_f c12 h
          have w38 := kt_isName_90 N σ17 _ _ h
          exact ((((w2).t w5).t w8).t w11).t w38
      · have h := mif_f c9 h
        have w39 := kt_isName_90 N σ12 _ _ h
        exact (((w2).t w5).t w8).t w39
    · have h := mif_f c6 h
      have w40 := kt_isName_90 N σ7 _ _ h
      exact ((w2).t w5).t w40
  · have h := mif_f c3 h
    have w41 := kt_isName_90 N σ2 _ _ h
    exact (w2).t w41
set_option maxRecDepth 100000 in
theorem kt_must (N : Nat) (tx : List Int32) (σ : MS) (r : Int32) (σ_ : MS) (h : f_must N tx σ = some (r, σ_)) : vKt σ σ_ := by
  unfold f_must at h
  obtain ⟨y1, ey1⟩ : ∃ z, z = σ.1 13 := ⟨_, rfl⟩
  have h := mlet_at ey1 h
  by_cases c1 : y1 = 0
  · have h := mif_t c1 h
    obtain ⟨r6, σ4, c2, h⟩ := mcall_n h
    have w3 := kt_word N tx σ _ _ c2
    by_cases c4 : r6 = 0
    · have h := mif_t c4 h
      obtain ⟨y11, ey11⟩ : ∃ z, z = σ4.1 4 := ⟨_, rfl⟩
      have h := mlet_at ey11 h
      obtain ⟨r15, σ13, c5, h⟩ := mcall_n h
      have w6 := (kt_wrong N σ4 1 y11 _ _ c5).1
      obtain ⟨c7, h⟩ := mif_n h
      cases h
      exact (w3).t w6
    · have h := mif_f c4 h
      obtain ⟨σ9, c8, h⟩ := mcallv_n h
      have w9 := kt_next N σ4 _ c8
      cases h
      exact (w3).t w9
  · have h := mif_f c1 h
    cases h
    exact vKt_r
set_option maxRecDepth 100000 in
theorem kt_groundLine_203 (N : Nat) (σ : MS) (σ_ : MS) (h : f_groundLine_203 N σ = some σ_) : vKt σ σ_ := by
  unfold f_groundLine_203 at h
  cases h
  exact vKt_r
set_option maxRecDepth 100000 in
theorem kt_groundLine_83 (N : Nat) : ∀ (n : Nat) (σ : MS) (x1 : Int32) (σ_ : MS), f_groundLine_83 N n σ x1 = some σ_ → vKt σ σ_ := by
  intro n
  induction n with
  | zero =>
    intro σ x1 σ_ h
    cases h
  | succ n ih =>
    intro σ x1 σ_ h
    unfold f_groundLine_83 at h
    obtain ⟨y1, ey1⟩ : ∃ z, z = σ.1 8 := ⟨_, rfl⟩
    have h := mlet_at ey1 h
    by_cases c1 : y1 ≤ x1
    · have h := mif_t c1 h
      obtain ⟨y4, ey4⟩ : ∃ z, z = σ.1 22 := ⟨_, rfl⟩
      have h := mlet_at ey4 h
      obtain ⟨y5, ey5⟩ : ∃ z, z = σ.1 8 := ⟨_, rfl⟩
      have h := mlet_at ey5 h
      obtain ⟨c2, h⟩ := mif_n h
      obtain ⟨σ7, eσ7⟩ : ∃ z, z = mArr σ 15 y4.toNatClampNeg y5 := ⟨_, rfl⟩
      have h := mlet_at eσ7 h
      have w3 : vKt σ σ7 := by rw [eσ7]; exact vKt_arr
      obtain ⟨σ9, c4, h⟩ := mcallv_n h
      have w5 := kt_next N σ7 _ c4
      obtain ⟨r14, σ12, c6, h⟩ := mcall_n h
      have w7 := kt_must N (pTx 42) σ9 _ _ c6
      obtain ⟨y16, ey16⟩ : ∃ z, z = σ12.1 22 := ⟨_, rfl⟩
      have h := mlet_at ey16 h
      obtain ⟨r21, σ19, c8, h⟩ := mcall_n h
      have w9 := kt_pairs N 20 (by decide) σ12 1 _ _ c8
      obtain ⟨c10, h⟩ := mif_n h
      obtain ⟨σ23, eσ23⟩ : ∃ z, z = mArr σ19 18 y16.toNatClampNeg r21 := ⟨_, rfl⟩
      have h := mlet_at eσ23 h
      have w11 : vKt σ19 σ23 := by rw [eσ23]; exact vKt_arr
      obtain ⟨r27, σ25, c12, h⟩ := mcall_n h
      have w13 := kt_must N (pTx 43) σ23 _ _ c12
      obtain ⟨y29, ey29⟩ : ∃ z, z = σ25.1 22 := ⟨_, rfl⟩
      have h := mlet_at ey29 h
      obtain ⟨r34, σ32, c14, h⟩ := mcall_n h
      have w15 := kt_pairs N 21 (by decide) σ25 0 _ _ c14
      obtain ⟨c16, h⟩ := mif_n h
      obtain ⟨σ36, eσ36⟩ : ∃ z, z = mArr σ32 19 y29.toNatClampNeg r34 := ⟨_, rfl⟩
      have h := mlet_at eσ36 h
      have w17 : vKt σ32 σ36 := by rw [eσ36]; exact vKt_arr
      obtain ⟨y37, ey37⟩ : ∃ z, z = σ36.1 13 := ⟨_, rfl⟩
      have h := mlet_at ey37 h
      by_cases c18 : y37 = 0
      · have h := mif_t c18 h
        obtain ⟨y39, ey39⟩ : ∃ z, z = σ36.1 22 := ⟨_, rfl⟩
        have h := mlet_at ey39 h
        obtain ⟨σ40, eσ40⟩ : ∃ z, z = mSet σ36 22 ((y39 + 1)) := ⟨_, rfl⟩
        have h := mlet_at eσ40 h
        have w19 : vKt σ36 σ40 := by rw [eσ40]; exact vKt_set (by decide)
        have w20 := kt_groundLine_203 N σ40 _ h
        exact (((((((((w3).t w5).t w7).t w9).t w11).t w13).t w15).t w17).t w19).t w20
      · have h := mif_f c18 h
        have w21 := kt_groundLine_203 N σ36 _ h
        exact ((((((((w3).t w5).t w7).t w9).t w11).t w13).t w15).t w17).t w21
    · have h := mif_f c1 h
      obtain ⟨y42, ey42⟩ : ∃ z, z = σ.1 22 := ⟨_, rfl⟩
      have h := mlet_at ey42 h
      obtain ⟨c22, h⟩ := mif_n h
      obtain ⟨y45, ey45⟩ : ∃ z, z = σ.2.1 11 x1.toNatClampNeg := ⟨_, rfl⟩
      have h := mlet_at ey45 h
      obtain ⟨c23, h⟩ := mif_n h
      obtain ⟨σ47, eσ47⟩ : ∃ z, z = mArr σ 14 ((8 * y42) + x1).toNatClampNeg y45 := ⟨_, rfl⟩
      have h := mlet_at eσ47 h
      have w24 : vKt σ σ47 := by rw [eσ47]; exact vKt_arr
      obtain ⟨y48, ey48⟩ : ∃ z, z = x1 + 1 := ⟨_, rfl⟩
      have h := mlet_at ey48 h
      have w25 := ih _ _ _ h
      exact (w24).t w25
set_option maxRecDepth 100000 in
theorem kt_groundLine_73 (N : Nat) (σ : MS) (σ_ : MS) (h : f_groundLine_73 N σ = some σ_) : vKt σ σ_ := by
  unfold f_groundLine_73 at h
  obtain ⟨y1, ey1⟩ : ∃ z, z = σ.1 13 := ⟨_, rfl⟩
  have h := mlet_at ey1 h
  by_cases c1 : y1 = 0
  · have h := mif_t c1 h
    have w2 := kt_groundLine_83 N _ _ _ _ h
    exact w2
  · have h := mif_f c1 h
    cases h
    exact vKt_r
set_option maxRecDepth 100000 in
theorem kt_groundLine_47 (N : Nat) (σ : MS) (σ_ : MS) (h : f_groundLine_47 N σ = some σ_) : vKt σ σ_ := by
  unfold f_groundLine_47 at h
  obtain ⟨y1, ey1⟩ : ∃ z, z = σ.1 13 := ⟨_, rfl⟩
  have h := mlet_at ey1 h
  by_cases c1 : y1 = 0
  · have h := mif_t c1 h
    obtain ⟨y3, ey3⟩ : ∃ z, z = σ.1 22 := ⟨_, rfl⟩
    have h := mlet_at ey3 h
    by_cases c2 : y3 = 8
    · have h := mif_t c2 h
      obtain ⟨y5, ey5⟩ : ∃ z, z = σ.1 4 := ⟨_, rfl⟩
      have h := mlet_at ey5 h
      obtain ⟨r9, σ7, c3, h⟩ := mcall_n h
      have w4 := (kt_wrong N σ 5 y5 _ _ c3).1
      have w5 := kt_groundLine_73 N σ7 _ h
      exact (w4).t w5
    · have h := mif_f c2 h
      have w6 := kt_groundLine_73 N σ _ h
      exact w6
  · have h := mif_f c1 h
    have w7 := kt_groundLine_73 N σ _ h
    exact w7
set_option maxRecDepth 100000 in
theorem kt_groundLine (N : Nat) (σ : MS) (σ_ : MS) (h : f_groundLine N σ = some σ_) : vKt σ σ_ := by
  unfold f_groundLine at h
  obtain ⟨r4, σ2, c1, h⟩ := mcall_n h
  have w2 := kt_isName N σ _ _ c1
  by_cases c3 : r4 = 0
  · have h := mif_t c3 h
    obtain ⟨y19, ey19⟩ : ∃ z, z = σ2.1 4 := ⟨_, rfl⟩
    have h := mlet_at ey19 h
    obtain ⟨r23, σ21, c4, h⟩ := mcall_n h
    have w5 := (kt_wrong N σ2 1 y19 _ _ c4).1
    cases h
    exact (w2).t w5
  · have h := mif_f c3 h
    obtain ⟨y8, ey8⟩ : ∃ z, z = σ2.1 22 := ⟨_, rfl⟩
    have h := mlet_at ey8 h
    obtain ⟨r12, σ10, c6, h⟩ := mcall_n h
    have w7 := kt_find N 14 (by decide) 15 (by decide) σ2 y8 _ _ c6
    by_cases c8 : r12 < 0
    · have h := mif_t c8 h
      have w9 := kt_groundLine_47 N σ10 _ h
      exact ((w2).t w7).t w9
    · have h := mif_f c8 h
      obtain ⟨y14, ey14⟩ : ∃ z, z = σ10.1 4 := ⟨_, rfl⟩
      have h := mlet_at ey14 h
      obtain ⟨r18, σ16, c10, h⟩ := mcall_n h
      have w11 := (kt_wrong N σ10 3 y14 _ _ c10).1
      have w12 := kt_groundLine_47 N σ16 _ h
      exact (((w2).t w7).t w11).t w12
set_option maxRecDepth 100000 in
theorem kt_tryLine_223 (N : Nat) (σ : MS) (σ_ : MS) (h : f_tryLine_223 N σ = some σ_) : vKt σ σ_ := by
  unfold f_tryLine_223 at h
  cases h
  exact vKt_r
set_option maxRecDepth 100000 in
theorem kt_tryLine_83 (N : Nat) : ∀ (n : Nat) (σ : MS) (x1 : Int32) (σ_ : MS), f_tryLine_83 N n σ x1 = some σ_ → vKt σ σ_ := by
  intro n
  induction n with
  | zero =>
    intro σ x1 σ_ h
    cases h
  | succ n ih =>
    intro σ x1 σ_ h
    unfold f_tryLine_83 at h
    obtain ⟨y1, ey1⟩ : ∃ z, z = σ.1 8 := ⟨_, rfl⟩
    have h := mlet_at ey1 h
    by_cases c1 : y1 ≤ x1
    · have h := mif_t c1 h
      obtain ⟨y4, ey4⟩ : ∃ z, z = σ.1 23 := ⟨_, rfl⟩
      have h := mlet_at ey4 h
      obtain ⟨y5, ey5⟩ : ∃ z, z = σ.1 8 := ⟨_, rfl⟩
      have h := mlet_at ey5 h
      obtain ⟨c2, h⟩ := mif_n h
      obtain ⟨σ7, eσ7⟩ : ∃ z, z = mArr σ 17 y4.toNatClampNeg y5 := ⟨_, rfl⟩
      have h := mlet_at eσ7 h
      have w3 : vKt σ σ7 := by rw [eσ7]; exact vKt_arr
      obtain ⟨σ9, c4, h⟩ := mcallv_n h
      have w5 := kt_next N σ7 _ c4
      obtain ⟨r14, σ12, c6, h⟩ := mcall_n h
      have w7 := kt_must N (pTx 49) σ9 _ _ c6
      obtain ⟨y16, ey16⟩ : ∃ z, z = σ12.1 23 := ⟨_, rfl⟩
      have h := mlet_at ey16 h
      obtain ⟨r20, σ18, c8, h⟩ := mcall_n h
      have w9 := kt_signed N σ12 (-4) 4 _ _ c8
      obtain ⟨c10, h⟩ := mif_n h
      obtain ⟨σ22, eσ22⟩ : ∃ z, z = mArr σ18 30 y16.toNatClampNeg r20 := ⟨_, rfl⟩
      have h := mlet_at eσ22 h
      have w11 : vKt σ18 σ22 := by rw [eσ22]; exact vKt_arr
      obtain ⟨r26, σ24, c12, h⟩ := mcall_n h
      have w13 := kt_must N (pTx 50) σ22 _ _ c12
      obtain ⟨y28, ey28⟩ : ∃ z, z = σ24.1 23 := ⟨_, rfl⟩
      have h := mlet_at ey28 h
      obtain ⟨r32, σ30, c14, h⟩ := mcall_n h
      have w15 := kt_signed N σ24 (-4) 4 _ _ c14
      obtain ⟨c16, h⟩ := mif_n h
      obtain ⟨σ34, eσ34⟩ : ∃ z, z = mArr σ30 31 y28.toNatClampNeg r32 := ⟨_, rfl⟩
      have h := mlet_at eσ34 h
      have w17 : vKt σ30 σ34 := by rw [eσ34]; exact vKt_arr
      obtain ⟨r38, σ36, c18, h⟩ := mcall_n h
      have w19 := kt_must N (pTx 51) σ34 _ _ c18
      obtain ⟨y40, ey40⟩ : ∃ z, z = σ36.1 23 := ⟨_, rfl⟩
      have h := mlet_at ey40 h
      obtain ⟨r44, σ42, c20, h⟩ := mcall_n h
      have w21 := kt_number N σ36 1 99 _ _ c20
      obtain ⟨c22, h⟩ := mif_n h
      obtain ⟨σ46, eσ46⟩ : ∃ z, z = mArr σ42 32 y40.toNatClampNeg r44 := ⟨_, rfl⟩
      have h := mlet_at eσ46 h
      have w23 : vKt σ42 σ46 := by rw [eσ46]; exact vKt_arr
      obtain ⟨y47, ey47⟩ : ∃ z, z = σ46.1 13 := ⟨_, rfl⟩
      have h := mlet_at ey47 h
      by_cases c24 : y47 = 0
      · have h := mif_t c24 h
        obtain ⟨y49, ey49⟩ : ∃ z, z = σ46.1 23 := ⟨_, rfl⟩
        have h := mlet_at ey49 h
        obtain ⟨σ50, eσ50⟩ : ∃ z, z = mSet σ46 23 ((y49 + 1)) := ⟨_, rfl⟩
        have h := mlet_at eσ50 h
        have w25 : vKt σ46 σ50 := by rw [eσ50]; exact vKt_set (by decide)
        have w26 := kt_tryLine_223 N σ50 _ h
        exact ((((((((((((w3).t w5).t w7).t w9).t w11).t w13).t w15).t w17).t w19).t w21).t w23).t w25).t w26
      · have h := mif_f c24 h
        have w27 := kt_tryLine_223 N σ46 _ h
        exact (((((((((((w3).t w5).t w7).t w9).t w11).t w13).t w15).t w17).t w19).t w21).t w23).t w27
    · have h := mif_f c1 h
      obtain ⟨y52, ey52⟩ : ∃ z, z = σ.1 23 := ⟨_, rfl⟩
      have h := mlet_at ey52 h
      obtain ⟨c28, h⟩ := mif_n h
      obtain ⟨y55, ey55⟩ : ∃ z, z = σ.2.1 11 x1.toNatClampNeg := ⟨_, rfl⟩
      have h := mlet_at ey55 h
      obtain ⟨c29, h⟩ := mif_n h
      obtain ⟨σ57, eσ57⟩ : ∃ z, z = mArr σ 16 ((8 * y52) + x1).toNatClampNeg y55 := ⟨_, rfl⟩
      have h := mlet_at eσ57 h
      have w30 : vKt σ σ57 := by rw [eσ57]; exact vKt_arr
      obtain ⟨y58, ey58⟩ : ∃ z, z = x1 + 1 := ⟨_, rfl⟩
      have h := mlet_at ey58 h
      have w31 := ih _ _ _ h
      exact (w30).t w31
set_option maxRecDepth 100000 in
theorem kt_tryLine_73 (N : Nat) (σ : MS) (σ_ : MS) (h : f_tryLine_73 N σ = some σ_) : vKt σ σ_ := by
  unfold f_tryLine_73 at h
  obtain ⟨y1, ey1⟩ : ∃ z, z = σ.1 13 := ⟨_, rfl⟩
  have h := mlet_at ey1 h
  by_cases c1 : y1 = 0
  · have h := mif_t c1 h
    have w2 := kt_tryLine_83 N _ _ _ _ h
    exact w2
  · have h := mif_f c1 h
    cases h
    exact vKt_r
set_option maxRecDepth 100000 in
theorem kt_tryLine_47 (N : Nat) (σ : MS) (σ_ : MS) (h : f_tryLine_47 N σ = some σ_) : vKt σ σ_ := by
  unfold f_tryLine_47 at h
  obtain ⟨y1, ey1⟩ : ∃ z, z = σ.1 13 := ⟨_, rfl⟩
  have h := mlet_at ey1 h
  by_cases c1 : y1 = 0
  · have h := mif_t c1 h
    obtain ⟨y3, ey3⟩ : ∃ z, z = σ.1 23 := ⟨_, rfl⟩
    have h := mlet_at ey3 h
    by_cases c2 : y3 = 6
    · have h := mif_t c2 h
      obtain ⟨y5, ey5⟩ : ∃ z, z = σ.1 4 := ⟨_, rfl⟩
      have h := mlet_at ey5 h
      obtain ⟨r9, σ7, c3, h⟩ := mcall_n h
      have w4 := (kt_wrong N σ 5 y5 _ _ c3).1
      have w5 := kt_tryLine_73 N σ7 _ h
      exact (w4).t w5
    · have h := mif_f c2 h
      have w6 := kt_tryLine_73 N σ _ h
      exact w6
  · have h := mif_f c1 h
    have w7 := kt_tryLine_73 N σ _ h
    exact w7
set_option maxRecDepth 100000 in
theorem kt_tryLine (N : Nat) (σ : MS) (σ_ : MS) (h : f_tryLine N σ = some σ_) : vKt σ σ_ := by
  unfold f_tryLine at h
  obtain ⟨r4, σ2, c1, h⟩ := mcall_n h
  have w2 := kt_isName N σ _ _ c1
  by_cases c3 : r4 = 0
  · have h := mif_t c3 h
    obtain ⟨y19, ey19⟩ : ∃ z, z = σ2.1 4 := ⟨_, rfl⟩
    have h := mlet_at ey19 h
    obtain ⟨r23, σ21, c4, h⟩ := mcall_n h
    have w5 := (kt_wrong N σ2 1 y19 _ _ c4).1
    cases h
    exact (w2).t w5
  · have h := mif_f c3 h
    obtain ⟨y8, ey8⟩ : ∃ z, z = σ2.1 23 := ⟨_, rfl⟩
    have h := mlet_at ey8 h
    obtain ⟨r12, σ10, c6, h⟩ := mcall_n h
    have w7 := kt_find N 16 (by decide) 17 (by decide) σ2 y8 _ _ c6
    by_cases c8 : r12 < 0
    · have h := mif_t c8 h
      have w9 := kt_tryLine_47 N σ10 _ h
      exact ((w2).t w7).t w9
    · have h := mif_f c8 h
      obtain ⟨y14, ey14⟩ : ∃ z, z = σ10.1 4 := ⟨_, rfl⟩
      have h := mlet_at ey14 h
      obtain ⟨r18, σ16, c10, h⟩ := mcall_n h
      have w11 := (kt_wrong N σ10 3 y14 _ _ c10).1
      have w12 := kt_tryLine_47 N σ16 _ h
      exact (((w2).t w7).t w11).t w12
set_option maxRecDepth 100000 in
theorem kt_line_187 (N : Nat) (σ : MS) (σ_ : MS) (h : f_line_187 N σ = some σ_) : vKt σ σ_ := by
  unfold f_line_187 at h
  cases h
  exact vKt_r
set_option maxRecDepth 100000 in
theorem kt_line (N : Nat) (σ : MS) (σ_ : MS) (h : f_line N σ = some σ_) : vKt σ σ_ := by
  unfold f_line at h
  obtain ⟨r4, σ2, c1, h⟩ := mcall_n h
  have w2 := kt_word N (pTx 32) σ _ _ c1
  by_cases c3 : r4 = 0
  · have h := mif_t c3 h
    obtain ⟨r9, σ7, c4, h⟩ := mcall_n h
    have w5 := kt_word N (pTx 33) σ2 _ _ c4
    by_cases c6 : r9 = 0
    · have h := mif_t c6 h
      obtain ⟨r14, σ12, c7, h⟩ := mcall_n h
      have w8 := kt_word N (pTx 34) σ7 _ _ c7
      by_cases c9 : r14 = 0
      · have h := mif_t c9 h
        obtain ⟨y16, ey16⟩ : ∃ z, z = σ12.1 4 := ⟨_, rfl⟩
        have h := mlet_at ey16 h
        obtain ⟨r20, σ18, c10, h⟩ := mcall_n h
        have w11 := (kt_wrong N σ12 1 y16 _ _ c10).1
        have w12 := kt_line_187 N σ18 _ h
        exact ((((w2).t w5).t w8).t w11).t w12
      · have h := mif_f c9 h
        obtain ⟨σ22, c13, h⟩ := mcallv_n h
        have w14 := kt_next N σ12 _ c13
        obtain ⟨σ25, c15, h⟩ := mcallv_n h
        have w16 := kt_tryLine N σ22 _ c15
        have w17 := kt_line_187 N σ25 _ h
        exact (((((w2).t w5).t w8).t w14).t w16).t w17
    · have h := mif_f c6 h
      obtain ⟨y27, ey27⟩ : ∃ z, z = σ7.1 29 := ⟨_, rfl⟩
      have h := mlet_at ey27 h
      by_cases c18 : y27 = 0
      · have h := mif_t c18 h
        obtain ⟨σ30, c19, h⟩ := mcallv_n h
        have w20 := kt_next N σ7 _ c19
        obtain ⟨σ32, eσ32⟩ : ∃ z, z = mSet σ30 29 (1) := ⟨_, rfl⟩
        have h := mlet_at eσ32 h
        have w21 : vKt σ30 σ32 := by rw [eσ32]; exact vKt_set (by decide)
        obtain ⟨r36, σ34, c22, h⟩ := mcall_n h
        have w23 := kt_must N (pTx 44) σ32 _ _ c22
        obtain ⟨r40, σ38, c24, h⟩ := mcall_n h
        have w25 := kt_number N σ34 2 6 _ _ c24
        obtain ⟨σ41, eσ41⟩ : ∃ z, z = mSet σ38 24 (r40) := ⟨_, rfl⟩
        have h := mlet_at eσ41 h
        have w26 : vKt σ38 σ41 := by rw [eσ41]; exact vKt_set (by decide)
        obtain ⟨r45, σ43, c27, h⟩ := mcall_n h
        have w28 := kt_must N (pTx 45) σ41 _ _ c27
        obtain ⟨r49, σ47, c29, h⟩ := mcall_n h
        have w30 := kt_number N σ43 1 999 _ _ c29
        obtain ⟨σ50, eσ50⟩ : ∃ z, z = mSet σ47 25 (r49) := ⟨_, rfl⟩
        have h := mlet_at eσ50 h
        have w31 : vKt σ47 σ50 := by rw [eσ50]; exact vKt_set (by decide)
        obtain ⟨r54, σ52, c32, h⟩ := mcall_n h
        have w33 := kt_must N (pTx 46) σ50 _ _ c32
        obtain ⟨r58, σ56, c34, h⟩ := mcall_n h
        have w35 := kt_number N σ52 1 300 _ _ c34
        obtain ⟨σ59, eσ59⟩ : ∃ z, z = mSet σ56 26 (r58) := ⟨_, rfl⟩
        have h := mlet_at eσ59 h
        have w36 : vKt σ56 σ59 := by rw [eσ59]; exact vKt_set (by decide)
        obtain ⟨r63, σ61, c37, h⟩ := mcall_n h
        have w38 := kt_must N (pTx 47) σ59 _ _ c37
        obtain ⟨r67, σ65, c39, h⟩ := mcall_n h
        have w40 := kt_number N σ61 0 300 _ _ c39
        obtain ⟨σ68, eσ68⟩ : ∃ z, z = mSet σ65 27 (r67) := ⟨_, rfl⟩
        have h := mlet_at eσ68 h
        have w41 : vKt σ65 σ68 := by rw [eσ68]; exact vKt_set (by decide)
        obtain ⟨r72, σ70, c42, h⟩ := mcall_n h
        have w43 := kt_must N (pTx 48) σ68 _ _ c42
        obtain ⟨r76, σ74, c44, h⟩ := mcall_n h
        have w45 := kt_number N σ70 0 99 _ _ c44
        obtain ⟨σ77, eσ77⟩ : ∃ z, z = mSet σ74 28 (r76) := ⟨_, rfl⟩
        have h := mlet_at eσ77 h
        have w46 : vKt σ74 σ77 := by rw [eσ77]; exact vKt_set (by decide)
        have w47 := kt_line_187 N σ77 _ h
        exact (((((((((((((((((((w2).t w5).t w20).t w21).t w23).t w25).t w26).t w28).t w30).t w31).t w33).t w35).t w36).t w38).t w40).t w41).t w43).t w45).t w46).t w47
      · have h := mif_f c18 h
        obtain ⟨y78, ey78⟩ : ∃ z, z = σ7.1 4 := ⟨_, rfl⟩
        have h := mlet_at ey78 h
        obtain ⟨r82, σ80, c48, h⟩ := mcall_n h
        have w49 := (kt_wrong N σ7 3 y78 _ _ c48).1
        cases h
        exact ((w2).t w5).t w49
  · have h := mif_f c3 h
    obtain ⟨σ84, c50, h⟩ := mcallv_n h
    have w51 := kt_next N σ2 _ c50
    obtain ⟨σ87, c52, h⟩ := mcallv_n h
    have w53 := kt_groundLine N σ84 _ c52
    have w54 := kt_line_187 N σ87 _ h
    exact (((w2).t w51).t w53).t w54
