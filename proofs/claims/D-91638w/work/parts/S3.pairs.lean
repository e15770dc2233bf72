/-! BY gen_ks.py: PLAIN: pairs of numbers: the reading goes on by two signs -/
set_option maxRecDepth 100000 in
theorem ks_pairs_164 (N : Nat) (j1 : Nat) (hj1 : vOkE j1 = true) (k16 : MS → Int32 → Int32 → Int32 → Option (Int32 × MS)) (hk16 : ∀ (z0 : MS) (z1 : Int32) (z2 : Int32) (z3 : Int32) (r : Int32) (s : MS), k16 z0 z1 z2 z3 = some (r, s) → vKt z0 s) (σ : MS) (x2 : Int32) (x3 : Int32) (x5 : Int32) (x8 : Int32) (s0 : Int32) (s1 : Int32) (r : Int32) (σ_ : MS) (h : f_pairs_164 N j1 k16 σ x2 x3 x5 x8 s0 s1 = some (r, σ_)) : vKs 1 σ σ_ := by
  unfold f_pairs_164 at h
  obtain ⟨r3, σ1, c1, h⟩ := mcall_n h
  have w2 := ks_number c1
  by_cases c3 : (σ1.1 13) = 0
  · have h := mif_t c3 h
    obtain ⟨c4, h⟩ := mif_n h
    obtain ⟨σ6, eσ6⟩ : ∃ z, z = mArr σ1 j1 x5.toNatClampNeg x8 := ⟨_, rfl⟩
    have h := mlet_at eσ6 h
    have w5 : vKs 0 σ1 σ6 := by rw [eσ6]; exact (vKt_arr).s
    obtain ⟨c6, h⟩ := mif_n h
    obtain ⟨σ8, eσ8⟩ : ∃ z, z = mArr σ6 j1 (x5 + 1).toNatClampNeg r3 := ⟨_, rfl⟩
    have h := mlet_at eσ8 h
    have w7 : vKs 0 σ6 σ8 := by rw [eσ8]; exact (vKt_arr).s
    obtain ⟨y9, ey9⟩ : ∃ z, z = x3 + 1 := ⟨_, rfl⟩
    have h := mlet_at ey9 h
    by_cases c8 : (σ8.1 6) = 44
    · have h := mif_t c8 h
      have w9 := (kt_pairs_209 N j1 hj1 k16 hk16 σ8 x2 y9 1 _ _ h).s
      exact vKs.le ((((w2).t w5).t w7).t w9) (by decide)
    · have h := mif_f c8 h
      have w10 := (kt_pairs_209 N j1 hj1 k16 hk16 σ8 x2 y9 0 _ _ h).s
      exact vKs.le ((((w2).t w5).t w7).t w10) (by decide)
  · have h := mif_f c3 h
    cases h
    exact vKs.le (w2) (by decide)
set_option maxRecDepth 100000 in
theorem ks_pairs_151 (N : Nat) (j1 : Nat) (hj1 : vOkE j1 = true) (k16 : MS → Int32 → Int32 → Int32 → Option (Int32 × MS)) (hk16 : ∀ (z0 : MS) (z1 : Int32) (z2 : Int32) (z3 : Int32) (r : Int32) (s : MS), k16 z0 z1 z2 z3 = some (r, s) → vKt z0 s) (σ : MS) (x2 : Int32) (x3 : Int32) (x5 : Int32) (x8 : Int32) (s0 : Int32) (r : Int32) (σ_ : MS) (h : f_pairs_151 N j1 k16 σ x2 x3 x5 x8 s0 = some (r, σ_)) : vKs 1 σ σ_ := by
  unfold f_pairs_151 at h
  by_cases c1 : x2 = 0
  · have h := mif_t c1 h
    have w2 := ks_pairs_164 N j1 hj1 k16 hk16 σ x2 x3 x5 x8 150 s0 _ _ h
    exact vKs.le (w2) (by decide)
  · have h := mif_f c1 h
    have w3 := ks_pairs_164 N j1 hj1 k16 hk16 σ x2 x3 x5 x8 300 s0 _ _ h
    exact vKs.le (w3) (by decide)
set_option maxRecDepth 100000 in
theorem ks_pairs_150 (N : Nat) (j1 : Nat) (hj1 : vOkE j1 = true) (k16 : MS → Int32 → Int32 → Int32 → Option (Int32 × MS)) (hk16 : ∀ (z0 : MS) (z1 : Int32) (z2 : Int32) (z3 : Int32) (r : Int32) (s : MS), k16 z0 z1 z2 z3 = some (r, s) → vKt z0 s) (σ : MS) (x2 : Int32) (x3 : Int32) (x5 : Int32) (x8 : Int32) (r : Int32) (σ_ : MS) (h : f_pairs_150 N j1 k16 σ x2 x3 x5 x8 = some (r, σ_)) : vKs 1 σ σ_ := by
  unfold f_pairs_150 at h
  have w1 := ks_pairs_151 N j1 hj1 k16 hk16 σ x2 x3 x5 x8 0 _ _ h
  exact vKs.le (w1) (by decide)
set_option maxRecDepth 100000 in
theorem ks_pairs_116 (N : Nat) (j1 : Nat) (hj1 : vOkE j1 = true) (k16 : MS → Int32 → Int32 → Int32 → Option (Int32 × MS)) (hk16 : ∀ (z0 : MS) (z1 : Int32) (z2 : Int32) (z3 : Int32) (r : Int32) (s : MS), k16 z0 z1 z2 z3 = some (r, s) → vKt z0 s) (σ : MS) (x2 : Int32) (x3 : Int32) (x5 : Int32) (x8 : Int32) (r : Int32) (σ_ : MS) (h : f_pairs_116 N j1 k16 σ x2 x3 x5 x8 = some (r, σ_)) : vKs 1 σ σ_ := by
  unfold f_pairs_116 at h
  by_cases c1 : x2 = 0
  · have h := mif_t c1 h
    have w2 := ks_pairs_150 N j1 hj1 k16 hk16 σ x2 x3 x5 x8 _ _ h
    exact vKs.le (w2) (by decide)
  · have h := mif_f c1 h
    by_cases c3 : x3 ≤ 0
    · have h := mif_t c3 h
      have w4 := ks_pairs_150 N j1 hj1 k16 hk16 σ x2 x3 x5 x8 _ _ h
      exact vKs.le (w4) (by decide)
    · have h := mif_f c3 h
      by_cases c5 : (σ.1 13) = 0
      · have h := mif_t c5 h
        obtain ⟨c6, h⟩ := mif_n h
        obtain ⟨y5, ey5⟩ : ∃ z, z = σ.2.1 j1 (((8 * (σ.1 22)) + (2 * x3)) - 1).toNatClampNeg := ⟨_, rfl⟩
        have h := mlet_at ey5 h
        have w7 := ks_pairs_151 N j1 hj1 k16 hk16 σ x2 x3 x5 x8 y5 _ _ h
        exact vKs.le (w7) (by decide)
      · have h := mif_f c5 h
        have w8 := ks_pairs_150 N j1 hj1 k16 hk16 σ x2 x3 x5 x8 _ _ h
        exact vKs.le (w8) (by decide)
set_option maxRecDepth 100000 in
theorem ks_pairs_91 (N : Nat) (j1 : Nat) (hj1 : vOkE j1 = true) (k16 : MS → Int32 → Int32 → Int32 → Option (Int32 × MS)) (hk16 : ∀ (z0 : MS) (z1 : Int32) (z2 : Int32) (z3 : Int32) (r : Int32) (s : MS), k16 z0 z1 z2 z3 = some (r, s) → vKt z0 s) (σ : MS) (x2 : Int32) (x3 : Int32) (x5 : Int32) (x7 : Int32) (s0 : Int32) (s1 : Int32) (r : Int32) (σ_ : MS) (h : f_pairs_91 N j1 k16 σ x2 x3 x5 x7 s0 s1 = some (r, σ_)) : vKs 2 σ σ_ := by
  unfold f_pairs_91 at h
  obtain ⟨r3, σ1, c1, h⟩ := mcall_n h
  have w2 := ks_number c1
  by_cases c3 : (σ1.1 13) = 0
  · have h := mif_t c3 h
    by_cases c4 : x3 = 4
    · have h := mif_t c4 h
      obtain ⟨r8, σ6, c5, h⟩ := mcall_n h
      have w6 := ((kt_wrong N σ1 5 x7 _ _ c5).1).s
      have w7 := ks_pairs_116 N j1 hj1 k16 hk16 σ6 x2 x3 x5 r3 _ _ h
      exact vKs.le (((w2).t w6).t w7) (by decide)
    · have h := mif_f c4 h
      have w8 := ks_pairs_116 N j1 hj1 k16 hk16 σ1 x2 x3 x5 r3 _ _ h
      exact vKs.le ((w2).t w8) (by decide)
  · have h := mif_f c3 h
    have w9 := ks_pairs_116 N j1 hj1 k16 hk16 σ1 x2 x3 x5 r3 _ _ h
    exact vKs.le ((w2).t w9) (by decide)
set_option maxRecDepth 100000 in
theorem ks_pairs_68 (N : Nat) (j1 : Nat) (hj1 : vOkE j1 = true) (k16 : MS → Int32 → Int32 → Int32 → Option (Int32 × MS)) (hk16 : ∀ (z0 : MS) (z1 : Int32) (z2 : Int32) (z3 : Int32) (r : Int32) (s : MS), k16 z0 z1 z2 z3 = some (r, s) → vKt z0 s) (σ : MS) (x2 : Int32) (x3 : Int32) (x5 : Int32) (s0 : Int32) (r : Int32) (σ_ : MS) (h : f_pairs_68 N j1 k16 σ x2 x3 x5 s0 = some (r, σ_)) : vKs 2 σ σ_ := by
  unfold f_pairs_68 at h
  obtain ⟨y1, ey1⟩ : ∃ z, z = σ.1 4 := ⟨_, rfl⟩
  have h := mlet_at ey1 h
  by_cases c1 : x2 = 0
  · have h := mif_t c1 h
    have w2 := ks_pairs_91 N j1 hj1 k16 hk16 σ x2 x3 x5 y1 90 s0 _ _ h
    exact vKs.le (w2) (by decide)
  · have h := mif_f c1 h
    have w3 := ks_pairs_91 N j1 hj1 k16 hk16 σ x2 x3 x5 y1 999 s0 _ _ h
    exact vKs.le (w3) (by decide)
set_option maxRecDepth 100000 in
theorem ks_pairs_39 (N : Nat) (j1 : Nat) (hj1 : vOkE j1 = true) (k16 : MS → Int32 → Int32 → Int32 → Option (Int32 × MS)) (hk16 : ∀ (z0 : MS) (z1 : Int32) (z2 : Int32) (z3 : Int32) (r : Int32) (s : MS), k16 z0 z1 z2 z3 = some (r, s) → vKt z0 s) (σ : MS) (x2 : Int32) (x3 : Int32) (s0 : Int32) (s1 : Int32) (s2 : Int32) (r : Int32) (σ_ : MS) (h : f_pairs_39 N j1 k16 σ x2 x3 s0 s1 s2 = some (r, σ_)) : vKs 2 σ σ_ := by
  unfold f_pairs_39 at h
  obtain ⟨y1, ey1⟩ : ∃ z, z = s2 + (s1 * s0) := ⟨_, rfl⟩
  have h := mlet_at ey1 h
  by_cases c1 : x3 = 0
  · have h := mif_t c1 h
    have w2 := ks_pairs_68 N j1 hj1 k16 hk16 σ x2 x3 y1 0 _ _ h
    exact vKs.le (w2) (by decide)
  · have h := mif_f c1 h
    obtain ⟨c3, h⟩ := mif_n h
    obtain ⟨y4, ey4⟩ : ∃ z, z = σ.2.1 j1 (((8 * (σ.1 22)) + (2 * x3)) - 2).toNatClampNeg := ⟨_, rfl⟩
    have h := mlet_at ey4 h
    have w4 := ks_pairs_68 N j1 hj1 k16 hk16 σ x2 x3 y1 (y4 + 1) _ _ h
    exact vKs.le (w4) (by decide)
theorem ks_pairs (N : Nat) (j1 : Nat) (hj1 : vOkE j1 = true) (σ : MS) (x2 : Int32) (r : Int32) (σ_ : MS) (h : f_pairs N j1 σ x2 = some (r, σ_)) : vKs 2 σ σ_ := by
  have K := kt_pairs N j1 hj1 σ x2 r σ_ h
  unfold f_pairs at h
  by_cases c1 : (σ.1 13) = 0
  · have h := mif_t c1 h
    have h : f_pairs_16 N j1 N σ x2 0 1 = some (r, σ_) := h
    obtain ⟨f, ef⟩ : ∃ f, f = N := ⟨N, rfl⟩
    have h : f_pairs_16 N j1 f σ x2 0 1 = some (r, σ_) := by rw [ef]; exact h
    cases f with
    | zero => cases h
    | succ f =>
      unfold f_pairs_16 at h
      have h := mif_f (show ¬ (1 : Int32) = 0 by decide) h
      have h := mif_f (show ¬ (4 : Int32) ≤ 0 by decide) h
      exact ks_pairs_39 N j1 hj1 _ (kt_pairs_16 N j1 hj1 f) σ x2 0 0 2 (8 * (σ.1 22)) _ _ h
  · have h := mif_f c1 h
    exact vKs_bad K (K.2 c1)
