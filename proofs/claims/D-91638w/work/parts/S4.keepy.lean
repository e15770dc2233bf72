/-! BY gen_fr5.py: PLAIN: what keeps the number of grounds -/
def vKy (σ σ' : MS) : Prop := (∀ k, k = 22 → σ'.1 k = σ.1 k) ∧ True
theorem vKy_r {σ : MS} : vKy σ σ := ⟨fun _ _ => rfl, trivial⟩
theorem vKy.t {a b c : MS} (h : vKy a b) (h' : vKy b c) : vKy a c := ⟨fun k hk => (h'.1 k hk).trans (h.1 k hk), trivial⟩
def vOkG (k : Nat) : Bool := !(k == 22)
def vOkH (j : Nat) : Bool := !(false)
theorem vKy_set {σ : MS} {k : Nat} {v : Int32} (h : vOkG k = true) : vKy σ (mSet σ k v) := ⟨fun i hi => upd_n (fun z => by
    rw [← z, hi] at h
    exact absurd h (by decide)), trivial⟩
theorem vKy_arr {σ : MS} {j i : Nat} {x : Int32} (h : vOkH j = true) : vKy σ (mArr σ j i x) := ⟨fun _ _ => rfl, trivial⟩
theorem vKy_val {σ : MS} {i : Nat} {x : Int64} : vKy σ (mVal σ i x) := ⟨fun _ _ => rfl, trivial⟩
set_option maxRecDepth 100000 in
theorem ky_within_15 (N : Nat) (σ : MS) (s0 : Int32) (r : Int32) (σ_ : MS) (h : f_within_15 N σ s0 = some (r, σ_)) : vKy σ σ_ := by
  unfold f_within_15 at h
  obtain ⟨c1, h⟩ := mif_n h
  cases h
  exact vKy_r
set_option maxRecDepth 100000 in
theorem ky_within_14 (N : Nat) (σ : MS) (r : Int32) (σ_ : MS) (h : f_within_14 N σ = some (r, σ_)) : vKy σ σ_ := by
  unfold f_within_14 at h
  have w1 := ky_within_15 N σ 0 _ _ h
  exact w1
set_option maxRecDepth 100000 in
theorem ky_within (N : Nat) (σ : MS) (x0 : Int32) (x1 : Int32) (x2 : Int32) (r : Int32) (σ_ : MS) (h : f_within N σ x0 x1 x2 = some (r, σ_)) : vKy σ σ_ := by
  unfold f_within at h
  by_cases c1 : x0 < x1
  · have h := mif_t c1 h
    have w2 := ky_within_14 N σ _ _ h
    exact w2
  · have h := mif_f c1 h
    by_cases c3 : x2 < x0
    · have h := mif_t c3 h
      have w4 := ky_within_14 N σ _ _ h
      exact w4
    · have h := mif_f c3 h
      have w5 := ky_within_15 N σ 1 _ _ h
      exact w5
set_option maxRecDepth 100000 in
theorem ky_look_18 (N : Nat) (σ : MS) (s0 : Int32) (r : Int32) (σ_ : MS) (h : f_look_18 N σ s0 = some (r, σ_)) : vKy σ σ_ := by
  unfold f_look_18 at h
  cases h
  exact vKy_r
set_option maxRecDepth 100000 in
theorem ky_look (N : Nat) (σ : MS) (x1 : Int32) (r : Int32) (σ_ : MS) (h : f_look N σ x1 = some (r, σ_)) : vKy σ σ_ := by
  unfold f_look at h
  by_cases c1 : (σ.1 3) ≤ x1
  · have h := mif_t c1 h
    have w2 := ky_look_18 N σ (-1) _ _ h
    exact w2
  · have h := mif_f c1 h
    obtain ⟨c3, h⟩ := mif_n h
    obtain ⟨y3, ey3⟩ : ∃ z, z = σ.2.1 1 x1.toNatClampNeg := ⟨_, rfl⟩
    have h := mlet_at ey3 h
    have w4 := ky_look_18 N σ y3 _ _ h
    exact w4
set_option maxRecDepth 100000 in
theorem ky_isSmall_17 (N : Nat) (σ : MS) (s0 : Int32) (r : Int32) (σ_ : MS) (h : f_isSmall_17 N σ s0 = some (r, σ_)) : vKy σ σ_ := by
  unfold f_isSmall_17 at h
  obtain ⟨c1, h⟩ := mif_n h
  cases h
  exact vKy_r
set_option maxRecDepth 100000 in
theorem ky_isSmall_16 (N : Nat) (σ : MS) (r : Int32) (σ_ : MS) (h : f_isSmall_16 N σ = some (r, σ_)) : vKy σ σ_ := by
  unfold f_isSmall_16 at h
  have w1 := ky_isSmall_17 N σ 0 _ _ h
  exact w1
set_option maxRecDepth 100000 in
theorem ky_isSmall (N : Nat) (σ : MS) (x0 : Int32) (r : Int32) (σ_ : MS) (h : f_isSmall N σ x0 = some (r, σ_)) : vKy σ σ_ := by
  unfold f_isSmall at h
  by_cases c1 : x0 < 97
  · have h := mif_t c1 h
    have w2 := ky_isSmall_16 N σ _ _ h
    exact w2
  · have h := mif_f c1 h
    by_cases c3 : 122 < x0
    · have h := mif_t c3 h
      have w4 := ky_isSmall_16 N σ _ _ h
      exact w4
    · have h := mif_f c3 h
      have w5 := ky_isSmall_17 N σ 1 _ _ h
      exact w5
set_option maxRecDepth 100000 in
theorem ky_isDigit_17 (N : Nat) (σ : MS) (s0 : Int32) (r : Int32) (σ_ : MS) (h : f_isDigit_17 N σ s0 = some (r, σ_)) : vKy σ σ_ := by
  unfold f_isDigit_17 at h
  obtain ⟨c1, h⟩ := mif_n h
  cases h
  exact vKy_r
set_option maxRecDepth 100000 in
theorem ky_isDigit_16 (N : Nat) (σ : MS) (r : Int32) (σ_ : MS) (h : f_isDigit_16 N σ = some (r, σ_)) : vKy σ σ_ := by
  unfold f_isDigit_16 at h
  have w1 := ky_isDigit_17 N σ 0 _ _ h
  exact w1
set_option maxRecDepth 100000 in
theorem ky_isDigit (N : Nat) (σ : MS) (x0 : Int32) (r : Int32) (σ_ : MS) (h : f_isDigit N σ x0 = some (r, σ_)) : vKy σ σ_ := by
  unfold f_isDigit at h
  by_cases c1 : x0 < 48
  · have h := mif_t c1 h
    have w2 := ky_isDigit_16 N σ _ _ h
    exact w2
  · have h := mif_f c1 h
    by_cases c3 : 57 < x0
    · have h := mif_t c3 h
      have w4 := ky_isDigit_16 N σ _ _ h
      exact w4
    · have h := mif_f c3 h
      have w5 := ky_isDigit_17 N σ 1 _ _ h
      exact w5
set_option maxRecDepth 100000 in
theorem ky_next_265 (N : Nat) (σ : MS) (σ_ : MS) (h : f_next_265 N σ = some σ_) : vKy σ σ_ := by
  unfold f_next_265 at h
  cases h
  exact vKy_r
set_option maxRecDepth 100000 in
theorem ky_next_262 (N : Nat) (σ : MS) (s0 : Int32) (σ_ : MS) (h : f_next_262 N σ s0 = some σ_) : vKy σ σ_ := by
  unfold f_next_262 at h
  obtain ⟨σ1, eσ1⟩ : ∃ z, z = mSet σ 6 s0 := ⟨_, rfl⟩
  have h := mlet_at eσ1 h
  have w1 : vKy σ σ1 := by rw [eσ1]; exact vKy_set (by decide)
  have w2 := ky_next_265 N σ1 _ h
  exact (w1).t w2
set_option maxRecDepth 100000 in
theorem ky_next_257 (N : Nat) (σ : MS) (x2 : Int32) (σ_ : MS) (h : f_next_257 N σ x2 = some σ_) : vKy σ σ_ := by
  unfold f_next_257 at h
  have w1 := ky_next_262 N σ x2 _ h
  exact w1
set_option maxRecDepth 100000 in
theorem ky_next_213 (N : Nat) (σ : MS) (s0 : Int32) (σ_ : MS) (h : f_next_213 N σ s0 = some σ_) : vKy σ σ_ := by
  unfold f_next_213 at h
  obtain ⟨σ1, eσ1⟩ : ∃ z, z = mSet σ 6 s0 := ⟨_, rfl⟩
  have h := mlet_at eσ1 h
  have w1 : vKy σ σ1 := by rw [eσ1]; exact vKy_set (by decide)
  have w2 := ky_next_265 N σ1 _ h
  exact (w1).t w2
set_option maxRecDepth 100000 in
theorem ky_next_188 (N : Nat) (k152 : MS → Int32 → Int32 → Option (MS)) (hk152 : ∀ (z0 : MS) (z1 : Int32) (z2 : Int32) (s : MS), k152 z0 z1 z2 = some s → vKy z0 s) (σ : MS) (x1 : Int32) (x3 : Int32) (σ_ : MS) (h : f_next_188 N k152 σ x1 x3 = some σ_) : vKy σ σ_ := by
  unfold f_next_188 at h
  obtain ⟨y1, ey1⟩ : ∃ z, z = x3 + 1 := ⟨_, rfl⟩
  have h := mlet_at ey1 h
  obtain ⟨y2, ey2⟩ : ∃ z, z = x1 + 1 := ⟨_, rfl⟩
  have h := mlet_at ey2 h
  have w1 := hk152 _ _ _ _ h
  exact w1
set_option maxRecDepth 100000 in
theorem ky_next_152 (N : Nat) : ∀ (n : Nat) (σ : MS) (x1 : Int32) (x3 : Int32) (σ_ : MS), f_next_152 N n σ x1 x3 = some σ_ → vKy σ σ_ := by
  intro n
  induction n with
  | zero =>
    intro σ x1 x3 σ_ h
    cases h
  | succ n ih =>
    intro σ x1 x3 σ_ h
    unfold f_next_152 at h
    obtain ⟨r3, σ1, c1, h⟩ := mcall_n h
    have w2 := ky_look N σ x1 _ _ c1
    obtain ⟨r6, σ4, c3, h⟩ := mcall_n h
    have w4 := ky_isDigit N σ1 r3 _ _ c3
    by_cases c5 : r6 = 0
    · have h := mif_t c5 h
      obtain ⟨σ8, eσ8⟩ : ∃ z, z = mSet σ4 5 x1 := ⟨_, rfl⟩
      have h := mlet_at eσ8 h
      have w6 : vKy σ4 σ8 := by rw [eσ8]; exact vKy_set (by decide)
      by_cases c7 : x3 ≤ 4
      · have h := mif_t c7 h
        have w8 := ky_next_213 N σ8 3 _ h
        exact (((w2).t w4).t w6).t w8
      · have h := mif_f c7 h
        have w9 := ky_next_213 N σ8 1 _ h
        exact (((w2).t w4).t w6).t w9
    · have h := mif_f c5 h
      by_cases c10 : 4 ≤ x3
      · have h := mif_t c10 h
        have w11 := ky_next_188 N (f_next_152 N n) ih σ4 x1 x3 _ h
        exact ((w2).t w4).t w11
      · have h := mif_f c10 h
        obtain ⟨r13, σ11, c12, h⟩ := mcall_n h
        have w13 := ky_look N σ4 x1 _ _ c12
        obtain ⟨σ14, eσ14⟩ : ∃ z, z = mSet σ11 7 (((10 * (σ4.1 7)) + r13) - 48) := ⟨_, rfl⟩
        have h := mlet_at eσ14 h
        have w14 : vKy σ11 σ14 := by rw [eσ14]; exact vKy_set (by decide)
        have w15 := ky_next_188 N (f_next_152 N n) ih σ14 x1 x3 _ h
        exact ((((w2).t w4).t w13).t w14).t w15
set_option maxRecDepth 100000 in
theorem ky_next_137 (N : Nat) (σ : MS) (s0 : Int32) (σ_ : MS) (h : f_next_137 N σ s0 = some σ_) : vKy σ σ_ := by
  unfold f_next_137 at h
  obtain ⟨σ1, eσ1⟩ : ∃ z, z = mSet σ 6 s0 := ⟨_, rfl⟩
  have h := mlet_at eσ1 h
  have w1 : vKy σ σ1 := by rw [eσ1]; exact vKy_set (by decide)
  have w2 := ky_next_265 N σ1 _ h
  exact (w1).t w2
set_option maxRecDepth 100000 in
theorem ky_next_101 (N : Nat) (k67 : MS → Int32 → Option (MS)) (hk67 : ∀ (z0 : MS) (z1 : Int32) (s : MS), k67 z0 z1 = some s → vKy z0 s) (σ : MS) (x1 : Int32) (σ_ : MS) (h : f_next_101 N k67 σ x1 = some σ_) : vKy σ σ_ := by
  unfold f_next_101 at h
  obtain ⟨σ1, eσ1⟩ : ∃ z, z = mSet σ 8 ((σ.1 8) + 1) := ⟨_, rfl⟩
  have h := mlet_at eσ1 h
  have w1 : vKy σ σ1 := by rw [eσ1]; exact vKy_set (by decide)
  obtain ⟨y2, ey2⟩ : ∃ z, z = x1 + 1 := ⟨_, rfl⟩
  have h := mlet_at ey2 h
  have w2 := hk67 _ _ _ h
  exact (w1).t w2
set_option maxRecDepth 100000 in
theorem ky_next_67 (N : Nat) : ∀ (n : Nat) (σ : MS) (x1 : Int32) (σ_ : MS), f_next_67 N n σ x1 = some σ_ → vKy σ σ_ := by
  intro n
  induction n with
  | zero =>
    intro σ x1 σ_ h
    cases h
  | succ n ih =>
    intro σ x1 σ_ h
    unfold f_next_67 at h
    obtain ⟨r3, σ1, c1, h⟩ := mcall_n h
    have w2 := ky_look N σ x1 _ _ c1
    obtain ⟨r6, σ4, c3, h⟩ := mcall_n h
    have w4 := ky_isSmall N σ1 r3 _ _ c3
    by_cases c5 : r6 = 0
    · have h := mif_t c5 h
      obtain ⟨σ8, eσ8⟩ : ∃ z, z = mSet σ4 5 x1 := ⟨_, rfl⟩
      have h := mlet_at eσ8 h
      have w6 : vKy σ4 σ8 := by rw [eσ8]; exact vKy_set (by decide)
      by_cases c7 : (σ8.1 8) ≤ 8
      · have h := mif_t c7 h
        have w8 := ky_next_137 N σ8 2 _ h
        exact (((w2).t w4).t w6).t w8
      · have h := mif_f c7 h
        have w9 := ky_next_137 N σ8 1 _ h
        exact (((w2).t w4).t w6).t w9
    · have h := mif_f c5 h
      by_cases c10 : 8 ≤ (σ4.1 8)
      · have h := mif_t c10 h
        have w11 := ky_next_101 N (f_next_67 N n) ih σ4 x1 _ h
        exact ((w2).t w4).t w11
      · have h := mif_f c10 h
        obtain ⟨r13, σ11, c12, h⟩ := mcall_n h
        have w13 := ky_look N σ4 x1 _ _ c12
        obtain ⟨c14, h⟩ := mif_n h
        obtain ⟨σ15, eσ15⟩ : ∃ z, z = mArr σ11 11 (σ4.1 8).toNatClampNeg r13 := ⟨_, rfl⟩
        have h := mlet_at eσ15 h
        have w15 : vKy σ11 σ15 := by rw [eσ15]; exact vKy_arr (by decide)
        have w16 := ky_next_101 N (f_next_67 N n) ih σ15 x1 _ h
        exact ((((w2).t w4).t w13).t w15).t w16
set_option maxRecDepth 100000 in
theorem ky_next_5 (N : Nat) : ∀ (n : Nat) (σ : MS) (x1 : Int32) (σ_ : MS), f_next_5 N n σ x1 = some σ_ → vKy σ σ_ := by
  intro n
  induction n with
  | zero =>
    intro σ x1 σ_ h
    cases h
  | succ n ih =>
    intro σ x1 σ_ h
    unfold f_next_5 at h
    obtain ⟨r3, σ1, c1, h⟩ := mcall_n h
    have w2 := ky_look N σ x1 _ _ c1
    by_cases c3 : r3 = 32
    · have h := mif_t c3 h
      obtain ⟨y28, ey28⟩ : ∃ z, z = x1 + 1 := ⟨_, rfl⟩
      have h := mlet_at ey28 h
      have w4 := ih _ _ _ h
      exact (w2).t w4
    · have h := mif_f c3 h
      obtain ⟨σ5, eσ5⟩ : ∃ z, z = mSet σ1 4 x1 := ⟨_, rfl⟩
      have h := mlet_at eσ5 h
      have w5 : vKy σ1 σ5 := by rw [eσ5]; exact vKy_set (by decide)
      obtain ⟨r8, σ6, c6, h⟩ := mcall_n h
      have w7 := ky_look N σ5 x1 _ _ c6
      obtain ⟨σ9, eσ9⟩ : ∃ z, z = mSet σ6 8 0 := ⟨_, rfl⟩
      have h := mlet_at eσ9 h
      have w8 : vKy σ6 σ9 := by rw [eσ9]; exact vKy_set (by decide)
      obtain ⟨σ10, eσ10⟩ : ∃ z, z = mSet σ9 7 0 := ⟨_, rfl⟩
      have h := mlet_at eσ10 h
      have w9 : vKy σ9 σ10 := by rw [eσ10]; exact vKy_set (by decide)
      by_cases c10 : r8 = (-1)
      · have h := mif_t c10 h
        obtain ⟨σ26, eσ26⟩ : ∃ z, z = mSet σ10 6 0 := ⟨_, rfl⟩
        have h := mlet_at eσ26 h
        have w11 : vKy σ10 σ26 := by rw [eσ26]; exact vKy_set (by decide)
        obtain ⟨σ27, eσ27⟩ : ∃ z, z = mSet σ26 5 x1 := ⟨_, rfl⟩
        have h := mlet_at eσ27 h
        have w12 : vKy σ26 σ27 := by rw [eσ27]; exact vKy_set (by decide)
        have w13 := ky_next_265 N σ27 _ h
        exact (((((((w2).t w5).t w7).t w8).t w9).t w11).t w12).t w13
      · have h := mif_f c10 h
        obtain ⟨r14, σ12, c14, h⟩ := mcall_n h
        have w15 := ky_isSmall N σ10 r8 _ _ c14
        by_cases c16 : r14 = 0
        · have h := mif_t c16 h
          obtain ⟨r18, σ16, c17, h⟩ := mcall_n h
          have w18 := ky_isDigit N σ12 r8 _ _ c17
          by_cases c19 : r18 = 0
          · have h := mif_t c19 h
            obtain ⟨σ20, eσ20⟩ : ∃ z, z = mSet σ16 5 (x1 + 1) := ⟨_, rfl⟩
            have h := mlet_at eσ20 h
            have w20 : vKy σ16 σ20 := by rw [eσ20]; exact vKy_set (by decide)
            by_cases c21 : r8 = 59
            · have h := mif_t c21 h
              have w22 := ky_next_257 N σ20 r8 _ h
              exact ((((((((w2).t w5).t w7).t w8).t w9).t w15).t w18).t w20).t w22
            · have h := mif_f c21 h
              by_cases c23 : r8 = 44
              · have h := mif_t c23 h
                have w24 := ky_next_257 N σ20 r8 _ h
                exact ((((((((w2).t w5).t w7).t w8).t w9).t w15).t w18).t w20).t w24
              · have h := mif_f c23 h
                by_cases c25 : r8 = 45
                · have h := mif_t c25 h
                  have w26 := ky_next_257 N σ20 r8 _ h
                  exact ((((((((w2).t w5).t w7).t w8).t w9).t w15).t w18).t w20).t w26
                · have h := mif_f c25 h
                  by_cases c27 : r8 = 40
                  · have h := mif_t c27 h
                    have w28 := ky_next_257 N σ20 r8 _ h
                    exact ((((((((w2).t w5).t w7).t w8).t w9).t w15).t w18).t w20).t w28
                  · have h := mif_f c27 h
                    by_cases c29 : r8 = 41
                    · have h := mif_t c29 h
                      have w30 := ky_next_257 N σ20 r8 _ h
                      exact ((((((((w2).t w5).t w7).t w8).t w9).t w15).t w18).t w20).t w30
                    · have h := mif_f c29 h
                      have w31 := ky_next_262 N σ20 1 _ h
                      exact ((((((((w2).t w5).t w7).t w8).t w9).t w15).t w18).t w20).t w31
          · have h := mif_f c19 h
            have w32 := ky_next_152 N _ _ _ _ _ h
            exact (((((((w2).t w5).t w7).t w8).t w9).t w15).t w18).t w32
        · have h := mif_f c16 h
          have w33 := ky_next_67 N _ _ _ _ h
          exact ((((((w2).t w5).t w7).t w8).t w9).t w15).t w33
set_option maxRecDepth 100000 in
theorem ky_next (N : Nat) (σ : MS) (σ_ : MS) (h : f_next N σ = some σ_) : vKy σ σ_ := by
  unfold f_next at h
  obtain ⟨y1, ey1⟩ : ∃ z, z = σ.1 5 := ⟨_, rfl⟩
  have h := mlet_at ey1 h
  have w1 := ky_next_5 N _ _ _ _ h
  exact w1
set_option maxRecDepth 100000 in
theorem ky_wrong_22 (N : Nat) (σ : MS) (r : Int32) (σ_ : MS) (h : f_wrong_22 N σ = some (r, σ_)) : vKy σ σ_ := by
  unfold f_wrong_22 at h
  cases h
  exact vKy_r
set_option maxRecDepth 100000 in
theorem ky_wrong (N : Nat) (σ : MS) (x1 : Int32) (x2 : Int32) (r : Int32) (σ_ : MS) (h : f_wrong N σ x1 x2 = some (r, σ_)) : vKy σ σ_ := by
  unfold f_wrong at h
  by_cases c1 : (σ.1 13) = 0
  · have h := mif_t c1 h
    obtain ⟨σ2, eσ2⟩ : ∃ z, z = mSet σ 13 1 := ⟨_, rfl⟩
    have h := mlet_at eσ2 h
    have w2 : vKy σ σ2 := by rw [eσ2]; exact vKy_set (by decide)
    obtain ⟨σ3, eσ3⟩ : ∃ z, z = mSet σ2 9 x1 := ⟨_, rfl⟩
    have h := mlet_at eσ3 h
    have w3 : vKy σ2 σ3 := by rw [eσ3]; exact vKy_set (by decide)
    obtain ⟨σ4, eσ4⟩ : ∃ z, z = mSet σ3 10 x2 := ⟨_, rfl⟩
    have h := mlet_at eσ4 h
    have w4 : vKy σ3 σ4 := by rw [eσ4]; exact vKy_set (by decide)
    have w5 := ky_wrong_22 N σ4 _ _ h
    exact (((w2).t w3).t w4).t w5
  · have h := mif_f c1 h
    have w6 := ky_wrong_22 N σ _ _ h
    exact w6
set_option maxRecDepth 100000 in
theorem ky_find_77 (N : Nat) (j1 : Nat) (hj1 : vOkH j1 = true) (j2 : Nat) (hj2 : vOkH j2 = true) (k3 : MS → Int32 → Int32 → Option (Int32 × MS)) (hk3 : ∀ (z0 : MS) (z1 : Int32) (z2 : Int32) (r : Int32) (s : MS), k3 z0 z1 z2 = some (r, s) → vKy z0 s) (σ : MS) (x3 : Int32) (x4 : Int32) (x5 : Int32) (r : Int32) (σ_ : MS) (h : f_find_77 N j1 j2 k3 σ x3 x4 x5 = some (r, σ_)) : vKy σ σ_ := by
  unfold f_find_77 at h
  by_cases c1 : x5 = 0
  · have h := mif_t c1 h
    obtain ⟨y2, ey2⟩ : ∃ z, z = x4 + 1 := ⟨_, rfl⟩
    have h := mlet_at ey2 h
    have w2 := hk3 _ _ _ _ _ h
    exact w2
  · have h := mif_f c1 h
    cases h
    exact vKy_r
set_option maxRecDepth 100000 in
theorem ky_find_69 (N : Nat) (j1 : Nat) (hj1 : vOkH j1 = true) (j2 : Nat) (hj2 : vOkH j2 = true) (k3 : MS → Int32 → Int32 → Option (Int32 × MS)) (hk3 : ∀ (z0 : MS) (z1 : Int32) (z2 : Int32) (r : Int32) (s : MS), k3 z0 z1 z2 = some (r, s) → vKy z0 s) (k30 : MS → Int32 → Int32 → Int32 → Int32 → Option (Int32 × MS)) (hk30 : ∀ (z0 : MS) (z1 : Int32) (z2 : Int32) (z3 : Int32) (z4 : Int32) (r : Int32) (s : MS), k30 z0 z1 z2 z3 z4 = some (r, s) → vKy z0 s) (σ : MS) (x3 : Int32) (x4 : Int32) (x6 : Int32) (s0 : Int32) (r : Int32) (σ_ : MS) (h : f_find_69 N j1 j2 k3 k30 σ x3 x4 x6 s0 = some (r, σ_)) : vKy σ σ_ := by
  unfold f_find_69 at h
  obtain ⟨y1, ey1⟩ : ∃ z, z = x6 + 1 := ⟨_, rfl⟩
  have h := mlet_at ey1 h
  have w1 := hk30 _ _ _ _ _ _ _ h
  exact w1
set_option maxRecDepth 100000 in
theorem ky_find_30 (N : Nat) (j1 : Nat) (hj1 : vOkH j1 = true) (j2 : Nat) (hj2 : vOkH j2 = true) (k3 : MS → Int32 → Int32 → Option (Int32 × MS)) (hk3 : ∀ (z0 : MS) (z1 : Int32) (z2 : Int32) (r : Int32) (s : MS), k3 z0 z1 z2 = some (r, s) → vKy z0 s) : ∀ (n : Nat) (σ : MS) (x3 : Int32) (x4 : Int32) (x5 : Int32) (x6 : Int32) (r : Int32) (σ_ : MS), f_find_30 N j1 j2 k3 n σ x3 x4 x5 x6 = some (r, σ_) → vKy σ σ_ := by
  intro n
  induction n with
  | zero =>
    intro σ x3 x4 x5 x6 r σ_ h
    cases h
  | succ n ih =>
    intro σ x3 x4 x5 x6 r σ_ h
    unfold f_find_30 at h
    by_cases c1 : (σ.1 8) ≤ x6
    · have h := mif_t c1 h
      have w2 := ky_find_77 N j1 hj1 j2 hj2 k3 hk3 σ x3 x4 x5 _ _ h
      exact w2
    · have h := mif_f c1 h
      by_cases c3 : x5 = 0
      · have h := mif_t c3 h
        have w4 := ky_find_77 N j1 hj1 j2 hj2 k3 hk3 σ x3 x4 x5 _ _ h
        exact w4
      · have h := mif_f c3 h
        obtain ⟨c5, h⟩ := mif_n h
        obtain ⟨y4, ey4⟩ : ∃ z, z = σ.2.1 j1 ((8 * x4) + x6).toNatClampNeg := ⟨_, rfl⟩
        have h := mlet_at ey4 h
        obtain ⟨c6, h⟩ := mif_n h
        obtain ⟨y6, ey6⟩ : ∃ z, z = σ.2.1 11 x6.toNatClampNeg := ⟨_, rfl⟩
        have h := mlet_at ey6 h
        by_cases c7 : y4 = y6
        · have h := mif_t c7 h
          have w8 := ky_find_69 N j1 hj1 j2 hj2 k3 hk3 (f_find_30 N j1 j2 k3 n) ih σ x3 x4 x6 1 _ _ h
          exact w8
        · have h := mif_f c7 h
          have w9 := ky_find_69 N j1 hj1 j2 hj2 k3 hk3 (f_find_30 N j1 j2 k3 n) ih σ x3 x4 x6 0 _ _ h
          exact w9
set_option maxRecDepth 100000 in
theorem ky_find_25 (N : Nat) (j1 : Nat) (hj1 : vOkH j1 = true) (j2 : Nat) (hj2 : vOkH j2 = true) (k3 : MS → Int32 → Int32 → Option (Int32 × MS)) (hk3 : ∀ (z0 : MS) (z1 : Int32) (z2 : Int32) (r : Int32) (s : MS), k3 z0 z1 z2 = some (r, s) → vKy z0 s) (σ : MS) (x3 : Int32) (x4 : Int32) (s0 : Int32) (r : Int32) (σ_ : MS) (h : f_find_25 N j1 j2 k3 σ x3 x4 s0 = some (r, σ_)) : vKy σ σ_ := by
  unfold f_find_25 at h
  have w1 := ky_find_30 N j1 hj1 j2 hj2 k3 hk3 _ _ _ _ _ _ _ _ h
  exact w1
set_option maxRecDepth 100000 in
theorem ky_find_3 (N : Nat) (j1 : Nat) (hj1 : vOkH j1 = true) (j2 : Nat) (hj2 : vOkH j2 = true) : ∀ (n : Nat) (σ : MS) (x3 : Int32) (x4 : Int32) (r : Int32) (σ_ : MS), f_find_3 N j1 j2 n σ x3 x4 = some (r, σ_) → vKy σ σ_ := by
  intro n
  induction n with
  | zero =>
    intro σ x3 x4 r σ_ h
    cases h
  | succ n ih =>
    intro σ x3 x4 r σ_ h
    unfold f_find_3 at h
    by_cases c1 : x3 ≤ x4
    · have h := mif_t c1 h
      cases h
      exact vKy_r
    · have h := mif_f c1 h
      obtain ⟨c2, h⟩ := mif_n h
      obtain ⟨y3, ey3⟩ : ∃ z, z = σ.2.1 j2 x4.toNatClampNeg := ⟨_, rfl⟩
      have h := mlet_at ey3 h
      by_cases c3 : y3 = (σ.1 8)
      · have h := mif_t c3 h
        have w4 := ky_find_25 N j1 hj1 j2 hj2 (f_find_3 N j1 j2 n) ih σ x3 x4 1 _ _ h
        exact w4
      · have h := mif_f c3 h
        have w5 := ky_find_25 N j1 hj1 j2 hj2 (f_find_3 N j1 j2 n) ih σ x3 x4 0 _ _ h
        exact w5
set_option maxRecDepth 100000 in
theorem ky_find (N : Nat) (j1 : Nat) (hj1 : vOkH j1 = true) (j2 : Nat) (hj2 : vOkH j2 = true) (σ : MS) (x3 : Int32) (r : Int32) (σ_ : MS) (h : f_find N j1 j2 σ x3 = some (r, σ_)) : vKy σ σ_ := by
  unfold f_find at h
  have w1 := ky_find_3 N j1 hj1 j2 hj2 _ _ _ _ _ _ h
  exact w1
set_option maxRecDepth 100000 in
theorem ky_number (N : Nat) (σ : MS) (x1 : Int32) (x2 : Int32) (r : Int32) (σ_ : MS) (h : f_number N σ x1 x2 = some (r, σ_)) : vKy σ σ_ := by
  unfold f_number at h
  by_cases c1 : (σ.1 13) = 0
  · have h := mif_t c1 h
    by_cases c2 : (σ.1 6) = 3
    · have h := mif_t c2 h
      obtain ⟨y3, ey3⟩ : ∃ z, z = σ.1 7 := ⟨_, rfl⟩
      have h := mlet_at ey3 h
      obtain ⟨r6, σ4, c3, h⟩ := mcall_n h
      have w4 := ky_within N σ y3 x1 x2 _ _ c3
      by_cases c5 : r6 = 0
      · have h := mif_t c5 h
        obtain ⟨r12, σ10, c6, h⟩ := mcall_n h
        have w7 := ky_wrong N σ4 4 (σ4.1 4) _ _ c6
        cases h
        exact (w4).t w7
      · have h := mif_f c5 h
        obtain ⟨σ8, c8, h⟩ := mcallv_n h
        have w9 := ky_next N σ4 _ c8
        cases h
        exact (w4).t w9
    · have h := mif_f c2 h
      obtain ⟨r15, σ13, c10, h⟩ := mcall_n h
      have w11 := ky_wrong N σ 1 (σ.1 4) _ _ c10
      cases h
      exact w11
  · have h := mif_f c1 h
    cases h
    exact vKy_r
set_option maxRecDepth 100000 in
theorem ky_pairs_220 (N : Nat) (j1 : Nat) (hj1 : vOkH j1 = true) (k16 : MS → Int32 → Int32 → Int32 → Option (Int32 × MS)) (hk16 : ∀ (z0 : MS) (z1 : Int32) (z2 : Int32) (z3 : Int32) (r : Int32) (s : MS), k16 z0 z1 z2 z3 = some (r, s) → vKy z0 s) (σ : MS) (x2 : Int32) (x3 : Int32) (x4 : Int32) (r : Int32) (σ_ : MS) (h : f_pairs_220 N j1 k16 σ x2 x3 x4 = some (r, σ_)) : vKy σ σ_ := by
  unfold f_pairs_220 at h
  have w1 := hk16 _ _ _ _ _ _ h
  exact w1
set_option maxRecDepth 100000 in
theorem ky_pairs_209 (N : Nat) (j1 : Nat) (hj1 : vOkH j1 = true) (k16 : MS → Int32 → Int32 → Int32 → Option (Int32 × MS)) (hk16 : ∀ (z0 : MS) (z1 : Int32) (z2 : Int32) (z3 : Int32) (r : Int32) (s : MS), k16 z0 z1 z2 z3 = some (r, s) → vKy z0 s) (σ : MS) (x2 : Int32) (x3 : Int32) (s0 : Int32) (r : Int32) (σ_ : MS) (h : f_pairs_209 N j1 k16 σ x2 x3 s0 = some (r, σ_)) : vKy σ σ_ := by
  unfold f_pairs_209 at h
  by_cases c1 : s0 = 0
  · have h := mif_t c1 h
    have w2 := ky_pairs_220 N j1 hj1 k16 hk16 σ x2 x3 s0 _ _ h
    exact w2
  · have h := mif_f c1 h
    obtain ⟨σ2, c3, h⟩ := mcallv_n h
    have w4 := ky_next N σ _ c3
    have w5 := ky_pairs_220 N j1 hj1 k16 hk16 σ2 x2 x3 s0 _ _ h
    exact (w4).t w5
set_option maxRecDepth 100000 in
theorem ky_pairs_164 (N : Nat) (j1 : Nat) (hj1 : vOkH j1 = true) (k16 : MS → Int32 → Int32 → Int32 → Option (Int32 × MS)) (hk16 : ∀ (z0 : MS) (z1 : Int32) (z2 : Int32) (z3 : Int32) (r : Int32) (s : MS), k16 z0 z1 z2 z3 = some (r, s) → vKy z0 s) (σ : MS) (x2 : Int32) (x3 : Int32) (x5 : Int32) (x8 : Int32) (s0 : Int32) (s1 : Int32) (r : Int32) (σ_ : MS) (h : f_pairs_164 N j1 k16 σ x2 x3 x5 x8 s0 s1 = some (r, σ_)) : vKy σ σ_ := by
  unfold f_pairs_164 at h
  obtain ⟨r3, σ1, c1, h⟩ := mcall_n h
  have w2 := ky_number N σ s1 s0 _ _ c1
  by_cases c3 : (σ1.1 13) = 0
  · have h := mif_t c3 h
    obtain ⟨c4, h⟩ := mif_n h
    obtain ⟨σ6, eσ6⟩ : ∃ z, z = mArr σ1 j1 x5.toNatClampNeg x8 := ⟨_, rfl⟩
    have h := mlet_at eσ6 h
    have w5 : vKy σ1 σ6 := by rw [eσ6]; exact vKy_arr hj1
    obtain ⟨c6, h⟩ := mif_n h
    obtain ⟨σ8, eσ8⟩ : ∃ z, z = mArr σ6 j1 (x5 + 1).toNatClampNeg r3 := ⟨_, rfl⟩
    have h := mlet_at eσ8 h
    have w7 : vKy σ6 σ8 := by rw [eσ8]; exact vKy_arr hj1
    obtain ⟨y9, ey9⟩ : ∃ z, z = x3 + 1 := ⟨_, rfl⟩
    have h := mlet_at ey9 h
    by_cases c8 : (σ8.1 6) = 44
    · have h := mif_t c8 h
      have w9 := ky_pairs_209 N j1 hj1 k16 hk16 σ8 x2 y9 1 _ _ h
      exact (((w2).t w5).t w7).t w9
    · have h := mif_f c8 h
      have w10 := ky_pairs_209 N j1 hj1 k16 hk16 σ8 x2 y9 0 _ _ h
      exact (((w2).t w5).t w7).t w10
  · have h := mif_f c3 h
    cases h
    exact w2
set_option maxRecDepth 100000 in
theorem ky_pairs_151 (N : Nat) (j1 : Nat) (hj1 : vOkH j1 = true) (k16 : MS → Int32 → Int32 → Int32 → Option (Int32 × MS)) (hk16 : ∀ (z0 : MS) (z1 : Int32) (z2 : Int32) (z3 : Int32) (r : Int32) (s : MS), k16 z0 z1 z2 z3 = some (r, s) → vKy z0 s) (σ : MS) (x2 : Int32) (x3 : Int32) (x5 : Int32) (x8 : Int32) (s0 : Int32) (r : Int32) (σ_ : MS) (h : f_pairs_151 N j1 k16 σ x2 x3 x5 x8 s0 = some (r, σ_)) : vKy σ σ_ := by
  unfold f_pairs_151 at h
  by_cases c1 : x2 = 0
  · have h := mif_t c1 h
    have w2 := ky_pairs_164 N j1 hj1 k16 hk16 σ x2 x3 x5 x8 150 s0 _ _ h
    exact w2
  · have h := mif_f c1 h
    have w3 := ky_pairs_164 N j1 hj1 k16 hk16 σ x2 x3 x5 x8 300 s0 _ _ h
    exact w3
set_option maxRecDepth 100000 in
theorem ky_pairs_150 (N : Nat) (j1 : Nat) (hj1 : vOkH j1 = true) (k16 : MS → Int32 → Int32 → Int32 → Option (Int32 × MS)) (hk16 : ∀ (z0 : MS) (z1 : Int32) (z2 : Int32) (z3 : Int32) (r : Int32) (s : MS), k16 z0 z1 z2 z3 = some (r, s) → vKy z0 s) (σ : MS) (x2 : Int32) (x3 : Int32) (x5 : Int32) (x8 : Int32) (r : Int32) (σ_ : MS) (h : f_pairs_150 N j1 k16 σ x2 x3 x5 x8 = some (r, σ_)) : vKy σ σ_ := by
  unfold f_pairs_150 at h
  have w1 := ky_pairs_151 N j1 hj1 k16 hk16 σ x2 x3 x5 x8 0 _ _ h
  exact w1
set_option maxRecDepth 100000 in
theorem ky_pairs_116 (N : Nat) (j1 : Nat) (hj1 : vOkH j1 = true) (k16 : MS → Int32 → Int32 → Int32 → Option (Int32 × MS)) (hk16 : ∀ (z0 : MS) (z1 : Int32) (z2 : Int32) (z3 : Int32) (r : Int32) (s : MS), k16 z0 z1 z2 z3 = some (r, s) → vKy z0 s) (σ : MS) (x2 : Int32) (x3 : Int32) (x5 : Int32) (x8 : Int32) (r : Int32) (σ_ : MS) (h : f_pairs_116 N j1 k16 σ x2 x3 x5 x8 = some (r, σ_)) : vKy σ σ_ := by
  unfold f_pairs_116 at h
  by_cases c1 : x2 = 0
  · have h := mif_t c1 h
    have w2 := ky_pairs_150 N j1 hj1 k16 hk16 σ x2 x3 x5 x8 _ _ h
    exact w2
  · have h := mif_f c1 h
    by_cases c3 : x3 ≤ 0
    · have h := mif_t c3 h
      have w4 := ky_pairs_150 N j1 hj1 k16 hk16 σ x2 x3 x5 x8 _ _ h
      exact w4
    · have h := mif_f c3 h
      by_cases c5 : (σ.1 13) = 0
      · have h := mif_t c5 h
        obtain ⟨c6, h⟩ := mif_n h
        obtain ⟨y5, ey5⟩ : ∃ z, z = σ.2.1 j1 (((8 * (σ.1 22)) + (2 * x3)) - 1).toNatClampNeg := ⟨_, rfl⟩
        have h := mlet_at ey5 h
        have w7 := ky_pairs_151 N j1 hj1 k16 hk16 σ x2 x3 x5 x8 y5 _ _ h
        exact w7
      · have h := mif_f c5 h
        have w8 := ky_pairs_150 N j1 hj1 k16 hk16 σ x2 x3 x5 x8 _ _ h
        exact w8
set_option maxRecDepth 100000 in
theorem ky_pairs_91 (N : Nat) (j1 : Nat) (hj1 : vOkH j1 = true) (k16 : MS → Int32 → Int32 → Int32 → Option (Int32 × MS)) (hk16 : ∀ (z0 : MS) (z1 : Int32) (z2 : Int32) (z3 : Int32) (r : Int32) (s : MS), k16 z0 z1 z2 z3 = some (r, s) → vKy z0 s) (σ : MS) (x2 : Int32) (x3 : Int32) (x5 : Int32) (x7 : Int32) (s0 : Int32) (s1 : Int32) (r : Int32) (σ_ : MS) (h : f_pairs_91 N j1 k16 σ x2 x3 x5 x7 s0 s1 = some (r, σ_)) : vKy σ σ_ := by
  unfold f_pairs_91 at h
  obtain ⟨r3, σ1, c1, h⟩ := mcall_n h
  have w2 := ky_number N σ s1 s0 _ _ c1
  by_cases c3 : (σ1.1 13) = 0
  · have h := mif_t c3 h
    by_cases c4 : x3 = 4
    · have h := mif_t c4 h
      obtain ⟨r8, σ6, c5, h⟩ := mcall_n h
      have w6 := ky_wrong N σ1 5 x7 _ _ c5
      have w7 := ky_pairs_116 N j1 hj1 k16 hk16 σ6 x2 x3 x5 r3 _ _ h
      exact ((w2).t w6).t w7
    · have h := mif_f c4 h
      have w8 := ky_pairs_116 N j1 hj1 k16 hk16 σ1 x2 x3 x5 r3 _ _ h
      exact (w2).t w8
  · have h := mif_f c3 h
    have w9 := ky_pairs_116 N j1 hj1 k16 hk16 σ1 x2 x3 x5 r3 _ _ h
    exact (w2).t w9
set_option maxRecDepth 100000 in
theorem ky_pairs_68 (N : Nat) (j1 : Nat) (hj1 : vOkH j1 = true) (k16 : MS → Int32 → Int32 → Int32 → Option (Int32 × MS)) (hk16 : ∀ (z0 : MS) (z1 : Int32) (z2 : Int32) (z3 : Int32) (r : Int32) (s : MS), k16 z0 z1 z2 z3 = some (r, s) → vKy z0 s) (σ : MS) (x2 : Int32) (x3 : Int32) (x5 : Int32) (s0 : Int32) (r : Int32) (σ_ : MS) (h : f_pairs_68 N j1 k16 σ x2 x3 x5 s0 = some (r, σ_)) : vKy σ σ_ := by
  unfold f_pairs_68 at h
  obtain ⟨y1, ey1⟩ : ∃ z, z = σ.1 4 := ⟨_, rfl⟩
  have h := mlet_at ey1 h
  by_cases c1 : x2 = 0
  · have h := mif_t c1 h
    have w2 := ky_pairs_91 N j1 hj1 k16 hk16 σ x2 x3 x5 y1 90 s0 _ _ h
    exact w2
  · have h := mif_f c1 h
    have w3 := ky_pairs_91 N j1 hj1 k16 hk16 σ x2 x3 x5 y1 999 s0 _ _ h
    exact w3
set_option maxRecDepth 100000 in
theorem ky_pairs_39 (N : Nat) (j1 : Nat) (hj1 : vOkH j1 = true) (k16 : MS → Int32 → Int32 → Int32 → Option (Int32 × MS)) (hk16 : ∀ (z0 : MS) (z1 : Int32) (z2 : Int32) (z3 : Int32) (r : Int32) (s : MS), k16 z0 z1 z2 z3 = some (r, s) → vKy z0 s) (σ : MS) (x2 : Int32) (x3 : Int32) (s0 : Int32) (s1 : Int32) (s2 : Int32) (r : Int32) (σ_ : MS) (h : f_pairs_39 N j1 k16 σ x2 x3 s0 s1 s2 = some (r, σ_)) : vKy σ σ_ := by
  unfold f_pairs_39 at h
  obtain ⟨y1, ey1⟩ : ∃ z, z = s2 + (s1 * s0) := ⟨_, rfl⟩
  have h := mlet_at ey1 h
  by_cases c1 : x3 = 0
  · have h := mif_t c1 h
    have w2 := ky_pairs_68 N j1 hj1 k16 hk16 σ x2 x3 y1 0 _ _ h
    exact w2
  · have h := mif_f c1 h
    obtain ⟨c3, h⟩ := mif_n h
    obtain ⟨y4, ey4⟩ : ∃ z, z = σ.2.1 j1 (((8 * (σ.1 22)) + (2 * x3)) - 2).toNatClampNeg := ⟨_, rfl⟩
    have h := mlet_at ey4 h
    have w4 := ky_pairs_68 N j1 hj1 k16 hk16 σ x2 x3 y1 (y4 + 1) _ _ h
    exact w4
set_option maxRecDepth 100000 in
theorem ky_pairs_16 (N : Nat) (j1 : Nat) (hj1 : vOkH j1 = true) : ∀ (n : Nat) (σ : MS) (x2 : Int32) (x3 : Int32) (x4 : Int32) (r : Int32) (σ_ : MS), f_pairs_16 N j1 n σ x2 x3 x4 = some (r, σ_) → vKy σ σ_ := by
  intro n
  induction n with
  | zero =>
    intro σ x2 x3 x4 r σ_ h
    cases h
  | succ n ih =>
    intro σ x2 x3 x4 r σ_ h
    unfold f_pairs_16 at h
    by_cases c1 : x4 = 0
    · have h := mif_t c1 h
      cases h
      exact vKy_r
    · have h := mif_f c1 h
      by_cases c2 : 4 ≤ x3
      · have h := mif_t c2 h
        have w3 := ky_pairs_39 N j1 hj1 (f_pairs_16 N j1 n) ih σ x2 x3 3 2 (8 * (σ.1 22)) _ _ h
        exact w3
      · have h := mif_f c2 h
        have w4 := ky_pairs_39 N j1 hj1 (f_pairs_16 N j1 n) ih σ x2 x3 x3 2 (8 * (σ.1 22)) _ _ h
        exact w4
set_option maxRecDepth 100000 in
theorem ky_pairs_14 (N : Nat) (j1 : Nat) (hj1 : vOkH j1 = true) (σ : MS) (x2 : Int32) (x3 : Int32) (s0 : Int32) (r : Int32) (σ_ : MS) (h : f_pairs_14 N j1 σ x2 x3 s0 = some (r, σ_)) : vKy σ σ_ := by
  unfold f_pairs_14 at h
  have w1 := ky_pairs_16 N j1 hj1 _ _ _ _ _ _ _ h
  exact w1
set_option maxRecDepth 100000 in
theorem ky_pairs (N : Nat) (j1 : Nat) (hj1 : vOkH j1 = true) (σ : MS) (x2 : Int32) (r : Int32) (σ_ : MS) (h : f_pairs N j1 σ x2 = some (r, σ_)) : vKy σ σ_ := by
  unfold f_pairs at h
  by_cases c1 : (σ.1 13) = 0
  · have h := mif_t c1 h
    have w2 := ky_pairs_14 N j1 hj1 σ x2 0 1 _ _ h
    exact w2
  · have h := mif_f c1 h
    have w3 := ky_pairs_14 N j1 hj1 σ x2 0 0 _ _ h
    exact w3
set_option maxRecDepth 100000 in
theorem ky_signed_76 (N : Nat) (σ : MS) (x1 : Int32) (x2 : Int32) (x3 : Int32) (s0 : Int32) (r : Int32) (σ_ : MS) (h : f_signed_76 N σ x1 x2 x3 s0 = some (r, σ_)) : vKy σ σ_ := by
  unfold f_signed_76 at h
  obtain ⟨r3, σ1, c1, h⟩ := mcall_n h
  have w2 := ky_within N σ s0 x1 x2 _ _ c1
  by_cases c3 : r3 = 0
  · have h := mif_t c3 h
    obtain ⟨r9, σ7, c4, h⟩ := mcall_n h
    have w5 := ky_wrong N σ1 4 x3 _ _ c4
    cases h
    exact (w2).t w5
  · have h := mif_f c3 h
    obtain ⟨σ5, c6, h⟩ := mcallv_n h
    have w7 := ky_next N σ1 _ c6
    cases h
    exact (w2).t w7
set_option maxRecDepth 100000 in
theorem ky_signed_39 (N : Nat) (σ : MS) (x1 : Int32) (x2 : Int32) (x3 : Int32) (x4 : Int32) (r : Int32) (σ_ : MS) (h : f_signed_39 N σ x1 x2 x3 x4 = some (r, σ_)) : vKy σ σ_ := by
  unfold f_signed_39 at h
  by_cases c1 : (σ.1 6) = 3
  · have h := mif_t c1 h
    by_cases c2 : x4 = 0
    · have h := mif_t c2 h
      have w3 := ky_signed_76 N σ x1 x2 x3 (σ.1 7) _ _ h
      exact w3
    · have h := mif_f c2 h
      have w4 := ky_signed_76 N σ x1 x2 x3 (-(σ.1 7)) _ _ h
      exact w4
  · have h := mif_f c1 h
    obtain ⟨r5, σ3, c5, h⟩ := mcall_n h
    have w6 := ky_wrong N σ 1 (σ.1 4) _ _ c5
    cases h
    exact w6
set_option maxRecDepth 100000 in
theorem ky_signed_28 (N : Nat) (σ : MS) (x1 : Int32) (x2 : Int32) (x3 : Int32) (s0 : Int32) (r : Int32) (σ_ : MS) (h : f_signed_28 N σ x1 x2 x3 s0 = some (r, σ_)) : vKy σ σ_ := by
  unfold f_signed_28 at h
  by_cases c1 : s0 = 0
  · have h := mif_t c1 h
    have w2 := ky_signed_39 N σ x1 x2 x3 s0 _ _ h
    exact w2
  · have h := mif_f c1 h
    obtain ⟨σ2, c3, h⟩ := mcallv_n h
    have w4 := ky_next N σ _ c3
    have w5 := ky_signed_39 N σ2 x1 x2 x3 s0 _ _ h
    exact (w4).t w5
set_option maxRecDepth 100000 in
theorem ky_signed (N : Nat) (σ : MS) (x1 : Int32) (x2 : Int32) (r : Int32) (σ_ : MS) (h : f_signed N σ x1 x2 = some (r, σ_)) : vKy σ σ_ := by
  unfold f_signed at h
  by_cases c1 : (σ.1 13) = 0
  · have h := mif_t c1 h
    obtain ⟨y2, ey2⟩ : ∃ z, z = σ.1 4 := ⟨_, rfl⟩
    have h := mlet_at ey2 h
    by_cases c2 : (σ.1 6) = 45
    · have h := mif_t c2 h
      have w3 := ky_signed_28 N σ x1 x2 y2 1 _ _ h
      exact w3
    · have h := mif_f c2 h
      have w4 := ky_signed_28 N σ x1 x2 y2 0 _ _ h
      exact w4
  · have h := mif_f c1 h
    cases h
    exact vKy_r
set_option maxRecDepth 100000 in
theorem ky_word_26 (N : Nat) (σ : MS) (r : Int32) (σ_ : MS) (h : f_word_26 N σ = some (r, σ_)) : vKy σ σ_ := by
  unfold f_word_26 at h
  cases h
  exact vKy_r
set_option maxRecDepth 100000 in
theorem ky_word_63 (N : Nat) (tx : List Int32) (k32 : MS → Int32 → Int32 → Option (Int32 × MS)) (hk32 : ∀ (z0 : MS) (z1 : Int32) (z2 : Int32) (r : Int32) (s : MS), k32 z0 z1 z2 = some (r, s) → vKy z0 s) (σ : MS) (x3 : Int32) (s0 : Int32) (r : Int32) (σ_ : MS) (h : f_word_63 N tx k32 σ x3 s0 = some (r, σ_)) : vKy σ σ_ := by
  unfold f_word_63 at h
  obtain ⟨y1, ey1⟩ : ∃ z, z = x3 + 1 := ⟨_, rfl⟩
  have h := mlet_at ey1 h
  have w1 := hk32 _ _ _ _ _ h
  exact w1
set_option maxRecDepth 100000 in
theorem ky_word_62 (N : Nat) (tx : List Int32) (k32 : MS → Int32 → Int32 → Option (Int32 × MS)) (hk32 : ∀ (z0 : MS) (z1 : Int32) (z2 : Int32) (r : Int32) (s : MS), k32 z0 z1 z2 = some (r, s) → vKy z0 s) (σ : MS) (x3 : Int32) (r : Int32) (σ_ : MS) (h : f_word_62 N tx k32 σ x3 = some (r, σ_)) : vKy σ σ_ := by
  unfold f_word_62 at h
  have w1 := ky_word_63 N tx k32 hk32 σ x3 0 _ _ h
  exact w1
set_option maxRecDepth 100000 in
theorem ky_word_32 (N : Nat) (tx : List Int32) : ∀ (n : Nat) (σ : MS) (x2 : Int32) (x3 : Int32) (r : Int32) (σ_ : MS), f_word_32 N tx n σ x2 x3 = some (r, σ_) → vKy σ σ_ := by
  intro n
  induction n with
  | zero =>
    intro σ x2 x3 r σ_ h
    cases h
  | succ n ih =>
    intro σ x2 x3 r σ_ h
    unfold f_word_32 at h
    obtain ⟨y1, ey1⟩ : ∃ z, z = σ.1 8 := ⟨_, rfl⟩
    have h := mlet_at ey1 h
    by_cases c1 : y1 ≤ x3
    · have h := mif_t c1 h
      obtain ⟨c2, h⟩ := mif_n h
      cases h
      exact vKy_r
    · have h := mif_f c1 h
      by_cases c3 : x2 = 0
      · have h := mif_t c3 h
        have w4 := ky_word_62 N tx (f_word_32 N tx n) ih σ x3 _ _ h
        exact w4
      · have h := mif_f c3 h
        obtain ⟨c5, h⟩ := mif_n h
        obtain ⟨y7, ey7⟩ : ∃ z, z = σ.2.1 11 x3.toNatClampNeg := ⟨_, rfl⟩
        have h := mlet_at ey7 h
        obtain ⟨c6, h⟩ := mif_n h
        obtain ⟨r12, er12⟩ : ∃ z, z = tx.getD x3.toNatClampNeg 0 := ⟨_, rfl⟩
        have h := mlet_at er12 h
        by_cases c7 : y7 = r12
        · have h := mif_t c7 h
          have w8 := ky_word_63 N tx (f_word_32 N tx n) ih σ x3 1 _ _ h
          exact w8
        · have h := mif_f c7 h
          have w9 := ky_word_62 N tx (f_word_32 N tx n) ih σ x3 _ _ h
          exact w9
set_option maxRecDepth 100000 in
theorem ky_word (N : Nat) (tx : List Int32) (σ : MS) (r : Int32) (σ_ : MS) (h : f_word N tx σ = some (r, σ_)) : vKy σ σ_ := by
  unfold f_word at h
  obtain ⟨y1, ey1⟩ : ∃ z, z = σ.1 13 := ⟨_, rfl⟩
  have h := mlet_at ey1 h
  by_cases c1 : y1 = 0
  · have h := mif_t c1 h
    obtain ⟨y3, ey3⟩ : ∃ z, z = σ.1 6 := ⟨_, rfl⟩
    have h := mlet_at ey3 h
    by_cases c2 : y3 = 2
    · have h := mif_t c2 h
      obtain ⟨y5, ey5⟩ : ∃ z, z = σ.1 8 := ⟨_, rfl⟩
      have h := mlet_at ey5 h
      obtain ⟨r10, er10⟩ : ∃ z, z = Int32.ofNat tx.length := ⟨_, rfl⟩
      have h := mlet_at er10 h
      by_cases c3 : y5 = r10
      · have h := mif_t c3 h
        have w4 := ky_word_32 N tx _ _ _ _ _ _ h
        exact w4
      · have h := mif_f c3 h
        have w5 := ky_word_26 N σ _ _ h
        exact w5
    · have h := mif_f c2 h
      have w6 := ky_word_26 N σ _ _ h
      exact w6
  · have h := mif_f c1 h
    have w7 := ky_word_26 N σ _ _ h
    exact w7
set_option maxRecDepth 100000 in
theorem ky_isName_113 (N : Nat) (σ : MS) (s0 : Int32) (r : Int32) (σ_ : MS) (h : f_isName_113 N σ s0 = some (r, σ_)) : vKy σ σ_ := by
  unfold f_isName_113 at h
  obtain ⟨c1, h⟩ := mif_n h
  cases h
  exact vKy_r
set_option maxRecDepth 100000 in
theorem ky_isName_112 (N : Nat) (σ : MS) (r : Int32) (σ_ : MS) (h : f_isName_112 N σ = some (r, σ_)) : vKy σ σ_ := by
  unfold f_isName_112 at h
  have w1 := ky_isName_113 N σ 0 _ _ h
  exact w1
set_option maxRecDepth 100000 in
theorem ky_isName_95 (N : Nat) (σ : MS) (s0 : Int32) (r : Int32) (σ_ : MS) (h : f_isName_95 N σ s0 = some (r, σ_)) : vKy σ σ_ := by
  unfold f_isName_95 at h
  obtain ⟨y1, ey1⟩ : ∃ z, z = σ.1 6 := ⟨_, rfl⟩
  have h := mlet_at ey1 h
  by_cases c1 : y1 = 2
  · have h := mif_t c1 h
    by_cases c2 : s0 = 0
    · have h := mif_t c2 h
      have w3 := ky_isName_113 N σ 1 _ _ h
      exact w3
    · have h := mif_f c2 h
      have w4 := ky_isName_112 N σ _ _ h
      exact w4
  · have h := mif_f c1 h
    have w5 := ky_isName_112 N σ _ _ h
    exact w5
set_option maxRecDepth 100000 in
theorem ky_isName_90 (N : Nat) (σ : MS) (r : Int32) (σ_ : MS) (h : f_isName_90 N σ = some (r, σ_)) : vKy σ σ_ := by
  unfold f_isName_90 at h
  have w1 := ky_isName_95 N σ 1 _ _ h
  exact w1
set_option maxRecDepth 100000 in
theorem ky_isName (N : Nat) (σ : MS) (r : Int32) (σ_ : MS) (h : f_isName N σ = some (r, σ_)) : vKy σ σ_ := by
  unfold f_isName at h
  obtain ⟨r4, σ2, c1, h⟩ := mcall_n h
  have w2 := ky_word N (pTx 32) σ _ _ c1
  by_cases c3 : r4 = 0
  · have h := mif_t c3 h
    obtain ⟨r9, σ7, c4, h⟩ := mcall_n h
    have w5 := ky_word N (pTx 33) σ2 _ _ c4
    by_cases c6 : r9 = 0
    · have h := mif_t c6 h
      obtain ⟨r14, σ12, c7, h⟩ := mcall_n h
      have w8 := ky_word N (pTx 34) σ7 _ _ c7
      by_cases c9 : r14 = 0
      · have h := mif_t c9 h
        obtain ⟨r19, σ17, c10, h⟩ := mcall_n h
        have w11 := ky_word N (pTx 35) σ12 _ _ c10
        by_cases c12 : r19 = 0
        · have h := mif_t c12 h
          obtain ⟨r24, σ22, c13, h⟩ := mcall_n h
          have w14 := ky_word N (pTx 36) σ17 _ _ c13
          by_cases c15 : r24 = 0
          · have h := mif_t c15 h
            obtain ⟨r29, σ27, c16, h⟩ := mcall_n h
            have w17 := ky_word N (pTx 37) σ22 _ _ c16
            by_cases c18 : r29 = 0
            · have h := mif_t c18 h
              obtain ⟨r34, σ32, c19, h⟩ := mcall_n h
              have w20 := ky_word N (pTx 38) σ27 _ _ c19
              by_cases c21 : r34 = 0
              · have h := mif_t c21 h
                obtain ⟨r39, σ37, c22, h⟩ := mcall_n h
                have w23 := ky_word N (pTx 39) σ32 _ _ c22
                by_cases c24 : r39 = 0
                · have h := mif_t c24 h
                  obtain ⟨r44, σ42, c25, h⟩ := mcall_n h
                  have w26 := ky_word N (pTx 40) σ37 _ _ c25
                  by_cases c27 : r44 = 0
                  · have h := mif_t c27 h
                    obtain ⟨r49, σ47, c28, h⟩ := mcall_n h
                    have w29 := ky_word N (pTx 41) σ42 _ _ c28
                    by_cases c30 : r49 = 0
                    · have h := mif_t c30 h
                      have w31 := ky_isName_95 N σ47 0 _ _ h
                      exact ((((((((((w2).t w5).t w8).t w11).t w14).t w17).t w20).t w23).t w26).t w29).t w31
                    · have h := mif_f c30 h
                      have w32 := ky_isName_90 N σ47 _ _ h
                      exact ((((((((((w2).t w5).t w8).t w11).t w14).t w17).t w20).t w23).t w26).t w29).t w32
                  · have h := mif_f c27 h
                    have w33 := ky_isName_90 N σ42 _ _ h
                    exact (((((((((w2).t w5).t w8).t w11).t w14).t w17).t w20).t w23).t w26).t w33
                · have h := mif_f c24 h
                  have w34 := ky_isName_90 N σ37 _ _ h
                  exact ((((((((w2).t w5).t w8).t w11).t w14).t w17).t w20).t w23).t w34
              · have h := mif_f c21 h
                have w35 := ky_isName_90 N σ32 _ _ h
                exact (((((((w2).t w5).t w8).t w11).t w14).t w17).t w20).t w35
            · have h := mif_f c18 h
              have w36 := ky_isName_90 N σ27 _ _ h
              exact ((((((w2).t w5).t w8).t w11).t w14).t w17).t w36
          · have h := mif_f c15 h
            have w37 := ky_isName_90 N σ22 _ _ h
            exact (((((w2).t w5).t w8).t w11).t w14).t w37
        · have h := mif_f c12 h
          have w38 := ky_isName_90 N σ17 _ _ h
          exact ((((w2).t w5).t w8).t w11).t w38
      · have h := mif_f c9 h
        have w39 := ky_isName_90 N σ12 _ _ h
        exact (((w2).t w5).t w8).t w39
    · have h := mif_f c6 h
      have w40 := ky_isName_90 N σ7 _ _ h
      exact ((w2).t w5).t w40
  · have h := mif_f c3 h
    have w41 := ky_isName_90 N σ2 _ _ h
    exact (w2).t w41
set_option maxRecDepth 100000 in
theorem ky_must (N : Nat) (tx : List Int32) (σ : MS) (r : Int32) (σ_ : MS) (h : f_must N tx σ = some (r, σ_)) : vKy σ σ_ := by
  unfold f_must at h
  obtain ⟨y1, ey1⟩ : ∃ z, z = σ.1 13 := ⟨_, rfl⟩
  have h := mlet_at ey1 h
  by_cases c1 : y1 = 0
  · have h := mif_t c1 h
    obtain ⟨r6, σ4, c2, h⟩ := mcall_n h
    have w3 := ky_word N tx σ _ _ c2
    by_cases c4 : r6 = 0
    · have h := mif_t c4 h
      obtain ⟨y11, ey11⟩ : ∃ z, z = σ4.1 4 := ⟨_, rfl⟩
      have h := mlet_at ey11 h
      obtain ⟨r15, σ13, c5, h⟩ := mcall_n h
      have w6 := ky_wrong N σ4 1 y11 _ _ c5
      obtain ⟨c7, h⟩ := mif_n h
      cases h
      exact (w3).t w6
    · have h := mif_f c4 h
      obtain ⟨σ9, c8, h⟩ := mcallv_n h
      have w9 := ky_next N σ4 _ c8
      cases h
      exact (w3).t w9
  · have h := mif_f c1 h
    cases h
    exact vKy_r
set_option maxRecDepth 100000 in
theorem ky_tryLine_223 (N : Nat) (σ : MS) (σ_ : MS) (h : f_tryLine_223 N σ = some σ_) : vKy σ σ_ := by
  unfold f_tryLine_223 at h
  cases h
  exact vKy_r
set_option maxRecDepth 100000 in
theorem ky_tryLine_83 (N : Nat) : ∀ (n : Nat) (σ : MS) (x1 : Int32) (σ_ : MS), f_tryLine_83 N n σ x1 = some σ_ → vKy σ σ_ := by
  intro n
  induction n with
  | zero =>
    intro σ x1 σ_ h
    cases h
  | succ n ih =>
    intro σ x1 σ_ h
    unfold f_tryLine_83 at h
    obtain ⟨y1, ey1⟩ : ∃ z, z = σ.1 8 := ⟨_, rfl⟩
    have h := mlet_at ey1 h
    by_cases c1 : y1 ≤ x1
    · have h := mif_t c1 h
      obtain ⟨y4, ey4⟩ : ∃ z, z = σ.1 23 := ⟨_, rfl⟩
      have h := mlet_at ey4 h
      obtain ⟨y5, ey5⟩ : ∃ z, z = σ.1 8 := ⟨_, rfl⟩
      have h := mlet_at ey5 h
      obtain ⟨c2, h⟩ := mif_n h
      obtain ⟨σ7, eσ7⟩ : ∃ z, z = mArr σ 17 y4.toNatClampNeg y5 := ⟨_, rfl⟩
      have h := mlet_at eσ7 h
      have w3 : vKy σ σ7 := by rw [eσ7]; exact vKy_arr (by decide)
      obtain ⟨σ9, c4, h⟩ := mcallv_n h
      have w5 := ky_next N σ7 _ c4
      obtain ⟨r14, σ12, c6, h⟩ := mcall_n h
      have w7 := ky_must N (pTx 49) σ9 _ _ c6
      obtain ⟨y16, ey16⟩ : ∃ z, z = σ12.1 23 := ⟨_, rfl⟩
      have h := mlet_at ey16 h
      obtain ⟨r20, σ18, c8, h⟩ := mcall_n h
      have w9 := ky_signed N σ12 (-4) 4 _ _ c8
      obtain ⟨c10, h⟩ := mif_n h
      obtain ⟨σ22, eσ22⟩ : ∃ z, z = mArr σ18 30 y16.toNatClampNeg r20 := ⟨_, rfl⟩
      have h := mlet_at eσ22 h
      have w11 : vKy σ18 σ22 := by rw [eσ22]; exact vKy_arr (by decide)
      obtain ⟨r26, σ24, c12, h⟩ := mcall_n h
      have w13 := ky_must N (pTx 50) σ22 _ _ c12
      obtain ⟨y28, ey28⟩ : ∃ z, z = σ24.1 23 := ⟨_, rfl⟩
      have h := mlet_at ey28 h
      obtain ⟨r32, σ30, c14, h⟩ := mcall_n h
      have w15 := ky_signed N σ24 (-4) 4 _ _ c14
      obtain ⟨c16, h⟩ := mif_n h
      obtain ⟨σ34, eσ34⟩ : ∃ z, z = mArr σ30 31 y28.toNatClampNeg r32 := ⟨_, rfl⟩
      have h := mlet_at eσ34 h
      have w17 : vKy σ30 σ34 := by rw [eσ34]; exact vKy_arr (by decide)
      obtain ⟨r38, σ36, c18, h⟩ := mcall_n h
      have w19 := ky_must N (pTx 51) σ34 _ _ c18
      obtain ⟨y40, ey40⟩ : ∃ z, z = σ36.1 23 := ⟨_, rfl⟩
      have h := mlet_at ey40 h
      obtain ⟨r44, σ42, c20, h⟩ := mcall_n h
      have w21 := ky_number N σ36 1 99 _ _ c20
      obtain ⟨c22, h⟩ := mif_n h
      obtain ⟨σ46, eσ46⟩ : ∃ z, z = mArr σ42 32 y40.toNatClampNeg r44 := ⟨_, rfl⟩
      have h := mlet_at eσ46 h
      have w23 : vKy σ42 σ46 := by rw [eσ46]; exact vKy_arr (by decide)
      obtain ⟨y47, ey47⟩ : ∃ z, z = σ46.1 13 := ⟨_, rfl⟩
      have h := mlet_at ey47 h
      by_cases c24 : y47 = 0
      · have h := mif_t c24 h
        obtain ⟨y49, ey49⟩ : ∃ z, z = σ46.1 23 := ⟨_, rfl⟩
        have h := mlet_at ey49 h
        obtain ⟨σ50, eσ50⟩ : ∃ z, z = mSet σ46 23 ((y49 + 1)) := ⟨_, rfl⟩
        have h := mlet_at eσ50 h
        have w25 : vKy σ46 σ50 := by rw [eσ50]; exact vKy_set (by decide)
        have w26 := ky_tryLine_223 N σ50 _ h
        exact ((((((((((((w3).t w5).t w7).t w9).t w11).t w13).t w15).t w17).t w19).t w21).t w23).t w25).t w26
      · have h := mif_f c24 h
        have w27 := ky_tryLine_223 N σ46 _ h
        exact (((((((((((w3).t w5).t w7).t w9).t w11).t w13).t w15).t w17).t w19).t w21).t w23).t w27
    · have h := mif_f c1 h
      obtain ⟨y52, ey52⟩ : ∃ z, z = σ.1 23 := ⟨_, rfl⟩
      have h := mlet_at ey52 h
      obtain ⟨c28, h⟩ := mif_n h
      obtain ⟨y55, ey55⟩ : ∃ z, z = σ.2.1 11 x1.toNatClampNeg := ⟨_, rfl⟩
      have h := mlet_at ey55 h
      obtain ⟨c29, h⟩ := mif_n h
      obtain ⟨σ57, eσ57⟩ : ∃ z, z = mArr σ 16 ((8 * y52) + x1).toNatClampNeg y55 := ⟨_, rfl⟩
      have h := mlet_at eσ57 h
      have w30 : vKy σ σ57 := by rw [eσ57]; exact vKy_arr (by decide)
      obtain ⟨y58, ey58⟩ : ∃ z, z = x1 + 1 := ⟨_, rfl⟩
      have h := mlet_at ey58 h
      have w31 := ih _ _ _ h
      exact (w30).t w31
set_option maxRecDepth 100000 in
theorem ky_tryLine_73 (N : Nat) (σ : MS) (σ_ : MS) (h : f_tryLine_73 N σ = some σ_) : vKy σ σ_ := by
  unfold f_tryLine_73 at h
  obtain ⟨y1, ey1⟩ : ∃ z, z = σ.1 13 := ⟨_, rfl⟩
  have h := mlet_at ey1 h
  by_cases c1 : y1 = 0
  · have h := mif_t c1 h
    have w2 := ky_tryLine_83 N _ _ _ _ h
    exact w2
  · have h := mif_f c1 h
    cases h
    exact vKy_r
set_option maxRecDepth 100000 in
theorem ky_tryLine_47 (N : Nat) (σ : MS) (σ_ : MS) (h : f_tryLine_47 N σ = some σ_) : vKy σ σ_ := by
  unfold f_tryLine_47 at h
  obtain ⟨y1, ey1⟩ : ∃ z, z = σ.1 13 := ⟨_, rfl⟩
  have h := mlet_at ey1 h
  by_cases c1 : y1 = 0
  · have h := mif_t c1 h
    obtain ⟨y3, ey3⟩ : ∃ z, z = σ.1 23 := ⟨_, rfl⟩
    have h := mlet_at ey3 h
    by_cases c2 : y3 = 6
    · have h := mif_t c2 h
      obtain ⟨y5, ey5⟩ : ∃ z, z = σ.1 4 := ⟨_, rfl⟩
      have h := mlet_at ey5 h
      obtain ⟨r9, σ7, c3, h⟩ := mcall_n h
      have w4 := ky_wrong N σ 5 y5 _ _ c3
      have w5 := ky_tryLine_73 N σ7 _ h
      exact (w4).t w5
    · have h := mif_f c2 h
      have w6 := ky_tryLine_73 N σ _ h
      exact w6
  · have h := mif_f c1 h
    have w7 := ky_tryLine_73 N σ _ h
    exact w7
set_option maxRecDepth 100000 in
theorem ky_tryLine (N : Nat) (σ : MS) (σ_ : MS) (h : f_tryLine N σ = some σ_) : vKy σ σ_ := by
  unfold f_tryLine at h
  obtain ⟨r4, σ2, c1, h⟩ := mcall_n h
  have w2 := ky_isName N σ _ _ c1
  by_cases c3 : r4 = 0
  · have h := mif_t c3 h
    obtain ⟨y19, ey19⟩ : ∃ z, z = σ2.1 4 := ⟨_, rfl⟩
    have h := mlet_at ey19 h
    obtain ⟨r23, σ21, c4, h⟩ := mcall_n h
    have w5 := ky_wrong N σ2 1 y19 _ _ c4
    cases h
    exact (w2).t w5
  · have h := mif_f c3 h
    obtain ⟨y8, ey8⟩ : ∃ z, z = σ2.1 23 := ⟨_, rfl⟩
    have h := mlet_at ey8 h
    obtain ⟨r12, σ10, c6, h⟩ := mcall_n h
    have w7 := ky_find N 16 (by decide) 17 (by decide) σ2 y8 _ _ c6
    by_cases c8 : r12 < 0
    · have h := mif_t c8 h
      have w9 := ky_tryLine_47 N σ10 _ h
      exact ((w2).t w7).t w9
    · have h := mif_f c8 h
      obtain ⟨y14, ey14⟩ : ∃ z, z = σ10.1 4 := ⟨_, rfl⟩
      have h := mlet_at ey14 h
      obtain ⟨r18, σ16, c10, h⟩ := mcall_n h
      have w11 := ky_wrong N σ10 3 y14 _ _ c10
      have w12 := ky_tryLine_47 N σ16 _ h
      exact (((w2).t w7).t w11).t w12
