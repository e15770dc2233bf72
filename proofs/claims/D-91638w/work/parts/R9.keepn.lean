/-! BY gen_fr3.py: PLAIN: what the reading of a book keeps -/
def vKn (σ σ' : MS) : Prop := (∀ k, k = 13 ∨ k = 22 → σ'.1 k = σ.1 k) ∧ True
theorem vKn_r {σ : MS} : vKn σ σ := ⟨fun _ _ => rfl, trivial⟩
theorem vKn.t {a b c : MS} (h : vKn a b) (h' : vKn b c) : vKn a c := ⟨fun k hk => (h'.1 k hk).trans (h.1 k hk), trivial⟩
def vOkD (k : Nat) : Bool := !(k == 13 || k == 22)
def vOkE (j : Nat) : Bool := !(false)
theorem vKn_set {σ : MS} {k : Nat} {v : Int32} (h : vOkD k = true) : vKn σ (mSet σ k v) := ⟨fun i hi => upd_n (fun z => by
    subst z
    unfold vOkD at h
    rcases hi with rfl | rfl <;> exact absurd h (by decide)), trivial⟩
theorem vKn_arr {σ : MS} {j i : Nat} {x : Int32} (h : vOkE j = true) : vKn σ (mArr σ j i x) := ⟨fun _ _ => rfl, trivial⟩
theorem vKn_val {σ : MS} {i : Nat} {x : Int64} : vKn σ (mVal σ i x) := ⟨fun _ _ => rfl, trivial⟩
set_option maxRecDepth 100000 in
theorem kn_within_15 (N : Nat) (σ : MS) (s0 : Int32) (r : Int32) (σ_ : MS) (h : f_within_15 N σ s0 = some (r, σ_)) : vKn σ σ_ := by
  unfold f_within_15 at h
  obtain ⟨c1, h⟩ := mif_n h
  cases h
  exact vKn_r
set_option maxRecDepth 100000 in
theorem kn_within_14 (N : Nat) (σ : MS) (r : Int32) (σ_ : MS) (h : f_within_14 N σ = some (r, σ_)) : vKn σ σ_ := by
  unfold f_within_14 at h
  have w1 := kn_within_15 N σ 0 _ _ h
  exact w1
set_option maxRecDepth 100000 in
theorem kn_within (N : Nat) (σ : MS) (x0 : Int32) (x1 : Int32) (x2 : Int32) (r : Int32) (σ_ : MS) (h : f_within N σ x0 x1 x2 = some (r, σ_)) : vKn σ σ_ := by
  unfold f_within at h
  by_cases c1 : x0 < x1
  · have h := mif_t c1 h
    have w2 := kn_within_14 N σ _ _ h
    exact w2
  · have h := mif_f c1 h
    by_cases c3 : x2 < x0
    · have h := mif_t c3 h
      have w4 := kn_within_14 N σ _ _ h
      exact w4
    · have h := mif_f c3 h
      have w5 := kn_within_15 N σ 1 _ _ h
      exact w5
set_option maxRecDepth 100000 in
theorem kn_look_18 (N : Nat) (σ : MS) (s0 : Int32) (r : Int32) (σ_ : MS) (h : f_look_18 N σ s0 = some (r, σ_)) : vKn σ σ_ := by
  unfold f_look_18 at h
  cases h
  exact vKn_r
set_option maxRecDepth 100000 in
theorem kn_look (N : Nat) (σ : MS) (x1 : Int32) (r : Int32) (σ_ : MS) (h : f_look N σ x1 = some (r, σ_)) : vKn σ σ_ := by
  unfold f_look at h
  by_cases c1 : (σ.1 3) ≤ x1
  · have h := mif_t c1 h
    have w2 := kn_look_18 N σ (-1) _ _ h
    exact w2
  · have h := mif_f c1 h
    obtain ⟨c3, h⟩ := mif_n h
    obtain ⟨y3, ey3⟩ : ∃ z, z = σ.2.1 1 x1.toNatClampNeg := ⟨_, rfl⟩
    have h := mlet_at ey3 h
    have w4 := kn_look_18 N σ y3 _ _ h
    exact w4
set_option maxRecDepth 100000 in
theorem kn_isSmall_17 (N : Nat) (σ : MS) (s0 : Int32) (r : Int32) (σ_ : MS) (h : f_isSmall_17 N σ s0 = some (r, σ_)) : vKn σ σ_ := by
  unfold f_isSmall_17 at h
  obtain ⟨c1, h⟩ := mif_n h
  cases h
  exact vKn_r
set_option maxRecDepth 100000 in
theorem kn_isSmall_16 (N : Nat) (σ : MS) (r : Int32) (σ_ : MS) (h : f_isSmall_16 N σ = some (r, σ_)) : vKn σ σ_ := by
  unfold f_isSmall_16 at h
  have w1 := kn_isSmall_17 N σ 0 _ _ h
  exact w1
set_option maxRecDepth 100000 in
theorem kn_isSmall (N : Nat) (σ : MS) (x0 : Int32) (r : Int32) (σ_ : MS) (h : f_isSmall N σ x0 = some (r, σ_)) : vKn σ σ_ := by
  unfold f_isSmall at h
  by_cases c1 : x0 < 97
  · have h := mif_t c1 h
    have w2 := kn_isSmall_16 N σ _ _ h
    exact w2
  · have h := mif_f c1 h
    by_cases c3 : 122 < x0
    · have h := mif_t c3 h
      have w4 := kn_isSmall_16 N σ _ _ h
      exact w4
    · have h := mif_f c3 h
      have w5 := kn_isSmall_17 N σ 1 _ _ h
      exact w5
set_option maxRecDepth 100000 in
theorem kn_isDigit_17 (N : Nat) (σ : MS) (s0 : Int32) (r : Int32) (σ_ : MS) (h : f_isDigit_17 N σ s0 = some (r, σ_)) : vKn σ σ_ := by
  unfold f_isDigit_17 at h
  obtain ⟨c1, h⟩ := mif_n h
  cases h
  exact vKn_r
set_option maxRecDepth 100000 in
theorem kn_isDigit_16 (N : Nat) (σ : MS) (r : Int32) (σ_ : MS) (h : f_isDigit_16 N σ = some (r, σ_)) : vKn σ σ_ := by
  unfold f_isDigit_16 at h
  have w1 := kn_isDigit_17 N σ 0 _ _ h
  exact w1
set_option maxRecDepth 100000 in
theorem kn_isDigit (N : Nat) (σ : MS) (x0 : Int32) (r : Int32) (σ_ : MS) (h : f_isDigit N σ x0 = some (r, σ_)) : vKn σ σ_ := by
  unfold f_isDigit at h
  by_cases c1 : x0 < 48
  · have h := mif_t c1 h
    have w2 := kn_isDigit_16 N σ _ _ h
    exact w2
  · have h := mif_f c1 h
    by_cases c3 : 57 < x0
    · have h := mif_t c3 h
      have w4 := kn_isDigit_16 N σ _ _ h
      exact w4
    · have h := mif_f c3 h
      have w5 := kn_isDigit_17 N σ 1 _ _ h
      exact w5
set_option maxRecDepth 100000 in
theorem kn_next_265 (N : Nat) (σ : MS) (σ_ : MS) (h : f_next_265 N σ = some σ_) : vKn σ σ_ := by
  unfold f_next_265 at h
  cases h
  exact vKn_r
set_option maxRecDepth 100000 in
theorem kn_next_262 (N : Nat) (σ : MS) (s0 : Int32) (σ_ : MS) (h : f_next_262 N σ s0 = some σ_) : vKn σ σ_ := by
  unfold f_next_262 at h
  obtain ⟨σ1, eσ1⟩ : ∃ z, z = mSet σ 6 s0 := ⟨_, rfl⟩
  have h := mlet_at eσ1 h
  have w1 : vKn σ σ1 := by rw [eσ1]; exact vKn_set (by decide)
  have w2 := kn_next_265 N σ1 _ h
  exact (w1).t w2
set_option maxRecDepth 100000 in
theorem kn_next_257 (N : Nat) (σ : MS) (x2 : Int32) (σ_ : MS) (h : f_next_257 N σ x2 = some σ_) : vKn σ σ_ := by
  unfold f_next_257 at h
  have w1 := kn_next_262 N σ x2 _ h
  exact w1
set_option maxRecDepth 100000 in
theorem kn_next_213 (N : Nat) (σ : MS) (s0 : Int32) (σ_ : MS) (h : f_next_213 N σ s0 = some σ_) : vKn σ σ_ := by
  unfold f_next_213 at h
  obtain ⟨σ1, eσ1⟩ : ∃ z, z = mSet σ 6 s0 := ⟨_, rfl⟩
  have h := mlet_at eσ1 h
  have w1 : vKn σ σ1 := by rw [eσ1]; exact vKn_set (by decide)
  have w2 := kn_next_265 N σ1 _ h
  exact (w1).t w2
set_option maxRecDepth 100000 in
theorem kn_next_188 (N : Nat) (k152 : MS → Int32 → Int32 → Option (MS)) (hk152 : ∀ (z0 : MS) (z1 : Int32) (z2 : Int32) (s : MS), k152 z0 z1 z2 = some s → vKn z0 s) (σ : MS) (x1 : Int32) (x3 : Int32) (σ_ : MS) (h : f_next_188 N k152 σ x1 x3 = some σ_) : vKn σ σ_ := by
  unfold f_next_188 at h
  obtain ⟨y1, ey1⟩ : ∃ z, z = x3 + 1 := ⟨_, rfl⟩
  have h := mlet_at ey1 h
  obtain ⟨y2, ey2⟩ : ∃ z, z = x1 + 1 := ⟨_, rfl⟩
  have h := mlet_at ey2 h
  have w1 := hk152 _ _ _ _ h
  exact w1
set_option maxRecDepth 100000 in
theorem kn_next_152 (N : Nat) : ∀ (n : Nat) (σ : MS) (x1 : Int32) (x3 : Int32) (σ_ : MS), f_next_152 N n σ x1 x3 = some σ_ → vKn σ σ_ := by
  intro n
  induction n with
  | zero =>
    intro σ x1 x3 σ_ h
    cases h
  | succ n ih =>
    intro σ x1 x3 σ_ h
    unfold f_next_152 at h
    obtain ⟨r3, σ1, c1, h⟩ := mcall_n h
    have w2 := kn_look N σ x1 _ _ c1
    obtain ⟨r6, σ4, c3, h⟩ := mcall_n h
    have w4 := kn_isDigit N σ1 r3 _ _ c3
    by_cases c5 : r6 = 0
    · have h := mif_t c5 h
      obtain ⟨σ8, eσ8⟩ : ∃ z, z = mSet σ4 5 x1 := ⟨_, rfl⟩
      have h := mlet_at eσ8 h
      have w6 : vKn σ4 σ8 := by rw [eσ8]; exact vKn_set (by decide)
      by_cases c7 : x3 ≤ 4
      · have h := mif_t c7 h
        have w8 := kn_next_213 N σ8 3 _ h
        exact (((w2).t w4).t w6).t w8
      · have h := mif_f c7 h
        have w9 := kn_next_213 N σ8 1 _ h
        exact (((w2).t w4).t w6).t w9
    · have h := mif_f c5 h
      by_cases c10 : 4 ≤ x3
      · have h := mif_t c10 h
        have w11 := kn_next_188 N (f_next_152 N n) ih σ4 x1 x3 _ h
        exact ((w2).t w4).t w11
      · have h := mif_f c10 h
        obtain ⟨r13, σ11, c12, h⟩ := mcall_n h
        have w13 := kn_look N σ4 x1 _ _ c12
        obtain ⟨σ14, eσ14⟩ : ∃ z, z = mSet σ11 7 (((10 * (σ4.1 7)) + r13) - 48) := ⟨_, rfl⟩
        have h := mlet_at eσ14 h
        have w14 : vKn σ11 σ14 := by rw [eσ14]; exact vKn_set (by decide)
        have w15 := kn_next_188 N (f_next_152 N n) ih σ14 x1 x3 _ h
        exact ((((w2).t w4).t w13).t w14).t w15
set_option maxRecDepth 100000 in
theorem kn_next_137 (N : Nat) (σ : MS) (s0 : Int32) (σ_ : MS) (h : f_next_137 N σ s0 = some σ_) : vKn σ σ_ := by
  unfold f_next_137 at h
  obtain ⟨σ1, eσ1⟩ : ∃ z, z = mSet σ 6 s0 := ⟨_, rfl⟩
  have h := mlet_at eσ1 h
  have w1 : vKn σ σ1 := by rw [eσ1]; exact vKn_set (by decide)
  have w2 := kn_next_265 N σ1 _ h
  exact (w1).t w2
set_option maxRecDepth 100000 in
theorem kn_next_101 (N : Nat) (k67 : MS → Int32 → Option (MS)) (hk67 : ∀ (z0 : MS) (z1 : Int32) (s : MS), k67 z0 z1 = some s → vKn z0 s) (σ : MS) (x1 : Int32) (σ_ : MS) (h : f_next_101 N k67 σ x1 = some σ_) : vKn σ σ_ := by
  unfold f_next_101 at h
  obtain ⟨σ1, eσ1⟩ : ∃ z, z = mSet σ 8 ((σ.1 8) + 1) := ⟨_, rfl⟩
  have h := mlet_at eσ1 h
  have w1 : vKn σ σ1 := by rw [eσ1]; exact vKn_set (by decide)
  obtain ⟨y2, ey2⟩ : ∃ z, z = x1 + 1 := ⟨_, rfl⟩
  have h := mlet_at ey2 h
  have w2 := hk67 _ _ _ h
  exact (w1).t w2
set_option maxRecDepth 100000 in
theorem kn_next_67 (N : Nat) : ∀ (n : Nat) (σ : MS) (x1 : Int32) (σ_ : MS), f_next_67 N n σ x1 = some σ_ → vKn σ σ_ := by
  intro n
  induction n with
  | zero =>
    intro σ x1 σ_ h
    cases h
  | succ n ih =>
    intro σ x1 σ_ h
    unfold f_next_67 at h
    obtain ⟨r3, σ1, c1, h⟩ := mcall_n h
    have w2 := kn_look N σ x1 _ _ c1
    obtain ⟨r6, σ4, c3, h⟩ := mcall_n h
    have w4 := kn_isSmall N σ1 r3 _ _ c3
    by_cases c5 : r6 = 0
    · have h := mif_t c5 h
      obtain ⟨σ8, eσ8⟩ : ∃ z, z = mSet σ4 5 x1 := ⟨_, rfl⟩
      have h := mlet_at eσ8 h
      have w6 : vKn σ4 σ8 := by rw [eσ8]; exact vKn_set (by decide)
      by_cases c7 : (σ8.1 8) ≤ 8
      · have h := mif_t c7 h
        have w8 := kn_next_137 N σ8 2 _ h
        exact (((w2).t w4).t w6).t w8
      · have h := mif_f c7 h
        have w9 := kn_next_137 N σ8 1 _ h
        exact (((w2).t w4).t w6).t w9
    · have h := mif_f c5 h
      by_cases c10 : 8 ≤ (σ4.1 8)
      · have h := mif_t c10 h
        have w11 := kn_next_101 N (f_next_67 N n) ih σ4 x1 _ h
        exact ((w2).t w4).t w11
      · have h := mif_f c10 h
        obtain ⟨r13, σ11, c12, h⟩ := mcall_n h
        have w13 := kn_look N σ4 x1 _ _ c12
        obtain ⟨c14, h⟩ := mif_n h
        obtain ⟨σ15, eσ15⟩ : ∃ z, z = mArr σ11 11 (σ4.1 8).toNatClampNeg r13 := ⟨_, rfl⟩
        have h := mlet_at eσ15 h
        have w15 : vKn σ11 σ15 := by rw [eσ15]; exact vKn_arr (by decide)
        have w16 := kn_next_101 N (f_next_67 N n) ih σ15 x1 _ h
        exact ((((w2).t w4).t w13).t w15).t w16
set_option maxRecDepth 100000 in
theorem kn_next_5 (N : Nat) : ∀ (n : Nat) (σ : MS) (x1 : Int32) (σ_ : MS), f_next_5 N n σ x1 = some σ_ → vKn σ σ_ := by
  intro n
  induction n with
  | zero =>
    intro σ x1 σ_ h
    cases h
  | succ n ih =>
    intro σ x1 σ_ h
    unfold f_next_5 at h
    obtain ⟨r3, σ1, c1, h⟩ := mcall_n h
    have w2 := kn_look N σ x1 _ _ c1
    by_cases c3 : r3 = 32
    · have h := mif_t c3 h
      obtain ⟨y28, ey28⟩ : ∃ z, z = x1 + 1 := ⟨_, rfl⟩
      have h := mlet_at ey28 h
      have w4 := ih _ _ _ h
      exact (w2).t w4
    · have h := mif_f c3 h
      obtain ⟨σ5, eσ5⟩ : ∃ z, z = mSet σ1 4 x1 := ⟨_, rfl⟩
      have h := mlet_at eσ5 h
      have w5 : vKn σ1 σ5 := by rw [eσ5]; exact vKn_set (by decide)
      obtain ⟨r8, σ6, c6, h⟩ := mcall_n h
      have w7 := kn_look N σ5 x1 _ _ c6
      obtain ⟨σ9, eσ9⟩ : ∃ z, z = mSet σ6 8 0 := ⟨_, rfl⟩
      have h := mlet_at eσ9 h
      have w8 : vKn σ6 σ9 := by rw [eσ9]; exact vKn_set (by decide)
      obtain ⟨σ10, eσ10⟩ : ∃ z, z = mSet σ9 7 0 := ⟨_, rfl⟩
      have h := mlet_at eσ10 h
      have w9 : vKn σ9 σ10 := by rw [eσ10]; exact vKn_set (by decide)
      by_cases c10 : r8 = (-1)
      · have h := mif_t c10 h
        obtain ⟨σ26, eσ26⟩ : ∃ z, z = mSet σ10 6 0 := ⟨_, rfl⟩
        have h := mlet_at eσ26 h
        have w11 : vKn σ10 σ26 := by rw [eσ26]; exact vKn_set (by decide)
        obtain ⟨σ27, eσ27⟩ : ∃ z, z = mSet σ26 5 x1 := ⟨_, rfl⟩
        have h := mlet_at eσ27 h
        have w12 : vKn σ26 σ27 := by rw [eσ27]; exact vKn_set (by decide)
        have w13 := kn_next_265 N σ27 _ h
        exact (((((((w2).t w5).t w7).t w8).t w9).t w11).t w12).t w13
      · have h := mif_f c10 h
        obtain ⟨r14, σ12, c14, h⟩ := mcall_n h
        have w15 := kn_isSmall N σ10 r8 _ _ c14
        by_cases c16 : r14 = 0
        · have h := mif_t c16 h
          obtain ⟨r18, σ16, c17, h⟩ := mcall_n h
          have w18 := kn_isDigit N σ12 r8 _ _ c17
          by_cases c19 : r18 = 0
          · have h := mif_t c19 h
            obtain ⟨σ20, eσ20⟩ : ∃ z, z = mSet σ16 5 (x1 + 1) := ⟨_, rfl⟩
            have h := mlet_at eσ20 h
            have w20 : vKn σ16 σ20 := by rw [eσ20]; exact vKn_set (by decide)
            by_cases c21 : r8 = 59
            · have h := mif_t c21 h
              have w22 := kn_next_257 N σ20 r8 _ h
              exact ((((((((w2).t w5).t w7).t w8).t w9).t w15).t w18).t w20).t w22
            · have h := mif_f c21 h
              by_cases c23 : r8 = 44
              · have h := mif_t c23 h
                have w24 := kn_next_257 N σ20 r8 _ h
                exact ((((((((w2).t w5).t w7).t w8).t w9).t w15).t w18).t w20).t w24
              · have h := mif_f c23 h
                by_cases c25 : r8 = 45
                · have h := mif_t c25 h
                  have w26 := kn_next_257 N σ20 r8 _ h
                  exact ((((((((w2).t w5).t w7).t w8).t w9).t w15).t w18).t w20).t w26
                · have h := mif_f c25 h
                  by_cases c27 : r8 = 40
                  · have h := mif_t c27 h
                    have w28 := kn_next_257 N σ20 r8 _ h
                    exact ((((((((w2).t w5).t w7).t w8).t w9).t w15).t w18).t w20).t w28
                  · have h := mif_f c27 h
                    by_cases c29 : r8 = 41
                    · have h := mif_t c29 h
                      have w30 := kn_next_257 N σ20 r8 _ h
                      exact ((((((((w2).t w5).t w7).t w8).t w9).t w15).t w18).t w20).t w30
                    · have h := mif_f c29 h
                      have w31 := kn_next_262 N σ20 1 _ h
                      exact ((((((((w2).t w5).t w7).t w8).t w9).t w15).t w18).t w20).t w31
          · have h := mif_f c19 h
            have w32 := kn_next_152 N _ _ _ _ _ h
            exact (((((((w2).t w5).t w7).t w8).t w9).t w15).t w18).t w32
        · have h := mif_f c16 h
          have w33 := kn_next_67 N _ _ _ _ h
          exact ((((((w2).t w5).t w7).t w8).t w9).t w15).t w33
set_option maxRecDepth 100000 in
theorem kn_next (N : Nat) (σ : MS) (σ_ : MS) (h : f_next N σ = some σ_) : vKn σ σ_ := by
  unfold f_next at h
  obtain ⟨y1, ey1⟩ : ∃ z, z = σ.1 5 := ⟨_, rfl⟩
  have h := mlet_at ey1 h
  have w1 := kn_next_5 N _ _ _ _ h
  exact w1
set_option maxRecDepth 100000 in
theorem kn_find_77 (N : Nat) (j1 : Nat) (hj1 : vOkE j1 = true) (j2 : Nat) (hj2 : vOkE j2 = true) (k3 : MS → Int32 → Int32 → Option (Int32 × MS)) (hk3 : ∀ (z0 : MS) (z1 : Int32) (z2 : Int32) (r : Int32) (s : MS), k3 z0 z1 z2 = some (r, s) → vKn z0 s) (σ : MS) (x3 : Int32) (x4 : Int32) (x5 : Int32) (r : Int32) (σ_ : MS) (h : f_find_77 N j1 j2 k3 σ x3 x4 x5 = some (r, σ_)) : vKn σ σ_ := by
  unfold f_find_77 at h
  by_cases c1 : x5 = 0
  · have h := mif_t c1 h
    obtain ⟨y2, ey2⟩ : ∃ z, z = x4 + 1 := ⟨_, rfl⟩
    have h := mlet_at ey2 h
    have w2 := hk3 _ _ _ _ _ h
    exact w2
  · have h := mif_f c1 h
    cases h
    exact vKn_r
set_option maxRecDepth 100000 in
theorem kn_find_69 (N : Nat) (j1 : Nat) (hj1 : vOkE j1 = true) (j2 : Nat) (hj2 : vOkE j2 = true) (k3 : MS → Int32 → Int32 → Option (Int32 × MS)) (hk3 : ∀ (z0 : MS) (z1 : Int32) (z2 : Int32) (r : Int32) (s : MS), k3 z0 z1 z2 = some (r, s) → vKn z0 s) (k30 : MS → Int32 → Int32 → Int32 → Int32 → Option (Int32 × MS)) (hk30 : ∀ (z0 : MS) (z1 : Int32) (z2 : Int32) (z3 : Int32) (z4 : Int32) (r : Int32) (s : MS), k30 z0 z1 z2 z3 z4 = some (r, s) → vKn z0 s) (σ : MS) (x3 : Int32) (x4 : Int32) (x6 : Int32) (s0 : Int32) (r : Int32) (σ_ : MS) (h : f_find_69 N j1 j2 k3 k30 σ x3 x4 x6 s0 = some (r, σ_)) : vKn σ σ_ := by
  unfold f_find_69 at h
  obtain ⟨y1, ey1⟩ : ∃ z, z = x6 + 1 := ⟨_, rfl⟩
  have h := mlet_at ey1 h
  have w1 := hk30 _ _ _ _ _ _ _ h
  exact w1
set_option maxRecDepth 100000 in
theorem kn_find_30 (N : Nat) (j1 : Nat) (hj1 : vOkE j1 = true) (j2 : Nat) (hj2 : vOkE j2 = true) (k3 : MS → Int32 → Int32 → Option (Int32 × MS)) (hk3 : ∀ (z0 : MS) (z1 : Int32) (z2 : Int32) (r : Int32) (s : MS), k3 z0 z1 z2 = some (r, s) → vKn z0 s) : ∀ (n : Nat) (σ : MS) (x3 : Int32) (x4 : Int32) (x5 : Int32) (x6 : Int32) (r : Int32) (σ_ : MS), f_find_30 N j1 j2 k3 n σ x3 x4 x5 x6 = some (r, σ_) → vKn σ σ_ := by
  intro n
  induction n with
  | zero =>
    intro σ x3 x4 x5 x6 r σ_ h
    cases h
  | succ n ih =>
    intro σ x3 x4 x5 x6 r σ_ h
    unfold f_find_30 at h
    by_cases c1 : (σ.1 8) ≤ x6
    · have h := mif_t c1 h
      have w2 := kn_find_77 N j1 hj1 j2 hj2 k3 hk3 σ x3 x4 x5 _ _ h
      exact w2
    · have h := mif_f c1 h
      by_cases c3 : x5 = 0
      · have h := mif_t c3 h
        have w4 := kn_find_77 N j1 hj1 j2 hj2 k3 hk3 σ x3 x4 x5 _ _ h
        exact w4
      · have h := mif_f c3 h
        obtain ⟨c5, h⟩ := mif_n h
        obtain ⟨y4, ey4⟩ : ∃ z, z = σ.2.1 j1 ((8 * x4) + x6).toNatClampNeg := ⟨_, rfl⟩
        have h := mlet_at ey4 h
        obtain ⟨c6, h⟩ := mif_n h
        obtain ⟨y6, ey6⟩ : ∃ z, z = σ.2.1 11 x6.toNatClampNeg := ⟨_, rfl⟩
        have h := mlet_at ey6 h
        by_cases c7 : y4 = y6
        · have h := mif_t c7 h
          have w8 := kn_find_69 N j1 hj1 j2 hj2 k3 hk3 (f_find_30 N j1 j2 k3 n) ih σ x3 x4 x6 1 _ _ h
          exact w8
        · have h := mif_f c7 h
          have w9 := kn_find_69 N j1 hj1 j2 hj2 k3 hk3 (f_find_30 N j1 j2 k3 n) ih σ x3 x4 x6 0 _ _ h
          exact w9
set_option maxRecDepth 100000 in
theorem kn_find_25 (N : Nat) (j1 : Nat) (hj1 : vOkE j1 = true) (j2 : Nat) (hj2 : vOkE j2 = true) (k3 : MS → Int32 → Int32 → Option (Int32 × MS)) (hk3 : ∀ (z0 : MS) (z1 : Int32) (z2 : Int32) (r : Int32) (s : MS), k3 z0 z1 z2 = some (r, s) → vKn z0 s) (σ : MS) (x3 : Int32) (x4 : Int32) (s0 : Int32) (r : Int32) (σ_ : MS) (h : f_find_25 N j1 j2 k3 σ x3 x4 s0 = some (r, σ_)) : vKn σ σ_ := by
  unfold f_find_25 at h
  have w1 := kn_find_30 N j1 hj1 j2 hj2 k3 hk3 _ _ _ _ _ _ _ _ h
  exact w1
set_option maxRecDepth 100000 in
theorem kn_find_3 (N : Nat) (j1 : Nat) (hj1 : vOkE j1 = true) (j2 : Nat) (hj2 : vOkE j2 = true) : ∀ (n : Nat) (σ : MS) (x3 : Int32) (x4 : Int32) (r : Int32) (σ_ : MS), f_find_3 N j1 j2 n σ x3 x4 = some (r, σ_) → vKn σ σ_ := by
  intro n
  induction n with
  | zero =>
    intro σ x3 x4 r σ_ h
    cases h
  | succ n ih =>
    intro σ x3 x4 r σ_ h
    unfold f_find_3 at h
    by_cases c1 : x3 ≤ x4
    · have h := mif_t c1 h
      cases h
      exact vKn_r
    · have h := mif_f c1 h
      obtain ⟨c2, h⟩ := mif_n h
      obtain ⟨y3, ey3⟩ : ∃ z, z = σ.2.1 j2 x4.toNatClampNeg := ⟨_, rfl⟩
      have h := mlet_at ey3 h
      by_cases c3 : y3 = (σ.1 8)
      · have h := mif_t c3 h
        have w4 := kn_find_25 N j1 hj1 j2 hj2 (f_find_3 N j1 j2 n) ih σ x3 x4 1 _ _ h
        exact w4
      · have h := mif_f c3 h
        have w5 := kn_find_25 N j1 hj1 j2 hj2 (f_find_3 N j1 j2 n) ih σ x3 x4 0 _ _ h
        exact w5
set_option maxRecDepth 100000 in
theorem kn_find (N : Nat) (j1 : Nat) (hj1 : vOkE j1 = true) (j2 : Nat) (hj2 : vOkE j2 = true) (σ : MS) (x3 : Int32) (r : Int32) (σ_ : MS) (h : f_find N j1 j2 σ x3 = some (r, σ_)) : vKn σ σ_ := by
  unfold f_find at h
  have w1 := kn_find_3 N j1 hj1 j2 hj2 _ _ _ _ _ _ h
  exact w1
set_option maxRecDepth 100000 in
theorem kn_word_26 (N : Nat) (σ : MS) (r : Int32) (σ_ : MS) (h : f_word_26 N σ = some (r, σ_)) : vKn σ σ_ := by
  unfold f_word_26 at h
  cases h
  exact vKn_r
set_option maxRecDepth 100000 in
theorem kn_word_63 (N : Nat) (tx : List Int32) (k32 : MS → Int32 → Int32 → Option (Int32 × MS)) (hk32 : ∀ (z0 : MS) (z1 : Int32) (z2 : Int32) (r : Int32) (s : MS), k32 z0 z1 z2 = some (r, s) → vKn z0 s) (σ : MS) (x3 : Int32) (s0 : Int32) (r : Int32) (σ_ : MS) (h : f_word_63 N tx k32 σ x3 s0 = some (r, σ_)) : vKn σ σ_ := by
  unfold f_word_63 at h
  obtain ⟨y1, ey1⟩ : ∃ z, z = x3 + 1 := ⟨_, rfl⟩
  have h := mlet_at ey1 h
  have w1 := hk32 _ _ _ _ _ h
  exact w1
set_option maxRecDepth 100000 in
theorem kn_word_62 (N : Nat) (tx : List Int32) (k32 : MS → Int32 → Int32 → Option (Int32 × MS)) (hk32 : ∀ (z0 : MS) (z1 : Int32) (z2 : Int32) (r : Int32) (s : MS), k32 z0 z1 z2 = some (r, s) → vKn z0 s) (σ : MS) (x3 : Int32) (r : Int32) (σ_ : MS) (h : f_word_62 N tx k32 σ x3 = some (r, σ_)) : vKn σ σ_ := by
  unfold f_word_62 at h
  have w1 := kn_word_63 N tx k32 hk32 σ x3 0 _ _ h
  exact w1
set_option maxRecDepth 100000 in
theorem kn_word_32 (N : Nat) (tx : List Int32) : ∀ (n : Nat) (σ : MS) (x2 : Int32) (x3 : Int32) (r : Int32) (σ_ : MS), f_word_32 N tx n σ x2 x3 = some (r, σ_) → vKn σ σ_ := by
  intro n
  induction n with
  | zero =>
    intro σ x2 x3 r σ_ h
    cases h
  | succ n ih =>
    intro σ x2 x3 r σ_ h
    unfold f_word_32 at h
    obtain ⟨y1, ey1⟩ : ∃ z, z = σ.1 8 := ⟨_, rfl⟩
    have h := mlet_at ey1 h
    by_cases c1 : y1 ≤ x3
    · have h := mif_t c1 h
      obtain ⟨c2, h⟩ := mif_n h
      cases h
      exact vKn_r
    · have h := mif_f c1 h
      by_cases c3 : x2 = 0
      · have h := mif_t c3 h
        have w4 := kn_word_62 N tx (f_word_32 N tx n) ih σ x3 _ _ h
        exact w4
      · have h := mif_f c3 h
        obtain ⟨c5, h⟩ := mif_n h
        obtain ⟨y7, ey7⟩ : ∃ z, z = σ.2.1 11 x3.toNatClampNeg := ⟨_, rfl⟩
        have h := mlet_at ey7 h
        obtain ⟨c6, h⟩ := mif_n h
        obtain ⟨r12, er12⟩ : ∃ z, z = tx.getD x3.toNatClampNeg 0 := ⟨_, rfl⟩
        have h := mlet_at er12 h
        by_cases c7 : y7 = r12
        · have h := mif_t c7 h
          have w8 := kn_word_63 N tx (f_word_32 N tx n) ih σ x3 1 _ _ h
          exact w8
        · have h := mif_f c7 h
          have w9 := kn_word_62 N tx (f_word_32 N tx n) ih σ x3 _ _ h
          exact w9
set_option maxRecDepth 100000 in
theorem kn_word (N : Nat) (tx : List Int32) (σ : MS) (r : Int32) (σ_ : MS) (h : f_word N tx σ = some (r, σ_)) : vKn σ σ_ := by
  unfold f_word at h
  obtain ⟨y1, ey1⟩ : ∃ z, z = σ.1 13 := ⟨_, rfl⟩
  have h := mlet_at ey1 h
  by_cases c1 : y1 = 0
  · have h := mif_t c1 h
    obtain ⟨y3, ey3⟩ : ∃ z, z = σ.1 6 := ⟨_, rfl⟩
    have h := mlet_at ey3 h
    by_cases c2 : y3 = 2
    · have h := mif_t c2 h
      obtain ⟨y5, ey5⟩ : ∃ z, z = σ.1 8 := ⟨_, rfl⟩
      have h := mlet_at ey5 h
      obtain ⟨r10, er10⟩ : ∃ z, z = Int32.ofNat tx.length := ⟨_, rfl⟩
      have h := mlet_at er10 h
      by_cases c3 : y5 = r10
      · have h := mif_t c3 h
        have w4 := kn_word_32 N tx _ _ _ _ _ _ h
        exact w4
      · have h := mif_f c3 h
        have w5 := kn_word_26 N σ _ _ h
        exact w5
    · have h := mif_f c2 h
      have w6 := kn_word_26 N σ _ _ h
      exact w6
  · have h := mif_f c1 h
    have w7 := kn_word_26 N σ _ _ h
    exact w7
set_option maxRecDepth 100000 in
theorem kn_isName_113 (N : Nat) (σ : MS) (s0 : Int32) (r : Int32) (σ_ : MS) (h : f_isName_113 N σ s0 = some (r, σ_)) : vKn σ σ_ := by
  unfold f_isName_113 at h
  obtain ⟨c1, h⟩ := mif_n h
  cases h
  exact vKn_r
set_option maxRecDepth 100000 in
theorem kn_isName_112 (N : Nat) (σ : MS) (r : Int32) (σ_ : MS) (h : f_isName_112 N σ = some (r, σ_)) : vKn σ σ_ := by
  unfold f_isName_112 at h
  have w1 := kn_isName_113 N σ 0 _ _ h
  exact w1
set_option maxRecDepth 100000 in
theorem kn_isName_95 (N : Nat) (σ : MS) (s0 : Int32) (r : Int32) (σ_ : MS) (h : f_isName_95 N σ s0 = some (r, σ_)) : vKn σ σ_ := by
  unfold f_isName_95 at h
  obtain ⟨y1, ey1⟩ : ∃ z, z = σ.1 6 := ⟨_, rfl⟩
  have h := mlet_at ey1 h
  by_cases c1 : y1 = 2
  · have h := mif_t c1 h
    by_cases c2 : s0 = 0
    · have h := mif_t c2 h
      have w3 := kn_isName_113 N σ 1 _ _ h
      exact w3
    · have h := mif_f c2 h
      have w4 := kn_isName_112 N σ _ _ h
      exact w4
  · have h := mif_f c1 h
    have w5 := kn_isName_112 N σ _ _ h
    exact w5
set_option maxRecDepth 100000 in
theorem kn_isName_90 (N : Nat) (σ : MS) (r : Int32) (σ_ : MS) (h : f_isName_90 N σ = some (r, σ_)) : vKn σ σ_ := by
  unfold f_isName_90 at h
  have w1 := kn_isName_95 N σ 1 _ _ h
  exact w1
set_option maxRecDepth 100000 in
theorem kn_isName (N : Nat) (σ : MS) (r : Int32) (σ_ : MS) (h : f_isName N σ = some (r, σ_)) : vKn σ σ_ := by
  unfold f_isName at h
  obtain ⟨r4, σ2, c1, h⟩ := mcall_n h
  have w2 := kn_word N (pTx 32) σ _ _ c1
  by_cases c3 : r4 = 0
  · have h := mif_t c3 h
    obtain ⟨r9, σ7, c4, h⟩ := mcall_n h
    have w5 := kn_word N (pTx 33) σ2 _ _ c4
    by_cases c6 : r9 = 0
    · have h := mif_t c6 h
      obtain ⟨r14, σ12, c7, h⟩ := mcall_n h
      have w8 := kn_word N (pTx 34) σ7 _ _ c7
      by_cases c9 : r14 = 0
      · have h := mif_t c9 h
        obtain ⟨r19, σ17, c10, h⟩ := mcall_n h
        have w11 := kn_word N (pTx 35) σ12 _ _ c10
        by_cases c12 : r19 = 0
        · have h := mif_t c12 h
          obtain ⟨r24, σ22, c13, h⟩ := mcall_n h
          have w14 := kn_word N (pTx 36) σ17 _ _ c13
          by_cases c15 : r24 = 0
          · have h := mif_t c15 h
            obtain ⟨r29, σ27, c16, h⟩ := mcall_n h
            have w17 := kn_word N (pTx 37) σ22 _ _ c16
            by_cases c18 : r29 = 0
            · have h := mif_t c18 h
              obtain ⟨r34, σ32, c19, h⟩ := mcall_n h
              have w20 := kn_word N (pTx 38) σ27 _ _ c19
              by_cases c21 : r34 = 0
              · have h := mif_t c21 h
                obtain ⟨r39, σ37, c22, h⟩ := mcall_n h
                have w23 := kn_word N (pTx 39) σ32 _ _ c22
                by_cases c24 : r39 = 0
                · have h := mif_t c24 h
                  obtain ⟨r44, σ42, c25, h⟩ := mcall_n h
                  have w26 := kn_word N (pTx 40) σ37 _ _ c25
                  by_cases c27 : r44 = 0
                  · have h := mif_t c27 h
                    obtain ⟨r49, σ47, c28, h⟩ := mcall_n h
                    have w29 := kn_word N (pTx 41) σ42 _ _ c28
                    by_cases c30 : r49 = 0
                    · have h := mif_t c30 h
                      have w31 := kn_isName_95 N σ47 0 _ _ h
                      exact ((((((((((w2).t w5).t w8).t w11).t w14).t w17).t w20).t w23).t w26).t w29).t w31
                    · have h := mif_f c30 h
                      have w32 := kn_isName_90 N σ47 _ _ h
                      exact ((((((((((w2).t w5).t w8).t w11).t w14).t w17).t w20).t w23).t w26).t w29).t w32
                  · have h := mif_f c27 h
                    have w33 := kn_isName_90 N σ42 _ _ h
                    exact (((((((((w2).t w5).t w8).t w11).t w14).t w17).t w20).t w23).t w26).t w33
                · have h := mif_f c24 h
                  have w34 := kn_isName_90 N σ37 _ _ h
                  exact ((((((((w2).t w5).t w8).t w11).t w14).t w17).t w20).t w23).t w34
              · have h := mif_f c21 h
                have w35 := kn_isName_90 N σ32 _ _ h
                exact (((((((w2).t w5).t w8).t w11).t w14).t w17).t w20).t w35
            · have h := mif_f c18 h
              have w36 := kn_isName_90 N σ27 _ _ h
              exact ((((((w2).t w5).t w8).t w11).t w14).t w17).t w36
          · have h := mif_f c15 h
            have w37 := kn_isName_90 N σ22 _ _ h
            exact (((((w2).t w5).t w8).t w11).t w14).t w37
        · have h := mif_f c12 h
          have w38 := kn_isName_90 N σ17 _ _ h
          exact ((((w2).t w5).t w8).t w11).t w38
      · have h := mif_f c9 h
        have w39 := kn_isName_90 N σ12 _ _ h
        exact (((w2).t w5).t w8).t w39
    · have h := mif_f c6 h
      have w40 := kn_isName_90 N σ7 _ _ h
      exact ((w2).t w5).t w40
  · have h := mif_f c3 h
    have w41 := kn_isName_90 N σ2 _ _ h
    exact (w2).t w41
