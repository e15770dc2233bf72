/-! BY gen_fr6.py: PLAIN: what changes nothing at all -/
def vKz (σ σ' : MS) : Prop := σ' = σ
theorem vKz_r {σ : MS} : vKz σ σ := rfl
theorem vKz.t {a b c : MS} (h : vKz a b) (h' : vKz b c) : vKz a c := Eq.trans h' h
def vOkJ (j : Nat) : Bool := !(false)
set_option maxRecDepth 100000 in
theorem kz_find_77 (N : Nat) (j1 : Nat) (hj1 : vOkJ j1 = true) (j2 : Nat) (hj2 : vOkJ j2 = true) (k3 : MS → Int32 → Int32 → Option (Int32 × MS)) (hk3 : ∀ (z0 : MS) (z1 : Int32) (z2 : Int32) (r : Int32) (s : MS), k3 z0 z1 z2 = some (r, s) → vKz z0 s) (σ : MS) (x3 : Int32) (x4 : Int32) (x5 : Int32) (r : Int32) (σ_ : MS) (h : f_find_77 N j1 j2 k3 σ x3 x4 x5 = some (r, σ_)) : vKz σ σ_ := by
  unfold f_find_77 at h
  by_cases c1 : x5 = 0
  · have h := mif_t c1 h
    obtain ⟨y2, ey2⟩ : ∃ z, z = x4 + 1 := ⟨_, rfl⟩
    have h := mlet_at ey2 h
    have w2 := hk3 _ _ _ _ _ h
    exact w2
  · have h := mif_f c1 h
    cases h
    exact vKz_r
set_option maxRecDepth 100000 in
theorem kz_find_69 (N : Nat) (j1 : Nat) (hj1 : vOkJ j1 = true) (j2 : Nat) (hj2 : vOkJ j2 = true) (k3 : MS → Int32 → Int32 → Option (Int32 × MS)) (hk3 : ∀ (z0 : MS) (z1 : Int32) (z2 : Int32) (r : Int32) (s : MS), k3 z0 z1 z2 = some (r, s) → vKz z0 s) (k30 : MS → Int32 → Int32 → Int32 → Int32 → Option (Int32 × MS)) (hk30 : ∀ (z0 : MS) (z1 : Int32) (z2 : Int32) (z3 : Int32) (z4 : Int32) (r : Int32) (s : MS), k30 z0 z1 z2 z3 z4 = some (r, s) → vKz z0 s) (σ : MS) (x3 : Int32) (x4 : Int32) (x6 : Int32) (s0 : Int32) (r : Int32) (σ_ : MS) (h : f_find_69 N j1 j2 k3 k30 σ x3 x4 x6 s0 = some (r, σ_)) : vKz σ σ_ := by
  unfold f_find_69 at h
  obtain ⟨y1, ey1⟩ : ∃ z, z = x6 + 1 := ⟨_, rfl⟩
  have h := mlet_at ey1 h
  have w1 := hk30 _ _ _ _ _ _ _ h
  exact w1
set_option maxRecDepth 100000 in
theorem kz_find_30 (N : Nat) (j1 : Nat) (hj1 : vOkJ j1 = true) (j2 : Nat) (hj2 : vOkJ j2 = true) (k3 : MS → Int32 → Int32 → Option (Int32 × MS)) (hk3 : ∀ (z0 : MS) (z1 : Int32) (z2 : Int32) (r : Int32) (s : MS), k3 z0 z1 z2 = some (r, s) → vKz z0 s) : ∀ (n : Nat) (σ : MS) (x3 : Int32) (x4 : Int32) (x5 : Int32) (x6 : Int32) (r : Int32) (σ_ : MS), f_find_30 N j1 j2 k3 n σ x3 x4 x5 x6 = some (r, σ_) → vKz σ σ_ := by
  intro n
  induction n with
  | zero =>
    intro σ x3 x4 x5 x6 r σ_ h
    cases h
  | succ n ih =>
    intro σ x3 x4 x5 x6 r σ_ h
    unfold f_find_30 at h
    by_cases c1 : (σ.1 8) ≤ x6
    · have h := mif_t c1 h
      have w2 := kz_find_77 N j1 hj1 j2 hj2 k3 hk3 σ x3 x4 x5 _ _ h
      exact w2
    · have h := mif_f c1 h
      by_cases c3 : x5 = 0
      · have h := mif_t c3 h
        have w4 := kz_find_77 N j1 hj1 j2 hj2 k3 hk3 σ x3 x4 x5 _ _ h
        exact w4
      · have h := mif_f c3 h
        obtain ⟨c5, h⟩ := mif_n h
        obtain ⟨y4, ey4⟩ : ∃ z, z = σ.2.1 j1 ((8 * x4) + x6).toNatClampNeg := ⟨_, rfl⟩
        have h := mlet_at ey4 h
        obtain ⟨c6, h⟩ := mif_n h
        obtain ⟨y6, ey6⟩ : ∃ z, z = σ.2.1 11 x6.toNatClampNeg := ⟨_, rfl⟩
        have h := mlet_at ey6 h
        by_cases c7 : y4 = y6
        · have h := mif_t c7 h
          have w8 := kz_find_69 N j1 hj1 j2 hj2 k3 hk3 (f_find_30 N j1 j2 k3 n) ih σ x3 x4 x6 1 _ _ h
          exact w8
        · have h := mif_f c7 h
          have w9 := kz_find_69 N j1 hj1 j2 hj2 k3 hk3 (f_find_30 N j1 j2 k3 n) ih σ x3 x4 x6 0 _ _ h
          exact w9
set_option maxRecDepth 100000 in
theorem kz_find_25 (N : Nat) (j1 : Nat) (hj1 : vOkJ j1 = true) (j2 : Nat) (hj2 : vOkJ j2 = true) (k3 : MS → Int32 → Int32 → Option (Int32 × MS)) (hk3 : ∀ (z0 : MS) (z1 : Int32) (z2 : Int32) (r : Int32) (s : MS), k3 z0 z1 z2 = some (r, s) → vKz z0 s) (σ : MS) (x3 : Int32) (x4 : Int32) (s0 : Int32) (r : Int32) (σ_ : MS) (h : f_find_25 N j1 j2 k3 σ x3 x4 s0 = some (r, σ_)) : vKz σ σ_ := by
  unfold f_find_25 at h
  have w1 := kz_find_30 N j1 hj1 j2 hj2 k3 hk3 _ _ _ _ _ _ _ _ h
  exact w1
set_option maxRecDepth 100000 in
theorem kz_find_3 (N : Nat) (j1 : Nat) (hj1 : vOkJ j1 = true) (j2 : Nat) (hj2 : vOkJ j2 = true) : ∀ (n : Nat) (σ : MS) (x3 : Int32) (x4 : Int32) (r : Int32) (σ_ : MS), f_find_3 N j1 j2 n σ x3 x4 = some (r, σ_) → vKz σ σ_ := by
  intro n
  induction n with
  | zero =>
    intro σ x3 x4 r σ_ h
    cases h
  | succ n ih =>
    intro σ x3 x4 r σ_ h
    unfold f_find_3 at h
    by_cases c1 : x3 ≤ x4
    · have h := mif_t c1 h
      cases h
      exact vKz_r
    · have h := mif_f c1 h
      obtain ⟨c2, h⟩ := mif_n h
      obtain ⟨y3, ey3⟩ : ∃ z, z = σ.2.1 j2 x4.toNatClampNeg := ⟨_, rfl⟩
      have h := mlet_at ey3 h
      by_cases c3 : y3 = (σ.1 8)
      · have h := mif_t c3 h
        have w4 := kz_find_25 N j1 hj1 j2 hj2 (f_find_3 N j1 j2 n) ih σ x3 x4 1 _ _ h
        exact w4
      · have h := mif_f c3 h
        have w5 := kz_find_25 N j1 hj1 j2 hj2 (f_find_3 N j1 j2 n) ih σ x3 x4 0 _ _ h
        exact w5
set_option maxRecDepth 100000 in
theorem kz_find (N : Nat) (j1 : Nat) (hj1 : vOkJ j1 = true) (j2 : Nat) (hj2 : vOkJ j2 = true) (σ : MS) (x3 : Int32) (r : Int32) (σ_ : MS) (h : f_find N j1 j2 σ x3 = some (r, σ_)) : vKz σ σ_ := by
  unfold f_find at h
  have w1 := kz_find_3 N j1 hj1 j2 hj2 _ _ _ _ _ _ h
  exact w1
set_option maxRecDepth 100000 in
theorem kz_word_26 (N : Nat) (σ : MS) (r : Int32) (σ_ : MS) (h : f_word_26 N σ = some (r, σ_)) : vKz σ σ_ := by
  unfold f_word_26 at h
  cases h
  exact vKz_r
set_option maxRecDepth 100000 in
theorem kz_word_63 (N : Nat) (tx : List Int32) (k32 : MS → Int32 → Int32 → Option (Int32 × MS)) (hk32 : ∀ (z0 : MS) (z1 : Int32) (z2 : Int32) (r : Int32) (s : MS), k32 z0 z1 z2 = some (r, s) → vKz z0 s) (σ : MS) (x3 : Int32) (s0 : Int32) (r : Int32) (σ_ : MS) (h : f_word_63 N tx k32 σ x3 s0 = some (r, σ_)) : vKz σ σ_ := by
  unfold f_word_63 at h
  obtain ⟨y1, ey1⟩ : ∃ z, z = x3 + 1 := ⟨_, rfl⟩
  have h := mlet_at ey1 h
  have w1 := hk32 _ _ _ _ _ h
  exact w1
set_option maxRecDepth 100000 in
theorem kz_word_62 (N : Nat) (tx : List Int32) (k32 : MS → Int32 → Int32 → Option (Int32 × MS)) (hk32 : ∀ (z0 : MS) (z1 : Int32) (z2 : Int32) (r : Int32) (s : MS), k32 z0 z1 z2 = some (r, s) → vKz z0 s) (σ : MS) (x3 : Int32) (r : Int32) (σ_ : MS) (h : f_word_62 N tx k32 σ x3 = some (r, σ_)) : vKz σ σ_ := by
  unfold f_word_62 at h
  have w1 := kz_word_63 N tx k32 hk32 σ x3 0 _ _ h
  exact w1
set_option maxRecDepth 100000 in
theorem kz_word_32 (N : Nat) (tx : List Int32) : ∀ (n : Nat) (σ : MS) (x2 : Int32) (x3 : Int32) (r : Int32) (σ_ : MS), f_word_32 N tx n σ x2 x3 = some (r, σ_) → vKz σ σ_ := by
  intro n
  induction n with
  | zero =>
    intro σ x2 x3 r σ_ h
    cases h
  | succ n ih =>
    intro σ x2 x3 r σ_ h
    unfold f_word_32 at h
    obtain ⟨y1, ey1⟩ : ∃ z, z = σ.1 8 := ⟨_, rfl⟩
    have h := mlet_at ey1 h
    by_cases c1 : y1 ≤ x3
    · have h := mif_t c1 h
      obtain ⟨c2, h⟩ := mif_n h
      cases h
      exact vKz_r
    · have h := mif_f c1 h
      by_cases c3 : x2 = 0
      · have h := mif_t c3 h
        have w4 := kz_word_62 N tx (f_word_32 N tx n) ih σ x3 _ _ h
        exact w4
      · have h := mif_f c3 h
        obtain ⟨c5, h⟩ := mif_n h
        obtain ⟨y7, ey7⟩ : ∃ z, z = σ.2.1 11 x3.toNatClampNeg := ⟨_, rfl⟩
        have h := mlet_at ey7 h
        obtain ⟨c6, h⟩ := mif_n h
        obtain ⟨r12, er12⟩ : ∃ z, z = tx.getD x3.toNatClampNeg 0 := ⟨_, rfl⟩
        have h := mlet_at er12 h
        by_cases c7 : y7 = r12
        · have h := mif_t c7 h
          have w8 := kz_word_63 N tx (f_word_32 N tx n) ih σ x3 1 _ _ h
          exact w8
        · have h := mif_f c7 h
          have w9 := kz_word_62 N tx (f_word_32 N tx n) ih σ x3 _ _ h
          exact w9
set_option maxRecDepth 100000 in
theorem kz_word (N : Nat) (tx : List Int32) (σ : MS) (r : Int32) (σ_ : MS) (h : f_word N tx σ = some (r, σ_)) : vKz σ σ_ := by
  unfold f_word at h
  obtain ⟨y1, ey1⟩ : ∃ z, z = σ.1 13 := ⟨_, rfl⟩
  have h := mlet_at ey1 h
  by_cases c1 : y1 = 0
  · have h := mif_t c1 h
    obtain ⟨y3, ey3⟩ : ∃ z, z = σ.1 6 := ⟨_, rfl⟩
    have h := mlet_at ey3 h
    by_cases c2 : y3 = 2
    · have h := mif_t c2 h
      obtain ⟨y5, ey5⟩ : ∃ z, z = σ.1 8 := ⟨_, rfl⟩
      have h := mlet_at ey5 h
      obtain ⟨r10, er10⟩ : ∃ z, z = Int32.ofNat tx.length := ⟨_, rfl⟩
      have h := mlet_at er10 h
      by_cases c3 : y5 = r10
      · have h := mif_t c3 h
        have w4 := kz_word_32 N tx _ _ _ _ _ _ h
        exact w4
      · have h := mif_f c3 h
        have w5 := kz_word_26 N σ _ _ h
        exact w5
    · have h := mif_f c2 h
      have w6 := kz_word_26 N σ _ _ h
      exact w6
  · have h := mif_f c1 h
    have w7 := kz_word_26 N σ _ _ h
    exact w7
set_option maxRecDepth 100000 in
theorem kz_isName_113 (N : Nat) (σ : MS) (s0 : Int32) (r : Int32) (σ_ : MS) (h : f_isName_113 N σ s0 = some (r, σ_)) : vKz σ σ_ := by
  unfold f_isName_113 at h
  obtain ⟨c1, h⟩ := mif_n h
  cases h
  exact vKz_r
set_option maxRecDepth 100000 in
theorem kz_isName_112 (N : Nat) (σ : MS) (r : Int32) (σ_ : MS) (h : f_isName_112 N σ = some (r, σ_)) : vKz σ σ_ := by
  unfold f_isName_112 at h
  have w1 := kz_isName_113 N σ 0 _ _ h
  exact w1
set_option maxRecDepth 100000 in
theorem kz_isName_95 (N : Nat) (σ : MS) (s0 : Int32) (r : Int32) (σ_ : MS) (h : f_isName_95 N σ s0 = some (r, σ_)) : vKz σ σ_ := by
  unfold f_isName_95 at h
  obtain ⟨y1, ey1⟩ : ∃ z, z = σ.1 6 := ⟨_, rfl⟩
  have h := mlet_at ey1 h
  by_cases c1 : y1 = 2
  · have h := mif_t c1 h
    by_cases c2 : s0 = 0
    · have h := mif_t c2 h
      have w3 := kz_isName_113 N σ 1 _ _ h
      exact w3
    · have h := mif_f c2 h
      have w4 := kz_isName_112 N σ _ _ h
      exact w4
  · have h := mif_f c1 h
    have w5 := kz_isName_112 N σ _ _ h
    exact w5
set_option maxRecDepth 100000 in
theorem kz_isName_90 (N : Nat) (σ : MS) (r : Int32) (σ_ : MS) (h : f_isName_90 N σ = some (r, σ_)) : vKz σ σ_ := by
  unfold f_isName_90 at h
  have w1 := kz_isName_95 N σ 1 _ _ h
  exact w1
set_option maxRecDepth 100000 in
theorem kz_isName (N : Nat) (σ : MS) (r : Int32) (σ_ : MS) (h : f_isName N σ = some (r, σ_)) : vKz σ σ_ := by
  unfold f_isName at h
  obtain ⟨r4, σ2, c1, h⟩ := mcall_n h
  have w2 := kz_word N (pTx 32) σ _ _ c1
  by_cases c3 : r4 = 0
  · have h := mif_t c3 h
    obtain ⟨r9, σ7, c4, h⟩ := mcall_n h
    have w5 := kz_word N (pTx 33) σ2 _ _ c4
    by_cases c6 : r9 = 0
    · have h := mif_t c6 h
      obtain ⟨r14, σ12, c7, h⟩ := mcall_n h
      have w8 := kz_word N (pTx 34) σ7 _ _ c7
      by_cases c9 : r14 = 0
      · have h := mif_t c9 h
        obtain ⟨r19, σ17, c10, h⟩ := mcall_n h
        have w11 := kz_word N (pTx 35) σ12 _ _ c10
        by_cases c12 : r19 = 0
        · have h := mif_t c12 h
          obtain ⟨r24, σ22, c13, h⟩ := mcall_n h
          have w14 := kz_word N (pTx 36) σ17 _ _ c13
          by_cases c15 : r24 = 0
          · have h := mif_t c15 h
            obtain ⟨r29, σ27, c16, h⟩ := mcall_n h
            have w17 := kz_word N (pTx 37) σ22 _ _ c16
            by_cases c18 : r29 = 0
            · have h := mif_t c18 h
              obtain ⟨r34, σ32, c19, h⟩ := mcall_n h
              have w20 := kz_word N (pTx 38) σ27 _ _ c19
              by_cases c21 : r34 = 0
              · have h := mif_t c21 h
                obtain ⟨r39, σ37, c22, h⟩ := mcall_n h
                have w23 := kz_word N (pTx 39) σ32 _ _ c22
                by_cases c24 : r39 = 0
                · have h := mif_t c24 h
                  obtain ⟨r44, σ42, c25, h⟩ := mcall_n h
                  have w26 := kz_word N (pTx 40) σ37 _ _ c25
                  by_cases c27 : r44 = 0
                  · have h := mif_t c27 h
                    obtain ⟨r49, σ47, c28, h⟩ := mcall_n h
                    have w29 := kz_word N (pTx 41) σ42 _ _ c28
                    by_cases c30 : r49 = 0
                    · have h := mif_t c30 h
                      have w31 := kz_isName_95 N σ47 0 _ _ h
                      exact ((((((((((w2).t w5).t w8).t w11).t w14).t w17).t w20).t w23).t w26).t w29).t w31
                    · have h := mif_f c30 h
                      have w32 := kz_isName_90 N σ47 _ _ h
                      exact ((((((((((w2).t w5).t w8).t w11).t w14).t w17).t w20).t w23).t w26).t w29).t w32
                  · have h := mif_f c27 h
                    have w33 := kz_isName_90 N σ42 _ _ h
                    exact (((((((((w2).t w5).t w8).t w11).t w14).t w17).t w20).t w23).t w26).t w33
                · have h := mif_f c24 h
                  have w34 := kz_isName_90 N σ37 _ _ h
                  exact ((((((((w2).t w5).t w8).t w11).t w14).t w17).t w20).t w23).t w34
              · have h := mif_f c21 h
                have w35 := kz_isName_90 N σ32 _ _ h
                exact (((((((w2).t w5).t w8).t w11).t w14).t w17).t w20).t w35
            · have h := mif_f c18 h
              have w36 := kz_isName_90 N σ27 _ _ h
              exact ((((((w2).t w5).t w8).t w11).t w14).t w17).t w36
          · have h := mif_f c15 h
            have w37 := kz_isName_90 N σ22 _ _ h
            exact (((((w2).t w5).t w8).t w11).t w14).t w37
        · have h := mif_f c12 h
          have w38 := kz_isName_90 N σ17 _ _ h
          exact ((((w2).t w5).t w8).t w11).t w38
      · have h := mif_f c9 h
        have w39 := kz_isName_90 N σ12 _ _ h
        exact (((w2).t w5).t w8).t w39
    · have h := mif_f c6 h
      have w40 := kz_isName_90 N σ7 _ _ h
      exact ((w2).t w5).t w40
  · have h := mif_f c3 h
    have w41 := kz_isName_90 N σ2 _ _ h
    exact (w2).t w41
