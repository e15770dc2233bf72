/-! BY gen_fr.py: PLAIN: what the model's functions keep -/
def vKa (σ σ' : MS) : Prop := (∀ k, k = 12 ∨ k = 22 ∨ k = 34 ∨ k = 35 ∨ k = 36 ∨ k = 37 → σ'.1 k = σ.1 k) ∧ ∀ j, j = 41 ∨ j = 42 ∨ j = 43 ∨ j = 44 ∨ j = 46 → σ'.2.1 j = σ.2.1 j
def vKf (σ σ' : MS) : Prop := vKa σ σ' ∧ σ'.1 2 = σ.1 2
theorem vKa_r {σ : MS} : vKa σ σ := ⟨fun _ _ => rfl, fun _ _ => rfl⟩
theorem vKf_r {σ : MS} : vKf σ σ := ⟨vKa_r, rfl⟩
theorem vKa.t {a b c : MS} (h : vKa a b) (h' : vKa b c) : vKa a c := ⟨fun k hk => (h'.1 k hk).trans (h.1 k hk), fun j hj => (h'.2 j hj).trans (h.2 j hj)⟩
theorem vKf.t {a b c : MS} (h : vKf a b) (h' : vKf b c) : vKf a c := ⟨h.1.t h'.1, h'.2.trans h.2⟩
theorem vKf.a {a b : MS} (h : vKf a b) : vKa a b := h.1
def vOkA (k : Nat) : Bool := !(k == 12 || k == 22 || k == 34 || k == 35 || k == 36 || k == 37)
def vOkF (k : Nat) : Bool := vOkA k && !(k == 2)
def vOkR (j : Nat) : Bool := !(j == 41 || j == 42 || j == 43 || j == 44 || j == 46)
theorem vKa_set {σ : MS} {k : Nat} {v : Int32} (h : vOkA k = true) : vKa σ (mSet σ k v) := ⟨fun i hi => upd_n (fun z => by
    subst z
    unfold vOkA at h
    rcases hi with rfl | rfl | rfl | rfl | rfl | rfl <;> exact absurd h (by decide)), fun _ _ => rfl⟩
theorem vKf_set {σ : MS} {k : Nat} {v : Int32} (h : vOkF k = true) : vKf σ (mSet σ k v) := by
  unfold vOkF at h
  rw [Bool.and_eq_true] at h
  exact ⟨vKa_set h.1, upd_n (fun z => by
    subst z
    exact absurd h.2 (by decide))⟩
theorem vKa_arr {σ : MS} {j i : Nat} {x : Int32} (h : vOkR j = true) : vKa σ (mArr σ j i x) := ⟨fun _ _ => rfl, fun k hk => if_neg (fun z => by
    subst z
    unfold vOkR at h
    rcases hk with rfl | rfl | rfl | rfl | rfl <;> exact absurd h (by decide))⟩
theorem vKf_arr {σ : MS} {j i : Nat} {x : Int32} (h : vOkR j = true) : vKf σ (mArr σ j i x) := ⟨vKa_arr h, rfl⟩
theorem vKa_val {σ : MS} {i : Nat} {x : Int64} : vKa σ (mVal σ i x) := ⟨fun _ _ => rfl, fun _ _ => rfl⟩
theorem vKf_val {σ : MS} {i : Nat} {x : Int64} : vKf σ (mVal σ i x) := ⟨vKa_val, rfl⟩
set_option maxRecDepth 100000 in
theorem kp_thrown (N : Nat) (σ : MS) (r : Int32) (σ_ : MS) (h : f_thrown N σ = some (r, σ_)) : vKf σ σ_ := by
  unfold f_thrown at h
  cases h
  exact vKf_r
set_option maxRecDepth 100000 in
theorem kp_good (N : Nat) (σ : MS) (σ_ : MS) (h : f_good N σ = some σ_) : vKf σ σ_ := by
  unfold f_good at h
  obtain ⟨σ1, eσ1⟩ : ∃ z, z = mSet σ 0 0 := ⟨_, rfl⟩
  have h := mlet_at eσ1 h
  have w1 : vKf σ σ1 := by rw [eσ1]; exact vKf_set (by decide)
  obtain ⟨σ2, eσ2⟩ : ∃ z, z = mSet σ1 39 0 := ⟨_, rfl⟩
  have h := mlet_at eσ2 h
  have w2 : vKf σ1 σ2 := by rw [eσ2]; exact vKf_set (by decide)
  cases h
  exact (w1).t w2
set_option maxRecDepth 100000 in
theorem kp_within_15 (N : Nat) (σ : MS) (s0 : Int32) (r : Int32) (σ_ : MS) (h : f_within_15 N σ s0 = some (r, σ_)) : vKf σ σ_ := by
  unfold f_within_15 at h
  obtain ⟨c1, h⟩ := mif_n h
  cases h
  exact vKf_r
set_option maxRecDepth 100000 in
theorem kp_within_14 (N : Nat) (σ : MS) (r : Int32) (σ_ : MS) (h : f_within_14 N σ = some (r, σ_)) : vKf σ σ_ := by
  unfold f_within_14 at h
  have w1 := kp_within_15 N σ 0 _ _ h
  exact w1
set_option maxRecDepth 100000 in
theorem kp_within (N : Nat) (σ : MS) (x0 : Int32) (x1 : Int32) (x2 : Int32) (r : Int32) (σ_ : MS) (h : f_within N σ x0 x1 x2 = some (r, σ_)) : vKf σ σ_ := by
  unfold f_within at h
  by_cases c1 : x0 < x1
  · have h := mif_t c1 h
    have w2 := kp_within_14 N σ _ _ h
    exact w2
  · have h := mif_f c1 h
    by_cases c3 : x2 < x0
    · have h := mif_t c3 h
      have w4 := kp_within_14 N σ _ _ h
      exact w4
    · have h := mif_f c3 h
      have w5 := kp_within_15 N σ 1 _ _ h
      exact w5
set_option maxRecDepth 100000 in
theorem kp_no (N : Nat) (σ : MS) (x1 : Int32) (r : Int32) (σ_ : MS) (h : f_no N σ x1 = some (r, σ_)) : vKf σ σ_ := by
  unfold f_no at h
  obtain ⟨σ1, eσ1⟩ : ∃ z, z = mSet σ 39 x1 := ⟨_, rfl⟩
  have h := mlet_at eσ1 h
  have w1 : vKf σ σ1 := by rw [eσ1]; exact vKf_set (by decide)
  cases h
  exact w1
set_option maxRecDepth 100000 in
theorem kp_look_18 (N : Nat) (σ : MS) (s0 : Int32) (r : Int32) (σ_ : MS) (h : f_look_18 N σ s0 = some (r, σ_)) : vKf σ σ_ := by
  unfold f_look_18 at h
  cases h
  exact vKf_r
set_option maxRecDepth 100000 in
theorem kp_look (N : Nat) (σ : MS) (x1 : Int32) (r : Int32) (σ_ : MS) (h : f_look N σ x1 = some (r, σ_)) : vKf σ σ_ := by
  unfold f_look at h
  by_cases c1 : (σ.1 3) ≤ x1
  · have h := mif_t c1 h
    have w2 := kp_look_18 N σ (-1) _ _ h
    exact w2
  · have h := mif_f c1 h
    obtain ⟨c3, h⟩ := mif_n h
    obtain ⟨y3, ey3⟩ : ∃ z, z = σ.2.1 1 x1.toNatClampNeg := ⟨_, rfl⟩
    have h := mlet_at ey3 h
    have w4 := kp_look_18 N σ y3 _ _ h
    exact w4
set_option maxRecDepth 100000 in
theorem kp_isSmall_17 (N : Nat) (σ : MS) (s0 : Int32) (r : Int32) (σ_ : MS) (h : f_isSmall_17 N σ s0 = some (r, σ_)) : vKf σ σ_ := by
  unfold f_isSmall_17 at h
  obtain ⟨c1, h⟩ := mif_n h
  cases h
  exact vKf_r
set_option maxRecDepth 100000 in
theorem kp_isSmall_16 (N : Nat) (σ : MS) (r : Int32) (σ_ : MS) (h : f_isSmall_16 N σ = some (r, σ_)) : vKf σ σ_ := by
  unfold f_isSmall_16 at h
  have w1 := kp_isSmall_17 N σ 0 _ _ h
  exact w1
set_option maxRecDepth 100000 in
theorem kp_isSmall (N : Nat) (σ : MS) (x0 : Int32) (r : Int32) (σ_ : MS) (h : f_isSmall N σ x0 = some (r, σ_)) : vKf σ σ_ := by
  unfold f_isSmall at h
  by_cases c1 : x0 < 97
  · have h := mif_t c1 h
    have w2 := kp_isSmall_16 N σ _ _ h
    exact w2
  · have h := mif_f c1 h
    by_cases c3 : 122 < x0
    · have h := mif_t c3 h
      have w4 := kp_isSmall_16 N σ _ _ h
      exact w4
    · have h := mif_f c3 h
      have w5 := kp_isSmall_17 N σ 1 _ _ h
      exact w5
set_option maxRecDepth 100000 in
theorem kp_isDigit_17 (N : Nat) (σ : MS) (s0 : Int32) (r : Int32) (σ_ : MS) (h : f_isDigit_17 N σ s0 = some (r, σ_)) : vKf σ σ_ := by
  unfold f_isDigit_17 at h
  obtain ⟨c1, h⟩ := mif_n h
  cases h
  exact vKf_r
set_option maxRecDepth 100000 in
theorem kp_isDigit_16 (N : Nat) (σ : MS) (r : Int32) (σ_ : MS) (h : f_isDigit_16 N σ = some (r, σ_)) : vKf σ σ_ := by
  unfold f_isDigit_16 at h
  have w1 := kp_isDigit_17 N σ 0 _ _ h
  exact w1
set_option maxRecDepth 100000 in
theorem kp_isDigit (N : Nat) (σ : MS) (x0 : Int32) (r : Int32) (σ_ : MS) (h : f_isDigit N σ x0 = some (r, σ_)) : vKf σ σ_ := by
  unfold f_isDigit at h
  by_cases c1 : x0 < 48
  · have h := mif_t c1 h
    have w2 := kp_isDigit_16 N σ _ _ h
    exact w2
  · have h := mif_f c1 h
    by_cases c3 : 57 < x0
    · have h := mif_t c3 h
      have w4 := kp_isDigit_16 N σ _ _ h
      exact w4
    · have h := mif_f c3 h
      have w5 := kp_isDigit_17 N σ 1 _ _ h
      exact w5
set_option maxRecDepth 100000 in
theorem kp_beside_96 (N : Nat) (σ : MS) (s0 : Int32) (r : Int32) (σ_ : MS) (h : f_beside_96 N σ s0 = some (r, σ_)) : vKf σ σ_ := by
  unfold f_beside_96 at h
  cases h
  exact vKf_r
set_option maxRecDepth 100000 in
theorem kp_beside_95 (N : Nat) (σ : MS) (r : Int32) (σ_ : MS) (h : f_beside_95 N σ = some (r, σ_)) : vKf σ σ_ := by
  unfold f_beside_95 at h
  have w1 := kp_beside_96 N σ (-1) _ _ h
  exact w1
set_option maxRecDepth 100000 in
theorem kp_beside_51 (N : Nat) (σ : MS) (x3 : Int32) (s0 : Int32) (s1 : Int32) (r : Int32) (σ_ : MS) (h : f_beside_51 N σ x3 s0 s1 = some (r, σ_)) : vKf σ σ_ := by
  unfold f_beside_51 at h
  obtain ⟨y1, ey1⟩ : ∃ z, z = s1 + s0 := ⟨_, rfl⟩
  have h := mlet_at ey1 h
  obtain ⟨r4, σ2, c1, h⟩ := mcall_n h
  have w2 := kp_within N σ x3 0 ((σ.1 35) - 1) _ _ c1
  by_cases c3 : r4 = 0
  · have h := mif_t c3 h
    have w4 := kp_beside_95 N σ2 _ _ h
    exact (w2).t w4
  · have h := mif_f c3 h
    obtain ⟨r8, σ6, c5, h⟩ := mcall_n h
    have w6 := kp_within N σ2 y1 0 ((σ2.1 36) - 1) _ _ c5
    by_cases c7 : r8 = 0
    · have h := mif_t c7 h
      have w8 := kp_beside_95 N σ6 _ _ h
      exact ((w2).t w6).t w8
    · have h := mif_f c7 h
      have w9 := kp_beside_96 N σ6 (((σ6.1 35) * y1) + x3) _ _ h
      exact ((w2).t w6).t w9
set_option maxRecDepth 100000 in
theorem kp_beside_24 (N : Nat) (σ : MS) (x1 : Int32) (x2 : Int32) (s0 : Int32) (s1 : Int32) (r : Int32) (σ_ : MS) (h : f_beside_24 N σ x1 x2 s0 s1 = some (r, σ_)) : vKf σ σ_ := by
  unfold f_beside_24 at h
  obtain ⟨y1, ey1⟩ : ∃ z, z = s1 + s0 := ⟨_, rfl⟩
  have h := mlet_at ey1 h
  obtain ⟨c1, h⟩ := mif_n h
  by_cases c2 : x2 = 2
  · have h := mif_t c2 h
    have w3 := kp_beside_51 N σ y1 (-1) (x1 / (σ.1 35)) _ _ h
    exact w3
  · have h := mif_f c2 h
    by_cases c4 : x2 = 3
    · have h := mif_t c4 h
      have w5 := kp_beside_51 N σ y1 1 (x1 / (σ.1 35)) _ _ h
      exact w5
    · have h := mif_f c4 h
      have w6 := kp_beside_51 N σ y1 0 (x1 / (σ.1 35)) _ _ h
      exact w6
set_option maxRecDepth 100000 in
theorem kp_beside (N : Nat) (σ : MS) (x1 : Int32) (x2 : Int32) (r : Int32) (σ_ : MS) (h : f_beside N σ x1 x2 = some (r, σ_)) : vKf σ σ_ := by
  unfold f_beside at h
  obtain ⟨c1, h⟩ := mif_n h
  by_cases c2 : x2 = 0
  · have h := mif_t c2 h
    have w3 := kp_beside_24 N σ x1 x2 1 (x1 - x1 / (σ.1 35) * (σ.1 35)) _ _ h
    exact w3
  · have h := mif_f c2 h
    by_cases c4 : x2 = 1
    · have h := mif_t c4 h
      have w5 := kp_beside_24 N σ x1 x2 (-1) (x1 - x1 / (σ.1 35) * (σ.1 35)) _ _ h
      exact w5
    · have h := mif_f c4 h
      have w6 := kp_beside_24 N σ x1 x2 0 (x1 - x1 / (σ.1 35) * (σ.1 35)) _ _ h
      exact w6
set_option maxRecDepth 100000 in
theorem kp_down_21 (N : Nat) (σ : MS) (s0 : Int32) (r : Int32) (σ_ : MS) (h : f_down_21 N σ s0 = some (r, σ_)) : vKf σ σ_ := by
  unfold f_down_21 at h
  cases h
  exact vKf_r
set_option maxRecDepth 100000 in
theorem kp_down_20 (N : Nat) (σ : MS) (x2 : Int32) (r : Int32) (σ_ : MS) (h : f_down_20 N σ x2 = some (r, σ_)) : vKf σ σ_ := by
  unfold f_down_20 at h
  have w1 := kp_down_21 N σ x2 _ _ h
  exact w1
set_option maxRecDepth 100000 in
theorem kp_down (N : Nat) (σ : MS) (x0 : Int32) (x1 : Int32) (r : Int32) (σ_ : MS) (h : f_down N σ x0 x1 = some (r, σ_)) : vKf σ σ_ := by
  unfold f_down at h
  obtain ⟨c1, h⟩ := mif_n h
  obtain ⟨y2, ey2⟩ : ∃ z, z = x0 / x1 := ⟨_, rfl⟩
  have h := mlet_at ey2 h
  obtain ⟨c2, h⟩ := mif_n h
  by_cases c3 : (x0 - x0 / x1 * x1) = 0
  · have h := mif_t c3 h
    have w4 := kp_down_20 N σ y2 _ _ h
    exact w4
  · have h := mif_f c3 h
    by_cases c5 : 0 ≤ x0
    · have h := mif_t c5 h
      have w6 := kp_down_20 N σ y2 _ _ h
      exact w6
    · have h := mif_f c5 h
      have w7 := kp_down_21 N σ (y2 - 1) _ _ h
      exact w7
set_option maxRecDepth 100000 in
theorem kp_between_24 (N : Nat) (j0 : Nat) : ∀ (n : Nat) (σ : MS) (x2 : Int32) (x3 : Int32) (x4 : Int32) (x5 : Int32) (r : Int32) (σ_ : MS), f_between_24 N j0 n σ x2 x3 x4 x5 = some (r, σ_) → vKf σ σ_ := by
  intro n
  induction n with
  | zero =>
    intro σ x2 x3 x4 x5 r σ_ h
    cases h
  | succ n ih =>
    intro σ x2 x3 x4 x5 r σ_ h
    unfold f_between_24 at h
    by_cases c1 : x2 ≤ x5
    · have h := mif_t c1 h
      obtain ⟨c2, h⟩ := mif_n h
      obtain ⟨y3, ey3⟩ : ∃ z, z = σ.2.1 j0 ((x4 + (2 * x2)) - 1).toNatClampNeg := ⟨_, rfl⟩
      have h := mlet_at ey3 h
      cases h
      exact vKf_r
    · have h := mif_f c1 h
      obtain ⟨c3, h⟩ := mif_n h
      obtain ⟨y5, ey5⟩ : ∃ z, z = σ.2.1 j0 ((x4 + (2 * x5)) - 2).toNatClampNeg := ⟨_, rfl⟩
      have h := mlet_at ey5 h
      obtain ⟨c4, h⟩ := mif_n h
      obtain ⟨y7, ey7⟩ : ∃ z, z = σ.2.1 j0 (x4 + (2 * x5)).toNatClampNeg := ⟨_, rfl⟩
      have h := mlet_at ey7 h
      by_cases c5 : x3 ≤ y7
      · have h := mif_t c5 h
        obtain ⟨c6, h⟩ := mif_n h
        obtain ⟨y10, ey10⟩ : ∃ z, z = σ.2.1 j0 ((x4 + (2 * x5)) - 1).toNatClampNeg := ⟨_, rfl⟩
        have h := mlet_at ey10 h
        obtain ⟨c7, h⟩ := mif_n h
        obtain ⟨y12, ey12⟩ : ∃ z, z = σ.2.1 j0 ((x4 + (2 * x5)) + 1).toNatClampNeg := ⟨_, rfl⟩
        have h := mlet_at ey12 h
        obtain ⟨r15, σ13, c8, h⟩ := mcall_n h
        have w9 := kp_down N σ ((y12 - y10) * (x3 - y5)) (y7 - y5) _ _ c8
        cases h
        exact w9
      · have h := mif_f c5 h
        obtain ⟨y16, ey16⟩ : ∃ z, z = x5 + 1 := ⟨_, rfl⟩
        have h := mlet_at ey16 h
        have w10 := ih _ _ _ _ _ _ _ h
        exact w10
set_option maxRecDepth 100000 in
theorem kp_between (N : Nat) (j0 : Nat) (σ : MS) (x1 : Int32) (x2 : Int32) (x3 : Int32) (r : Int32) (σ_ : MS) (h : f_between N j0 σ x1 x2 x3 = some (r, σ_)) : vKf σ σ_ := by
  unfold f_between at h
  obtain ⟨y1, ey1⟩ : ∃ z, z = 8 * x1 := ⟨_, rfl⟩
  have h := mlet_at ey1 h
  obtain ⟨c1, h⟩ := mif_n h
  obtain ⟨y3, ey3⟩ : ∃ z, z = σ.2.1 j0 y1.toNatClampNeg := ⟨_, rfl⟩
  have h := mlet_at ey3 h
  by_cases c2 : y3 < x3
  · have h := mif_t c2 h
    have w3 := kp_between_24 N j0 _ _ _ _ _ _ _ _ h
    exact w3
  · have h := mif_f c2 h
    obtain ⟨c4, h⟩ := mif_n h
    obtain ⟨y6, ey6⟩ : ∃ z, z = σ.2.1 j0 (y1 + 1).toNatClampNeg := ⟨_, rfl⟩
    have h := mlet_at ey6 h
    cases h
    exact vKf_r
set_option maxRecDepth 100000 in
theorem kq_feed_76 (N : Nat) (k23 : MS → Int32 → Int32 → Int32 → Int32 → Int32 → Int32 → Option (Int32 × MS)) (hk23 : ∀ (z0 : MS) (z1 : Int32) (z2 : Int32) (z3 : Int32) (z4 : Int32) (z5 : Int32) (z6 : Int32) (r : Int32) (s : MS), k23 z0 z1 z2 z3 z4 z5 z6 = some (r, s) → vKa z0 s) (σ : MS) (x1 : Int32) (x2 : Int32) (x3 : Int32) (x4 : Int32) (x5 : Int32) (x6 : Int32) (s0 : Int32) (r : Int32) (σ_ : MS) (h : f_feed_76 N k23 σ x1 x2 x3 x4 x5 x6 s0 = some (r, σ_)) : vKa σ σ_ := by
  unfold f_feed_76 at h
  obtain ⟨c1, h⟩ := mif_n h
  obtain ⟨σ2, eσ2⟩ : ∃ z, z = mArr σ 1 (σ.1 2).toNatClampNeg ((s0 >>> ((24 - (8 * (x6 - x6 / 4 * 4))) &&& 31)) &&& 255) := ⟨_, rfl⟩
  have h := mlet_at eσ2 h
  have w2 : vKa σ σ2 := by rw [eσ2]; exact vKa_arr (by decide)
  obtain ⟨σ3, eσ3⟩ : ∃ z, z = mSet σ2 2 ((σ2.1 2) + 1) := ⟨_, rfl⟩
  have h := mlet_at eσ3 h
  have w3 : vKa σ2 σ3 := by rw [eσ3]; exact vKa_set (by decide)
  obtain ⟨y4, ey4⟩ : ∃ z, z = x6 + 1 := ⟨_, rfl⟩
  have h := mlet_at ey4 h
  have w4 := hk23 _ _ _ _ _ _ _ _ _ h
  exact ((w2).t w3).t w4
set_option maxRecDepth 100000 in
theorem kq_feed_23 (N : Nat) : ∀ (n : Nat) (σ : MS) (x1 : Int32) (x2 : Int32) (x3 : Int32) (x4 : Int32) (x5 : Int32) (x6 : Int32) (r : Int32) (σ_ : MS), f_feed_23 N n σ x1 x2 x3 x4 x5 x6 = some (r, σ_) → vKa σ σ_ := by
  intro n
  induction n with
  | zero =>
    intro σ x1 x2 x3 x4 x5 x6 r σ_ h
    cases h
  | succ n ih =>
    intro σ x1 x2 x3 x4 x5 x6 r σ_ h
    unfold f_feed_23 at h
    by_cases c1 : 20 ≤ x6
    · have h := mif_t c1 h
      cases h
      exact vKa_r
    · have h := mif_f c1 h
      by_cases c2 : 4 ≤ x6
      · have h := mif_t c2 h
        by_cases c3 : 8 ≤ x6
        · have h := mif_t c3 h
          by_cases c4 : 12 ≤ x6
          · have h := mif_t c4 h
            by_cases c5 : 16 ≤ x6
            · have h := mif_t c5 h
              have w6 := kq_feed_76 N (f_feed_23 N n) ih σ x1 x2 x3 x4 x5 x6 x5 _ _ h
              exact w6
            · have h := mif_f c5 h
              have w7 := kq_feed_76 N (f_feed_23 N n) ih σ x1 x2 x3 x4 x5 x6 x4 _ _ h
              exact w7
          · have h := mif_f c4 h
            have w8 := kq_feed_76 N (f_feed_23 N n) ih σ x1 x2 x3 x4 x5 x6 x3 _ _ h
            exact w8
        · have h := mif_f c3 h
          have w9 := kq_feed_76 N (f_feed_23 N n) ih σ x1 x2 x3 x4 x5 x6 x2 _ _ h
          exact w9
      · have h := mif_f c2 h
        have w10 := kq_feed_76 N (f_feed_23 N n) ih σ x1 x2 x3 x4 x5 x6 x1 _ _ h
        exact w10
set_option maxRecDepth 100000 in
theorem kq_feed (N : Nat) (σ : MS) (x1 : Int32) (x2 : Int32) (x3 : Int32) (x4 : Int32) (x5 : Int32) (r : Int32) (σ_ : MS) (h : f_feed N σ x1 x2 x3 x4 x5 = some (r, σ_)) : vKa σ σ_ := by
  unfold f_feed at h
  obtain ⟨σ1, eσ1⟩ : ∃ z, z = mSet σ 0 0 := ⟨_, rfl⟩
  have h := mlet_at eσ1 h
  have w1 : vKa σ σ1 := by rw [eσ1]; exact vKa_set (by decide)
  by_cases c2 : ((σ1.1 2) + 20) ≤ 500
  · have h := mif_t c2 h
    have w3 := kq_feed_23 N _ _ _ _ _ _ _ _ _ _ h
    exact (w1).t w3
  · have h := mif_f c2 h
    cases h
    exact w1
set_option maxRecDepth 100000 in
theorem kp_cell_26 (N : Nat) (j1 : Nat) (σ : MS) (x3 : Int32) (r : Int32) (σ_ : MS) (h : f_cell_26 N j1 σ x3 = some (r, σ_)) : vKf σ σ_ := by
  unfold f_cell_26 at h
  cases h
  exact vKf_r
set_option maxRecDepth 100000 in
theorem kp_store_349 (N : Nat) (σ : MS) (σ_ : MS) (h : f_store_349 N σ = some σ_) : vKf σ σ_ := by
  unfold f_store_349 at h
  cases h
  exact vKf_r
set_option maxRecDepth 100000 in
theorem kp_next_265 (N : Nat) (σ : MS) (σ_ : MS) (h : f_next_265 N σ = some σ_) : vKf σ σ_ := by
  unfold f_next_265 at h
  cases h
  exact vKf_r
set_option maxRecDepth 100000 in
theorem kp_next_262 (N : Nat) (σ : MS) (s0 : Int32) (σ_ : MS) (h : f_next_262 N σ s0 = some σ_) : vKf σ σ_ := by
  unfold f_next_262 at h
  obtain ⟨σ1, eσ1⟩ : ∃ z, z = mSet σ 6 s0 := ⟨_, rfl⟩
  have h := mlet_at eσ1 h
  have w1 : vKf σ σ1 := by rw [eσ1]; exact vKf_set (by decide)
  have w2 := kp_next_265 N σ1 _ h
  exact (w1).t w2
set_option maxRecDepth 100000 in
theorem kp_next_257 (N : Nat) (σ : MS) (x2 : Int32) (σ_ : MS) (h : f_next_257 N σ x2 = some σ_) : vKf σ σ_ := by
  unfold f_next_257 at h
  have w1 := kp_next_262 N σ x2 _ h
  exact w1
set_option maxRecDepth 100000 in
theorem kp_next_213 (N : Nat) (σ : MS) (s0 : Int32) (σ_ : MS) (h : f_next_213 N σ s0 = some σ_) : vKf σ σ_ := by
  unfold f_next_213 at h
  obtain ⟨σ1, eσ1⟩ : ∃ z, z = mSet σ 6 s0 := ⟨_, rfl⟩
  have h := mlet_at eσ1 h
  have w1 : vKf σ σ1 := by rw [eσ1]; exact vKf_set (by decide)
  have w2 := kp_next_265 N σ1 _ h
  exact (w1).t w2
set_option maxRecDepth 100000 in
theorem kp_next_188 (N : Nat) (k152 : MS → Int32 → Int32 → Option (MS)) (hk152 : ∀ (z0 : MS) (z1 : Int32) (z2 : Int32) (s : MS), k152 z0 z1 z2 = some s → vKf z0 s) (σ : MS) (x1 : Int32) (x3 : Int32) (σ_ : MS) (h : f_next_188 N k152 σ x1 x3 = some σ_) : vKf σ σ_ := by
  unfold f_next_188 at h
  obtain ⟨y1, ey1⟩ : ∃ z, z = x3 + 1 := ⟨_, rfl⟩
  have h := mlet_at ey1 h
  obtain ⟨y2, ey2⟩ : ∃ z, z = x1 + 1 := ⟨_, rfl⟩
  have h := mlet_at ey2 h
  have w1 := hk152 _ _ _ _ h
  exact w1
set_option maxRecDepth 100000 in
theorem kp_next_152 (N : Nat) : ∀ (n : Nat) (σ : MS) (x1 : Int32) (x3 : Int32) (σ_ : MS), f_next_152 N n σ x1 x3 = some σ_ → vKf σ σ_ := by
  intro n
  induction n with
  | zero =>
    intro σ x1 x3 σ_ h
    cases h
  | succ n ih =>
    intro σ x1 x3 σ_ h
    unfold f_next_152 at h
    obtain ⟨r3, σ1, c1, h⟩ := mcall_n h
    have w2 := kp_look N σ x1 _ _ c1
    obtain ⟨r6, σ4, c3, h⟩ := mcall_n h
    have w4 := kp_isDigit N σ1 r3 _ _ c3
    by_cases c5 : r6 = 0
    · have h := mif_t c5 h
      obtain ⟨σ8, eσ8⟩ : ∃ z, z = mSet σ4 5 x1 := ⟨_, rfl⟩
      have h := mlet_at eσ8 h
      have w6 : vKf σ4 σ8 := by rw [eσ8]; exact vKf_set (by decide)
      by_cases c7 : x3 ≤ 4
      · have h := mif_t c7 h
        have w8 := kp_next_213 N σ8 3 _ h
        exact (((w2).t w4).t w6).t w8
      · have h := mif_f c7 h
        have w9 := kp_next_213 N σ8 1 _ h
        exact (((w2).t w4).t w6).t w9
    · have h := mif_f c5 h
      by_cases c10 : 4 ≤ x3
      · have h := mif_t c10 h
        have w11 := kp_next_188 N (f_next_152 N n) ih σ4 x1 x3 _ h
        exact ((w2).t w4).t w11
      · have h := mif_f c10 h
        obtain ⟨r13, σ11, c12, h⟩ := mcall_n h
        have w13 := kp_look N σ4 x1 _ _ c12
        obtain ⟨σ14, eσ14⟩ : ∃ z, z = mSet σ11 7 (((10 * (σ4.1 7)) + r13) - 48) := ⟨_, rfl⟩
        have h := mlet_at eσ14 h
        have w14 : vKf σ11 σ14 := by rw [eσ14]; exact vKf_set (by decide)
        have w15 := kp_next_188 N (f_next_152 N n) ih σ14 x1 x3 _ h
        exact ((((w2).t w4).t w13).t w14).t w15
set_option maxRecDepth 100000 in
theorem kp_next_137 (N : Nat) (σ : MS) (s0 : Int32) (σ_ : MS) (h : f_next_137 N σ s0 = some σ_) : vKf σ σ_ := by
  unfold f_next_137 at h
  obtain ⟨σ1, eσ1⟩ : ∃ z, z = mSet σ 6 s0 := ⟨_, rfl⟩
  have h := mlet_at eσ1 h
  have w1 : vKf σ σ1 := by rw [eσ1]; exact vKf_set (by decide)
  have w2 := kp_next_265 N σ1 _ h
  exact (w1).t w2
set_option maxRecDepth 100000 in
theorem kp_next_101 (N : Nat) (k67 : MS → Int32 → Option (MS)) (hk67 : ∀ (z0 : MS) (z1 : Int32) (s : MS), k67 z0 z1 = some s → vKf z0 s) (σ : MS) (x1 : Int32) (σ_ : MS) (h : f_next_101 N k67 σ x1 = some σ_) : vKf σ σ_ := by
  unfold f_next_101 at h
  obtain ⟨σ1, eσ1⟩ : ∃ z, z = mSet σ 8 ((σ.1 8) + 1) := ⟨_, rfl⟩
  have h := mlet_at eσ1 h
  have w1 : vKf σ σ1 := by rw [eσ1]; exact vKf_set (by decide)
  obtain ⟨y2, ey2⟩ : ∃ z, z = x1 + 1 := ⟨_, rfl⟩
  have h := mlet_at ey2 h
  have w2 := hk67 _ _ _ h
  exact (w1).t w2
set_option maxRecDepth 100000 in
theorem kp_next_67 (N : Nat) : ∀ (n : Nat) (σ : MS) (x1 : Int32) (σ_ : MS), f_next_67 N n σ x1 = some σ_ → vKf σ σ_ := by
  intro n
  induction n with
  | zero =>
    intro σ x1 σ_ h
    cases h
  | succ n ih =>
    intro σ x1 σ_ h
    unfold f_next_67 at h
    obtain ⟨r3, σ1, c1, h⟩ := mcall_n h
    have w2 := kp_look N σ x1 _ _ c1
    obtain ⟨r6, σ4, c3, h⟩ := mcall_n h
    have w4 := kp_isSmall N σ1 r3 _ _ c3
    by_cases c5 : r6 = 0
    · have h := mif_t c5 h
      obtain ⟨σ8, eσ8⟩ : ∃ z, z = mSet σ4 5 x1 := ⟨_, rfl⟩
      have h := mlet_at eσ8 h
      have w6 : vKf σ4 σ8 := by rw [eσ8]; exact vKf_set (by decide)
      by_cases c7 : (σ8.1 8) ≤ 8
      · have h := mif_t c7 h
        have w8 := kp_next_137 N σ8 2 _ h
        exact (((w2).t w4).t w6).t w8
      · have h := mif_f c7 h
        have w9 := kp_next_137 N σ8 1 _ h
        exact (((w2).t w4).t w6).t w9
    · have h := mif_f c5 h
      by_cases c10 : 8 ≤ (σ4.1 8)
      · have h := mif_t c10 h
        have w11 := kp_next_101 N (f_next_67 N n) ih σ4 x1 _ h
        exact ((w2).t w4).t w11
      · have h := mif_f c10 h
        obtain ⟨r13, σ11, c12, h⟩ := mcall_n h
        have w13 := kp_look N σ4 x1 _ _ c12
        obtain ⟨c14, h⟩ := mif_n h
        obtain ⟨σ15, eσ15⟩ : ∃ z, z = mArr σ11 11 (σ4.1 8).toNatClampNeg r13 := ⟨_, rfl⟩
        have h := mlet_at eσ15 h
        have w15 : vKf σ11 σ15 := by rw [eσ15]; exact vKf_arr (by decide)
        have w16 := kp_next_101 N (f_next_67 N n) ih σ15 x1 _ h
        exact ((((w2).t w4).t w13).t w15).t w16
set_option maxRecDepth 100000 in
theorem kp_next_5 (N : Nat) : ∀ (n : Nat) (σ : MS) (x1 : Int32) (σ_ : MS), f_next_5 N n σ x1 = some σ_ → vKf σ σ_ := by
  intro n
  induction n with
  | zero =>
    intro σ x1 σ_ h
    cases h
  | succ n ih =>
    intro σ x1 σ_ h
    unfold f_next_5 at h
    obtain ⟨r3, σ1, c1, h⟩ := mcall_n h
    have w2 := kp_look N σ x1 _ _ c1
    by_cases c3 : r3 = 32
    · have h := mif_t c3 h
      obtain ⟨y28, ey28⟩ : ∃ z, z = x1 + 1 := ⟨_, rfl⟩
      have h := mlet_at ey28 h
      have w4 := ih _ _ _ h
      exact (w2).t w4
    · have h := mif_f c3 h
      obtain ⟨σ5, eσ5⟩ : ∃ z, z = mSet σ1 4 x1 := ⟨_, rfl⟩
      have h := mlet_at eσ5 h
      have w5 : vKf σ1 σ5 := by rw [eσ5]; exact vKf_set (by decide)
      obtain ⟨r8, σ6, c6, h⟩ := mcall_n h
      have w7 := kp_look N σ5 x1 _ _ c6
      obtain ⟨σ9, eσ9⟩ : ∃ z, z = mSet σ6 8 0 := ⟨_, rfl⟩
      have h := mlet_at eσ9 h
      have w8 : vKf σ6 σ9 := by rw [eσ9]; exact vKf_set (by decide)
      obtain ⟨σ10, eσ10⟩ : ∃ z, z = mSet σ9 7 0 := ⟨_, rfl⟩
      have h := mlet_at eσ10 h
      have w9 : vKf σ9 σ10 := by rw [eσ10]; exact vKf_set (by decide)
      by_cases c10 : r8 = (-1)
      · have h := mif_t c10 h
        obtain ⟨σ26, eσ26⟩ : ∃ z, z = mSet σ10 6 0 := ⟨_, rfl⟩
        have h := mlet_at eσ26 h
        have w11 : vKf σ10 σ26 := by rw [eσ26]; exact vKf_set (by decide)
        obtain ⟨σ27, eσ27⟩ : ∃ z, z = mSet σ26 5 x1 := ⟨_, rfl⟩
        have h := mlet_at eσ27 h
        have w12 : vKf σ26 σ27 := by rw [eσ27]; exact vKf_set (by decide)
        have w13 := kp_next_265 N σ27 _ h
        exact (((((((w2).t w5).t w7).t w8).t w9).t w11).t w12).t w13
      · have h := mif_f c10 h
        obtain ⟨r14, σ12, c14, h⟩ := mcall_n h
        have w15 := kp_isSmall N σ10 r8 _ _ c14
        by_cases c16 : r14 = 0
        · have h := mif_t c16 h
          obtain ⟨r18, σ16, c17, h⟩ := mcall_n h
          have w18 := kp_isDigit N σ12 r8 _ _ c17
          by_cases c19 : r18 = 0
          · have h := mif_t c19 h
            obtain ⟨σ20, eσ20⟩ : ∃ z, z = mSet σ16 5 (x1 + 1) := ⟨_, rfl⟩
            have h := mlet_at eσ20 h
            have w20 : vKf σ16 σ20 := by rw [eσ20]; exact vKf_set (by decide)
            by_cases c21 : r8 = 59
            · have h := mif_t c21 h
              have w22 := kp_next_257 N σ20 r8 _ h
              exact ((((((((w2).t w5).t w7).t w8).t w9).t w15).t w18).t w20).t w22
            · have h := mif_f c21 h
              by_cases c23 : r8 = 44
              · have h := mif_t c23 h
                have w24 := kp_next_257 N σ20 r8 _ h
                exact ((((((((w2).t w5).t w7).t w8).t w9).t w15).t w18).t w20).t w24
              · have h := mif_f c23 h
                by_cases c25 : r8 = 45
                · have h := mif_t c25 h
                  have w26 := kp_next_257 N σ20 r8 _ h
                  exact ((((((((w2).t w5).t w7).t w8).t w9).t w15).t w18).t w20).t w26
                · have h := mif_f c25 h
                  by_cases c27 : r8 = 40
                  · have h := mif_t c27 h
                    have w28 := kp_next_257 N σ20 r8 _ h
                    exact ((((((((w2).t w5).t w7).t w8).t w9).t w15).t w18).t w20).t w28
                  · have h := mif_f c27 h
                    by_cases c29 : r8 = 41
                    · have h := mif_t c29 h
                      have w30 := kp_next_257 N σ20 r8 _ h
                      exact ((((((((w2).t w5).t w7).t w8).t w9).t w15).t w18).t w20).t w30
                    · have h := mif_f c29 h
                      have w31 := kp_next_262 N σ20 1 _ h
                      exact ((((((((w2).t w5).t w7).t w8).t w9).t w15).t w18).t w20).t w31
          · have h := mif_f c19 h
            have w32 := kp_next_152 N _ _ _ _ _ h
            exact (((((((w2).t w5).t w7).t w8).t w9).t w15).t w18).t w32
        · have h := mif_f c16 h
          have w33 := kp_next_67 N _ _ _ _ h
          exact ((((((w2).t w5).t w7).t w8).t w9).t w15).t w33
set_option maxRecDepth 100000 in
theorem kp_next (N : Nat) (σ : MS) (σ_ : MS) (h : f_next N σ = some σ_) : vKf σ σ_ := by
  unfold f_next at h
  obtain ⟨y1, ey1⟩ : ∃ z, z = σ.1 5 := ⟨_, rfl⟩
  have h := mlet_at ey1 h
  have w1 := kp_next_5 N _ _ _ _ h
  exact w1
set_option maxRecDepth 100000 in
theorem kp_begins (N : Nat) (σ : MS) (x1 : Int32) (σ_ : MS) (h : f_begins N σ x1 = some σ_) : vKf σ σ_ := by
  unfold f_begins at h
  obtain ⟨σ1, eσ1⟩ : ∃ z, z = mSet σ 3 x1 := ⟨_, rfl⟩
  have h := mlet_at eσ1 h
  have w1 : vKf σ σ1 := by rw [eσ1]; exact vKf_set (by decide)
  obtain ⟨σ2, eσ2⟩ : ∃ z, z = mSet σ1 5 0 := ⟨_, rfl⟩
  have h := mlet_at eσ2 h
  have w2 : vKf σ1 σ2 := by rw [eσ2]; exact vKf_set (by decide)
  obtain ⟨σ3, eσ3⟩ : ∃ z, z = mSet σ2 13 0 := ⟨_, rfl⟩
  have h := mlet_at eσ3 h
  have w3 : vKf σ2 σ3 := by rw [eσ3]; exact vKf_set (by decide)
  obtain ⟨σ4, c4, h⟩ := mcallv_n h
  have w5 := kp_next N σ3 _ c4
  cases h
  exact (((w1).t w2).t w3).t w5
set_option maxRecDepth 100000 in
theorem kp_wrong_22 (N : Nat) (σ : MS) (r : Int32) (σ_ : MS) (h : f_wrong_22 N σ = some (r, σ_)) : vKf σ σ_ := by
  unfold f_wrong_22 at h
  cases h
  exact vKf_r
set_option maxRecDepth 100000 in
theorem kp_wrong (N : Nat) (σ : MS) (x1 : Int32) (x2 : Int32) (r : Int32) (σ_ : MS) (h : f_wrong N σ x1 x2 = some (r, σ_)) : vKf σ σ_ := by
  unfold f_wrong at h
  by_cases c1 : (σ.1 13) = 0
  · have h := mif_t c1 h
    obtain ⟨σ2, eσ2⟩ : ∃ z, z = mSet σ 13 1 := ⟨_, rfl⟩
    have h := mlet_at eσ2 h
    have w2 : vKf σ σ2 := by rw [eσ2]; exact vKf_set (by decide)
    obtain ⟨σ3, eσ3⟩ : ∃ z, z = mSet σ2 9 x1 := ⟨_, rfl⟩
    have h := mlet_at eσ3 h
    have w3 : vKf σ2 σ3 := by rw [eσ3]; exact vKf_set (by decide)
    obtain ⟨σ4, eσ4⟩ : ∃ z, z = mSet σ3 10 x2 := ⟨_, rfl⟩
    have h := mlet_at eσ4 h
    have w4 : vKf σ3 σ4 := by rw [eσ4]; exact vKf_set (by decide)
    have w5 := kp_wrong_22 N σ4 _ _ h
    exact (((w2).t w3).t w4).t w5
  · have h := mif_f c1 h
    have w6 := kp_wrong_22 N σ _ _ h
    exact w6
set_option maxRecDepth 100000 in
theorem kp_find_77 (N : Nat) (j1 : Nat) (j2 : Nat) (k3 : MS → Int32 → Int32 → Option (Int32 × MS)) (hk3 : ∀ (z0 : MS) (z1 : Int32) (z2 : Int32) (r : Int32) (s : MS), k3 z0 z1 z2 = some (r, s) → vKf z0 s) (σ : MS) (x3 : Int32) (x4 : Int32) (x5 : Int32) (r : Int32) (σ_ : MS) (h : f_find_77 N j1 j2 k3 σ x3 x4 x5 = some (r, σ_)) : vKf σ σ_ := by
  unfold f_find_77 at h
  by_cases c1 : x5 = 0
  · have h := mif_t c1 h
    obtain ⟨y2, ey2⟩ : ∃ z, z = x4 + 1 := ⟨_, rfl⟩
    have h := mlet_at ey2 h
    have w2 := hk3 _ _ _ _ _ h
    exact w2
  · have h := mif_f c1 h
    cases h
    exact vKf_r
set_option maxRecDepth 100000 in
theorem kp_find_69 (N : Nat) (j1 : Nat) (j2 : Nat) (k3 : MS → Int32 → Int32 → Option (Int32 × MS)) (hk3 : ∀ (z0 : MS) (z1 : Int32) (z2 : Int32) (r : Int32) (s : MS), k3 z0 z1 z2 = some (r, s) → vKf z0 s) (k30 : MS → Int32 → Int32 → Int32 → Int32 → Option (Int32 × MS)) (hk30 : ∀ (z0 : MS) (z1 : Int32) (z2 : Int32) (z3 : Int32) (z4 : Int32) (r : Int32) (s : MS), k30 z0 z1 z2 z3 z4 = some (r, s) → vKf z0 s) (σ : MS) (x3 : Int32) (x4 : Int32) (x6 : Int32) (s0 : Int32) (r : Int32) (σ_ : MS) (h : f_find_69 N j1 j2 k3 k30 σ x3 x4 x6 s0 = some (r, σ_)) : vKf σ σ_ := by
  unfold f_find_69 at h
  obtain ⟨y1, ey1⟩ : ∃ z, z = x6 + 1 := ⟨_, rfl⟩
  have h := mlet_at ey1 h
  have w1 := hk30 _ _ _ _ _ _ _ h
  exact w1
set_option maxRecDepth 100000 in
theorem kp_find_30 (N : Nat) (j1 : Nat) (j2 : Nat) (k3 : MS → Int32 → Int32 → Option (Int32 × MS)) (hk3 : ∀ (z0 : MS) (z1 : Int32) (z2 : Int32) (r : Int32) (s : MS), k3 z0 z1 z2 = some (r, s) → vKf z0 s) : ∀ (n : Nat) (σ : MS) (x3 : Int32) (x4 : Int32) (x5 : Int32) (x6 : Int32) (r : Int32) (σ_ : MS), f_find_30 N j1 j2 k3 n σ x3 x4 x5 x6 = some (r, σ_) → vKf σ σ_ := by
  intro n
  induction n with
  | zero =>
    intro σ x3 x4 x5 x6 r σ_ h
    cases h
  | succ n ih =>
    intro σ x3 x4 x5 x6 r σ_ h
    unfold f_find_30 at h
    by_cases c1 : (σ.1 8) ≤ x6
    · have h := mif_t c1 h
      have w2 := kp_find_77 N j1 j2 k3 hk3 σ x3 x4 x5 _ _ h
      exact w2
    · have h := mif_f c1 h
      by_cases c3 : x5 = 0
      · have h := mif_t c3 h
        have w4 := kp_find_77 N j1 j2 k3 hk3 σ x3 x4 x5 _ _ h
        exact w4
      · have h := mif_f c3 h
        obtain ⟨c5, h⟩ := mif_n h
        obtain ⟨y4, ey4⟩ : ∃ z, z = σ.2.1 j1 ((8 * x4) + x6).toNatClampNeg := ⟨_, rfl⟩
        have h := mlet_at ey4 h
        obtain ⟨c6, h⟩ := mif_n h
        obtain ⟨y6, ey6⟩ : ∃ z, z = σ.2.1 11 x6.toNatClampNeg := ⟨_, rfl⟩
        have h := mlet_at ey6 h
        by_cases c7 : y4 = y6
        · have h := mif_t c7 h
          have w8 := kp_find_69 N j1 j2 k3 hk3 (f_find_30 N j1 j2 k3 n) ih σ x3 x4 x6 1 _ _ h
          exact w8
        · have h := mif_f c7 h
          have w9 := kp_find_69 N j1 j2 k3 hk3 (f_find_30 N j1 j2 k3 n) ih σ x3 x4 x6 0 _ _ h
          exact w9
set_option maxRecDepth 100000 in
theorem kp_find_25 (N : Nat) (j1 : Nat) (j2 : Nat) (k3 : MS → Int32 → Int32 → Option (Int32 × MS)) (hk3 : ∀ (z0 : MS) (z1 : Int32) (z2 : Int32) (r : Int32) (s : MS), k3 z0 z1 z2 = some (r, s) → vKf z0 s) (σ : MS) (x3 : Int32) (x4 : Int32) (s0 : Int32) (r : Int32) (σ_ : MS) (h : f_find_25 N j1 j2 k3 σ x3 x4 s0 = some (r, σ_)) : vKf σ σ_ := by
  unfold f_find_25 at h
  have w1 := kp_find_30 N j1 j2 k3 hk3 _ _ _ _ _ _ _ _ h
  exact w1
set_option maxRecDepth 100000 in
theorem kp_find_3 (N : Nat) (j1 : Nat) (j2 : Nat) : ∀ (n : Nat) (σ : MS) (x3 : Int32) (x4 : Int32) (r : Int32) (σ_ : MS), f_find_3 N j1 j2 n σ x3 x4 = some (r, σ_) → vKf σ σ_ := by
  intro n
  induction n with
  | zero =>
    intro σ x3 x4 r σ_ h
    cases h
  | succ n ih =>
    intro σ x3 x4 r σ_ h
    unfold f_find_3 at h
    by_cases c1 : x3 ≤ x4
    · have h := mif_t c1 h
      cases h
      exact vKf_r
    · have h := mif_f c1 h
      obtain ⟨c2, h⟩ := mif_n h
      obtain ⟨y3, ey3⟩ : ∃ z, z = σ.2.1 j2 x4.toNatClampNeg := ⟨_, rfl⟩
      have h := mlet_at ey3 h
      by_cases c3 : y3 = (σ.1 8)
      · have h := mif_t c3 h
        have w4 := kp_find_25 N j1 j2 (f_find_3 N j1 j2 n) ih σ x3 x4 1 _ _ h
        exact w4
      · have h := mif_f c3 h
        have w5 := kp_find_25 N j1 j2 (f_find_3 N j1 j2 n) ih σ x3 x4 0 _ _ h
        exact w5
set_option maxRecDepth 100000 in
theorem kp_find (N : Nat) (j1 : Nat) (j2 : Nat) (σ : MS) (x3 : Int32) (r : Int32) (σ_ : MS) (h : f_find N j1 j2 σ x3 = some (r, σ_)) : vKf σ σ_ := by
  unfold f_find at h
  have w1 := kp_find_3 N j1 j2 _ _ _ _ _ _ h
  exact w1
set_option maxRecDepth 100000 in
theorem kp_number (N : Nat) (σ : MS) (x1 : Int32) (x2 : Int32) (r : Int32) (σ_ : MS) (h : f_number N σ x1 x2 = some (r, σ_)) : vKf σ σ_ := by
  unfold f_number at h
  by_cases c1 : (σ.1 13) = 0
  · have h := mif_t c1 h
    by_cases c2 : (σ.1 6) = 3
    · have h := mif_t c2 h
      obtain ⟨y3, ey3⟩ : ∃ z, z = σ.1 7 := ⟨_, rfl⟩
      have h := mlet_at ey3 h
      obtain ⟨r6, σ4, c3, h⟩ := mcall_n h
      have w4 := kp_within N σ y3 x1 x2 _ _ c3
      by_cases c5 : r6 = 0
      · have h := mif_t c5 h
        obtain ⟨r12, σ10, c6, h⟩ := mcall_n h
        have w7 := kp_wrong N σ4 4 (σ4.1 4) _ _ c6
        cases h
        exact (w4).t w7
      · have h := mif_f c5 h
        obtain ⟨σ8, c8, h⟩ := mcallv_n h
        have w9 := kp_next N σ4 _ c8
        cases h
        exact (w4).t w9
    · have h := mif_f c2 h
      obtain ⟨r15, σ13, c10, h⟩ := mcall_n h
      have w11 := kp_wrong N σ 1 (σ.1 4) _ _ c10
      cases h
      exact w11
  · have h := mif_f c1 h
    cases h
    exact vKf_r
set_option maxRecDepth 100000 in
theorem kp_pairs_220 (N : Nat) (j1 : Nat) (k16 : MS → Int32 → Int32 → Int32 → Option (Int32 × MS)) (hk16 : ∀ (z0 : MS) (z1 : Int32) (z2 : Int32) (z3 : Int32) (r : Int32) (s : MS), k16 z0 z1 z2 z3 = some (r, s) → vKf z0 s) (σ : MS) (x2 : Int32) (x3 : Int32) (x4 : Int32) (r : Int32) (σ_ : MS) (h : f_pairs_220 N j1 k16 σ x2 x3 x4 = some (r, σ_)) : vKf σ σ_ := by
  unfold f_pairs_220 at h
  have w1 := hk16 _ _ _ _ _ _ h
  exact w1
set_option maxRecDepth 100000 in
theorem kp_pairs_209 (N : Nat) (j1 : Nat) (k16 : MS → Int32 → Int32 → Int32 → Option (Int32 × MS)) (hk16 : ∀ (z0 : MS) (z1 : Int32) (z2 : Int32) (z3 : Int32) (r : Int32) (s : MS), k16 z0 z1 z2 z3 = some (r, s) → vKf z0 s) (σ : MS) (x2 : Int32) (x3 : Int32) (s0 : Int32) (r : Int32) (σ_ : MS) (h : f_pairs_209 N j1 k16 σ x2 x3 s0 = some (r, σ_)) : vKf σ σ_ := by
  unfold f_pairs_209 at h
  by_cases c1 : s0 = 0
  · have h := mif_t c1 h
    have w2 := kp_pairs_220 N j1 k16 hk16 σ x2 x3 s0 _ _ h
    exact w2
  · have h := mif_f c1 h
    obtain ⟨σ2, c3, h⟩ := mcallv_n h
    have w4 := kp_next N σ _ c3
    have w5 := kp_pairs_220 N j1 k16 hk16 σ2 x2 x3 s0 _ _ h
    exact (w4).t w5
set_option maxRecDepth 100000 in
theorem kp_signed_76 (N : Nat) (σ : MS) (x1 : Int32) (x2 : Int32) (x3 : Int32) (s0 : Int32) (r : Int32) (σ_ : MS) (h : f_signed_76 N σ x1 x2 x3 s0 = some (r, σ_)) : vKf σ σ_ := by
  unfold f_signed_76 at h
  obtain ⟨r3, σ1, c1, h⟩ := mcall_n h
  have w2 := kp_within N σ s0 x1 x2 _ _ c1
  by_cases c3 : r3 = 0
  · have h := mif_t c3 h
    obtain ⟨r9, σ7, c4, h⟩ := mcall_n h
    have w5 := kp_wrong N σ1 4 x3 _ _ c4
    cases h
    exact (w2).t w5
  · have h := mif_f c3 h
    obtain ⟨σ5, c6, h⟩ := mcallv_n h
    have w7 := kp_next N σ1 _ c6
    cases h
    exact (w2).t w7
set_option maxRecDepth 100000 in
theorem kp_signed_39 (N : Nat) (σ : MS) (x1 : Int32) (x2 : Int32) (x3 : Int32) (x4 : Int32) (r : Int32) (σ_ : MS) (h : f_signed_39 N σ x1 x2 x3 x4 = some (r, σ_)) : vKf σ σ_ := by
  unfold f_signed_39 at h
  by_cases c1 : (σ.1 6) = 3
  · have h := mif_t c1 h
    by_cases c2 : x4 = 0
    · have h := mif_t c2 h
      have w3 := kp_signed_76 N σ x1 x2 x3 (σ.1 7) _ _ h
      exact w3
    · have h := mif_f c2 h
      have w4 := kp_signed_76 N σ x1 x2 x3 (-(σ.1 7)) _ _ h
      exact w4
  · have h := mif_f c1 h
    obtain ⟨r5, σ3, c5, h⟩ := mcall_n h
    have w6 := kp_wrong N σ 1 (σ.1 4) _ _ c5
    cases h
    exact w6
set_option maxRecDepth 100000 in
theorem kp_signed_28 (N : Nat) (σ : MS) (x1 : Int32) (x2 : Int32) (x3 : Int32) (s0 : Int32) (r : Int32) (σ_ : MS) (h : f_signed_28 N σ x1 x2 x3 s0 = some (r, σ_)) : vKf σ σ_ := by
  unfold f_signed_28 at h
  by_cases c1 : s0 = 0
  · have h := mif_t c1 h
    have w2 := kp_signed_39 N σ x1 x2 x3 s0 _ _ h
    exact w2
  · have h := mif_f c1 h
    obtain ⟨σ2, c3, h⟩ := mcallv_n h
    have w4 := kp_next N σ _ c3
    have w5 := kp_signed_39 N σ2 x1 x2 x3 s0 _ _ h
    exact (w4).t w5
set_option maxRecDepth 100000 in
theorem kp_signed (N : Nat) (σ : MS) (x1 : Int32) (x2 : Int32) (r : Int32) (σ_ : MS) (h : f_signed N σ x1 x2 = some (r, σ_)) : vKf σ σ_ := by
  unfold f_signed at h
  by_cases c1 : (σ.1 13) = 0
  · have h := mif_t c1 h
    obtain ⟨y2, ey2⟩ : ∃ z, z = σ.1 4 := ⟨_, rfl⟩
    have h := mlet_at ey2 h
    by_cases c2 : (σ.1 6) = 45
    · have h := mif_t c2 h
      have w3 := kp_signed_28 N σ x1 x2 y2 1 _ _ h
      exact w3
    · have h := mif_f c2 h
      have w4 := kp_signed_28 N σ x1 x2 y2 0 _ _ h
      exact w4
  · have h := mif_f c1 h
    cases h
    exact vKf_r
set_option maxRecDepth 100000 in
theorem kp_fault (N : Nat) (σ : MS) (r : Int32) (σ_ : MS) (h : f_fault N σ = some (r, σ_)) : vKf σ σ_ := by
  unfold f_fault at h
  obtain ⟨σ1, eσ1⟩ : ∃ z, z = mSet σ 0 0 := ⟨_, rfl⟩
  have h := mlet_at eσ1 h
  have w1 : vKf σ σ1 := by rw [eσ1]; exact vKf_set (by decide)
  cases h
  exact w1
set_option maxRecDepth 100000 in
theorem kp_where_21 (N : Nat) (σ : MS) (s0 : Int32) (r : Int32) (σ_ : MS) (h : f_where_21 N σ s0 = some (r, σ_)) : vKf σ σ_ := by
  unfold f_where_21 at h
  cases h
  exact vKf_r
set_option maxRecDepth 100000 in
theorem kp_where (N : Nat) (σ : MS) (r : Int32) (σ_ : MS) (h : f_where N σ = some (r, σ_)) : vKf σ σ_ := by
  unfold f_where at h
  obtain ⟨σ1, eσ1⟩ : ∃ z, z = mSet σ 0 0 := ⟨_, rfl⟩
  have h := mlet_at eσ1 h
  have w1 : vKf σ σ1 := by rw [eσ1]; exact vKf_set (by decide)
  by_cases c2 : (σ1.1 39) = 4
  · have h := mif_t c2 h
    have w3 := kp_where_21 N σ1 (σ1.1 10) _ _ h
    exact (w1).t w3
  · have h := mif_f c2 h
    have w4 := kp_where_21 N σ1 (-1) _ _ h
    exact (w1).t w4
set_option maxRecDepth 100000 in
theorem kp_isGround_26 (N : Nat) (σ : MS) (s0 : Int32) (r : Int32) (σ_ : MS) (h : f_isGround_26 N σ s0 = some (r, σ_)) : vKf σ σ_ := by
  unfold f_isGround_26 at h
  obtain ⟨c1, h⟩ := mif_n h
  cases h
  exact vKf_r
set_option maxRecDepth 100000 in
theorem kp_isGround_25 (N : Nat) (σ : MS) (r : Int32) (σ_ : MS) (h : f_isGround_25 N σ = some (r, σ_)) : vKf σ σ_ := by
  unfold f_isGround_25 at h
  have w1 := kp_isGround_26 N σ 0 _ _ h
  exact w1
set_option maxRecDepth 100000 in
theorem kp_isGround (N : Nat) (σ : MS) (x1 : Int32) (r : Int32) (σ_ : MS) (h : f_isGround N σ x1 = some (r, σ_)) : vKf σ σ_ := by
  unfold f_isGround at h
  by_cases c1 : (σ.1 12) = 0
  · have h := mif_t c1 h
    have w2 := kp_isGround_25 N σ _ _ h
    exact w2
  · have h := mif_f c1 h
    obtain ⟨r4, σ2, c3, h⟩ := mcall_n h
    have w4 := kp_within N σ x1 0 ((σ.1 22) - 1) _ _ c3
    by_cases c5 : r4 = 0
    · have h := mif_t c5 h
      have w6 := kp_isGround_25 N σ2 _ _ h
      exact (w4).t w6
    · have h := mif_f c5 h
      have w7 := kp_isGround_26 N σ2 1 _ _ h
      exact (w4).t w7
set_option maxRecDepth 100000 in
theorem kp_sink_52 (N : Nat) (σ : MS) (s0 : Int32) (r : Int32) (σ_ : MS) (h : f_sink_52 N σ s0 = some (r, σ_)) : vKf σ σ_ := by
  unfold f_sink_52 at h
  cases h
  exact vKf_r
set_option maxRecDepth 100000 in
theorem kp_sink (N : Nat) (σ : MS) (x1 : Int32) (x2 : Int32) (r : Int32) (σ_ : MS) (h : f_sink N σ x1 x2 = some (r, σ_)) : vKf σ σ_ := by
  unfold f_sink at h
  obtain ⟨σ1, c1, h⟩ := mcallv_n h
  have w2 := kp_good N σ _ c1
  obtain ⟨r5, σ3, c3, h⟩ := mcall_n h
  have w4 := kp_isGround N σ1 x1 _ _ c3
  by_cases c5 : r5 = 0
  · have h := mif_t c5 h
    obtain ⟨r21, σ19, c6, h⟩ := mcall_n h
    have w7 := kp_no N σ3 1 _ _ c6
    cases h
    exact ((w2).t w4).t w7
  · have h := mif_f c5 h
    obtain ⟨r9, σ7, c8, h⟩ := mcall_n h
    have w9 := kp_within N σ3 x2 0 999 _ _ c8
    by_cases c10 : r9 = 0
    · have h := mif_t c10 h
      obtain ⟨r13, σ11, c11, h⟩ := mcall_n h
      have w12 := kp_no N σ7 2 _ _ c11
      have w13 := kp_sink_52 N σ11 r13 _ _ h
      exact ((((w2).t w4).t w9).t w12).t w13
    · have h := mif_f c10 h
      obtain ⟨c14, h⟩ := mif_n h
      obtain ⟨y15, ey15⟩ : ∃ z, z = σ7.2.1 18 x1.toNatClampNeg := ⟨_, rfl⟩
      have h := mlet_at ey15 h
      obtain ⟨r18, σ16, c15, h⟩ := mcall_n h
      have w16 := kp_between N 20 σ7 x1 y15 x2 _ _ c15
      have w17 := kp_sink_52 N σ16 r18 _ _ h
      exact ((((w2).t w4).t w9).t w16).t w17
set_option maxRecDepth 100000 in
theorem kp_grip_51 (N : Nat) (σ : MS) (s0 : Int32) (r : Int32) (σ_ : MS) (h : f_grip_51 N σ s0 = some (r, σ_)) : vKf σ σ_ := by
  unfold f_grip_51 at h
  cases h
  exact vKf_r
set_option maxRecDepth 100000 in
theorem kp_grip (N : Nat) (σ : MS) (x1 : Int32) (x2 : Int32) (r : Int32) (σ_ : MS) (h : f_grip N σ x1 x2 = some (r, σ_)) : vKf σ σ_ := by
  unfold f_grip at h
  obtain ⟨σ1, c1, h⟩ := mcallv_n h
  have w2 := kp_good N σ _ c1
  obtain ⟨r5, σ3, c3, h⟩ := mcall_n h
  have w4 := kp_isGround N σ1 x1 _ _ c3
  by_cases c5 : r5 = 0
  · have h := mif_t c5 h
    obtain ⟨r21, σ19, c6, h⟩ := mcall_n h
    have w7 := kp_no N σ3 1 _ _ c6
    cases h
    exact ((w2).t w4).t w7
  · have h := mif_f c5 h
    obtain ⟨r9, σ7, c8, h⟩ := mcall_n h
    have w9 := kp_within N σ3 x2 0 90 _ _ c8
    by_cases c10 : r9 = 0
    · have h := mif_t c10 h
      obtain ⟨r13, σ11, c11, h⟩ := mcall_n h
      have w12 := kp_no N σ7 2 _ _ c11
      have w13 := kp_grip_51 N σ11 r13 _ _ h
      exact ((((w2).t w4).t w9).t w12).t w13
    · have h := mif_f c10 h
      obtain ⟨c14, h⟩ := mif_n h
      obtain ⟨y15, ey15⟩ : ∃ z, z = σ7.2.1 19 x1.toNatClampNeg := ⟨_, rfl⟩
      have h := mlet_at ey15 h
      obtain ⟨r18, σ16, c15, h⟩ := mcall_n h
      have w16 := kp_between N 21 σ7 x1 y15 x2 _ _ c15
      have w17 := kp_grip_51 N σ16 r18 _ _ h
      exact ((((w2).t w4).t w9).t w16).t w17
set_option maxRecDepth 100000 in
theorem kp_not (N : Nat) (σ : MS) (x1 : Int32) (r : Int32) (σ_ : MS) (h : f_not N σ x1 = some (r, σ_)) : vKf σ σ_ := by
  unfold f_not at h
  obtain ⟨σ1, eσ1⟩ : ∃ z, z = mSet σ 39 x1 := ⟨_, rfl⟩
  have h := mlet_at eσ1 h
  have w1 : vKf σ σ1 := by rw [eσ1]; exact vKf_set (by decide)
  cases h
  exact w1
set_option maxRecDepth 100000 in
theorem kp_dead (N : Nat) (σ : MS) (x1 : Int32) (r : Int32) (σ_ : MS) (h : f_dead N σ x1 = some (r, σ_)) : vKf σ σ_ := by
  unfold f_dead at h
  obtain ⟨σ1, c1, h⟩ := mcallv_n h
  have w2 := kp_good N σ _ c1
  by_cases c3 : (σ1.1 12) = 0
  · have h := mif_t c3 h
    obtain ⟨r16, σ14, c4, h⟩ := mcall_n h
    have w5 := kp_not N σ1 1 _ _ c4
    obtain ⟨c6, h⟩ := mif_n h
    cases h
    exact (w2).t w5
  · have h := mif_f c3 h
    obtain ⟨r6, σ4, c7, h⟩ := mcall_n h
    have w8 := kp_within N σ1 x1 0 ((σ1.1 24) - 1) _ _ c7
    by_cases c9 : r6 = 0
    · have h := mif_t c9 h
      obtain ⟨r12, σ10, c10, h⟩ := mcall_n h
      have w11 := kp_not N σ4 2 _ _ c10
      obtain ⟨c12, h⟩ := mif_n h
      cases h
      exact ((w2).t w8).t w11
    · have h := mif_f c9 h
      obtain ⟨σ8, eσ8⟩ : ∃ z, z = mSet σ4 38 x1 := ⟨_, rfl⟩
      have h := mlet_at eσ8 h
      have w13 : vKf σ4 σ8 := by rw [eσ8]; exact vKf_set (by decide)
      obtain ⟨σ9, eσ9⟩ : ∃ z, z = mSet σ8 51 0 := ⟨_, rfl⟩
      have h := mlet_at eσ9 h
      have w14 : vKf σ8 σ9 := by rw [eσ9]; exact vKf_set (by decide)
      cases h
      exact (((w2).t w8).t w13).t w14
set_option maxRecDepth 100000 in
theorem kp_map_18 (N : Nat) (σ : MS) (r : Int32) (σ_ : MS) (h : f_map_18 N σ = some (r, σ_)) : vKf σ σ_ := by
  unfold f_map_18 at h
  obtain ⟨r3, σ1, c1, h⟩ := mcall_n h
  have w2 := kp_no N σ 1 _ _ c1
  cases h
  exact w2
set_option maxRecDepth 100000 in
theorem kp_map_44 (N : Nat) (σ : MS) (r : Int32) (σ_ : MS) (h : f_map_44 N σ = some (r, σ_)) : vKf σ σ_ := by
  unfold f_map_44 at h
  obtain ⟨r3, σ1, c1, h⟩ := mcall_n h
  have w2 := kp_no N σ 2 _ _ c1
  cases h
  exact w2
set_option maxRecDepth 100000 in
theorem kp_isCell_31 (N : Nat) (σ : MS) (s0 : Int32) (r : Int32) (σ_ : MS) (h : f_isCell_31 N σ s0 = some (r, σ_)) : vKf σ σ_ := by
  unfold f_isCell_31 at h
  obtain ⟨c1, h⟩ := mif_n h
  cases h
  exact vKf_r
set_option maxRecDepth 100000 in
theorem kp_isCell_30 (N : Nat) (σ : MS) (r : Int32) (σ_ : MS) (h : f_isCell_30 N σ = some (r, σ_)) : vKf σ σ_ := by
  unfold f_isCell_30 at h
  have w1 := kp_isCell_31 N σ 0 _ _ h
  exact w1
set_option maxRecDepth 100000 in
theorem kp_isCell (N : Nat) (σ : MS) (x1 : Int32) (r : Int32) (σ_ : MS) (h : f_isCell N σ x1 = some (r, σ_)) : vKf σ σ_ := by
  unfold f_isCell at h
  by_cases c1 : (σ.1 34) = 0
  · have h := mif_t c1 h
    have w2 := kp_isCell_30 N σ _ _ h
    exact w2
  · have h := mif_f c1 h
    obtain ⟨r4, σ2, c3, h⟩ := mcall_n h
    have w4 := kp_within N σ x1 0 (((σ.1 35) * (σ.1 36)) - 1) _ _ c3
    by_cases c5 : r4 = 0
    · have h := mif_t c5 h
      have w6 := kp_isCell_30 N σ2 _ _ h
      exact (w4).t w6
    · have h := mif_f c5 h
      have w7 := kp_isCell_31 N σ2 1 _ _ h
      exact (w4).t w7
set_option maxRecDepth 100000 in
theorem kp_ground_20 (N : Nat) (σ : MS) (r : Int32) (σ_ : MS) (h : f_ground_20 N σ = some (r, σ_)) : vKf σ σ_ := by
  unfold f_ground_20 at h
  obtain ⟨r3, σ1, c1, h⟩ := mcall_n h
  have w2 := kp_not N σ 1 _ _ c1
  obtain ⟨c3, h⟩ := mif_n h
  cases h
  exact w2
set_option maxRecDepth 100000 in
theorem kp_isDoubt_26 (N : Nat) (σ : MS) (s0 : Int32) (r : Int32) (σ_ : MS) (h : f_isDoubt_26 N σ s0 = some (r, σ_)) : vKf σ σ_ := by
  unfold f_isDoubt_26 at h
  obtain ⟨c1, h⟩ := mif_n h
  cases h
  exact vKf_r
set_option maxRecDepth 100000 in
theorem kp_isDoubt_25 (N : Nat) (σ : MS) (r : Int32) (σ_ : MS) (h : f_isDoubt_25 N σ = some (r, σ_)) : vKf σ σ_ := by
  unfold f_isDoubt_25 at h
  have w1 := kp_isDoubt_26 N σ 0 _ _ h
  exact w1
set_option maxRecDepth 100000 in
theorem kp_isDoubt (N : Nat) (σ : MS) (x1 : Int32) (r : Int32) (σ_ : MS) (h : f_isDoubt N σ x1 = some (r, σ_)) : vKf σ σ_ := by
  unfold f_isDoubt at h
  by_cases c1 : (σ.1 34) = 0
  · have h := mif_t c1 h
    have w2 := kp_isDoubt_25 N σ _ _ h
    exact w2
  · have h := mif_f c1 h
    obtain ⟨r4, σ2, c3, h⟩ := mcall_n h
    have w4 := kp_within N σ x1 0 ((σ.1 37) - 1) _ _ c3
    by_cases c5 : r4 = 0
    · have h := mif_t c5 h
      have w6 := kp_isDoubt_25 N σ2 _ _ h
      exact (w4).t w6
    · have h := mif_f c5 h
      have w7 := kp_isDoubt_26 N σ2 1 _ _ h
      exact (w4).t w7
set_option maxRecDepth 100000 in
theorem kp_weigh_20 (N : Nat) (σ : MS) (r : Int32) (σ_ : MS) (h : f_weigh_20 N σ = some (r, σ_)) : vKf σ σ_ := by
  unfold f_weigh_20 at h
  obtain ⟨r3, σ1, c1, h⟩ := mcall_n h
  have w2 := kp_not N σ 1 _ _ c1
  obtain ⟨c3, h⟩ := mif_n h
  cases h
  exact w2
set_option maxRecDepth 100000 in
theorem kp_weigh_126 (N : Nat) (σ : MS) (r : Int32) (σ_ : MS) (h : f_weigh_126 N σ = some (r, σ_)) : vKf σ σ_ := by
  unfold f_weigh_126 at h
  obtain ⟨r3, σ1, c1, h⟩ := mcall_n h
  have w2 := kp_not N σ 5 _ _ c1
  obtain ⟨c3, h⟩ := mif_n h
  cases h
  exact w2
set_option maxRecDepth 100000 in
theorem kp_weigh_91 (N : Nat) (k56 : MS → Int32 → Int32 → Int32 → Int32 → Int32 → Option (Int32 × MS)) (hk56 : ∀ (z0 : MS) (z1 : Int32) (z2 : Int32) (z3 : Int32) (z4 : Int32) (z5 : Int32) (r : Int32) (s : MS), k56 z0 z1 z2 z3 z4 z5 = some (r, s) → vKf z0 s) (σ : MS) (x1 : Int32) (x2 : Int32) (x3 : Int32) (x5 : Int32) (s0 : Int32) (s1 : Int32) (r : Int32) (σ_ : MS) (h : f_weigh_91 N k56 σ x1 x2 x3 x5 s0 s1 = some (r, σ_)) : vKf σ σ_ := by
  unfold f_weigh_91 at h
  obtain ⟨y1, ey1⟩ : ∃ z, z = s1 + s0 := ⟨_, rfl⟩
  have h := mlet_at ey1 h
  obtain ⟨y2, ey2⟩ : ∃ z, z = x5 + 1 := ⟨_, rfl⟩
  have h := mlet_at ey2 h
  have w1 := hk56 _ _ _ _ _ _ _ _ h
  exact w1
set_option maxRecDepth 100000 in
theorem kp_weigh_90 (N : Nat) (k56 : MS → Int32 → Int32 → Int32 → Int32 → Int32 → Option (Int32 × MS)) (hk56 : ∀ (z0 : MS) (z1 : Int32) (z2 : Int32) (z3 : Int32) (z4 : Int32) (z5 : Int32) (r : Int32) (s : MS), k56 z0 z1 z2 z3 z4 z5 = some (r, s) → vKf z0 s) (σ : MS) (x1 : Int32) (x2 : Int32) (x3 : Int32) (x5 : Int32) (s0 : Int32) (r : Int32) (σ_ : MS) (h : f_weigh_90 N k56 σ x1 x2 x3 x5 s0 = some (r, σ_)) : vKf σ σ_ := by
  unfold f_weigh_90 at h
  have w1 := kp_weigh_91 N k56 hk56 σ x1 x2 x3 x5 0 s0 _ _ h
  exact w1
set_option maxRecDepth 100000 in
theorem kp_told_20 (N : Nat) (σ : MS) (r : Int32) (σ_ : MS) (h : f_told_20 N σ = some (r, σ_)) : vKf σ σ_ := by
  unfold f_told_20 at h
  obtain ⟨r3, σ1, c1, h⟩ := mcall_n h
  have w2 := kp_not N σ 1 _ _ c1
  obtain ⟨c3, h⟩ := mif_n h
  cases h
  exact w2
set_option maxRecDepth 100000 in
theorem kp_told (N : Nat) (σ : MS) (x1 : Int32) (x2 : Int32) (r : Int32) (σ_ : MS) (h : f_told N σ x1 x2 = some (r, σ_)) : vKf σ σ_ := by
  unfold f_told at h
  obtain ⟨σ1, c1, h⟩ := mcallv_n h
  have w2 := kp_good N σ _ c1
  obtain ⟨r5, σ3, c3, h⟩ := mcall_n h
  have w4 := kp_isDoubt N σ1 x1 _ _ c3
  by_cases c5 : r5 = 0
  · have h := mif_t c5 h
    have w6 := kp_told_20 N σ3 _ _ h
    exact ((w2).t w4).t w6
  · have h := mif_f c5 h
    obtain ⟨r9, σ7, c7, h⟩ := mcall_n h
    have w8 := kp_isGround N σ3 x2 _ _ c7
    by_cases c9 : r9 = 0
    · have h := mif_t c9 h
      have w10 := kp_told_20 N σ7 _ _ h
      exact (((w2).t w4).t w8).t w10
    · have h := mif_f c9 h
      obtain ⟨c11, h⟩ := mif_n h
      obtain ⟨y12, ey12⟩ : ∃ z, z = σ7.2.1 46 ((8 * x1) + x2).toNatClampNeg := ⟨_, rfl⟩
      have h := mlet_at ey12 h
      by_cases c12 : y12 = 0
      · have h := mif_t c12 h
        obtain ⟨r19, σ17, c13, h⟩ := mcall_n h
        have w14 := kp_not N σ7 5 _ _ c13
        obtain ⟨c15, h⟩ := mif_n h
        cases h
        exact (((w2).t w4).t w8).t w14
      · have h := mif_f c12 h
        obtain ⟨c16, h⟩ := mif_n h
        obtain ⟨σ15, eσ15⟩ : ∃ z, z = mArr σ7 45 x1.toNatClampNeg x2 := ⟨_, rfl⟩
        have h := mlet_at eσ15 h
        have w17 : vKf σ7 σ15 := by rw [eσ15]; exact vKf_arr (by decide)
        obtain ⟨σ16, eσ16⟩ : ∃ z, z = mSet σ15 51 0 := ⟨_, rfl⟩
        have h := mlet_at eσ16 h
        have w18 : vKf σ15 σ16 := by rw [eσ16]; exact vKf_set (by decide)
        cases h
        exact ((((w2).t w4).t w8).t w17).t w18
set_option maxRecDepth 100000 in
theorem kp_forget (N : Nat) (σ : MS) (x1 : Int32) (r : Int32) (σ_ : MS) (h : f_forget N σ x1 = some (r, σ_)) : vKf σ σ_ := by
  unfold f_forget at h
  obtain ⟨σ1, c1, h⟩ := mcallv_n h
  have w2 := kp_good N σ _ c1
  obtain ⟨r5, σ3, c3, h⟩ := mcall_n h
  have w4 := kp_isDoubt N σ1 x1 _ _ c3
  by_cases c5 : r5 = 0
  · have h := mif_t c5 h
    obtain ⟨r19, σ17, c6, h⟩ := mcall_n h
    have w7 := kp_not N σ3 1 _ _ c6
    obtain ⟨c8, h⟩ := mif_n h
    cases h
    exact ((w2).t w4).t w7
  · have h := mif_f c5 h
    obtain ⟨c9, h⟩ := mif_n h
    obtain ⟨y8, ey8⟩ : ∃ z, z = σ3.2.1 45 x1.toNatClampNeg := ⟨_, rfl⟩
    have h := mlet_at ey8 h
    by_cases c10 : y8 = (-1)
    · have h := mif_t c10 h
      obtain ⟨r15, σ13, c11, h⟩ := mcall_n h
      have w12 := kp_not N σ3 5 _ _ c11
      obtain ⟨c13, h⟩ := mif_n h
      cases h
      exact ((w2).t w4).t w12
    · have h := mif_f c10 h
      obtain ⟨c14, h⟩ := mif_n h
      obtain ⟨σ11, eσ11⟩ : ∃ z, z = mArr σ3 45 x1.toNatClampNeg (-1) := ⟨_, rfl⟩
      have h := mlet_at eσ11 h
      have w15 : vKf σ3 σ11 := by rw [eσ11]; exact vKf_arr (by decide)
      obtain ⟨σ12, eσ12⟩ : ∃ z, z = mSet σ11 51 0 := ⟨_, rfl⟩
      have h := mlet_at eσ12 h
      have w16 : vKf σ11 σ12 := by rw [eσ12]; exact vKf_set (by decide)
      cases h
      exact (((w2).t w4).t w15).t w16
set_option maxRecDepth 100000 in
theorem kp_of_94 (N : Nat) (σ : MS) (s0 : Int32) (r : Int32) (σ_ : MS) (h : f_of_94 N σ s0 = some (r, σ_)) : vKf σ σ_ := by
  unfold f_of_94 at h
  cases h
  exact vKf_r
set_option maxRecDepth 100000 in
theorem kp_of_73 (N : Nat) (σ : MS) (s0 : Int32) (r : Int32) (σ_ : MS) (h : f_of_73 N σ s0 = some (r, σ_)) : vKf σ σ_ := by
  unfold f_of_73 at h
  cases h
  exact vKf_r
set_option maxRecDepth 100000 in
theorem kp_of (N : Nat) (σ : MS) (x1 : Int32) (x2 : Int32) (r : Int32) (σ_ : MS) (h : f_of N σ x1 x2 = some (r, σ_)) : vKf σ σ_ := by
  unfold f_of at h
  obtain ⟨σ1, eσ1⟩ : ∃ z, z = mSet σ 0 0 := ⟨_, rfl⟩
  have h := mlet_at eσ1 h
  have w1 : vKf σ σ1 := by rw [eσ1]; exact vKf_set (by decide)
  obtain ⟨r4, σ2, c2, h⟩ := mcall_n h
  have w3 := kp_isCell N σ1 x1 _ _ c2
  by_cases c4 : r4 = 0
  · have h := mif_t c4 h
    cases h
    exact (w1).t w3
  · have h := mif_f c4 h
    obtain ⟨c5, h⟩ := mif_n h
    obtain ⟨y7, ey7⟩ : ∃ z, z = σ2.2.1 43 x1.toNatClampNeg := ⟨_, rfl⟩
    have h := mlet_at ey7 h
    by_cases c6 : x2 = 0
    · have h := mif_t c6 h
      obtain ⟨c7, h⟩ := mif_n h
      obtain ⟨y21, ey21⟩ : ∃ z, z = σ2.2.1 41 x1.toNatClampNeg := ⟨_, rfl⟩
      have h := mlet_at ey21 h
      cases h
      exact (w1).t w3
    · have h := mif_f c6 h
      by_cases c8 : x2 = 1
      · have h := mif_t c8 h
        by_cases c9 : y7 = (-1)
        · have h := mif_t c9 h
          obtain ⟨c10, h⟩ := mif_n h
          obtain ⟨y19, ey19⟩ : ∃ z, z = σ2.2.1 42 x1.toNatClampNeg := ⟨_, rfl⟩
          have h := mlet_at ey19 h
          have w11 := kp_of_73 N σ2 y19 _ _ h
          exact ((w1).t w3).t w11
        · have h := mif_f c9 h
          obtain ⟨c12, h⟩ := mif_n h
          obtain ⟨y14, ey14⟩ : ∃ z, z = σ2.2.1 45 y7.toNatClampNeg := ⟨_, rfl⟩
          have h := mlet_at ey14 h
          by_cases c13 : y14 = (-1)
          · have h := mif_t c13 h
            have w14 := kp_of_73 N σ2 (-2) _ _ h
            exact ((w1).t w3).t w14
          · have h := mif_f c13 h
            obtain ⟨c15, h⟩ := mif_n h
            obtain ⟨y17, ey17⟩ : ∃ z, z = σ2.2.1 45 y7.toNatClampNeg := ⟨_, rfl⟩
            have h := mlet_at ey17 h
            have w16 := kp_of_73 N σ2 y17 _ _ h
            exact ((w1).t w3).t w16
      · have h := mif_f c8 h
        by_cases c17 : x2 = 2
        · have h := mif_t c17 h
          by_cases c18 : y7 = (-1)
          · have h := mif_t c18 h
            have w19 := kp_of_94 N σ2 (-2) _ _ h
            exact ((w1).t w3).t w19
          · have h := mif_f c18 h
            have w20 := kp_of_94 N σ2 y7 _ _ h
            exact ((w1).t w3).t w20
        · have h := mif_f c17 h
          have w21 := kp_of_94 N σ2 (-1) _ _ h
          exact ((w1).t w3).t w21
set_option maxRecDepth 100000 in
theorem kp_need_62 (N : Nat) (σ : MS) (s0 : Int32) (r : Int32) (σ_ : MS) (h : f_need_62 N σ s0 = some (r, σ_)) : vKf σ σ_ := by
  unfold f_need_62 at h
  cases h
  exact vKf_r
set_option maxRecDepth 100000 in
theorem kp_need (N : Nat) (σ : MS) (x1 : Int32) (x2 : Int32) (r : Int32) (σ_ : MS) (h : f_need N σ x1 x2 = some (r, σ_)) : vKf σ σ_ := by
  unfold f_need at h
  obtain ⟨c1, h⟩ := mif_n h
  obtain ⟨y2, ey2⟩ : ∃ z, z = (σ.1 25) / (σ.1 24) := ⟨_, rfl⟩
  have h := mlet_at ey2 h
  obtain ⟨c2, h⟩ := mif_n h
  obtain ⟨y4, ey4⟩ : ∃ z, z = σ.2.1 18 x2.toNatClampNeg := ⟨_, rfl⟩
  have h := mlet_at ey4 h
  obtain ⟨r7, σ5, c3, h⟩ := mcall_n h
  have w4 := kp_between N 20 σ x2 y4 y2 _ _ c3
  obtain ⟨r10, σ8, c5, h⟩ := mcall_n h
  have w6 := kp_down N σ5 ((σ.1 25) * (x1 + r7)) 10 _ _ c5
  obtain ⟨y11, ey11⟩ : ∃ z, z = r10 + (((σ8.1 38) * y2) * (σ8.1 28)) := ⟨_, rfl⟩
  have h := mlet_at ey11 h
  by_cases c7 : 0 ≤ y11
  · have h := mif_t c7 h
    have w8 := kp_need_62 N σ8 y11 _ _ h
    exact ((w4).t w6).t w8
  · have h := mif_f c7 h
    have w9 := kp_need_62 N σ8 0 _ _ h
    exact ((w4).t w6).t w9
set_option maxRecDepth 100000 in
theorem kp_slip_23 (N : Nat) : ∀ (n : Nat) (σ : MS) (x1 : Int32) (x2 : Int32) (x3 : Int32) (x4 : Int32) (r : Int32) (σ_ : MS), f_slip_23 N n σ x1 x2 x3 x4 = some (r, σ_) → vKf σ σ_ := by
  intro n
  induction n with
  | zero =>
    intro σ x1 x2 x3 x4 r σ_ h
    cases h
  | succ n ih =>
    intro σ x1 x2 x3 x4 r σ_ h
    unfold f_slip_23 at h
    by_cases c1 : 90 < x4
    · have h := mif_t c1 h
      cases h
      exact vKf_r
    · have h := mif_f c1 h
      obtain ⟨c2, h⟩ := mif_n h
      obtain ⟨y3, ey3⟩ : ∃ z, z = σ.2.1 19 x2.toNatClampNeg := ⟨_, rfl⟩
      have h := mlet_at ey3 h
      obtain ⟨r6, σ4, c3, h⟩ := mcall_n h
      have w4 := kp_between N 21 σ x2 y3 x4 _ _ c3
      by_cases c5 : (x3 * r6) < x1
      · have h := mif_t c5 h
        obtain ⟨y8, ey8⟩ : ∃ z, z = x4 + 1 := ⟨_, rfl⟩
        have h := mlet_at ey8 h
        have w6 := ih _ _ _ _ _ _ _ h
        exact (w4).t w6
      · have h := mif_f c5 h
        cases h
        exact w4
set_option maxRecDepth 100000 in
theorem kp_slip (N : Nat) (σ : MS) (x1 : Int32) (x2 : Int32) (r : Int32) (σ_ : MS) (h : f_slip N σ x1 x2 = some (r, σ_)) : vKf σ σ_ := by
  unfold f_slip at h
  obtain ⟨c1, h⟩ := mif_n h
  obtain ⟨y2, ey2⟩ : ∃ z, z = ((σ.1 25) / (σ.1 24)) * ((σ.1 24) - (σ.1 38)) := ⟨_, rfl⟩
  have h := mlet_at ey2 h
  have w2 := kp_slip_23 N _ _ _ _ _ _ _ _ h
  exact w2
set_option maxRecDepth 100000 in
theorem kp_barred_50 (N : Nat) (σ : MS) (r : Int32) (σ_ : MS) (h : f_barred_50 N σ = some (r, σ_)) : vKf σ σ_ := by
  unfold f_barred_50 at h
  cases h
  exact vKf_r
set_option maxRecDepth 100000 in
theorem kp_barred_104 (N : Nat) (σ : MS) (s0 : Int32) (r : Int32) (σ_ : MS) (h : f_barred_104 N σ s0 = some (r, σ_)) : vKf σ σ_ := by
  unfold f_barred_104 at h
  cases h
  exact vKf_r
set_option maxRecDepth 100000 in
theorem kp_barred (N : Nat) (σ : MS) (x1 : Int32) (x2 : Int32) (x3 : Int32) (r : Int32) (σ_ : MS) (h : f_barred N σ x1 x2 x3 = some (r, σ_)) : vKf σ σ_ := by
  unfold f_barred at h
  obtain ⟨r3, σ1, c1, h⟩ := mcall_n h
  have w2 := kp_beside N σ x1 x2 _ _ c1
  by_cases c3 : 0 ≤ r3
  · have h := mif_t c3 h
    obtain ⟨c4, h⟩ := mif_n h
    obtain ⟨y6, ey6⟩ : ∃ z, z = σ1.2.1 41 r3.toNatClampNeg := ⟨_, rfl⟩
    have h := mlet_at ey6 h
    obtain ⟨c5, h⟩ := mif_n h
    obtain ⟨y8, ey8⟩ : ∃ z, z = σ1.2.1 41 x1.toNatClampNeg := ⟨_, rfl⟩
    have h := mlet_at ey8 h
    obtain ⟨y9, ey9⟩ : ∃ z, z = y6 - y8 := ⟨_, rfl⟩
    have h := mlet_at ey9 h
    by_cases c6 : (σ1.1 27) < y9
    · have h := mif_t c6 h
      have w7 := kp_barred_50 N σ1 _ _ h
      exact (w2).t w7
    · have h := mif_f c6 h
      by_cases c8 : (-y9) ≤ (σ1.1 27)
      · have h := mif_t c8 h
        obtain ⟨c9, h⟩ := mif_n h
        obtain ⟨y13, ey13⟩ : ∃ z, z = σ1.2.1 18 x3.toNatClampNeg := ⟨_, rfl⟩
        have h := mlet_at ey13 h
        obtain ⟨c10, h⟩ := mif_n h
        obtain ⟨r17, σ15, c11, h⟩ := mcall_n h
        have w12 := kp_between N 20 σ1 x3 y13 ((σ1.1 25) / (σ1.1 24)) _ _ c11
        by_cases c13 : r17 ≤ (σ15.1 26)
        · have h := mif_t c13 h
          obtain ⟨r21, σ19, c14, h⟩ := mcall_n h
          have w15 := kp_need N σ15 y9 x3 _ _ c14
          obtain ⟨r24, σ22, c16, h⟩ := mcall_n h
          have w17 := kp_slip N σ19 r21 x3 _ _ c16
          by_cases c18 : 0 ≤ r24
          · have h := mif_t c18 h
            have w19 := kp_barred_104 N σ22 0 _ _ h
            exact ((((w2).t w12).t w15).t w17).t w19
          · have h := mif_f c18 h
            have w20 := kp_barred_104 N σ22 4 _ _ h
            exact ((((w2).t w12).t w15).t w17).t w20
        · have h := mif_f c13 h
          cases h
          exact (w2).t w12
      · have h := mif_f c8 h
        have w21 := kp_barred_50 N σ1 _ _ h
        exact (w2).t w21
  · have h := mif_f c3 h
    cases h
    exact w2
set_option maxRecDepth 100000 in
theorem kp_cost (N : Nat) (σ : MS) (x1 : Int32) (x2 : Int32) (x3 : Int32) (r : Int32) (σ_ : MS) (h : f_cost N σ x1 x2 x3 = some (r, σ_)) : vKf σ σ_ := by
  unfold f_cost at h
  obtain ⟨r3, σ1, c1, h⟩ := mcall_n h
  have w2 := kp_beside N σ x1 x2 _ _ c1
  obtain ⟨c3, h⟩ := mif_n h
  obtain ⟨y5, ey5⟩ : ∃ z, z = σ1.2.1 41 r3.toNatClampNeg := ⟨_, rfl⟩
  have h := mlet_at ey5 h
  obtain ⟨c4, h⟩ := mif_n h
  obtain ⟨y7, ey7⟩ : ∃ z, z = σ1.2.1 41 x1.toNatClampNeg := ⟨_, rfl⟩
  have h := mlet_at ey7 h
  obtain ⟨r10, σ8, c5, h⟩ := mcall_n h
  have w6 := kp_need N σ1 (y5 - y7) x3 _ _ c5
  obtain ⟨r13, σ11, c7, h⟩ := mcall_n h
  have w8 := kp_slip N σ8 r10 x3 _ _ c7
  obtain ⟨c9, h⟩ := mif_n h
  cases h
  exact ((w2).t w6).t w8
set_option maxRecDepth 100000 in
theorem kp_step_39 (N : Nat) (σ : MS) (r : Int32) (σ_ : MS) (h : f_step_39 N σ = some (r, σ_)) : vKf σ σ_ := by
  unfold f_step_39 at h
  obtain ⟨r3, σ1, c1, h⟩ := mcall_n h
  have w2 := kp_no N σ 1 _ _ c1
  cases h
  exact w2
set_option maxRecDepth 100000 in
theorem kp_step_129 (N : Nat) (σ : MS) (s0 : Int32) (r : Int32) (σ_ : MS) (h : f_step_129 N σ s0 = some (r, σ_)) : vKf σ σ_ := by
  unfold f_step_129 at h
  cases h
  exact vKf_r
set_option maxRecDepth 100000 in
theorem kp_step (N : Nat) (σ : MS) (x1 : Int32) (x2 : Int32) (x3 : Int32) (x4 : Int32) (r : Int32) (σ_ : MS) (h : f_step N σ x1 x2 x3 x4 = some (r, σ_)) : vKf σ σ_ := by
  unfold f_step at h
  obtain ⟨σ1, c1, h⟩ := mcallv_n h
  have w2 := kp_good N σ _ c1
  obtain ⟨r5, σ3, c3, h⟩ := mcall_n h
  have w4 := kp_isCell N σ1 x1 _ _ c3
  by_cases c5 : r5 = 0
  · have h := mif_t c5 h
    have w6 := kp_step_39 N σ3 _ _ h
    exact ((w2).t w4).t w6
  · have h := mif_f c5 h
    obtain ⟨r9, σ7, c7, h⟩ := mcall_n h
    have w8 := kp_within N σ3 x2 0 3 _ _ c7
    by_cases c9 : r9 = 0
    · have h := mif_t c9 h
      have w10 := kp_step_39 N σ7 _ _ h
      exact (((w2).t w4).t w8).t w10
    · have h := mif_f c9 h
      obtain ⟨r13, σ11, c11, h⟩ := mcall_n h
      have w12 := kp_isGround N σ7 x3 _ _ c11
      by_cases c13 : r13 = 0
      · have h := mif_t c13 h
        have w14 := kp_step_39 N σ11 _ _ h
        exact ((((w2).t w4).t w8).t w12).t w14
      · have h := mif_f c13 h
        obtain ⟨r17, σ15, c15, h⟩ := mcall_n h
        have w16 := kp_within N σ11 x4 0 3 _ _ c15
        by_cases c17 : r17 = 0
        · have h := mif_t c17 h
          have w18 := kp_step_39 N σ15 _ _ h
          exact (((((w2).t w4).t w8).t w12).t w16).t w18
        · have h := mif_f c17 h
          obtain ⟨r21, σ19, c19, h⟩ := mcall_n h
          have w20 := kp_barred N σ15 x1 x2 x3 _ _ c19
          by_cases c21 : x4 = 0
          · have h := mif_t c21 h
            cases h
            exact (((((w2).t w4).t w8).t w12).t w16).t w20
          · have h := mif_f c21 h
            by_cases c22 : r21 ≤ 0
            · have h := mif_t c22 h
              obtain ⟨r26, σ24, c23, h⟩ := mcall_n h
              have w24 := kp_beside N σ19 x1 x2 _ _ c23
              obtain ⟨c25, h⟩ := mif_n h
              obtain ⟨y28, ey28⟩ : ∃ z, z = σ24.2.1 41 r26.toNatClampNeg := ⟨_, rfl⟩
              have h := mlet_at ey28 h
              obtain ⟨c26, h⟩ := mif_n h
              obtain ⟨y30, ey30⟩ : ∃ z, z = σ24.2.1 41 x1.toNatClampNeg := ⟨_, rfl⟩
              have h := mlet_at ey30 h
              obtain ⟨r33, σ31, c27, h⟩ := mcall_n h
              have w28 := kp_need N σ24 (y28 - y30) x3 _ _ c27
              by_cases c29 : x4 = 1
              · have h := mif_t c29 h
                have w30 := kp_step_129 N σ31 r33 _ _ h
                exact ((((((((w2).t w4).t w8).t w12).t w16).t w20).t w24).t w28).t w30
              · have h := mif_f c29 h
                by_cases c31 : x4 = 2
                · have h := mif_t c31 h
                  obtain ⟨r41, σ39, c32, h⟩ := mcall_n h
                  have w33 := kp_slip N σ31 r33 x3 _ _ c32
                  have w34 := kp_step_129 N σ39 r41 _ _ h
                  exact (((((((((w2).t w4).t w8).t w12).t w16).t w20).t w24).t w28).t w33).t w34
                · have h := mif_f c31 h
                  obtain ⟨r38, σ36, c35, h⟩ := mcall_n h
                  have w36 := kp_cost N σ31 x1 x2 x3 _ _ c35
                  have w37 := kp_step_129 N σ36 r38 _ _ h
                  exact (((((((((w2).t w4).t w8).t w12).t w16).t w20).t w24).t w28).t w36).t w37
            · have h := mif_f c22 h
              cases h
              exact (((((w2).t w4).t w8).t w12).t w16).t w20
set_option maxRecDepth 100000 in
theorem kp_lists_68 (N : Nat) (k2 : MS → Int32 → Option (MS)) (hk2 : ∀ (z0 : MS) (z1 : Int32) (s : MS), k2 z0 z1 = some s → vKf z0 s) (k19 : MS → Int32 → Int32 → Option (MS)) (hk19 : ∀ (z0 : MS) (z1 : Int32) (z2 : Int32) (s : MS), k19 z0 z1 z2 = some s → vKf z0 s) (σ : MS) (x1 : Int32) (x2 : Int32) (σ_ : MS) (h : f_lists_68 N k2 k19 σ x1 x2 = some σ_) : vKf σ σ_ := by
  unfold f_lists_68 at h
  obtain ⟨y1, ey1⟩ : ∃ z, z = x2 + 1 := ⟨_, rfl⟩
  have h := mlet_at ey1 h
  have w1 := hk19 _ _ _ _ h
  exact w1
set_option maxRecDepth 100000 in
theorem kp_lists_19 (N : Nat) (k2 : MS → Int32 → Option (MS)) (hk2 : ∀ (z0 : MS) (z1 : Int32) (s : MS), k2 z0 z1 = some s → vKf z0 s) : ∀ (n : Nat) (σ : MS) (x1 : Int32) (x2 : Int32) (σ_ : MS), f_lists_19 N k2 n σ x1 x2 = some σ_ → vKf σ σ_ := by
  intro n
  induction n with
  | zero =>
    intro σ x1 x2 σ_ h
    cases h
  | succ n ih =>
    intro σ x1 x2 σ_ h
    unfold f_lists_19 at h
    by_cases c1 : 8 ≤ x2
    · have h := mif_t c1 h
      obtain ⟨y2, ey2⟩ : ∃ z, z = x1 + 1 := ⟨_, rfl⟩
      have h := mlet_at ey2 h
      have w2 := hk2 _ _ _ h
      exact w2
    · have h := mif_f c1 h
      obtain ⟨c3, h⟩ := mif_n h
      obtain ⟨y4, ey4⟩ : ∃ z, z = σ.2.1 46 ((8 * x1) + x2).toNatClampNeg := ⟨_, rfl⟩
      have h := mlet_at ey4 h
      by_cases c4 : y4 = 0
      · have h := mif_t c4 h
        have w5 := kp_lists_68 N k2 hk2 (f_lists_19 N k2 n) ih σ x1 x2 _ h
        exact w5
      · have h := mif_f c4 h
        obtain ⟨c6, h⟩ := mif_n h
        obtain ⟨y7, ey7⟩ : ∃ z, z = σ.2.1 53 x1.toNatClampNeg := ⟨_, rfl⟩
        have h := mlet_at ey7 h
        obtain ⟨c7, h⟩ := mif_n h
        obtain ⟨σ9, eσ9⟩ : ∃ z, z = mArr σ 52 ((4 * x1) + y7).toNatClampNeg x2 := ⟨_, rfl⟩
        have h := mlet_at eσ9 h
        have w8 : vKf σ σ9 := by rw [eσ9]; exact vKf_arr (by decide)
        obtain ⟨c9, h⟩ := mif_n h
        obtain ⟨y11, ey11⟩ : ∃ z, z = σ9.2.1 53 x1.toNatClampNeg := ⟨_, rfl⟩
        have h := mlet_at ey11 h
        obtain ⟨c10, h⟩ := mif_n h
        obtain ⟨σ13, eσ13⟩ : ∃ z, z = mArr σ9 53 x1.toNatClampNeg (y11 + 1) := ⟨_, rfl⟩
        have h := mlet_at eσ13 h
        have w11 : vKf σ9 σ13 := by rw [eσ13]; exact vKf_arr (by decide)
        have w12 := kp_lists_68 N k2 hk2 (f_lists_19 N k2 n) ih σ13 x1 x2 _ h
        exact ((w8).t w11).t w12
set_option maxRecDepth 100000 in
theorem kp_lists_2 (N : Nat) : ∀ (n : Nat) (σ : MS) (x1 : Int32) (σ_ : MS), f_lists_2 N n σ x1 = some σ_ → vKf σ σ_ := by
  intro n
  induction n with
  | zero =>
    intro σ x1 σ_ h
    cases h
  | succ n ih =>
    intro σ x1 σ_ h
    unfold f_lists_2 at h
    by_cases c1 : (σ.1 37) ≤ x1
    · have h := mif_t c1 h
      cases h
      exact vKf_r
    · have h := mif_f c1 h
      obtain ⟨c2, h⟩ := mif_n h
      obtain ⟨σ3, eσ3⟩ : ∃ z, z = mArr σ 53 x1.toNatClampNeg 0 := ⟨_, rfl⟩
      have h := mlet_at eσ3 h
      have w3 : vKf σ σ3 := by rw [eσ3]; exact vKf_arr (by decide)
      have w4 := kp_lists_19 N (f_lists_2 N n) ih _ _ _ _ _ h
      exact (w3).t w4
set_option maxRecDepth 100000 in
theorem kp_lists (N : Nat) (σ : MS) (σ_ : MS) (h : f_lists N σ = some σ_) : vKf σ σ_ := by
  unfold f_lists at h
  have w1 := kp_lists_2 N _ _ _ _ h
  exact w1
set_option maxRecDepth 100000 in
theorem kp_isNear_48 (N : Nat) (k17 : MS → Int32 → Int32 → Int32 → Int32 → Option (Int32 × MS)) (hk17 : ∀ (z0 : MS) (z1 : Int32) (z2 : Int32) (z3 : Int32) (z4 : Int32) (r : Int32) (s : MS), k17 z0 z1 z2 z3 z4 = some (r, s) → vKf z0 s) (σ : MS) (x1 : Int32) (x2 : Int32) (x4 : Int32) (s0 : Int32) (r : Int32) (σ_ : MS) (h : f_isNear_48 N k17 σ x1 x2 x4 s0 = some (r, σ_)) : vKf σ σ_ := by
  unfold f_isNear_48 at h
  obtain ⟨y1, ey1⟩ : ∃ z, z = x4 + 1 := ⟨_, rfl⟩
  have h := mlet_at ey1 h
  have w1 := hk17 _ _ _ _ _ _ _ h
  exact w1
set_option maxRecDepth 100000 in
theorem kp_isNear_43 (N : Nat) (k17 : MS → Int32 → Int32 → Int32 → Int32 → Option (Int32 × MS)) (hk17 : ∀ (z0 : MS) (z1 : Int32) (z2 : Int32) (z3 : Int32) (z4 : Int32) (r : Int32) (s : MS), k17 z0 z1 z2 z3 z4 = some (r, s) → vKf z0 s) (σ : MS) (x1 : Int32) (x2 : Int32) (x4 : Int32) (r : Int32) (σ_ : MS) (h : f_isNear_43 N k17 σ x1 x2 x4 = some (r, σ_)) : vKf σ σ_ := by
  unfold f_isNear_43 at h
  have w1 := kp_isNear_48 N k17 hk17 σ x1 x2 x4 1 _ _ h
  exact w1
set_option maxRecDepth 100000 in
theorem kp_isNear_17 (N : Nat) : ∀ (n : Nat) (σ : MS) (x1 : Int32) (x2 : Int32) (x3 : Int32) (x4 : Int32) (r : Int32) (σ_ : MS), f_isNear_17 N n σ x1 x2 x3 x4 = some (r, σ_) → vKf σ σ_ := by
  intro n
  induction n with
  | zero =>
    intro σ x1 x2 x3 x4 r σ_ h
    cases h
  | succ n ih =>
    intro σ x1 x2 x3 x4 r σ_ h
    unfold f_isNear_17 at h
    by_cases c1 : 4 ≤ x4
    · have h := mif_t c1 h
      obtain ⟨c2, h⟩ := mif_n h
      cases h
      exact vKf_r
    · have h := mif_f c1 h
      by_cases c3 : x3 = 0
      · have h := mif_t c3 h
        obtain ⟨r6, σ4, c4, h⟩ := mcall_n h
        have w5 := kp_beside N σ x1 x4 _ _ c4
        obtain ⟨c6, h⟩ := mif_n h
        obtain ⟨y8, ey8⟩ : ∃ z, z = σ4.2.1 44 x2.toNatClampNeg := ⟨_, rfl⟩
        have h := mlet_at ey8 h
        by_cases c7 : r6 = y8
        · have h := mif_t c7 h
          have w8 := kp_isNear_43 N (f_isNear_17 N n) ih σ4 x1 x2 x4 _ _ h
          exact (w5).t w8
        · have h := mif_f c7 h
          have w9 := kp_isNear_48 N (f_isNear_17 N n) ih σ4 x1 x2 x4 0 _ _ h
          exact (w5).t w9
      · have h := mif_f c3 h
        have w10 := kp_isNear_43 N (f_isNear_17 N n) ih σ x1 x2 x4 _ _ h
        exact w10
set_option maxRecDepth 100000 in
theorem kp_isNear (N : Nat) (σ : MS) (x1 : Int32) (x2 : Int32) (r : Int32) (σ_ : MS) (h : f_isNear N σ x1 x2 = some (r, σ_)) : vKf σ σ_ := by
  unfold f_isNear at h
  obtain ⟨c1, h⟩ := mif_n h
  obtain ⟨y2, ey2⟩ : ∃ z, z = σ.2.1 44 x2.toNatClampNeg := ⟨_, rfl⟩
  have h := mlet_at ey2 h
  by_cases c2 : y2 = x1
  · have h := mif_t c2 h
    cases h
    exact vKf_r
  · have h := mif_f c2 h
    have w3 := kp_isNear_17 N _ _ _ _ _ _ _ _ h
    exact w3
set_option maxRecDepth 100000 in
theorem kp_prepares_120 (N : Nat) (k6 : MS → Int32 → Option (MS)) (hk6 : ∀ (z0 : MS) (z1 : Int32) (s : MS), k6 z0 z1 = some s → vKf z0 s) (k69 : MS → Int32 → Int32 → Option (MS)) (hk69 : ∀ (z0 : MS) (z1 : Int32) (z2 : Int32) (s : MS), k69 z0 z1 z2 = some s → vKf z0 s) (k76 : MS → Int32 → Int32 → Int32 → Option (MS)) (hk76 : ∀ (z0 : MS) (z1 : Int32) (z2 : Int32) (z3 : Int32) (s : MS), k76 z0 z1 z2 z3 = some s → vKf z0 s) (σ : MS) (x1 : Int32) (x2 : Int32) (x3 : Int32) (s0 : Int32) (s1 : Int32) (σ_ : MS) (h : f_prepares_120 N k6 k69 k76 σ x1 x2 x3 s0 s1 = some σ_) : vKf σ σ_ := by
  unfold f_prepares_120 at h
  obtain ⟨c1, h⟩ := mif_n h
  obtain ⟨σ2, eσ2⟩ : ∃ z, z = mArr σ 71 s1.toNatClampNeg s0 := ⟨_, rfl⟩
  have h := mlet_at eσ2 h
  have w2 : vKf σ σ2 := by rw [eσ2]; exact vKf_arr (by decide)
  obtain ⟨y3, ey3⟩ : ∃ z, z = x3 + 1 := ⟨_, rfl⟩
  have h := mlet_at ey3 h
  have w3 := hk76 _ _ _ _ _ h
  exact (w2).t w3
set_option maxRecDepth 100000 in
theorem kp_prepares_76 (N : Nat) (k6 : MS → Int32 → Option (MS)) (hk6 : ∀ (z0 : MS) (z1 : Int32) (s : MS), k6 z0 z1 = some s → vKf z0 s) (k69 : MS → Int32 → Int32 → Option (MS)) (hk69 : ∀ (z0 : MS) (z1 : Int32) (z2 : Int32) (s : MS), k69 z0 z1 z2 = some s → vKf z0 s) : ∀ (n : Nat) (σ : MS) (x1 : Int32) (x2 : Int32) (x3 : Int32) (σ_ : MS), f_prepares_76 N k6 k69 n σ x1 x2 x3 = some σ_ → vKf σ σ_ := by
  intro n
  induction n with
  | zero =>
    intro σ x1 x2 x3 σ_ h
    cases h
  | succ n ih =>
    intro σ x1 x2 x3 σ_ h
    unfold f_prepares_76 at h
    by_cases c1 : (σ.1 22) ≤ x3
    · have h := mif_t c1 h
      obtain ⟨y2, ey2⟩ : ∃ z, z = x2 + 1 := ⟨_, rfl⟩
      have h := mlet_at ey2 h
      have w2 := hk69 _ _ _ _ h
      exact w2
    · have h := mif_f c1 h
      obtain ⟨r5, σ3, c3, h⟩ := mcall_n h
      have w4 := kp_barred N σ x1 x2 x3 _ _ c3
      by_cases c5 : r5 = 0
      · have h := mif_t c5 h
        obtain ⟨r9, σ7, c6, h⟩ := mcall_n h
        have w7 := kp_cost N σ3 x1 x2 x3 _ _ c6
        have w8 := kp_prepares_120 N k6 hk6 k69 hk69 (f_prepares_76 N k6 k69 n) ih σ7 x1 x2 x3 r9 (((32 * x1) + (8 * x2)) + x3) _ h
        exact ((w4).t w7).t w8
      · have h := mif_f c5 h
        have w9 := kp_prepares_120 N k6 hk6 k69 hk69 (f_prepares_76 N k6 k69 n) ih σ3 x1 x2 x3 0 (((32 * x1) + (8 * x2)) + x3) _ h
        exact (w4).t w9
set_option maxRecDepth 100000 in
theorem kp_prepares_69 (N : Nat) (k6 : MS → Int32 → Option (MS)) (hk6 : ∀ (z0 : MS) (z1 : Int32) (s : MS), k6 z0 z1 = some s → vKf z0 s) : ∀ (n : Nat) (σ : MS) (x1 : Int32) (x2 : Int32) (σ_ : MS), f_prepares_69 N k6 n σ x1 x2 = some σ_ → vKf σ σ_ := by
  intro n
  induction n with
  | zero =>
    intro σ x1 x2 σ_ h
    cases h
  | succ n ih =>
    intro σ x1 x2 σ_ h
    unfold f_prepares_69 at h
    by_cases c1 : 4 ≤ x2
    · have h := mif_t c1 h
      obtain ⟨y2, ey2⟩ : ∃ z, z = x1 + 1 := ⟨_, rfl⟩
      have h := mlet_at ey2 h
      have w2 := hk6 _ _ _ h
      exact w2
    · have h := mif_f c1 h
      have w3 := kp_prepares_76 N k6 hk6 (f_prepares_69 N k6 n) ih _ _ _ _ _ _ h
      exact w3
set_option maxRecDepth 100000 in
theorem kp_prepares_59 (N : Nat) (k6 : MS → Int32 → Option (MS)) (hk6 : ∀ (z0 : MS) (z1 : Int32) (s : MS), k6 z0 z1 = some s → vKf z0 s) (k28 : MS → Int32 → Int32 → Option (MS)) (hk28 : ∀ (z0 : MS) (z1 : Int32) (z2 : Int32) (s : MS), k28 z0 z1 z2 = some s → vKf z0 s) (σ : MS) (x1 : Int32) (x2 : Int32) (s0 : Int32) (s1 : Int32) (s2 : Int32) (σ_ : MS) (h : f_prepares_59 N k6 k28 σ x1 x2 s0 s1 s2 = some σ_) : vKf σ σ_ := by
  unfold f_prepares_59 at h
  obtain ⟨c1, h⟩ := mif_n h
  obtain ⟨σ2, eσ2⟩ : ∃ z, z = mArr σ 72 s2.toNatClampNeg (s1 ||| s0) := ⟨_, rfl⟩
  have h := mlet_at eσ2 h
  have w2 : vKf σ σ2 := by rw [eσ2]; exact vKf_arr (by decide)
  obtain ⟨y3, ey3⟩ : ∃ z, z = x2 + 1 := ⟨_, rfl⟩
  have h := mlet_at ey3 h
  have w3 := hk28 _ _ _ _ h
  exact (w2).t w3
set_option maxRecDepth 100000 in
theorem kp_prepares_28 (N : Nat) (k6 : MS → Int32 → Option (MS)) (hk6 : ∀ (z0 : MS) (z1 : Int32) (s : MS), k6 z0 z1 = some s → vKf z0 s) : ∀ (n : Nat) (σ : MS) (x1 : Int32) (x2 : Int32) (σ_ : MS), f_prepares_28 N k6 n σ x1 x2 = some σ_ → vKf σ σ_ := by
  intro n
  induction n with
  | zero =>
    intro σ x1 x2 σ_ h
    cases h
  | succ n ih =>
    intro σ x1 x2 σ_ h
    unfold f_prepares_28 at h
    by_cases c1 : (σ.1 37) ≤ x2
    · have h := mif_t c1 h
      have w2 := kp_prepares_69 N k6 hk6 _ _ _ _ _ h
      exact w2
    · have h := mif_f c1 h
      obtain ⟨c3, h⟩ := mif_n h
      obtain ⟨y3, ey3⟩ : ∃ z, z = σ.2.1 72 x1.toNatClampNeg := ⟨_, rfl⟩
      have h := mlet_at ey3 h
      obtain ⟨r6, σ4, c4, h⟩ := mcall_n h
      have w5 := kp_isNear N σ x1 x2 _ _ c4
      by_cases c6 : r6 = 0
      · have h := mif_t c6 h
        have w7 := kp_prepares_59 N k6 hk6 (f_prepares_28 N k6 n) ih σ4 x1 x2 0 y3 x1 _ h
        exact (w5).t w7
      · have h := mif_f c6 h
        have w8 := kp_prepares_59 N k6 hk6 (f_prepares_28 N k6 n) ih σ4 x1 x2 (1 <<< (x2 &&& 31)) y3 x1 _ h
        exact (w5).t w8
set_option maxRecDepth 100000 in
theorem kp_prepares_6 (N : Nat) : ∀ (n : Nat) (σ : MS) (x1 : Int32) (σ_ : MS), f_prepares_6 N n σ x1 = some σ_ → vKf σ σ_ := by
  intro n
  induction n with
  | zero =>
    intro σ x1 σ_ h
    cases h
  | succ n ih =>
    intro σ x1 σ_ h
    unfold f_prepares_6 at h
    by_cases c1 : ((σ.1 35) * (σ.1 36)) ≤ x1
    · have h := mif_t c1 h
      cases h
      exact vKf_r
    · have h := mif_f c1 h
      obtain ⟨c2, h⟩ := mif_n h
      obtain ⟨σ3, eσ3⟩ : ∃ z, z = mArr σ 72 x1.toNatClampNeg 0 := ⟨_, rfl⟩
      have h := mlet_at eσ3 h
      have w3 : vKf σ σ3 := by rw [eσ3]; exact vKf_arr (by decide)
      have w4 := kp_prepares_28 N (f_prepares_6 N n) ih _ _ _ _ _ h
      exact (w3).t w4
set_option maxRecDepth 100000 in
theorem kp_prepares (N : Nat) (σ : MS) (σ_ : MS) (h : f_prepares N σ = some σ_) : vKf σ σ_ := by
  unfold f_prepares at h
  obtain ⟨σ1, c1, h⟩ := mcallv_n h
  have w2 := kp_lists N σ _ c1
  have w3 := kp_prepares_6 N _ _ _ _ h
  exact (w2).t w3
set_option maxRecDepth 100000 in
theorem kp_digit (N : Nat) (σ : MS) (x0 : Int32) (x1 : Int32) (r : Int32) (σ_ : MS) (h : f_digit N σ x0 x1 = some (r, σ_)) : vKf σ σ_ := by
  unfold f_digit at h
  cases h
  exact vKf_r
set_option maxRecDepth 100000 in
theorem kp_canBe_85 (N : Nat) (k2 : MS → Int32 → Int32 → Option (Int32 × MS)) (hk2 : ∀ (z0 : MS) (z1 : Int32) (z2 : Int32) (r : Int32) (s : MS), k2 z0 z1 z2 = some (r, s) → vKf z0 s) (σ : MS) (x1 : Int32) (x2 : Int32) (r : Int32) (σ_ : MS) (h : f_canBe_85 N k2 σ x1 x2 = some (r, σ_)) : vKf σ σ_ := by
  unfold f_canBe_85 at h
  obtain ⟨y1, ey1⟩ : ∃ z, z = x2 + 1 := ⟨_, rfl⟩
  have h := mlet_at ey1 h
  have w1 := hk2 _ _ _ _ _ h
  exact w1
set_option maxRecDepth 100000 in
theorem kp_canBe_83 (N : Nat) (σ : MS) (r : Int32) (σ_ : MS) (h : f_canBe_83 N σ = some (r, σ_)) : vKf σ σ_ := by
  unfold f_canBe_83 at h
  cases h
  exact vKf_r
set_option maxRecDepth 100000 in
theorem kp_canBe_40 (N : Nat) (k2 : MS → Int32 → Int32 → Option (Int32 × MS)) (hk2 : ∀ (z0 : MS) (z1 : Int32) (z2 : Int32) (r : Int32) (s : MS), k2 z0 z1 z2 = some (r, s) → vKf z0 s) (σ : MS) (x1 : Int32) (x2 : Int32) (x3 : Int32) (r : Int32) (σ_ : MS) (h : f_canBe_40 N k2 σ x1 x2 x3 = some (r, σ_)) : vKf σ σ_ := by
  unfold f_canBe_40 at h
  by_cases c1 : (σ.1 37) ≤ x2
  · have h := mif_t c1 h
    have w2 := kp_canBe_85 N k2 hk2 σ x1 x2 _ _ h
    exact w2
  · have h := mif_f c1 h
    obtain ⟨c3, h⟩ := mif_n h
    obtain ⟨y3, ey3⟩ : ∃ z, z = σ.2.1 45 x2.toNatClampNeg := ⟨_, rfl⟩
    have h := mlet_at ey3 h
    by_cases c4 : y3 = (-1)
    · have h := mif_t c4 h
      have w5 := kp_canBe_85 N k2 hk2 σ x1 x2 _ _ h
      exact w5
    · have h := mif_f c4 h
      by_cases c6 : x3 = 0
      · have h := mif_t c6 h
        have w7 := kp_canBe_83 N σ _ _ h
        exact w7
      · have h := mif_f c6 h
        obtain ⟨c8, h⟩ := mif_n h
        obtain ⟨y7, ey7⟩ : ∃ z, z = σ.2.1 52 (((4 * x2) + x3) - 1).toNatClampNeg := ⟨_, rfl⟩
        have h := mlet_at ey7 h
        obtain ⟨c9, h⟩ := mif_n h
        obtain ⟨y9, ey9⟩ : ∃ z, z = σ.2.1 45 x2.toNatClampNeg := ⟨_, rfl⟩
        have h := mlet_at ey9 h
        by_cases c10 : y7 = y9
        · have h := mif_t c10 h
          have w11 := kp_canBe_85 N k2 hk2 σ x1 x2 _ _ h
          exact w11
        · have h := mif_f c10 h
          have w12 := kp_canBe_83 N σ _ _ h
          exact w12
set_option maxRecDepth 100000 in
theorem kp_canBe_38 (N : Nat) (σ : MS) (r : Int32) (σ_ : MS) (h : f_canBe_38 N σ = some (r, σ_)) : vKf σ σ_ := by
  unfold f_canBe_38 at h
  cases h
  exact vKf_r
set_option maxRecDepth 100000 in
theorem kp_canBe_2 (N : Nat) : ∀ (n : Nat) (σ : MS) (x1 : Int32) (x2 : Int32) (r : Int32) (σ_ : MS), f_canBe_2 N n σ x1 x2 = some (r, σ_) → vKf σ σ_ := by
  intro n
  induction n with
  | zero =>
    intro σ x1 x2 r σ_ h
    cases h
  | succ n ih =>
    intro σ x1 x2 r σ_ h
    unfold f_canBe_2 at h
    by_cases c1 : 5 ≤ x2
    · have h := mif_t c1 h
      cases h
      exact vKf_r
    · have h := mif_f c1 h
      obtain ⟨r4, σ2, c2, h⟩ := mcall_n h
      have w3 := kp_digit N σ x1 x2 _ _ c2
      by_cases c4 : x2 < (σ2.1 37)
      · have h := mif_t c4 h
        obtain ⟨c5, h⟩ := mif_n h
        obtain ⟨y7, ey7⟩ : ∃ z, z = σ2.2.1 53 x2.toNatClampNeg := ⟨_, rfl⟩
        have h := mlet_at ey7 h
        by_cases c6 : r4 ≤ y7
        · have h := mif_t c6 h
          have w7 := kp_canBe_40 N (f_canBe_2 N n) ih σ2 x1 x2 r4 _ _ h
          exact (w3).t w7
        · have h := mif_f c6 h
          have w8 := kp_canBe_38 N σ2 _ _ h
          exact (w3).t w8
      · have h := mif_f c4 h
        by_cases c9 : r4 ≤ 0
        · have h := mif_t c9 h
          have w10 := kp_canBe_40 N (f_canBe_2 N n) ih σ2 x1 x2 r4 _ _ h
          exact (w3).t w10
        · have h := mif_f c9 h
          have w11 := kp_canBe_38 N σ2 _ _ h
          exact (w3).t w11
set_option maxRecDepth 100000 in
theorem kp_canBe (N : Nat) (σ : MS) (x1 : Int32) (r : Int32) (σ_ : MS) (h : f_canBe N σ x1 = some (r, σ_)) : vKf σ σ_ := by
  unfold f_canBe at h
  have w1 := kp_canBe_2 N _ _ _ _ _ _ h
  exact w1
set_option maxRecDepth 100000 in
theorem kp_floorOf_37 (N : Nat) (σ : MS) (s0 : Int32) (r : Int32) (σ_ : MS) (h : f_floorOf_37 N σ s0 = some (r, σ_)) : vKf σ σ_ := by
  unfold f_floorOf_37 at h
  cases h
  exact vKf_r
set_option maxRecDepth 100000 in
theorem kp_floorOf (N : Nat) (σ : MS) (x1 : Int32) (x2 : Int32) (r : Int32) (σ_ : MS) (h : f_floorOf N σ x1 x2 = some (r, σ_)) : vKf σ σ_ := by
  unfold f_floorOf at h
  obtain ⟨c1, h⟩ := mif_n h
  obtain ⟨y2, ey2⟩ : ∃ z, z = σ.2.1 43 x1.toNatClampNeg := ⟨_, rfl⟩
  have h := mlet_at ey2 h
  by_cases c2 : y2 = (-1)
  · have h := mif_t c2 h
    obtain ⟨c3, h⟩ := mif_n h
    obtain ⟨y10, ey10⟩ : ∃ z, z = σ.2.1 42 x1.toNatClampNeg := ⟨_, rfl⟩
    have h := mlet_at ey10 h
    have w4 := kp_floorOf_37 N σ y10 _ _ h
    exact w4
  · have h := mif_f c2 h
    obtain ⟨r6, σ4, c5, h⟩ := mcall_n h
    have w6 := kp_digit N σ x2 y2 _ _ c5
    obtain ⟨c7, h⟩ := mif_n h
    obtain ⟨y8, ey8⟩ : ∃ z, z = σ4.2.1 52 (((4 * y2) + r6) - 1).toNatClampNeg := ⟨_, rfl⟩
    have h := mlet_at ey8 h
    have w8 := kp_floorOf_37 N σ4 y8 _ _ h
    exact (w6).t w8
set_option maxRecDepth 100000 in
theorem kp_lays_106 (N : Nat) (k2 : MS → Int32 → Int32 → Option (MS)) (hk2 : ∀ (z0 : MS) (z1 : Int32) (z2 : Int32) (s : MS), k2 z0 z1 z2 = some s → vKf z0 s) (k17 : MS → Int32 → Int32 → Int32 → Option (MS)) (hk17 : ∀ (z0 : MS) (z1 : Int32) (z2 : Int32) (z3 : Int32) (s : MS), k17 z0 z1 z2 z3 = some s → vKf z0 s) (σ : MS) (x1 : Int32) (x2 : Int32) (x3 : Int32) (σ_ : MS) (h : f_lays_106 N k2 k17 σ x1 x2 x3 = some σ_) : vKf σ σ_ := by
  unfold f_lays_106 at h
  obtain ⟨y1, ey1⟩ : ∃ z, z = x3 + 1 := ⟨_, rfl⟩
  have h := mlet_at ey1 h
  have w1 := hk17 _ _ _ _ _ h
  exact w1
set_option maxRecDepth 100000 in
theorem kp_lays_74 (N : Nat) (k2 : MS → Int32 → Int32 → Option (MS)) (hk2 : ∀ (z0 : MS) (z1 : Int32) (z2 : Int32) (s : MS), k2 z0 z1 z2 = some s → vKf z0 s) (k17 : MS → Int32 → Int32 → Int32 → Option (MS)) (hk17 : ∀ (z0 : MS) (z1 : Int32) (z2 : Int32) (z3 : Int32) (s : MS), k17 z0 z1 z2 z3 = some s → vKf z0 s) (σ : MS) (x1 : Int32) (x2 : Int32) (x3 : Int32) (x4 : Int32) (σ_ : MS) (h : f_lays_74 N k2 k17 σ x1 x2 x3 x4 = some σ_) : vKf σ σ_ := by
  unfold f_lays_74 at h
  obtain ⟨r3, σ1, c1, h⟩ := mcall_n h
  have w2 := kp_floorOf N σ x4 x1 _ _ c1
  obtain ⟨c3, h⟩ := mif_n h
  obtain ⟨y5, ey5⟩ : ∃ z, z = σ1.2.1 71 (((32 * x2) + (8 * x3)) + r3).toNatClampNeg := ⟨_, rfl⟩
  have h := mlet_at ey5 h
  obtain ⟨c4, h⟩ := mif_n h
  obtain ⟨σ7, eσ7⟩ : ∃ z, z = mArr σ1 70 ((4 * x2) + x3).toNatClampNeg y5 := ⟨_, rfl⟩
  have h := mlet_at eσ7 h
  have w5 : vKf σ1 σ7 := by rw [eσ7]; exact vKf_arr (by decide)
  have w6 := kp_lays_106 N k2 hk2 k17 hk17 σ7 x1 x2 x3 _ h
  exact ((w2).t w5).t w6
set_option maxRecDepth 100000 in
theorem kp_lays_17 (N : Nat) (k2 : MS → Int32 → Int32 → Option (MS)) (hk2 : ∀ (z0 : MS) (z1 : Int32) (z2 : Int32) (s : MS), k2 z0 z1 z2 = some s → vKf z0 s) : ∀ (n : Nat) (σ : MS) (x1 : Int32) (x2 : Int32) (x3 : Int32) (σ_ : MS), f_lays_17 N k2 n σ x1 x2 x3 = some σ_ → vKf σ σ_ := by
  intro n
  induction n with
  | zero =>
    intro σ x1 x2 x3 σ_ h
    cases h
  | succ n ih =>
    intro σ x1 x2 x3 σ_ h
    unfold f_lays_17 at h
    by_cases c1 : 4 ≤ x3
    · have h := mif_t c1 h
      obtain ⟨y2, ey2⟩ : ∃ z, z = x2 + 1 := ⟨_, rfl⟩
      have h := mlet_at ey2 h
      have w2 := hk2 _ _ _ _ h
      exact w2
    · have h := mif_f c1 h
      obtain ⟨r5, σ3, c3, h⟩ := mcall_n h
      have w4 := kp_beside N σ x2 x3 _ _ c3
      obtain ⟨c5, h⟩ := mif_n h
      obtain ⟨σ7, eσ7⟩ : ∃ z, z = mArr σ3 70 ((4 * x2) + x3).toNatClampNeg 0 := ⟨_, rfl⟩
      have h := mlet_at eσ7 h
      have w6 : vKf σ3 σ7 := by rw [eσ7]; exact vKf_arr (by decide)
      by_cases c7 : r5 < 0
      · have h := mif_t c7 h
        have w8 := kp_lays_106 N k2 hk2 (f_lays_17 N k2 n) ih σ7 x1 x2 x3 _ h
        exact ((w4).t w6).t w8
      · have h := mif_f c7 h
        obtain ⟨c9, h⟩ := mif_n h
        obtain ⟨y10, ey10⟩ : ∃ z, z = σ7.2.1 43 r5.toNatClampNeg := ⟨_, rfl⟩
        have h := mlet_at ey10 h
        by_cases c10 : y10 = (-1)
        · have h := mif_t c10 h
          have w11 := kp_lays_74 N k2 hk2 (f_lays_17 N k2 n) ih σ7 x1 x2 x3 r5 _ h
          exact ((w4).t w6).t w11
        · have h := mif_f c10 h
          obtain ⟨c12, h⟩ := mif_n h
          obtain ⟨y13, ey13⟩ : ∃ z, z = σ7.2.1 43 r5.toNatClampNeg := ⟨_, rfl⟩
          have h := mlet_at ey13 h
          obtain ⟨r16, σ14, c13, h⟩ := mcall_n h
          have w14 := kp_digit N σ7 x1 y13 _ _ c13
          by_cases c15 : r16 = 0
          · have h := mif_t c15 h
            have w16 := kp_lays_106 N k2 hk2 (f_lays_17 N k2 n) ih σ14 x1 x2 x3 _ h
            exact (((w4).t w6).t w14).t w16
          · have h := mif_f c15 h
            have w17 := kp_lays_74 N k2 hk2 (f_lays_17 N k2 n) ih σ14 x1 x2 x3 r5 _ h
            exact (((w4).t w6).t w14).t w17
set_option maxRecDepth 100000 in
theorem kp_lays_2 (N : Nat) : ∀ (n : Nat) (σ : MS) (x1 : Int32) (x2 : Int32) (σ_ : MS), f_lays_2 N n σ x1 x2 = some σ_ → vKf σ σ_ := by
  intro n
  induction n with
  | zero =>
    intro σ x1 x2 σ_ h
    cases h
  | succ n ih =>
    intro σ x1 x2 σ_ h
    unfold f_lays_2 at h
    by_cases c1 : ((σ.1 35) * (σ.1 36)) ≤ x2
    · have h := mif_t c1 h
      cases h
      exact vKf_r
    · have h := mif_f c1 h
      have w2 := kp_lays_17 N (f_lays_2 N n) ih _ _ _ _ _ _ h
      exact w2
set_option maxRecDepth 100000 in
theorem kp_lays (N : Nat) (σ : MS) (x1 : Int32) (σ_ : MS) (h : f_lays N σ x1 = some σ_) : vKf σ σ_ := by
  unfold f_lays at h
  have w1 := kp_lays_2 N _ _ _ _ _ h
  exact w1
set_option maxRecDepth 100000 in
theorem kp_news_34 (N : Nat) (k2 : MS → Int32 → Int32 → Int32 → Option (Int32 × MS)) (hk2 : ∀ (z0 : MS) (z1 : Int32) (z2 : Int32) (z3 : Int32) (r : Int32) (s : MS), k2 z0 z1 z2 z3 = some (r, s) → vKf z0 s) (σ : MS) (x1 : Int32) (x2 : Int32) (x3 : Int32) (r : Int32) (σ_ : MS) (h : f_news_34 N k2 σ x1 x2 x3 = some (r, σ_)) : vKf σ σ_ := by
  unfold f_news_34 at h
  obtain ⟨y1, ey1⟩ : ∃ z, z = x3 + 1 := ⟨_, rfl⟩
  have h := mlet_at ey1 h
  have w1 := hk2 _ _ _ _ _ _ h
  exact w1
set_option maxRecDepth 100000 in
theorem kp_news_2 (N : Nat) : ∀ (n : Nat) (σ : MS) (x1 : Int32) (x2 : Int32) (x3 : Int32) (r : Int32) (σ_ : MS), f_news_2 N n σ x1 x2 x3 = some (r, σ_) → vKf σ σ_ := by
  intro n
  induction n with
  | zero =>
    intro σ x1 x2 x3 r σ_ h
    cases h
  | succ n ih =>
    intro σ x1 x2 x3 r σ_ h
    unfold f_news_2 at h
    by_cases c1 : (σ.1 37) ≤ x3
    · have h := mif_t c1 h
      cases h
      exact vKf_r
    · have h := mif_f c1 h
      obtain ⟨r4, σ2, c2, h⟩ := mcall_n h
      have w3 := kp_digit N σ x2 x3 _ _ c2
      by_cases c4 : r4 = 0
      · have h := mif_t c4 h
        obtain ⟨c5, h⟩ := mif_n h
        obtain ⟨y7, ey7⟩ : ∃ z, z = σ2.2.1 72 x1.toNatClampNeg := ⟨_, rfl⟩
        have h := mlet_at ey7 h
        by_cases c6 : ((y7 >>> (x3 &&& 31)) &&& 1) = 1
        · have h := mif_t c6 h
          cases h
          exact w3
        · have h := mif_f c6 h
          have w7 := kp_news_34 N (f_news_2 N n) ih σ2 x1 x2 x3 _ _ h
          exact (w3).t w7
      · have h := mif_f c4 h
        have w8 := kp_news_34 N (f_news_2 N n) ih σ2 x1 x2 x3 _ _ h
        exact (w3).t w8
set_option maxRecDepth 100000 in
theorem kp_news (N : Nat) (σ : MS) (x1 : Int32) (x2 : Int32) (r : Int32) (σ_ : MS) (h : f_news N σ x1 x2 = some (r, σ_)) : vKf σ σ_ := by
  unfold f_news at h
  have w1 := kp_news_2 N _ _ _ _ _ _ _ h
  exact w1
set_option maxRecDepth 100000 in
theorem kp_power (N : Nat) (σ : MS) (x0 : Int32) (r : Int32) (σ_ : MS) (h : f_power N σ x0 = some (r, σ_)) : vKf σ σ_ := by
  unfold f_power at h
  cases h
  exact vKf_r
set_option maxRecDepth 100000 in
theorem kp_weightOf (N : Nat) (σ : MS) (x1 : Int32) (x2 : Int32) (r : Int32) (σ_ : MS) (h : f_weightOf N σ x1 x2 = some (r, σ_)) : vKf σ σ_ := by
  unfold f_weightOf at h
  obtain ⟨c1, h⟩ := mif_n h
  obtain ⟨y2, ey2⟩ : ∃ z, z = σ.2.1 52 ((4 * x1) + x2).toNatClampNeg := ⟨_, rfl⟩
  have h := mlet_at ey2 h
  obtain ⟨c2, h⟩ := mif_n h
  obtain ⟨y4, ey4⟩ : ∃ z, z = σ.2.1 46 ((8 * x1) + y2).toNatClampNeg := ⟨_, rfl⟩
  have h := mlet_at ey4 h
  cases h
  exact vKf_r
set_option maxRecDepth 100000 in
theorem kp_over_90 (N : Nat) (k6 : MS → Int32 → Int32 → Int32 → Int32 → Int64 → Int32 → Option (Int64 × MS)) (hk6 : ∀ (z0 : MS) (z1 : Int32) (z2 : Int32) (z3 : Int32) (z4 : Int32) (z5 : Int64) (z6 : Int32) (r : Int64) (s : MS), k6 z0 z1 z2 z3 z4 z5 z6 = some (r, s) → vKf z0 s) (σ : MS) (x1 : Int32) (x2 : Int32) (x3 : Int32) (x4 : Int32) (x7 : Int32) (s0 : Int64) (r : Int64) (σ_ : MS) (h : f_over_90 N k6 σ x1 x2 x3 x4 x7 s0 = some (r, σ_)) : vKf σ σ_ := by
  unfold f_over_90 at h
  obtain ⟨y1, ey1⟩ : ∃ z, z = x7 + 1 := ⟨_, rfl⟩
  have h := mlet_at ey1 h
  have w1 := hk6 _ _ _ _ _ _ _ _ _ h
  exact w1
set_option maxRecDepth 100000 in
theorem kp_over_6 (N : Nat) : ∀ (n : Nat) (σ : MS) (x1 : Int32) (x2 : Int32) (x3 : Int32) (x4 : Int32) (x5 : Int64) (x7 : Int32) (r : Int64) (σ_ : MS), f_over_6 N n σ x1 x2 x3 x4 x5 x7 = some (r, σ_) → vKf σ σ_ := by
  intro n
  induction n with
  | zero =>
    intro σ x1 x2 x3 x4 x5 x7 r σ_ h
    cases h
  | succ n ih =>
    intro σ x1 x2 x3 x4 x5 x7 r σ_ h
    unfold f_over_6 at h
    obtain ⟨c1, h⟩ := mif_n h
    obtain ⟨y2, ey2⟩ : ∃ z, z = σ.2.1 53 x3.toNatClampNeg := ⟨_, rfl⟩
    have h := mlet_at ey2 h
    by_cases c2 : y2 ≤ x7
    · have h := mif_t c2 h
      cases h
      exact vKf_r
    · have h := mif_f c2 h
      obtain ⟨r6, σ4, c3, h⟩ := mcall_n h
      have w4 := kp_power N σ x3 _ _ c3
      obtain ⟨c5, h⟩ := mif_n h
      obtain ⟨y8, ey8⟩ : ∃ z, z = σ4.2.2 ((100 * (x1 + ((x7 + 1) * r6))) + x2).toNatClampNeg := ⟨_, rfl⟩
      have h := mlet_at ey8 h
      by_cases c6 : (lg_cmp y8 1000000000000000) < 0
      · have h := mif_t c6 h
        by_cases c7 : x4 = 0
        · have h := mif_t c7 h
          by_cases c8 : (lg_cmp y8 x5) ≤ 0
          · have h := mif_t c8 h
            have w9 := kp_over_90 N (f_over_6 N n) ih σ4 x1 x2 x3 x4 x7 x5 _ _ h
            exact (w4).t w9
          · have h := mif_f c8 h
            have w10 := kp_over_90 N (f_over_6 N n) ih σ4 x1 x2 x3 x4 x7 y8 _ _ h
            exact (w4).t w10
        · have h := mif_f c7 h
          obtain ⟨r14, σ12, c11, h⟩ := mcall_n h
          have w12 := kp_weightOf N σ4 x3 x7 _ _ c11
          have w13 := kp_over_90 N (f_over_6 N n) ih σ12 x1 x2 x3 x4 x7 (x5 + ((r14.toInt64) * y8)) _ _ h
          exact ((w4).t w12).t w13
      · have h := mif_f c6 h
        cases h
        exact w4
set_option maxRecDepth 100000 in
theorem kp_over (N : Nat) (σ : MS) (x1 : Int32) (x2 : Int32) (x3 : Int32) (x4 : Int32) (r : Int64) (σ_ : MS) (h : f_over N σ x1 x2 x3 x4 = some (r, σ_)) : vKf σ σ_ := by
  unfold f_over at h
  have w1 := kp_over_6 N _ _ _ _ _ _ _ _ _ _ h
  exact w1
set_option maxRecDepth 100000 in
theorem kp_allOf_5 (N : Nat) : ∀ (n : Nat) (σ : MS) (x1 : Int32) (x2 : Int64) (x4 : Int32) (r : Int64) (σ_ : MS), f_allOf_5 N n σ x1 x2 x4 = some (r, σ_) → vKf σ σ_ := by
  intro n
  induction n with
  | zero =>
    intro σ x1 x2 x4 r σ_ h
    cases h
  | succ n ih =>
    intro σ x1 x2 x4 r σ_ h
    unfold f_allOf_5 at h
    obtain ⟨c1, h⟩ := mif_n h
    obtain ⟨y2, ey2⟩ : ∃ z, z = σ.2.1 53 x1.toNatClampNeg := ⟨_, rfl⟩
    have h := mlet_at ey2 h
    by_cases c2 : y2 ≤ x4
    · have h := mif_t c2 h
      cases h
      exact vKf_r
    · have h := mif_f c2 h
      obtain ⟨r6, σ4, c3, h⟩ := mcall_n h
      have w4 := kp_weightOf N σ x1 x4 _ _ c3
      obtain ⟨y7, ey7⟩ : ∃ z, z = x2 + (r6.toInt64) := ⟨_, rfl⟩
      have h := mlet_at ey7 h
      obtain ⟨y8, ey8⟩ : ∃ z, z = x4 + 1 := ⟨_, rfl⟩
      have h := mlet_at ey8 h
      have w5 := ih _ _ _ _ _ _ h
      exact (w4).t w5
set_option maxRecDepth 100000 in
theorem kp_allOf (N : Nat) (σ : MS) (x1 : Int32) (r : Int64) (σ_ : MS) (h : f_allOf N σ x1 = some (r, σ_)) : vKf σ σ_ := by
  unfold f_allOf at h
  have w1 := kp_allOf_5 N _ _ _ _ _ _ _ h
  exact w1
set_option maxRecDepth 100000 in
theorem kp_left_35 (N : Nat) (k5 : MS → Int32 → Int64 → Int32 → Option (Int64 × MS)) (hk5 : ∀ (z0 : MS) (z1 : Int32) (z2 : Int64) (z3 : Int32) (r : Int64) (s : MS), k5 z0 z1 z2 z3 = some (r, s) → vKf z0 s) (σ : MS) (x1 : Int32) (x4 : Int32) (s0 : Int64) (r : Int64) (σ_ : MS) (h : f_left_35 N k5 σ x1 x4 s0 = some (r, σ_)) : vKf σ σ_ := by
  unfold f_left_35 at h
  obtain ⟨y1, ey1⟩ : ∃ z, z = x4 + 1 := ⟨_, rfl⟩
  have h := mlet_at ey1 h
  have w1 := hk5 _ _ _ _ _ _ h
  exact w1
set_option maxRecDepth 100000 in
theorem kp_left_5 (N : Nat) : ∀ (n : Nat) (σ : MS) (x1 : Int32) (x2 : Int64) (x4 : Int32) (r : Int64) (σ_ : MS), f_left_5 N n σ x1 x2 x4 = some (r, σ_) → vKf σ σ_ := by
  intro n
  induction n with
  | zero =>
    intro σ x1 x2 x4 r σ_ h
    cases h
  | succ n ih =>
    intro σ x1 x2 x4 r σ_ h
    unfold f_left_5 at h
    by_cases c1 : (σ.1 37) ≤ x4
    · have h := mif_t c1 h
      cases h
      exact vKf_r
    · have h := mif_f c1 h
      obtain ⟨r4, σ2, c2, h⟩ := mcall_n h
      have w3 := kp_digit N σ x1 x4 _ _ c2
      by_cases c4 : r4 = 0
      · have h := mif_t c4 h
        obtain ⟨r8, σ6, c5, h⟩ := mcall_n h
        have w6 := kp_allOf N σ2 x4 _ _ c5
        have w7 := kp_left_35 N (f_left_5 N n) ih σ6 x1 x4 (x2 * r8) _ _ h
        exact ((w3).t w6).t w7
      · have h := mif_f c4 h
        have w8 := kp_left_35 N (f_left_5 N n) ih σ2 x1 x4 x2 _ _ h
        exact (w3).t w8
set_option maxRecDepth 100000 in
theorem kp_left (N : Nat) (σ : MS) (x1 : Int32) (r : Int64) (σ_ : MS) (h : f_left N σ x1 = some (r, σ_)) : vKf σ σ_ := by
  unfold f_left at h
  have w1 := kp_left_5 N _ _ _ _ _ _ _ h
  exact w1
set_option maxRecDepth 100000 in
theorem kp_lower_109 (N : Nat) (k16 : MS → Int32 → Int32 → Int64 → Int64 → Int32 → Option (Int64 × MS)) (hk16 : ∀ (z0 : MS) (z1 : Int32) (z2 : Int32) (z3 : Int64) (z4 : Int64) (z5 : Int32) (r : Int64) (s : MS), k16 z0 z1 z2 z3 z4 z5 = some (r, s) → vKf z0 s) (σ : MS) (x1 : Int32) (x2 : Int32) (x3 : Int64) (x5 : Int64) (x7 : Int32) (r : Int64) (σ_ : MS) (h : f_lower_109 N k16 σ x1 x2 x3 x5 x7 = some (r, σ_)) : vKf σ σ_ := by
  unfold f_lower_109 at h
  obtain ⟨y1, ey1⟩ : ∃ z, z = x7 + 1 := ⟨_, rfl⟩
  have h := mlet_at ey1 h
  have w1 := hk16 _ _ _ _ _ _ _ _ h
  exact w1
set_option maxRecDepth 100000 in
theorem kp_lower_16 (N : Nat) : ∀ (n : Nat) (σ : MS) (x1 : Int32) (x2 : Int32) (x3 : Int64) (x5 : Int64) (x7 : Int32) (r : Int64) (σ_ : MS), f_lower_16 N n σ x1 x2 x3 x5 x7 = some (r, σ_) → vKf σ σ_ := by
  intro n
  induction n with
  | zero =>
    intro σ x1 x2 x3 x5 x7 r σ_ h
    cases h
  | succ n ih =>
    intro σ x1 x2 x3 x5 x7 r σ_ h
    unfold f_lower_16 at h
    by_cases c1 : 4 ≤ x7
    · have h := mif_t c1 h
      cases h
      exact vKf_r
    · have h := mif_f c1 h
      obtain ⟨c2, h⟩ := mif_n h
      obtain ⟨y3, ey3⟩ : ∃ z, z = σ.2.1 70 ((4 * x2) + x7).toNatClampNeg := ⟨_, rfl⟩
      have h := mlet_at ey3 h
      by_cases c3 : y3 = 0
      · have h := mif_t c3 h
        have w4 := kp_lower_109 N (f_lower_16 N n) ih σ x1 x2 x3 x5 x7 _ _ h
        exact w4
      · have h := mif_f c3 h
        obtain ⟨r7, σ5, c5, h⟩ := mcall_n h
        have w6 := kp_beside N σ x2 x7 _ _ c5
        obtain ⟨c7, h⟩ := mif_n h
        obtain ⟨y9, ey9⟩ : ∃ z, z = σ5.2.2 ((100 * x1) + r7).toNatClampNeg := ⟨_, rfl⟩
        have h := mlet_at ey9 h
        by_cases c8 : 0 ≤ (lg_cmp y9 1000000000000000)
        · have h := mif_t c8 h
          have w9 := kp_lower_109 N (f_lower_16 N n) ih σ5 x1 x2 x3 x5 x7 _ _ h
          exact (w6).t w9
        · have h := mif_f c8 h
          obtain ⟨c10, h⟩ := mif_n h
          obtain ⟨y12, ey12⟩ : ∃ z, z = σ5.2.1 70 ((4 * x2) + x7).toNatClampNeg := ⟨_, rfl⟩
          have h := mlet_at ey12 h
          by_cases c11 : 0 ≤ (lg_cmp (y9 + (x3 * (y12.toInt64))) x5)
          · have h := mif_t c11 h
            have w12 := kp_lower_109 N (f_lower_16 N n) ih σ5 x1 x2 x3 x5 x7 _ _ h
            exact (w6).t w12
          · have h := mif_f c11 h
            obtain ⟨c13, h⟩ := mif_n h
            obtain ⟨y15, ey15⟩ : ∃ z, z = σ5.2.1 70 ((4 * x2) + x7).toNatClampNeg := ⟨_, rfl⟩
            have h := mlet_at ey15 h
            obtain ⟨y16, ey16⟩ : ∃ z, z = y9 + (x3 * (y15.toInt64)) := ⟨_, rfl⟩
            have h := mlet_at ey16 h
            have w14 := kp_lower_109 N (f_lower_16 N n) ih σ5 x1 x2 x3 y16 x7 _ _ h
            exact (w6).t w14
set_option maxRecDepth 100000 in
theorem kp_lower (N : Nat) (σ : MS) (x1 : Int32) (x2 : Int32) (x3 : Int64) (r : Int64) (σ_ : MS) (h : f_lower N σ x1 x2 x3 = some (r, σ_)) : vKf σ σ_ := by
  unfold f_lower at h
  obtain ⟨c1, h⟩ := mif_n h
  obtain ⟨y2, ey2⟩ : ∃ z, z = σ.2.2 ((100 * x1) + x2).toNatClampNeg := ⟨_, rfl⟩
  have h := mlet_at ey2 h
  have w2 := kp_lower_16 N _ _ _ _ _ _ _ _ _ h
  exact w2
set_option maxRecDepth 100000 in
theorem kp_solve_270 (N : Nat) (k47 : MS → Int32 → Int32 → Int32 → Option (MS)) (hk47 : ∀ (z0 : MS) (z1 : Int32) (z2 : Int32) (z3 : Int32) (s : MS), k47 z0 z1 z2 z3 = some s → vKf z0 s) (σ : MS) (x1 : Int32) (x2 : Int32) (x3 : Int32) (σ_ : MS) (h : f_solve_270 N k47 σ x1 x2 x3 = some σ_) : vKf σ σ_ := by
  unfold f_solve_270 at h
  obtain ⟨y1, ey1⟩ : ∃ z, z = x3 + (-1) := ⟨_, rfl⟩
  have h := mlet_at ey1 h
  have w1 := hk47 _ _ _ _ _ h
  exact w1
set_option maxRecDepth 100000 in
theorem kp_solve_261 (N : Nat) (k47 : MS → Int32 → Int32 → Int32 → Option (MS)) (hk47 : ∀ (z0 : MS) (z1 : Int32) (z2 : Int32) (z3 : Int32) (s : MS), k47 z0 z1 z2 z3 = some s → vKf z0 s) (k161 : MS → Int32 → Int32 → Int32 → Int64 → Int32 → Option (MS)) (hk161 : ∀ (z0 : MS) (z1 : Int32) (z2 : Int32) (z3 : Int32) (z4 : Int64) (z5 : Int32) (s : MS), k161 z0 z1 z2 z3 z4 z5 = some s → vKf z0 s) (k172 : MS → Int32 → Int32 → Int32 → Int64 → Int32 → Int32 → Option (MS)) (hk172 : ∀ (z0 : MS) (z1 : Int32) (z2 : Int32) (z3 : Int32) (z4 : Int64) (z5 : Int32) (z6 : Int32) (s : MS), k172 z0 z1 z2 z3 z4 z5 z6 = some s → vKf z0 s) (σ : MS) (x1 : Int32) (x2 : Int32) (x3 : Int32) (x4 : Int64) (x6 : Int32) (x7 : Int32) (σ_ : MS) (h : f_solve_261 N k47 k161 k172 σ x1 x2 x3 x4 x6 x7 = some σ_) : vKf σ σ_ := by
  unfold f_solve_261 at h
  obtain ⟨y1, ey1⟩ : ∃ z, z = x7 + 1 := ⟨_, rfl⟩
  have h := mlet_at ey1 h
  have w1 := hk172 _ _ _ _ _ _ _ _ h
  exact w1
set_option maxRecDepth 100000 in
theorem kp_solve_245 (N : Nat) (k47 : MS → Int32 → Int32 → Int32 → Option (MS)) (hk47 : ∀ (z0 : MS) (z1 : Int32) (z2 : Int32) (z3 : Int32) (s : MS), k47 z0 z1 z2 z3 = some s → vKf z0 s) (k161 : MS → Int32 → Int32 → Int32 → Int64 → Int32 → Option (MS)) (hk161 : ∀ (z0 : MS) (z1 : Int32) (z2 : Int32) (z3 : Int32) (z4 : Int64) (z5 : Int32) (s : MS), k161 z0 z1 z2 z3 z4 z5 = some s → vKf z0 s) (k172 : MS → Int32 → Int32 → Int32 → Int64 → Int32 → Int32 → Option (MS)) (hk172 : ∀ (z0 : MS) (z1 : Int32) (z2 : Int32) (z3 : Int32) (z4 : Int64) (z5 : Int32) (z6 : Int32) (s : MS), k172 z0 z1 z2 z3 z4 z5 z6 = some s → vKf z0 s) (σ : MS) (x1 : Int32) (x2 : Int32) (x3 : Int32) (x4 : Int64) (x7 : Int32) (x8 : Int64) (s0 : Int32) (σ_ : MS) (h : f_solve_245 N k47 k161 k172 σ x1 x2 x3 x4 x7 x8 s0 = some σ_) : vKf σ σ_ := by
  unfold f_solve_245 at h
  obtain ⟨c1, h⟩ := mif_n h
  obtain ⟨σ2, eσ2⟩ : ∃ z, z = mVal σ ((100 * x3) + x7).toNatClampNeg x8 := ⟨_, rfl⟩
  have h := mlet_at eσ2 h
  have w2 : vKf σ σ2 := by rw [eσ2]; exact vKf_val
  have w3 := kp_solve_261 N k47 hk47 k161 hk161 k172 hk172 σ2 x1 x2 x3 x4 s0 x7 _ h
  exact (w2).t w3
set_option maxRecDepth 100000 in
theorem kp_solve_240 (N : Nat) (k47 : MS → Int32 → Int32 → Int32 → Option (MS)) (hk47 : ∀ (z0 : MS) (z1 : Int32) (z2 : Int32) (z3 : Int32) (s : MS), k47 z0 z1 z2 z3 = some s → vKf z0 s) (k161 : MS → Int32 → Int32 → Int32 → Int64 → Int32 → Option (MS)) (hk161 : ∀ (z0 : MS) (z1 : Int32) (z2 : Int32) (z3 : Int32) (z4 : Int64) (z5 : Int32) (s : MS), k161 z0 z1 z2 z3 z4 z5 = some s → vKf z0 s) (k172 : MS → Int32 → Int32 → Int32 → Int64 → Int32 → Int32 → Option (MS)) (hk172 : ∀ (z0 : MS) (z1 : Int32) (z2 : Int32) (z3 : Int32) (z4 : Int64) (z5 : Int32) (z6 : Int32) (s : MS), k172 z0 z1 z2 z3 z4 z5 z6 = some s → vKf z0 s) (σ : MS) (x1 : Int32) (x2 : Int32) (x3 : Int32) (x4 : Int64) (x7 : Int32) (x8 : Int64) (σ_ : MS) (h : f_solve_240 N k47 k161 k172 σ x1 x2 x3 x4 x7 x8 = some σ_) : vKf σ σ_ := by
  unfold f_solve_240 at h
  have w1 := kp_solve_245 N k47 hk47 k161 hk161 k172 hk172 σ x1 x2 x3 x4 x7 x8 1 _ h
  exact w1
set_option maxRecDepth 100000 in
theorem kp_solve_172 (N : Nat) (k47 : MS → Int32 → Int32 → Int32 → Option (MS)) (hk47 : ∀ (z0 : MS) (z1 : Int32) (z2 : Int32) (z3 : Int32) (s : MS), k47 z0 z1 z2 z3 = some s → vKf z0 s) (k161 : MS → Int32 → Int32 → Int32 → Int64 → Int32 → Option (MS)) (hk161 : ∀ (z0 : MS) (z1 : Int32) (z2 : Int32) (z3 : Int32) (z4 : Int64) (z5 : Int32) (s : MS), k161 z0 z1 z2 z3 z4 z5 = some s → vKf z0 s) : ∀ (n : Nat) (σ : MS) (x1 : Int32) (x2 : Int32) (x3 : Int32) (x4 : Int64) (x6 : Int32) (x7 : Int32) (σ_ : MS), f_solve_172 N k47 k161 n σ x1 x2 x3 x4 x6 x7 = some σ_ → vKf σ σ_ := by
  intro n
  induction n with
  | zero =>
    intro σ x1 x2 x3 x4 x6 x7 σ_ h
    cases h
  | succ n ih =>
    intro σ x1 x2 x3 x4 x6 x7 σ_ h
    unfold f_solve_172 at h
    by_cases c1 : ((σ.1 35) * (σ.1 36)) ≤ x7
    · have h := mif_t c1 h
      have w2 := hk161 _ _ _ _ _ _ _ h
      exact w2
    · have h := mif_f c1 h
      by_cases c3 : x7 = x1
      · have h := mif_t c3 h
        have w4 := kp_solve_261 N k47 hk47 k161 hk161 (f_solve_172 N k47 k161 n) ih σ x1 x2 x3 x4 x6 x7 _ h
        exact w4
      · have h := mif_f c3 h
        obtain ⟨r5, σ3, c5, h⟩ := mcall_n h
        have w6 := kp_news N σ x7 x3 _ _ c5
        by_cases c7 : r5 = (-1)
        · have h := mif_t c7 h
          obtain ⟨r9, σ7, c8, h⟩ := mcall_n h
          have w9 := kp_lower N σ3 x3 x7 x4 _ _ c8
          by_cases c10 : x6 = 0
          · have h := mif_t c10 h
            obtain ⟨c11, h⟩ := mif_n h
            obtain ⟨y12, ey12⟩ : ∃ z, z = σ7.2.2 ((100 * x3) + x7).toNatClampNeg := ⟨_, rfl⟩
            have h := mlet_at ey12 h
            by_cases c12 : 0 ≤ (lg_cmp r9 y12)
            · have h := mif_t c12 h
              have w13 := kp_solve_245 N k47 hk47 k161 hk161 (f_solve_172 N k47 k161 n) ih σ7 x1 x2 x3 x4 x7 r9 0 _ h
              exact ((w6).t w9).t w13
            · have h := mif_f c12 h
              have w14 := kp_solve_240 N k47 hk47 k161 hk161 (f_solve_172 N k47 k161 n) ih σ7 x1 x2 x3 x4 x7 r9 _ h
              exact ((w6).t w9).t w14
          · have h := mif_f c10 h
            have w15 := kp_solve_240 N k47 hk47 k161 hk161 (f_solve_172 N k47 k161 n) ih σ7 x1 x2 x3 x4 x7 r9 _ h
            exact ((w6).t w9).t w15
        · have h := mif_f c7 h
          have w16 := kp_solve_261 N k47 hk47 k161 hk161 (f_solve_172 N k47 k161 n) ih σ3 x1 x2 x3 x4 x6 x7 _ h
          exact (w6).t w16
set_option maxRecDepth 100000 in
theorem kp_solve_161 (N : Nat) (k47 : MS → Int32 → Int32 → Int32 → Option (MS)) (hk47 : ∀ (z0 : MS) (z1 : Int32) (z2 : Int32) (z3 : Int32) (s : MS), k47 z0 z1 z2 z3 = some s → vKf z0 s) : ∀ (n : Nat) (σ : MS) (x1 : Int32) (x2 : Int32) (x3 : Int32) (x4 : Int64) (x6 : Int32) (σ_ : MS), f_solve_161 N k47 n σ x1 x2 x3 x4 x6 = some σ_ → vKf σ σ_ := by
  intro n
  induction n with
  | zero =>
    intro σ x1 x2 x3 x4 x6 σ_ h
    cases h
  | succ n ih =>
    intro σ x1 x2 x3 x4 x6 σ_ h
    unfold f_solve_161 at h
    by_cases c1 : x6 = 0
    · have h := mif_t c1 h
      have w2 := kp_solve_270 N k47 hk47 σ x1 x2 x3 _ h
      exact w2
    · have h := mif_f c1 h
      have w3 := kp_solve_172 N k47 hk47 (f_solve_161 N k47 n) ih _ _ _ _ _ _ _ _ _ h
      exact w3
set_option maxRecDepth 100000 in
theorem kp_solve_156 (N : Nat) (k47 : MS → Int32 → Int32 → Int32 → Option (MS)) (hk47 : ∀ (z0 : MS) (z1 : Int32) (z2 : Int32) (z3 : Int32) (s : MS), k47 z0 z1 z2 z3 = some s → vKf z0 s) (σ : MS) (x1 : Int32) (x2 : Int32) (x3 : Int32) (s0 : Int64) (σ_ : MS) (h : f_solve_156 N k47 σ x1 x2 x3 s0 = some σ_) : vKf σ σ_ := by
  unfold f_solve_156 at h
  have w1 := kp_solve_161 N k47 hk47 _ _ _ _ _ _ _ _ h
  exact w1
set_option maxRecDepth 100000 in
theorem kp_solve_136 (N : Nat) (k47 : MS → Int32 → Int32 → Int32 → Option (MS)) (hk47 : ∀ (z0 : MS) (z1 : Int32) (z2 : Int32) (z3 : Int32) (s : MS), k47 z0 z1 z2 z3 = some s → vKf z0 s) (k70 : MS → Int32 → Int32 → Int32 → Int32 → Option (MS)) (hk70 : ∀ (z0 : MS) (z1 : Int32) (z2 : Int32) (z3 : Int32) (z4 : Int32) (s : MS), k70 z0 z1 z2 z3 z4 = some s → vKf z0 s) (σ : MS) (x1 : Int32) (x2 : Int32) (x3 : Int32) (x4 : Int32) (s0 : Int64) (s1 : Int32) (σ_ : MS) (h : f_solve_136 N k47 k70 σ x1 x2 x3 x4 s0 s1 = some σ_) : vKf σ σ_ := by
  unfold f_solve_136 at h
  obtain ⟨c1, h⟩ := mif_n h
  obtain ⟨σ2, eσ2⟩ : ∃ z, z = mVal σ s1.toNatClampNeg s0 := ⟨_, rfl⟩
  have h := mlet_at eσ2 h
  have w2 : vKf σ σ2 := by rw [eσ2]; exact vKf_val
  obtain ⟨y3, ey3⟩ : ∃ z, z = x4 + 1 := ⟨_, rfl⟩
  have h := mlet_at ey3 h
  have w3 := hk70 _ _ _ _ _ _ h
  exact (w2).t w3
set_option maxRecDepth 100000 in
theorem kp_solve_70 (N : Nat) (k47 : MS → Int32 → Int32 → Int32 → Option (MS)) (hk47 : ∀ (z0 : MS) (z1 : Int32) (z2 : Int32) (z3 : Int32) (s : MS), k47 z0 z1 z2 z3 = some s → vKf z0 s) : ∀ (n : Nat) (σ : MS) (x1 : Int32) (x2 : Int32) (x3 : Int32) (x4 : Int32) (σ_ : MS), f_solve_70 N k47 n σ x1 x2 x3 x4 = some σ_ → vKf σ σ_ := by
  intro n
  induction n with
  | zero =>
    intro σ x1 x2 x3 x4 σ_ h
    cases h
  | succ n ih =>
    intro σ x1 x2 x3 x4 σ_ h
    unfold f_solve_70 at h
    by_cases c1 : ((σ.1 35) * (σ.1 36)) ≤ x4
    · have h := mif_t c1 h
      by_cases c2 : x2 = 0
      · have h := mif_t c2 h
        have w3 := kp_solve_156 N k47 hk47 σ x1 x2 x3 1 _ h
        exact w3
      · have h := mif_f c2 h
        obtain ⟨r5, σ3, c4, h⟩ := mcall_n h
        have w5 := kp_left N σ x3 _ _ c4
        have w6 := kp_solve_156 N k47 hk47 σ3 x1 x2 x3 r5 _ h
        exact (w5).t w6
    · have h := mif_f c1 h
      obtain ⟨r8, σ6, c7, h⟩ := mcall_n h
      have w8 := kp_news N σ x4 x3 _ _ c7
      by_cases c9 : x4 = x1
      · have h := mif_t c9 h
        have w10 := kp_solve_136 N k47 hk47 (f_solve_70 N k47 n) ih σ6 x1 x2 x3 x4 0 ((100 * x3) + x4) _ h
        exact (w8).t w10
      · have h := mif_f c9 h
        by_cases c11 : r8 = (-1)
        · have h := mif_t c11 h
          have w12 := kp_solve_136 N k47 hk47 (f_solve_70 N k47 n) ih σ6 x1 x2 x3 x4 1000000000000000 ((100 * x3) + x4) _ h
          exact (w8).t w12
        · have h := mif_f c11 h
          obtain ⟨r13, σ11, c13, h⟩ := mcall_n h
          have w14 := kp_over N σ6 x3 x4 r8 x2 _ _ c13
          have w15 := kp_solve_136 N k47 hk47 (f_solve_70 N k47 n) ih σ11 x1 x2 x3 x4 r13 ((100 * x3) + x4) _ h
          exact ((w8).t w14).t w15
set_option maxRecDepth 100000 in
theorem kp_solve_47 (N : Nat) : ∀ (n : Nat) (σ : MS) (x1 : Int32) (x2 : Int32) (x3 : Int32) (σ_ : MS), f_solve_47 N n σ x1 x2 x3 = some σ_ → vKf σ σ_ := by
  intro n
  induction n with
  | zero =>
    intro σ x1 x2 x3 σ_ h
    cases h
  | succ n ih =>
    intro σ x1 x2 x3 σ_ h
    unfold f_solve_47 at h
    by_cases c1 : x3 < 0
    · have h := mif_t c1 h
      cases h
      exact vKf_r
    · have h := mif_f c1 h
      obtain ⟨r4, σ2, c2, h⟩ := mcall_n h
      have w3 := kp_canBe N σ x3 _ _ c2
      by_cases c4 : r4 = 0
      · have h := mif_t c4 h
        have w5 := kp_solve_270 N (f_solve_47 N n) ih σ2 x1 x2 x3 _ h
        exact (w3).t w5
      · have h := mif_f c4 h
        obtain ⟨σ6, c6, h⟩ := mcallv_n h
        have w7 := kp_lays N σ2 x3 _ c6
        have w8 := kp_solve_70 N (f_solve_47 N n) ih _ _ _ _ _ _ _ h
        exact ((w3).t w7).t w8
set_option maxRecDepth 100000 in
theorem kp_solve_24 (N : Nat) (σ : MS) (x1 : Int32) (x2 : Int32) (σ_ : MS) (h : f_solve_24 N σ x1 x2 = some σ_) : vKf σ σ_ := by
  unfold f_solve_24 at h
  obtain ⟨σ1, eσ1⟩ : ∃ z, z = mSet σ 51 1 := ⟨_, rfl⟩
  have h := mlet_at eσ1 h
  have w1 : vKf σ σ1 := by rw [eσ1]; exact vKf_set (by decide)
  obtain ⟨σ2, eσ2⟩ : ∃ z, z = mSet σ1 49 x1 := ⟨_, rfl⟩
  have h := mlet_at eσ2 h
  have w2 : vKf σ1 σ2 := by rw [eσ2]; exact vKf_set (by decide)
  obtain ⟨c3, h⟩ := mif_n h
  obtain ⟨σ4, eσ4⟩ : ∃ z, z = mSet σ2 50 x2 := ⟨_, rfl⟩
  have h := mlet_at eσ4 h
  have w4 : vKf σ2 σ4 := by rw [eσ4]; exact vKf_set (by decide)
  obtain ⟨σ5, c5, h⟩ := mcallv_n h
  have w6 := kp_prepares N σ4 _ c5
  have w7 := kp_solve_47 N _ _ _ _ _ _ h
  exact ((((w1).t w2).t w4).t w6).t w7
set_option maxRecDepth 100000 in
theorem kp_solve (N : Nat) (σ : MS) (x1 : Int32) (x2 : Int32) (σ_ : MS) (h : f_solve N σ x1 x2 = some σ_) : vKf σ σ_ := by
  unfold f_solve at h
  by_cases c1 : (σ.1 51) = 0
  · have h := mif_t c1 h
    have w2 := kp_solve_24 N σ x1 x2 _ h
    exact w2
  · have h := mif_f c1 h
    by_cases c3 : (σ.1 49) = x1
    · have h := mif_t c3 h
      by_cases c4 : (σ.1 50) = x2
      · have h := mif_t c4 h
        cases h
        exact vKf_r
      · have h := mif_f c4 h
        have w5 := kp_solve_24 N σ x1 x2 _ h
        exact w5
    · have h := mif_f c3 h
      have w6 := kp_solve_24 N σ x1 x2 _ h
      exact w6
set_option maxRecDepth 100000 in
theorem kp_base_54 (N : Nat) (k4 : MS → Int32 → Int32 → Option (Int32 × MS)) (hk4 : ∀ (z0 : MS) (z1 : Int32) (z2 : Int32) (r : Int32) (s : MS), k4 z0 z1 z2 = some (r, s) → vKf z0 s) (k14 : MS → Int32 → Int32 → Int32 → Option (Int32 × MS)) (hk14 : ∀ (z0 : MS) (z1 : Int32) (z2 : Int32) (z3 : Int32) (r : Int32) (s : MS), k14 z0 z1 z2 z3 = some (r, s) → vKf z0 s) (σ : MS) (x1 : Int32) (x2 : Int32) (x3 : Int32) (r : Int32) (σ_ : MS) (h : f_base_54 N k4 k14 σ x1 x2 x3 = some (r, σ_)) : vKf σ σ_ := by
  unfold f_base_54 at h
  obtain ⟨y1, ey1⟩ : ∃ z, z = x3 + 1 := ⟨_, rfl⟩
  have h := mlet_at ey1 h
  have w1 := hk14 _ _ _ _ _ _ h
  exact w1
set_option maxRecDepth 100000 in
theorem kp_base_14 (N : Nat) (k4 : MS → Int32 → Int32 → Option (Int32 × MS)) (hk4 : ∀ (z0 : MS) (z1 : Int32) (z2 : Int32) (r : Int32) (s : MS), k4 z0 z1 z2 = some (r, s) → vKf z0 s) : ∀ (n : Nat) (σ : MS) (x1 : Int32) (x2 : Int32) (x3 : Int32) (r : Int32) (σ_ : MS), f_base_14 N k4 n σ x1 x2 x3 = some (r, σ_) → vKf σ σ_ := by
  intro n
  induction n with
  | zero =>
    intro σ x1 x2 x3 r σ_ h
    cases h
  | succ n ih =>
    intro σ x1 x2 x3 r σ_ h
    unfold f_base_14 at h
    obtain ⟨c1, h⟩ := mif_n h
    obtain ⟨y2, ey2⟩ : ∃ z, z = σ.2.1 53 x2.toNatClampNeg := ⟨_, rfl⟩
    have h := mlet_at ey2 h
    by_cases c2 : y2 ≤ x3
    · have h := mif_t c2 h
      obtain ⟨y4, ey4⟩ : ∃ z, z = x2 + 1 := ⟨_, rfl⟩
      have h := mlet_at ey4 h
      have w3 := hk4 _ _ _ _ _ h
      exact w3
    · have h := mif_f c2 h
      obtain ⟨c4, h⟩ := mif_n h
      obtain ⟨y6, ey6⟩ : ∃ z, z = σ.2.1 45 x2.toNatClampNeg := ⟨_, rfl⟩
      have h := mlet_at ey6 h
      obtain ⟨c5, h⟩ := mif_n h
      obtain ⟨y8, ey8⟩ : ∃ z, z = σ.2.1 52 ((4 * x2) + x3).toNatClampNeg := ⟨_, rfl⟩
      have h := mlet_at ey8 h
      by_cases c6 : y6 = y8
      · have h := mif_t c6 h
        obtain ⟨r12, σ10, c7, h⟩ := mcall_n h
        have w8 := kp_power N σ x2 _ _ c7
        obtain ⟨y13, ey13⟩ : ∃ z, z = x1 + ((x3 + 1) * r12) := ⟨_, rfl⟩
        have h := mlet_at ey13 h
        have w9 := kp_base_54 N k4 hk4 (f_base_14 N k4 n) ih σ10 y13 x2 x3 _ _ h
        exact (w8).t w9
      · have h := mif_f c6 h
        have w10 := kp_base_54 N k4 hk4 (f_base_14 N k4 n) ih σ x1 x2 x3 _ _ h
        exact w10
set_option maxRecDepth 100000 in
theorem kp_base_4 (N : Nat) : ∀ (n : Nat) (σ : MS) (x1 : Int32) (x2 : Int32) (r : Int32) (σ_ : MS), f_base_4 N n σ x1 x2 = some (r, σ_) → vKf σ σ_ := by
  intro n
  induction n with
  | zero =>
    intro σ x1 x2 r σ_ h
    cases h
  | succ n ih =>
    intro σ x1 x2 r σ_ h
    unfold f_base_4 at h
    by_cases c1 : (σ.1 37) ≤ x2
    · have h := mif_t c1 h
      cases h
      exact vKf_r
    · have h := mif_f c1 h
      have w2 := kp_base_14 N (f_base_4 N n) ih _ _ _ _ _ _ _ h
      exact w2
set_option maxRecDepth 100000 in
theorem kp_base (N : Nat) (σ : MS) (r : Int32) (σ_ : MS) (h : f_base N σ = some (r, σ_)) : vKf σ σ_ := by
  unfold f_base at h
  have w1 := kp_base_4 N _ _ _ _ _ _ h
  exact w1
set_option maxRecDepth 100000 in
theorem kp_from_39 (N : Nat) (σ : MS) (s0 : Int64) (r : Int64) (σ_ : MS) (h : f_from_39 N σ s0 = some (r, σ_)) : vKf σ σ_ := by
  unfold f_from_39 at h
  cases h
  exact vKf_r
set_option maxRecDepth 100000 in
theorem kp_from (N : Nat) (σ : MS) (x1 : Int32) (x2 : Int32) (x3 : Int32) (r : Int64) (σ_ : MS) (h : f_from N σ x1 x2 x3 = some (r, σ_)) : vKf σ σ_ := by
  unfold f_from at h
  obtain ⟨σ1, c1, h⟩ := mcallv_n h
  have w2 := kp_solve N σ x2 x3 _ c1
  obtain ⟨r5, σ3, c3, h⟩ := mcall_n h
  have w4 := kp_base N σ1 _ _ c3
  obtain ⟨c5, h⟩ := mif_n h
  obtain ⟨y7, ey7⟩ : ∃ z, z = σ3.2.2 ((100 * r5) + x1).toNatClampNeg := ⟨_, rfl⟩
  have h := mlet_at ey7 h
  by_cases c6 : (lg_cmp y7 1000000000000000) < 0
  · have h := mif_t c6 h
    have w7 := kp_from_39 N σ3 y7 _ _ h
    exact ((w2).t w4).t w7
  · have h := mif_f c6 h
    have w8 := kp_from_39 N σ3 (-1) _ _ h
    exact ((w2).t w4).t w8
set_option maxRecDepth 100000 in
theorem kp_worst_20 (N : Nat) (σ : MS) (r : Int32) (σ_ : MS) (h : f_worst_20 N σ = some (r, σ_)) : vKf σ σ_ := by
  unfold f_worst_20 at h
  obtain ⟨r3, σ1, c1, h⟩ := mcall_n h
  have w2 := kp_no N σ 1 _ _ c1
  cases h
  exact w2
set_option maxRecDepth 100000 in
theorem kp_worst_51 (N : Nat) (σ : MS) (s0 : Int32) (r : Int32) (σ_ : MS) (h : f_worst_51 N σ s0 = some (r, σ_)) : vKf σ σ_ := by
  unfold f_worst_51 at h
  cases h
  exact vKf_r
set_option maxRecDepth 100000 in
theorem kp_worst (N : Nat) (σ : MS) (x1 : Int32) (x2 : Int32) (r : Int32) (σ_ : MS) (h : f_worst N σ x1 x2 = some (r, σ_)) : vKf σ σ_ := by
  unfold f_worst at h
  obtain ⟨σ1, c1, h⟩ := mcallv_n h
  have w2 := kp_good N σ _ c1
  obtain ⟨r5, σ3, c3, h⟩ := mcall_n h
  have w4 := kp_isCell N σ1 x1 _ _ c3
  by_cases c5 : r5 = 0
  · have h := mif_t c5 h
    have w6 := kp_worst_20 N σ3 _ _ h
    exact ((w2).t w4).t w6
  · have h := mif_f c5 h
    obtain ⟨r9, σ7, c7, h⟩ := mcall_n h
    have w8 := kp_isCell N σ3 x2 _ _ c7
    by_cases c9 : r9 = 0
    · have h := mif_t c9 h
      have w10 := kp_worst_20 N σ7 _ _ h
      exact (((w2).t w4).t w8).t w10
    · have h := mif_f c9 h
      obtain ⟨r13, σ11, c11, h⟩ := mcall_n h
      have w12 := kp_from N σ7 x1 x2 0 _ _ c11
      by_cases c13 : 0 ≤ (lg_cmp r13 0)
      · have h := mif_t c13 h
        have w14 := kp_worst_51 N σ11 (r13.toInt32) _ _ h
        exact ((((w2).t w4).t w8).t w12).t w14
      · have h := mif_f c13 h
        obtain ⟨r17, σ15, c15, h⟩ := mcall_n h
        have w16 := kp_no N σ11 6 _ _ c15
        have w17 := kp_worst_51 N σ15 r17 _ _ h
        exact (((((w2).t w4).t w8).t w12).t w16).t w17
