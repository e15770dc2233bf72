/-! PLAIN: the room: calls are counted -/
def cNz (f : Nat → Int32) : Nat → Nat
  | 0 => 0
  | n + 1 => cNz f n + (if f n = 0 then 0 else 1)
theorem cNz_eq {f f' : Nat → Int32} : ∀ n, (∀ k, k < n → f' k = f k) → cNz f' n = cNz f n := by
  intro n
  induction n with
  | zero => intro _; rfl
  | succ n ih =>
    intro h
    show cNz f' n + (if f' n = 0 then 0 else 1) = cNz f n + (if f n = 0 then 0 else 1)
    rw [ih (fun k hk => h k (by omega)), h n (by omega)]
theorem cNz_one {f f' : Nat → Int32} {i : Nat} : ∀ n, (∀ k, k < n → k ≠ i → f' k = f k) → cNz f' n ≤ cNz f n + 1 := by
  intro n
  induction n with
  | zero => intro _; exact Nat.zero_le _
  | succ n ih =>
    intro h
    show cNz f' n + (if f' n = 0 then 0 else 1) ≤ cNz f n + (if f n = 0 then 0 else 1) + 1
    by_cases c : n = i
    · have := cNz_eq (f := f) (f' := f') n (fun k hk => h k (by omega) (by omega))
      split <;> split <;> omega
    · have := ih (fun k hk hi => h k (by omega) hi)
      rw [h n (by omega) c]
      omega
theorem cNz_zero {f : Nat → Int32} : ∀ n, (∀ k, k < n → f k = 0) → cNz f n = 0 := by
  intro n
  induction n with
  | zero => intro _; rfl
  | succ n ih =>
    intro h
    show cNz f n + (if f n = 0 then 0 else 1) = 0
    rw [ih (fun k hk => h k (by omega)), h n (by omega)]
    rfl
/-- heights, grounds and kinds that were set -/
def kM (σ : MS) : Nat := cNz (σ.2.1 41) 100 + cNz (σ.2.1 42) 100 + cNz (σ.2.1 46) (8 * (σ.1 37).toNatClampNeg)
/-- behind a call: what is counted grows by d at most -/
def vEff (σ σ' : MS) (d : Nat) : Prop := σ'.1 2 = σ.1 2 ∧ σ'.1 12 = σ.1 12 ∧ σ'.1 22 = σ.1 22 ∧ σ'.1 34 = σ.1 34 ∧ kM σ' ≤ kM σ + d
theorem vKf.eff {σ σ' : MS} (h : vKf σ σ') : vEff σ σ' 0 := by
  obtain ⟨⟨h1, h2⟩, h3⟩ := h
  refine ⟨h3, h1 12 (by omega), h1 22 (by omega), h1 34 (by omega), ?_⟩
  unfold kM
  rw [h1 37 (by omega), h2 41 (by omega), h2 42 (by omega), h2 46 (by omega)]
  omega
theorem vEff.up {σ σ' : MS} {d e : Nat} (h : vEff σ σ' d) (hd : d ≤ e) : vEff σ σ' e := by
  obtain ⟨h1, h2, h3, h4, h5⟩ := h
  exact ⟨h1, h2, h3, h4, by omega⟩
/-- one place of a row is written, the solver is told -/
theorem vEff_row {σ σ1 : MS} {j i : Nat} {x v : Int32} (h : vKf σ σ1) (hj : j = 41 ∨ j = 42 ∨ j = 46) : vEff σ (mSet (mArr σ1 j i x) 51 v) 1 := by
  obtain ⟨h1, h2, h3, h4, h5⟩ := h.eff
  refine ⟨h1, h2, h3, h4, ?_⟩
  have a1 : ∀ k, k ≠ j → (mSet (mArr σ1 j i x) 51 v).2.1 k = σ1.2.1 k := fun k hk => if_neg hk
  have a2 : ∀ n, cNz ((mSet (mArr σ1 j i x) 51 v).2.1 j) n ≤ cNz (σ1.2.1 j) n + 1 := fun n => cNz_one (i := i) n (fun k _ hk => by
    show (if j = j then upd (σ1.2.1 j) i x else σ1.2.1 j) k = _
    rw [if_pos rfl]
    exact upd_n hk)
  have e37 : (mSet (mArr σ1 j i x) 51 v).1 37 = σ1.1 37 := by
    show upd σ1.1 51 v 37 = σ1.1 37
    exact upd_n (by decide)
  unfold kM at h5 ⊢
  rw [e37]
  rcases hj with rfl | rfl | rfl
  · rw [a1 42 (by decide), a1 46 (by decide)]
    have := a2 100
    omega
  · rw [a1 41 (by decide), a1 46 (by decide)]
    have := a2 100
    omega
  · rw [a1 41 (by decide), a1 42 (by decide)]
    have := a2 (8 * (σ1.1 37).toNatClampNeg)
    omega
section S0s
variable {N : Nat} {σ σ' : MS} {r x1 x2 x3 : Int32}
theorem e_height (h : f_height N σ x1 x2 = some (r, σ')) : vEff σ σ' 1 := by
  unfold f_height at h
  obtain ⟨σ1, c1, h⟩ := mcallv_n h
  have w1 := kp_good N σ _ c1
  obtain ⟨r5, σ3, c2, h⟩ := mcall_n h
  have w2 := w1.t (kp_isCell N σ1 x1 _ _ c2)
  by_cases c : r5 = 0
  · have h := mif_t c h
    obtain ⟨r20, σ18, c3, h⟩ := mcall_n h
    have w3 := w2.t (kp_not N σ3 1 _ _ c3)
    obtain ⟨-, h⟩ := mif_n h
    cases h
    exact w3.eff.up (by omega)
  · have h := mif_f c h
    obtain ⟨r9, σ7, c3, h⟩ := mcall_n h
    have w3 := w2.t (kp_within N σ3 x2 0 999 _ _ c3)
    by_cases d : r9 = 0
    · have h := mif_t d h
      obtain ⟨r16, σ14, c4, h⟩ := mcall_n h
      have w4 := w3.t (kp_not N σ7 2 _ _ c4)
      obtain ⟨-, h⟩ := mif_n h
      cases h
      exact w4.eff.up (by omega)
    · have h := mif_f d h
      obtain ⟨-, h⟩ := mif_n h
      cases h
      exact vEff_row w3 (Or.inl rfl)
theorem e_ground (h : f_ground N σ x1 x2 = some (r, σ')) : vEff σ σ' 1 := by
  unfold f_ground at h
  obtain ⟨σ1, c1, h⟩ := mcallv_n h
  have w1 := kp_good N σ _ c1
  obtain ⟨r5, σ3, c2, h⟩ := mcall_n h
  have w2 := w1.t (kp_isCell N σ1 x1 _ _ c2)
  by_cases c : r5 = 0
  · have h := mif_t c h
    exact (w2.t (kp_ground_20 N σ3 _ _ h)).eff.up (by omega)
  · have h := mif_f c h
    obtain ⟨r9, σ7, c3, h⟩ := mcall_n h
    have w3 := w2.t (kp_isGround N σ3 x2 _ _ c3)
    by_cases d : r9 = 0
    · have h := mif_t d h
      exact (w3.t (kp_ground_20 N σ7 _ _ h)).eff.up (by omega)
    · have h := mif_f d h
      obtain ⟨-, h⟩ := mif_n h
      obtain ⟨y12, ey⟩ : ∃ z, z = σ7.2.1 43 x1.toNatClampNeg := ⟨_, rfl⟩
      have h := mlet_at ey h
      by_cases e : y12 = (-1)
      · have h := mif_t e h
        obtain ⟨-, h⟩ := mif_n h
        cases h
        exact vEff_row w3 (Or.inr (Or.inl rfl))
      · have h := mif_f e h
        obtain ⟨r19, σ17, c4, h⟩ := mcall_n h
        have w4 := w3.t (kp_not N σ7 5 _ _ c4)
        obtain ⟨-, h⟩ := mif_n h
        cases h
        exact w4.eff.up (by omega)
theorem e_weigh132 (h : f_weigh_132 N σ x1 x2 x3 = some (r, σ')) : vEff σ σ' 1 := by
  unfold f_weigh_132 at h
  obtain ⟨-, h⟩ := mif_n h
  cases h
  exact vEff_row vKf_r (Or.inr (Or.inr rfl))
theorem e_weigh56 : ∀ (n : Nat) (x4 x5 : Int32), f_weigh_56 N n σ x1 x2 x3 x4 x5 = some (r, σ') → vEff σ σ' 1 := by
  intro n
  induction n with
  | zero => intro x4 x5 h; cases h
  | succ n ih =>
    intro x4 x5 h
    have e126 : f_weigh_126 N σ = some (r, σ') → vEff σ σ' 1 := fun h => (kp_weigh_126 N σ _ _ h).eff.up (by omega)
    have e91 : ∀ (s0 y : Int32), f_weigh_91 N (f_weigh_56 N n) σ x1 x2 x3 x5 s0 y = some (r, σ') → vEff σ σ' 1 := fun s0 y h => by
      unfold f_weigh_91 at h
      exact ih _ _ h
    have e90 : ∀ (y : Int32), f_weigh_90 N (f_weigh_56 N n) σ x1 x2 x3 x5 y = some (r, σ') → vEff σ σ' 1 := fun y h => by
      unfold f_weigh_90 at h
      exact e91 _ _ h
    unfold f_weigh_56 at h
    by_cases c : 8 ≤ x5
    · have h := mif_t c h
      by_cases d : x4 < 1
      · exact e126 (mif_t d h)
      · have h := mif_f d h
        by_cases e : 3 < x4
        · exact e126 (mif_t e h)
        · have h := mif_f e h
          by_cases f : x3 = 0
          · have h := mif_t f h
            obtain ⟨-, h⟩ := mif_n h
            obtain ⟨y6, ey⟩ : ∃ z, z = σ.2.1 45 x1.toNatClampNeg := ⟨_, rfl⟩
            have h := mlet_at ey h
            by_cases i : y6 = x2
            · exact e126 (mif_t i h)
            · exact e_weigh132 (mif_f i h)
          · exact e_weigh132 (mif_f f h)
    · have h := mif_f c h
      by_cases d : x5 = x2
      · exact e90 _ (mif_t d h)
      · have h := mif_f d h
        obtain ⟨-, h⟩ := mif_n h
        obtain ⟨y10, ey⟩ : ∃ z, z = σ.2.1 46 ((8 * x1) + x5).toNatClampNeg := ⟨_, rfl⟩
        have h := mlet_at ey h
        by_cases e : y10 ≤ 0
        · exact e90 _ (mif_t e h)
        · exact e91 _ _ (mif_f e h)
theorem vEff.pre {a b c : MS} {d : Nat} (h : vKf a b) (h' : vEff b c d) : vEff a c d := by
  obtain ⟨h1, h2, h3, h4, h5⟩ := h.eff
  obtain ⟨k1, k2, k3, k4, k5⟩ := h'
  exact ⟨k1.trans h1, k2.trans h2, k3.trans h3, k4.trans h4, by omega⟩
theorem e_weigh (h : f_weigh N σ x1 x2 x3 = some (r, σ')) : vEff σ σ' 1 := by
  unfold f_weigh at h
  obtain ⟨σ1, c1, h⟩ := mcallv_n h
  have w1 := kp_good N σ _ c1
  obtain ⟨r5, σ3, c2, h⟩ := mcall_n h
  have w2 := w1.t (kp_isDoubt N σ1 x1 _ _ c2)
  by_cases c : r5 = 0
  · exact (w2.t (kp_weigh_20 N σ3 _ _ (mif_t c h))).eff.up (by omega)
  · have h := mif_f c h
    obtain ⟨r9, σ7, c3, h⟩ := mcall_n h
    have w3 := w2.t (kp_isGround N σ3 x2 _ _ c3)
    by_cases d : r9 = 0
    · exact (w3.t (kp_weigh_20 N σ7 _ _ (mif_t d h))).eff.up (by omega)
    · have h := mif_f d h
      obtain ⟨r13, σ11, c4, h⟩ := mcall_n h
      have w4 := w3.t (kp_within N σ7 x3 0 9 _ _ c4)
      by_cases e : r13 = 0
      · have h := mif_t e h
        obtain ⟨r18, σ16, c5, h⟩ := mcall_n h
        have w5 := w4.t (kp_not N σ11 2 _ _ c5)
        obtain ⟨-, h⟩ := mif_n h
        cases h
        exact w5.eff.up (by omega)
      · have h := mif_f e h
        by_cases f : x3 ≤ 0
        · have h := mif_t f h
          unfold f_weigh_51 at h
          exact vEff.pre w4 (e_weigh56 _ _ _ h)
        · have h := mif_f f h
          unfold f_weigh_51 at h
          exact vEff.pre w4 (e_weigh56 _ _ _ h)
end S0s
