/-! PLAIN: the least cost to be out: bounds, both ways to write it -/
def nxP (ev ov : Nat → Int) (w t wl s : Nat) : Nat := pNx (ev t) (ov t) wl s w
def ctC (pv : Nat → Int) (t : Nat) : Nat := (pv t).toNat * 1048576 + 1
def ctM (pv : Nat → Int) (t : Nat) : Nat := 10000 * (pv t).toNat + 1
theorem p_zero {s : Nat} : ∀ w, (∀ k, k < w → s / 5 ^ k % 5 = 0) → s / 5 ^ w = 0 → s = 0 := by
  intro w
  induction w with
  | zero =>
    intro _ h
    rw [Nat.pow_zero, Nat.div_one] at h
    exact h
  | succ w ih =>
    intro h h2
    refine ih (fun k hk => h k (by omega)) ?_
    have := p_step (s := s) (k := w)
    rw [h2, h w (by omega)] at this
    omega
theorem p_some {s w : Nat} (hs : s < 5 ^ w) (h0 : 0 < s) : ∃ k, k < w ∧ 0 < s / 5 ^ k % 5 := by
  apply Classical.byContradiction
  intro z
  have : s = 0 := p_zero w (fun k hk => by
    apply Classical.byContradiction
    intro y
    exact z ⟨k, hk, by omega⟩) (Nat.div_eq_of_lt hs)
  omega
theorem p_dig {e o : Int} {wl s w k : Nat} (hk : k < w) : pNx e o wl s w / 5 ^ k % 5 = pCl (((s / 5 ^ k % 5 : Nat) : Int) + (if k = wl then o else e)) := by
  rw [pNx_st]
  exact pSt_dig (f := fun k => pCl (((s / 5 ^ k % 5 : Nat) : Int) + (if k = wl then o else e))) w (fun _ _ => pCl_le) hk
theorem pCl_m {d : Nat} {z : Int} (hz : z ≤ 0) : pCl ((d : Int) + z) ≤ d := by
  unfold pCl
  split
  · omega
  · split <;> omega
theorem pCl_m2 {d : Nat} {z : Int} (hz : z < 0) (hd : 0 < d) : pCl ((d : Int) + z) < d := by
  unfold pCl
  split
  · omega
  · split <;> omega
theorem pCl_0 {x : Int} (h : pCl x = 0) : x ≤ 0 := by
  unfold pCl at h
  split at h
  · omega
  · split at h <;> omega
def pDs (w s : Nat) : Nat := zSum (fun k => s / 5 ^ k % 5) w
/-- a try that lowers -/
theorem p_low {e o : Int} {s w : Nat} (hw : 2 ≤ w) (hs : s < 5 ^ w) (h0 : 0 < s) (he : e ≤ 0) (ho : o ≤ 0) (hne : e < 0 ∨ o < 0) : ∃ wl, wl < w ∧ pDs w (pNx e o wl s w) < pDs w s := by
  obtain ⟨k, hk, hd⟩ := p_some hs h0
  have go : ∀ wl, (if k = wl then o else e) < 0 → pDs w (pNx e o wl s w) < pDs w s := fun wl hz => by
    refine gSum_lt (i := k) w (fun j hj => ?_) hk ?_
    · show pNx e o wl s w / 5 ^ j % 5 ≤ s / 5 ^ j % 5
      rw [p_dig hj]
      exact pCl_m (by split <;> omega)
    · show pNx e o wl s w / 5 ^ k % 5 < s / 5 ^ k % 5
      rw [p_dig hk]
      exact pCl_m2 hz hd
  rcases hne with q | q
  · by_cases c : k = 0
    · exact ⟨1, by omega, go 1 (by rw [if_neg (by omega)]; exact q)⟩
    · exact ⟨0, by omega, go 0 (by rw [if_neg (by omega)]; exact q)⟩
  · exact ⟨k, hk, go k (by rw [if_pos rfl]; exact q)⟩
theorem pDs_le {w s : Nat} : pDs w s ≤ w * 4 := zSum_b w (fun k _ => by
  show s / 5 ^ k % 5 ≤ 4
  omega)
section H1s
variable {I nT w : Nat} {ev ov : Nat → Int} {ct : Nat → Nat} {D : Nat → Nat}
theorem p_last (hD : gJ (5 ^ w) I nT w (nxP ev ov w) ct D) (hc : ∀ t, 1 ≤ ct t) : ∀ (k s : Nat), D s ≤ k → 0 < s → s < 5 ^ w → D s < I → ∃ s' t wl, 0 < s' ∧ s' < 5 ^ w ∧ t < nT ∧ wl < w ∧ pNx (ev t) (ov t) wl s' w = 0 := by
  intro k
  induction k with
  | zero =>
    intro s h1 h2 h3 h4
    rcases hD.2 s h2 h3 with q | ⟨q1, t, wl, q2, q3, q4, q5⟩
    · omega
    · have := hc t
      omega
  | succ k ih =>
    intro s h1 h2 h3 h4
    rcases hD.2 s h2 h3 with q | ⟨q1, t, wl, q2, q3, q4, q5⟩
    · omega
    · by_cases c : nxP ev ov w t wl s = 0
      · exact ⟨s, t, wl, h2, h3, q2, q3, c⟩
      · have c1 := hc t
        exact ih (nxP ev ov w t wl s) (by omega) (by omega) pNx_lt q4
theorem p_bound {C : Nat} (hw : 2 ≤ w) (hD : gJ (5 ^ w) I nT w (nxP ev ov w) ct D) (hF : gF (5 ^ w) I nT w (nxP ev ov w) ct D) (hc : ∀ t, 1 ≤ ct t) (hC : ∀ t, t < nT → ct t ≤ C) (hI : w * 4 * C < I) : ∀ s, s < 5 ^ w → D s < I → D s ≤ w * 4 * C := by
  intro s0 hs0 hf0
  by_cases c0 : s0 = 0
  · rw [c0, hD.1]
    exact Nat.zero_le _
  · obtain ⟨s', t, wl, a1, a2, a3, a4, a5⟩ := p_last hD hc (D s0) s0 (Nat.le_refl _) (by omega) hs0 hf0
    have dz : ∀ k, k < w → ((s' / 5 ^ k % 5 : Nat) : Int) + (if k = wl then ov t else ev t) ≤ 0 := fun k hk => by
      refine pCl_0 ?_
      rw [← p_dig hk, a5, Nat.zero_div]
    obtain ⟨k, hk, hd⟩ := p_some a2 a1
    have hk' := dz k hk
    have ho : ov t ≤ 0 := by
      have := dz wl a4
      rw [if_pos rfl] at this
      omega
    have he : ev t ≤ 0 := by
      by_cases c : wl = 0
      · have := dz 1 (by omega)
        rw [if_neg (by omega)] at this
        omega
      · have := dz 0 (by omega)
        rw [if_neg (by omega)] at this
        omega
    have hne : ev t < 0 ∨ ov t < 0 := by
      by_cases c : k = wl
      · rw [if_pos c] at hk'
        omega
      · rw [if_neg c] at hk'
        omega
    have key : ∀ (n s : Nat), pDs w s ≤ n → s < 5 ^ w → n ≤ w * 4 → D s ≤ n * C := by
      intro n
      induction n with
      | zero =>
        intro s h1 h2 _
        by_cases c : s = 0
        · rw [c, hD.1]
          exact Nat.zero_le _
        · obtain ⟨wl', p1, p2⟩ := p_low (e := ev t) (o := ov t) hw h2 (by omega) he ho hne
          omega
      | succ n ih =>
        intro s h1 h2 hn
        by_cases c : s = 0
        · rw [c, hD.1]
          exact Nat.zero_le _
        · obtain ⟨wl', p1, p2⟩ := p_low (e := ev t) (o := ov t) hw h2 (by omega) he ho hne
          have i1 := ih (pNx (ev t) (ov t) wl' s w) (by omega) pNx_lt (by omega)
          have m1 : n * C ≤ w * 4 * C := Nat.mul_le_mul_right _ (by omega)
          have i2 := hF s t wl' (by omega) h2 a3 p1 (by
            show D (pNx (ev t) (ov t) wl' s w) < I
            omega)
          have i3 := hC t a3
          have e1 : (n + 1) * C = n * C + C := Nat.succ_mul n C
          have i2' : D s ≤ D (pNx (ev t) (ov t) wl' s w) + ct t := i2
          omega
    exact key (w * 4) s0 (pDs_le) hs0 (Nat.le_refl _)
end H1s
/-- the model's way to write a value -/
def pMn (d : Nat) : Nat := if d = pInf then 2000000000 else 10000 * (d / 1048576) + d % 1048576
theorem pMo_n {d : Nat} : pMo d = ((pMn d : Nat) : Int) := by
  unfold pMo pMn
  split <;> rfl
section H2s
variable {nT w : Nat} {ev ov pv : Nat → Int} {D : Nat → Nat}
theorem p_nc (hD : gJ (5 ^ w) pInf nT w (nxP ev ov w) (ctC pv) D) (hF : gF (5 ^ w) pInf nT w (nxP ev ov w) (ctC pv) D) (hp : ∀ t, t < nT → 1 ≤ pv t ∧ pv t ≤ 99) (hB : ∀ s, s < 5 ^ w → D s < pInf → D s ≤ 2500000000) : ∀ (k s : Nat), D s ≤ k → s < 5 ^ w → D s < pInf → D s % 1048576 ≤ D s / 1048576 := by
  intro k
  induction k with
  | zero =>
    intro s h1 _ _
    have : D s = 0 := by omega
    rw [this]
    exact Nat.le_refl _
  | succ k ih =>
    intro s h1 h2 h3
    by_cases c : s = 0
    · rw [c, hD.1]
      exact Nat.le_refl _
    · rcases hD.2 s (by omega) h2 with q | ⟨q1, t, wl, q2, q3, q4, q5⟩
      · omega
      · have f1 := hF s t wl (by omega) h2 q2 q3 q4
        obtain ⟨p1, p2⟩ := hp t q2
        have i1 := ih (nxP ev ov w t wl s) (by unfold ctC at q5; omega) pNx_lt q4
        have b1 := hB _ h2 h3
        have b2 := hB _ (show nxP ev ov w t wl s < 5 ^ w from pNx_lt) q4
        unfold ctC at f1 q5
        obtain ⟨P, hP⟩ : ∃ P : Nat, P = (pv t).toNat := ⟨_, rfl⟩
        rw [← hP] at f1 q5
        omega
theorem p_conv (hD : gJ (5 ^ w) pInf nT w (nxP ev ov w) (ctC pv) D) (hF : gF (5 ^ w) pInf nT w (nxP ev ov w) (ctC pv) D) (hp : ∀ t, t < nT → 1 ≤ pv t ∧ pv t ≤ 99) (hB : ∀ s, s < 5 ^ w → D s < pInf → D s ≤ 2500000000) : gJ (5 ^ w) 2000000000 nT w (nxP ev ov w) (ctM pv) (fun s => pMn (D s)) ∧ gF (5 ^ w) 2000000000 nT w (nxP ev ov w) (ctM pv) (fun s => pMn (D s)) := by
  have pI : pInf = 1152921504606846976 := rfl
  have nc : ∀ s, s < 5 ^ w → D s < pInf → D s % 1048576 ≤ D s / 1048576 := fun s h1 h2 => p_nc hD hF hp hB (D s) s (Nat.le_refl _) h1 h2
  have fin : ∀ d, d ≠ pInf → pMn d = 10000 * (d / 1048576) + d % 1048576 := fun d h => if_neg h
  have inf : pMn pInf = 2000000000 := if_pos rfl
  constructor
  · refine ⟨?_, fun s h0 hs => ?_⟩
    · show pMn (D 0) = 0
      rw [hD.1]
      rfl
    · show pMn (D s) = 2000000000 ∨ _
      rcases hD.2 s h0 hs with q | ⟨q1, t, wl, q2, q3, q4, q5⟩
      · rw [q]
        exact Or.inl inf
      · right
        have f1 := hF s t wl h0 hs q2 q3 q4
        obtain ⟨p1, p2⟩ := hp t q2
        have n1 := nc s hs q1
        have n2 := nc _ (show nxP ev ov w t wl s < 5 ^ w from pNx_lt) q4
        have b1 := hB _ hs q1
        have b2 := hB _ (show nxP ev ov w t wl s < 5 ^ w from pNx_lt) q4
        have e1 := fin (D s) (by omega)
        have e2 := fin (D (nxP ev ov w t wl s)) (by omega)
        refine ⟨?_, t, wl, q2, q3, ?_, ?_⟩
        · show pMn (D s) < 2000000000
          omega
        · show pMn (D (nxP ev ov w t wl s)) < 2000000000
          omega
        · show pMn (D (nxP ev ov w t wl s)) + ctM pv t ≤ pMn (D s)
          unfold ctC at f1 q5
          unfold ctM
          obtain ⟨P, hP⟩ : ∃ P : Nat, P = (pv t).toNat := ⟨_, rfl⟩
          rw [← hP] at f1 q5 ⊢
          omega
  · intro s t wl h0 hs h1 h2 h3
    have h3' : pMn (D (nxP ev ov w t wl s)) < 2000000000 := h3
    have q4 : D (nxP ev ov w t wl s) < pInf := by
      have := hD.le (show nxP ev ov w t wl s < 5 ^ w from pNx_lt)
      by_cases c : D (nxP ev ov w t wl s) = pInf
      · rw [c, inf] at h3'
        omega
      · omega
    have f1 := hF s t wl h0 hs h1 h2 q4
    obtain ⟨p1, p2⟩ := hp t h1
    have b2 := hB _ (show nxP ev ov w t wl s < 5 ^ w from pNx_lt) q4
    have n2 := nc _ (show nxP ev ov w t wl s < 5 ^ w from pNx_lt) q4
    have q1 : D s < pInf := by
      unfold ctC at f1
      omega
    have b1 := hB _ hs q1
    have n1 := nc s hs q1
    have e1 := fin (D s) (by omega)
    have e2 := fin (D (nxP ev ov w t wl s)) (by omega)
    show pMn (D s) ≤ pMn (D (nxP ev ov w t wl s)) + ctM pv t
    unfold ctC at f1
    unfold ctM
    obtain ⟨P, hP⟩ : ∃ P : Nat, P = (pv t).toNat := ⟨_, rfl⟩
    rw [← hP] at f1 ⊢
    omega
end H2s
