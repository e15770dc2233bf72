/-! PLAIN: the least cost to be out: pure words -/
section H0s
variable {al I nT w : Nat} {nx : Nat → Nat → Nat → Nat} {ct : Nat → Nat}
def gJ (al I nT w : Nat) (nx : Nat → Nat → Nat → Nat) (ct : Nat → Nat) (O : Nat → Nat) : Prop := O 0 = 0 ∧ ∀ s, 0 < s → s < al → O s = I ∨ (O s < I ∧ ∃ t wl, t < nT ∧ wl < w ∧ O (nx t wl s) < I ∧ O (nx t wl s) + ct t ≤ O s)
def gF (al I nT w : Nat) (nx : Nat → Nat → Nat → Nat) (ct : Nat → Nat) (O : Nat → Nat) : Prop := ∀ s t wl, 0 < s → s < al → t < nT → wl < w → O (nx t wl s) < I → O s ≤ O (nx t wl s) + ct t
theorem gJ.le {O : Nat → Nat} (h : gJ al I nT w nx ct O) {s : Nat} (hs : s < al) : O s ≤ I := by
  by_cases c : s = 0
  · rw [c, h.1]
    exact Nat.zero_le _
  · rcases h.2 s (by omega) hs with q | q
    · omega
    · exact Nat.le_of_lt q.1
theorem g_ge {O D : Nat → Nat} (hO : gJ al I nT w nx ct O) (hD : gJ al I nT w nx ct D) (hF : gF al I nT w nx ct D) (hn : ∀ t wl s, nx t wl s < al) (hc : ∀ t, 1 ≤ ct t) : ∀ (k s : Nat), O s ≤ k → s < al → D s ≤ O s := by
  intro k
  induction k with
  | zero =>
    intro s h1 h2
    by_cases c : s = 0
    · rw [c, hD.1]
      exact Nat.zero_le _
    · rcases hO.2 s (by omega) h2 with q | ⟨q1, t, wl, q2, q3, q4, q5⟩
      · have := hD.le h2
        omega
      · have := hc t
        omega
  | succ k ih =>
    intro s h1 h2
    by_cases c : s = 0
    · rw [c, hD.1]
      exact Nat.zero_le _
    · rcases hO.2 s (by omega) h2 with q | ⟨q1, t, wl, q2, q3, q4, q5⟩
      · have := hD.le h2
        omega
      · have c1 := hc t
        have i1 := ih (nx t wl s) (by omega) (hn t wl s)
        have i2 := hF s t wl (by omega) h2 q2 q3 (by omega)
        omega
theorem g_le {O D : Nat → Nat} (h0 : O 0 = 0) (hF : gF al I nT w nx ct O) (hD : gJ al I nT w nx ct D) (hn : ∀ t wl s, nx t wl s < al) (hc : ∀ t, 1 ≤ ct t) : ∀ (k s : Nat), D s ≤ k → s < al → D s < I → O s ≤ D s := by
  intro k
  induction k with
  | zero =>
    intro s h1 h2 h3
    by_cases c : s = 0
    · rw [c, h0]
      exact Nat.zero_le _
    · rcases hD.2 s (by omega) h2 with q | ⟨q1, t, wl, q2, q3, q4, q5⟩
      · omega
      · have := hc t
        omega
  | succ k ih =>
    intro s h1 h2 h3
    by_cases c : s = 0
    · rw [c, h0]
      exact Nat.zero_le _
    · rcases hD.2 s (by omega) h2 with q | ⟨q1, t, wl, q2, q3, q4, q5⟩
      · omega
      · have c1 := hc t
        have i1 := ih (nx t wl s) (by omega) (hn t wl s) q4
        have i2 := hF s t wl (by omega) h2 q2 q3 (by omega)
        omega
/-- one solution -/
theorem g_one {O D : Nat → Nat} (hO : gJ al I nT w nx ct O) (hOF : gF al I nT w nx ct O) (hD : gJ al I nT w nx ct D) (hF : gF al I nT w nx ct D) (hn : ∀ t wl s, nx t wl s < al) (hc : ∀ t, 1 ≤ ct t) : ∀ s, s < al → O s = D s := fun s hs => by
  have h1 := g_ge hO hD hF hn hc (O s) s (Nat.le_refl _) hs
  have h2 := hO.le hs
  by_cases c : D s < I
  · have h3 := g_le hO.1 hOF hD hn hc (D s) s (Nat.le_refl _) hs c
    omega
  · omega
/-- a value falls -/
theorem gJ.upd {O : Nat → Nat} (hO : gJ al I nT w nx ct O) {s t wl : Nat} (h0 : 0 < s) (ht : t < nT) (hwl : wl < w) (hq : O (nx t wl s) < I) (hv : O (nx t wl s) + ct t < O s) (hs : s < al) : gJ al I nT w nx ct (zU O s (O (nx t wl s) + ct t)) := by
  have hle := hO.le hs
  have sm : ∀ x, zU O s (O (nx t wl s) + ct t) x ≤ O x := fun x => by
    by_cases c : x = s
    · subst c
      rw [zU_s]
      omega
    · rw [zU_n c]
      exact Nat.le_refl _
  refine ⟨?_, fun x hx0 hx => ?_⟩
  · rw [zU_n (by omega)]
    exact hO.1
  · by_cases c : x = s
    · subst c
      rw [zU_s]
      refine Or.inr ⟨by omega, t, wl, ht, hwl, ?_, ?_⟩
      · have := sm (nx t wl x)
        omega
      · have := sm (nx t wl x)
        omega
    · rw [zU_n c]
      rcases hO.2 x hx0 hx with q | ⟨q1, t', wl', q2, q3, q4, q5⟩
      · exact Or.inl q
      · have := sm (nx t' wl' x)
        exact Or.inr ⟨q1, t', wl', q2, q3, by omega, by omega⟩
theorem gSum_le {X Y : Nat → Nat} : ∀ k, (∀ j, j < k → X j ≤ Y j) → zSum X k ≤ zSum Y k := by
  intro k
  induction k with
  | zero => intro _; exact Nat.le_refl _
  | succ k ih =>
    intro h
    have h1 := ih (fun j hj => h j (by omega))
    have h2 := h k (by omega)
    show zSum X k + X k ≤ zSum Y k + Y k
    omega
theorem gSum_lt {X Y : Nat → Nat} {i : Nat} : ∀ k, (∀ j, j < k → X j ≤ Y j) → i < k → X i < Y i → zSum X k < zSum Y k := by
  intro k
  induction k with
  | zero => intro _ h; omega
  | succ k ih =>
    intro h hi hX
    show zSum X k + X k < zSum Y k + Y k
    by_cases c : i = k
    · subst c
      have := gSum_le (X := X) (Y := Y) i (fun j hj => h j (by omega))
      omega
    · have h1 := ih (fun j hj => h j (by omega)) (by omega) hX
      have h2 := h k (by omega)
      omega
/-- there is a solution -/
theorem g_ex (hI : 0 < I) : ∃ D : Nat → Nat, gJ al I nT w nx ct D ∧ gF al I nT w nx ct D := by
  have key : ∀ (k : Nat) (O : Nat → Nat), zSum O al ≤ k → gJ al I nT w nx ct O → ∃ D : Nat → Nat, gJ al I nT w nx ct D ∧ gF al I nT w nx ct D := by
    intro k
    induction k with
    | zero =>
      intro O h1 h2
      refine ⟨O, h2, fun s t wl q1 q2 q3 q4 q5 => ?_⟩
      apply Classical.byContradiction
      intro z
      have := gSum_lt (X := zU O s (O (nx t wl s) + ct t)) (Y := O) (i := s) al (fun j hj => by
        by_cases c : j = s
        · subst c
          rw [zU_s]
          omega
        · rw [zU_n c]
          exact Nat.le_refl _) q2 (by rw [zU_s]; omega)
      omega
    | succ k ih =>
      intro O h1 h2
      by_cases hF : gF al I nT w nx ct O
      · exact ⟨O, h2, hF⟩
      · have : ∃ s t wl, 0 < s ∧ s < al ∧ t < nT ∧ wl < w ∧ O (nx t wl s) < I ∧ ¬ O s ≤ O (nx t wl s) + ct t := by
          apply Classical.byContradiction
          intro z
          refine hF (fun s t wl q1 q2 q3 q4 q5 => ?_)
          apply Classical.byContradiction
          intro y
          exact z ⟨s, t, wl, q1, q2, q3, q4, q5, y⟩
        obtain ⟨s, t, wl, q1, q2, q3, q4, q5, q6⟩ := this
        have sl := gSum_lt (X := zU O s (O (nx t wl s) + ct t)) (Y := O) (i := s) al (fun j hj => by
          by_cases c : j = s
          · subst c
            rw [zU_s]
            omega
          · rw [zU_n c]
            exact Nat.le_refl _) q2 (by rw [zU_s]; omega)
        exact ih _ (by omega) (h2.upd q1 q3 q4 q5 (by omega) q2)
  exact key _ (fun s => if s = 0 then 0 else I) (Nat.le_refl _) ⟨if_pos rfl, fun s h0 _ => Or.inl (if_neg (by omega))⟩
/-- how many are nearer -/
def gC (D : Nat → Nat) (al s : Nat) : Nat := zSum (fun t => if D t < D s then 1 else 0) al
theorem gC_lt {D : Nat → Nat} {a b : Nat} (ha : a < al) (h : D a < D b) : gC D al a < gC D al b := by
  refine gSum_lt (i := a) al (fun j _ => ?_) ha ?_
  · show (if D j < D a then 1 else 0) ≤ (if D j < D b then 1 else 0)
    split
    · rw [if_pos (by omega)]
      exact Nat.le_refl _
    · exact Nat.zero_le _
  · show (if D a < D a then 1 else 0) < (if D a < D b then 1 else 0)
    rw [if_neg (by omega), if_pos h]
    omega
theorem gC_le {D : Nat → Nat} {s : Nat} (hs : s < al) : gC D al s < al := by
  have h1 := gSum_lt (X := fun t => if D t < D s then 1 else 0) (Y := fun _ => 1) (i := s) al (fun j _ => by
    show (if D j < D s then 1 else 0) ≤ 1
    split <;> omega) hs (by
    show (if D s < D s then 1 else 0) < 1
    rw [if_neg (by omega)]
    omega)
  have h2 := zSum_c (n := al)
  unfold gC
  omega
/-- a round: from O to O' -/
def gR (al I nT w : Nat) (nx : Nat → Nat → Nat → Nat) (ct : Nat → Nat) (O O' : Nat → Nat) : Prop := gJ al I nT w nx ct O' ∧ (∀ s, s < al → O' s ≤ O s) ∧ ∀ s t wl, 0 < s → s < al → t < nT → wl < w → O (nx t wl s) < I → O' s ≤ O (nx t wl s) + ct t
def gE (D O : Nat → Nat) (al I r : Nat) : Prop := ∀ s, s < al → D s < I → gC D al s ≤ r → O s ≤ D s
theorem gE_step {D O O' : Nat → Nat} {r : Nat} (hD : gJ al I nT w nx ct D) (hn : ∀ t wl s, nx t wl s < al) (hc : ∀ t, 1 ≤ ct t) (hE : gE D O al I r) (hR : gR al I nT w nx ct O O') : gE D O' al I (r + 1) := fun s hs h1 h2 => by
  by_cases c : s = 0
  · rw [c, hR.1.1]
    exact Nat.zero_le _
  · rcases hD.2 s (by omega) hs with q | ⟨q1, t, wl, q2, q3, q4, q5⟩
    · omega
    · have c1 := hc t
      have l1 := gC_lt (al := al) (D := D) (a := nx t wl s) (b := s) (hn t wl s) (by omega)
      have e1 := hE (nx t wl s) (hn t wl s) q4 (by omega)
      have e2 := hR.2.2 s t wl (by omega) hs q2 q3 (by omega)
      omega
end H0s
