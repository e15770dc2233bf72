/-! PLAIN: the room: two plain cells that are joined by plain cells: how far they are apart -/
def rnA (x y x' y' : Nat) : Prop := (y' = y ∧ (x' = x + 1 ∨ x = x' + 1)) ∨ (x' = x ∧ (y' = y + 1 ∨ y = y' + 1))
/-- n hops over plain cells -/
def rnQ (w h : Nat) (sp : Nat → Nat → Bool) : Nat → Nat → Nat → Nat → Nat → Prop
  | 0, x, y, a, b => x = a ∧ y = b
  | n + 1, x, y, a, b => ∃ x' y', rnA x y x' y' ∧ x' < w ∧ y' < h ∧ sp x' y' = false ∧ rnQ w h sp n x' y' a b
section U7s
variable {w h : Nat} {sp : Nat → Nat → Bool}
theorem rnQ_t : ∀ (m n x y c d a b : Nat), rnQ w h sp m x y c d → rnQ w h sp n c d a b → rnQ w h sp (m + n) x y a b := by
  intro m
  induction m with
  | zero =>
    intro n x y c d a b h1 h2
    obtain ⟨e1, e2⟩ := h1
    rw [Nat.zero_add, e1, e2]
    exact h2
  | succ m ih =>
    intro n x y c d a b h1 h2
    obtain ⟨x', y', k1, k2, k3, k4, k5⟩ := h1
    rw [show m + 1 + n = (m + n) + 1 by omega]
    exact ⟨x', y', k1, k2, k3, k4, ih n x' y' c d a b k5 h2⟩
theorem rnQ_r : ∀ (d x y : Nat), y < h → x + d < w → (∀ k, x < k → k ≤ x + d → sp k y = false) → rnQ w h sp d x y (x + d) y := by
  intro d
  induction d with
  | zero => intro x y _ _ _; exact ⟨rfl, rfl⟩
  | succ d ih =>
    intro x y hy hx hs
    refine ⟨x + 1, y, Or.inl ⟨rfl, Or.inl rfl⟩, by omega, hy, hs (x + 1) (by omega) (by omega), ?_⟩
    have := ih (x + 1) y hy (by omega) (fun k h1 h2 => hs k (by omega) (by omega))
    rw [show x + (d + 1) = x + 1 + d by omega]
    exact this
theorem rnQ_l : ∀ (d x y : Nat), y < h → x + d < w → (∀ k, x ≤ k → k < x + d → sp k y = false) → rnQ w h sp d (x + d) y x y := by
  intro d
  induction d with
  | zero => intro x y _ _ _; exact ⟨rfl, rfl⟩
  | succ d ih =>
    intro x y hy hx hs
    refine ⟨x + d, y, Or.inl ⟨rfl, Or.inr (by omega)⟩, by omega, hy, hs (x + d) (by omega) (by omega), ?_⟩
    exact ih x y hy (by omega) (fun k h1 h2 => hs k h1 (by omega))
theorem rnQ_sw : ∀ (n x y a b : Nat), rnQ w h sp n x y a b → rnQ h w (fun y x => sp x y) n y x b a := by
  intro n
  induction n with
  | zero => intro x y a b k; exact ⟨k.2, k.1⟩
  | succ n ih =>
    intro x y a b k
    obtain ⟨x', y', k1, k2, k3, k4, k5⟩ := k
    exact ⟨y', x', k1.symm, k3, k2, k4, ih x' y' a b k5⟩
theorem rnQ_path : ∀ (n x y a b : Nat), rnQ w h sp n x y a b → ∃ X Y : Nat → Nat, X 0 = x ∧ Y 0 = y ∧ X n = a ∧ Y n = b ∧ (∀ i, i < n → rnA (X i) (Y i) (X (i + 1)) (Y (i + 1))) ∧ ∀ i, 1 ≤ i → i ≤ n → X i < w ∧ Y i < h ∧ sp (X i) (Y i) = false := by
  intro n
  induction n with
  | zero =>
    intro x y a b k
    exact ⟨fun _ => x, fun _ => y, rfl, rfl, k.1, k.2, fun i hi => by omega, fun i h1 h2 => by omega⟩
  | succ n ih =>
    intro x y a b k
    obtain ⟨x', y', k1, k2, k3, k4, k5⟩ := k
    obtain ⟨X, Y, p1, p2, p3, p4, p5, p6⟩ := ih x' y' a b k5
    refine ⟨fun i => if i = 0 then x else X (i - 1), fun i => if i = 0 then y else Y (i - 1), rfl, rfl, p3, p4, fun i hi => ?_, fun i h1 h2 => ?_⟩
    · show rnA (if i = 0 then x else X (i - 1)) (if i = 0 then y else Y (i - 1)) (X i) (Y i)
      by_cases c : i = 0
      · rw [if_pos c, if_pos c, c, p1, p2]
        exact k1
      · rw [if_neg c, if_neg c]
        have := p5 (i - 1) (by omega)
        rw [show i - 1 + 1 = i by omega] at this
        exact this
    · show (if i = 0 then x else X (i - 1)) < w ∧ (if i = 0 then y else Y (i - 1)) < h ∧ sp (if i = 0 then x else X (i - 1)) (if i = 0 then y else Y (i - 1)) = false
      rw [if_neg (by omega), if_neg (by omega)]
      by_cases c : i = 1
      · rw [c, show 1 - 1 = 0 from rfl, p1, p2]
        exact ⟨k2, k3, k4⟩
      · exact p6 (i - 1) (by omega) (by omega)
theorem rnQ_sub {n : Nat} {X Y : Nat → Nat} (h1 : ∀ i, i < n → rnA (X i) (Y i) (X (i + 1)) (Y (i + 1))) (h2 : ∀ i, 1 ≤ i → i ≤ n → X i < w ∧ Y i < h ∧ sp (X i) (Y i) = false) : ∀ d i, i + d ≤ n → rnQ w h sp d (X i) (Y i) (X (i + d)) (Y (i + d)) := by
  intro d
  induction d with
  | zero => intro i _; exact ⟨rfl, rfl⟩
  | succ d ih =>
    intro i hi
    obtain ⟨a1, a2, a3⟩ := h2 (i + 1) (by omega) (by omega)
    refine ⟨X (i + 1), Y (i + 1), h1 i (by omega), a1, a2, a3, ?_⟩
    have := ih (i + 1) (by omega)
    rw [show i + 1 + d = i + (d + 1) by omega] at this
    exact this
/-- a shortest way over plain cells is straight -/
theorem rnQ_str {n x y a b : Nat} {X Y : Nat → Nat} (hx : x < w) (hy : y < h) (hs : sp x y = false) (hm : ∀ m, m < n → ¬ rnQ w h sp m x y a b) (e1 : X 0 = x) (e2 : Y 0 = y) (e3 : X n = a) (e4 : Y n = b) (h1 : ∀ i, i < n → rnA (X i) (Y i) (X (i + 1)) (Y (i + 1))) (h2 : ∀ i, 1 ≤ i → i ≤ n → X i < w ∧ Y i < h ∧ sp (X i) (Y i) = false) : (∀ i, i ≤ n → X i < w ∧ Y i < h ∧ sp (X i) (Y i) = false) ∧ rnP w h n X Y ∧ rnS n X Y sp := by
  have hb : ∀ i, i ≤ n → X i < w ∧ Y i < h ∧ sp (X i) (Y i) = false := fun i hi => by
    by_cases c : i = 0
    · rw [c, e1, e2]
      exact ⟨hx, hy, hs⟩
    · exact h2 i (by omega) hi
  have hsub : ∀ i j d, i ≤ j → j ≤ n → rnQ w h sp d (X i) (Y i) (X j) (Y j) → j - i ≤ d := fun i j d hij hj hd => by
    refine Classical.byContradiction (fun z => ?_)
    have q1 := rnQ_sub h1 h2 i 0 (by omega)
    have q3 := rnQ_sub h1 h2 (n - j) j (by omega)
    rw [show 0 + i = i by omega, e1, e2] at q1
    rw [show j + (n - j) = n by omega, e3, e4] at q3
    have q := rnQ_t _ _ _ _ _ _ _ _ (rnQ_t _ _ _ _ _ _ _ _ q1 hd) q3
    exact hm _ (by omega) q
  have inj : ∀ i j, i < j → j ≤ n → X i = X j → Y i = Y j → False := fun i j hij hj ex ey => by
    have := hsub i j 0 (by omega) hj ⟨ex, ey⟩
    omega
  have HP : rnP w h n X Y := ⟨fun i hi => ⟨(hb i hi).1, (hb i hi).2.1⟩, fun i j hi hj ex ey => by
    rcases Nat.lt_trichotomy i j with c | c | c
    · exact (inj i j c hj ex ey).elim
    · exact c
    · exact (inj j i c hi ex.symm ey.symm).elim, fun i hi => h1 i hi⟩
  refine ⟨hb, HP, ?_⟩
  intro i j hij hj ey si sj hbt
  have lp := rn_lip (j - i) i HP (by omega)
  rw [show i + (j - i) = j by omega] at lp
  obtain ⟨bi1, bi2, -⟩ := hb i (by omega)
  obtain ⟨bj1, bj2, -⟩ := hb j hj
  rcases Nat.lt_trichotomy (X i) (X j) with c | c | c
  · left
    have q : rnQ w h sp (X j - X i) (X i) (Y i) (X j) (Y j) := by
      have := rnQ_r (w := w) (h := h) (sp := sp) (X j - X i) (X i) (Y i) bi2 (by omega) (fun k k1 k2 => by
        by_cases z : k = X j
        · rw [z, ey]; exact sj
        · exact hbt k (by omega) (by omega))
      rw [show X i + (X j - X i) = X j by omega] at this
      rw [← ey]
      exact this
    have := hsub i j _ (by omega) hj q
    omega
  · exact (inj i j hij hj c ey).elim
  · right
    have q : rnQ w h sp (X i - X j) (X i) (Y i) (X j) (Y j) := by
      have := rnQ_l (w := w) (h := h) (sp := sp) (X i - X j) (X j) (Y i) bi2 (by omega) (fun k k1 k2 => by
        by_cases z : k = X j
        · rw [z, ey]; exact sj
        · exact hbt k (by omega) (by omega))
      rw [show X j + (X i - X j) = X i by omega] at this
      rw [← ey]
      exact this
    have := hsub i j _ (by omega) hj q
    omega
end U7s
