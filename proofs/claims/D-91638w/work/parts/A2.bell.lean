/-! PLAIN: values of cells: one solution (FAR: never) -/
/-- what a value of a free cell must be: ed c y: (the cell there, the cost) -/
def zB (X : Nat → Nat) (ed : Nat → Nat → Option (Nat × Nat)) (c : Nat) : Prop := X c ≤ 1000000000000000 ∧ (∀ y d k, ed c y = some (d, k) → X d < 1000000000000000 → X c ≤ X d + k) ∧ (X c < 1000000000000000 → ∃ y d k, ed c y = some (d, k) ∧ X d < 1000000000000000 ∧ X c = X d + k)
theorem z_le {n : Nat} {X Y : Nat → Nat} {ed : Nat → Nat → Option (Nat × Nat)} {fr : Nat → Prop} (he : ∀ c y d k, c < n → ed c y = some (d, k) → d < n ∧ 1 ≤ k) (hX : ∀ c, c < n → fr c → zB X ed c) (hY : ∀ c, c < n → fr c → zB Y ed c) (hE : ∀ c, c < n → ¬ fr c → X c = Y c) : ∀ (m c : Nat), c < n → X c = m → m < 1000000000000000 → Y c ≤ X c := by
  intro m
  induction m using Nat.strongRecOn with
  | ind m ih =>
    intro c hc hm hf
    by_cases h : fr c
    · obtain ⟨-, -, h3⟩ := hX c hc h
      obtain ⟨y, d, k, e, hd, hk⟩ := h3 (by omega)
      obtain ⟨hd1, hk1⟩ := he c y d k hc e
      have h4 := ih (X d) (by omega) d hd1 rfl hd
      have h5 := (hY c hc h).2.1 y d k e (by omega)
      omega
    · rw [hE c hc h]
      exact Nat.le_refl _
theorem z_one {n : Nat} {X Y : Nat → Nat} {ed : Nat → Nat → Option (Nat × Nat)} {fr : Nat → Prop} (he : ∀ c y d k, c < n → ed c y = some (d, k) → d < n ∧ 1 ≤ k) (hX : ∀ c, c < n → fr c → zB X ed c) (hY : ∀ c, c < n → fr c → zB Y ed c) (hE : ∀ c, c < n → ¬ fr c → X c = Y c) (c : Nat) (hc : c < n) : X c = Y c := by
  by_cases h : fr c
  · have bX := (hX c hc h).1
    have bY := (hY c hc h).1
    by_cases h1 : X c < 1000000000000000
    · have h2 := z_le he hX hY hE (X c) c hc rfl h1
      have h3 := z_le he hY hX (fun c hc h => (hE c hc h).symm) (Y c) c hc rfl (by omega)
      omega
    · by_cases h2 : Y c < 1000000000000000
      · have h3 := z_le he hY hX (fun c hc h => (hE c hc h).symm) (Y c) c hc rfl h2
        omega
      · omega
  · exact hE c hc h
/-- the least of what stands by the ways, from way y on -/
def zLow (X : Nat → Nat) (ed : Nat → Option (Nat × Nat)) : Nat → Nat → Nat → Nat
  | 0, _, v => v
  | m + 1, y, v => zLow X ed m (y + 1) (match ed y with
    | some (d, k) => if X d < 1000000000000000 ∧ X d + k < v then X d + k else v
    | none => v)
theorem z_low {X : Nat → Nat} {ed : Nat → Option (Nat × Nat)} : ∀ (m y v : Nat), zLow X ed m y v ≤ v ∧ (∀ i d k, y ≤ i → i < y + m → ed i = some (d, k) → X d < 1000000000000000 → zLow X ed m y v ≤ X d + k) ∧ (zLow X ed m y v < v → ∃ i d k, ed i = some (d, k) ∧ X d < 1000000000000000 ∧ zLow X ed m y v = X d + k) := by
  intro m
  induction m with
  | zero =>
    intro y v
    exact ⟨Nat.le_refl _, fun i d k h1 h2 => by omega, fun h => absurd h (Nat.lt_irrefl _)⟩
  | succ m ih =>
    intro y v
    rw [zLow]
    cases he : ed y with
    | none =>
      obtain ⟨i1, i2, i3⟩ := ih (y + 1) v
      refine ⟨i1, fun i d k h1 h2 h3 h4 => ?_, i3⟩
      by_cases hi : i = y
      · rw [hi, he] at h3; cases h3
      · exact i2 i d k (by omega) (by omega) h3 h4
    | some q =>
      obtain ⟨d0, k0⟩ := q
      show zLow X ed m (y + 1) (if X d0 < 1000000000000000 ∧ X d0 + k0 < v then X d0 + k0 else v) ≤ v ∧ (∀ i d k, y ≤ i → i < y + (m + 1) → ed i = some (d, k) → X d < 1000000000000000 → zLow X ed m (y + 1) (if X d0 < 1000000000000000 ∧ X d0 + k0 < v then X d0 + k0 else v) ≤ X d + k) ∧ (zLow X ed m (y + 1) (if X d0 < 1000000000000000 ∧ X d0 + k0 < v then X d0 + k0 else v) < v → ∃ i d k, ed i = some (d, k) ∧ X d < 1000000000000000 ∧ zLow X ed m (y + 1) (if X d0 < 1000000000000000 ∧ X d0 + k0 < v then X d0 + k0 else v) = X d + k)
      by_cases hc : X d0 < 1000000000000000 ∧ X d0 + k0 < v
      · rw [if_pos hc]
        obtain ⟨i1, i2, i3⟩ := ih (y + 1) (X d0 + k0)
        refine ⟨by omega, fun i d k h1 h2 h3 h4 => ?_, fun _ => ?_⟩
        · by_cases hi : i = y
          · rw [hi, he] at h3; cases h3; exact i1
          · exact i2 i d k (by omega) (by omega) h3 h4
        · by_cases h5 : zLow X ed m (y + 1) (X d0 + k0) < X d0 + k0
          · exact i3 h5
          · exact ⟨y, d0, k0, he, hc.1, by omega⟩
      · rw [if_neg hc]
        obtain ⟨i1, i2, i3⟩ := ih (y + 1) v
        refine ⟨i1, fun i d k h1 h2 h3 h4 => ?_, i3⟩
        by_cases hi : i = y
        · rw [hi, he] at h3
          cases h3
          omega
        · exact i2 i d k (by omega) (by omega) h3 h4
/-- while values fall, a free cell's value stands above some way's sum -/
def zUp (X : Nat → Nat) (ed : Nat → Nat → Option (Nat × Nat)) (c : Nat) : Prop := X c ≤ 1000000000000000 ∧ (X c < 1000000000000000 → ∃ y d k, ed c y = some (d, k) ∧ X d < 1000000000000000 ∧ X d + k ≤ X c)
theorem zUp.mono {X Y : Nat → Nat} {ed : Nat → Nat → Option (Nat × Nat)} {c : Nat} (h : zUp X ed c) (h1 : ∀ d, Y d ≤ X d) (h2 : Y c = X c) : zUp Y ed c := by
  obtain ⟨a, b⟩ := h
  refine ⟨by omega, fun z => ?_⟩
  obtain ⟨y, d, k, e, f, l⟩ := b (by omega)
  have := h1 d
  exact ⟨y, d, k, e, by omega, by omega⟩
/-- values that can't fall and stand above some way's sum are the values -/
theorem zUp.done {X : Nat → Nat} {ed : Nat → Nat → Option (Nat × Nat)} {c : Nat} (h : zUp X ed c) (h1 : ∀ y d k, ed c y = some (d, k) → X d < 1000000000000000 → X c ≤ X d + k) : zB X ed c := by
  obtain ⟨a, b⟩ := h
  refine ⟨a, h1, fun z => ?_⟩
  obtain ⟨y, d, k, e, f, l⟩ := b z
  have := h1 y d k e f
  exact ⟨y, d, k, e, f, by omega⟩
