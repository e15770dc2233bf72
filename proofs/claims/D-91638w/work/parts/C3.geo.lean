/-! PLAIN: ways back, bits of what is seen, Dijkstra's choice -/
def zOp (y : Nat) : Nat := match y with | 0 => 1 | 1 => 0 | 2 => 3 | _ => 2
theorem zOp_lt {y : Nat} (h : y < 4) : zOp y < 4 := by
  match y, h with
  | 0, _ => decide
  | 1, _ => decide
  | 2, _ => decide
  | 3, _ => decide
theorem zOp_2 {y : Nat} (h : y < 4) : zOp (zOp y) = y := by
  match y, h with
  | 0, _ => rfl
  | 1, _ => rfl
  | 2, _ => rfl
  | 3, _ => rfl
theorem zOp_x {y : Nat} (h : y < 4) : wX (zOp y) = - wX y ∧ wY (zOp y) = - wY y ∧ iI (y : Int) ^^^ 1 = iI ((zOp y : Nat) : Int) := by
  match y, h with
  | 0, _ => exact ⟨rfl, rfl, by decide⟩
  | 1, _ => exact ⟨rfl, rfl, by decide⟩
  | 2, _ => exact ⟨rfl, rfl, by decide⟩
  | 3, _ => exact ⟨rfl, rfl, by decide⟩
/-- the way back -/
theorem bes_op {w h c y d : Nat} (hw : 1 ≤ w ∧ w ≤ 10) (hh : 1 ≤ h ∧ h ≤ 10) (hc : c < w * h) (hy : y < 4) (he : besI w h c y = (d : Int)) : besI w h d (zOp y) = (c : Int) := by
  obtain ⟨s1, s2, s3⟩ := b_sm (d := 0) hw hh hc
  have hdm := Nat.div_add_mod c w
  obtain ⟨o1, o2, -⟩ := zOp_x hy
  unfold besI at he
  by_cases c1 : 0 ≤ ((c % w : Nat) : Int) + wX y ∧ ((c % w : Nat) : Int) + wX y ≤ (w : Int) - 1
  · rw [if_pos c1] at he
    by_cases c2 : 0 ≤ ((c / w : Nat) : Int) + wY y ∧ ((c / w : Nat) : Int) + wY y ≤ (h : Int) - 1
    · rw [if_pos c2] at he
      obtain ⟨X, hX⟩ : ∃ X : Nat, ((c % w : Nat) : Int) + wX y = X := ⟨(((c % w : Nat) : Int) + wX y).toNat, by omega⟩
      obtain ⟨Y, hY⟩ : ∃ Y : Nat, ((c / w : Nat) : Int) + wY y = Y := ⟨(((c / w : Nat) : Int) + wY y).toNat, by omega⟩
      rw [hX] at c1 he
      rw [hY] at c2 he
      have hd : d = Y * w + X := by
        have : ((Y * w + X : Nat) : Int) = (d : Int) := by
          rw [Int.natCast_add, Int.natCast_mul]
          exact he
        omega
      have hXw : X < w := by omega
      have m1 : d % w = X := by
        rw [hd, Nat.mul_comm, Nat.mul_add_mod, Nat.mod_eq_of_lt hXw]
      have m2 : d / w = Y := by
        rw [hd, Nat.mul_comm, Nat.mul_add_div (by omega), Nat.div_eq_of_lt hXw, Nat.add_zero]
      have n1 : (0 : Int) ≤ ((c / w : Nat) : Int) := Int.natCast_nonneg _
      have n2 : (0 : Int) ≤ ((c % w : Nat) : Int) := Int.natCast_nonneg _
      unfold besI
      rw [m1, m2, o1, o2, if_pos (by omega), if_pos (by omega), show (Y : Int) + -wY y = ((c / w : Nat) : Int) from by omega, show (X : Int) + -wX y = ((c % w : Nat) : Int) from by omega]
      have : ((w * (c / w) + c % w : Nat) : Int) = (c : Int) := by rw [hdm]
      rw [Int.natCast_add, Int.natCast_mul, Int.mul_comm] at this
      exact this
    · rw [if_neg c2] at he; omega
  · rw [if_neg c1] at he; omega
theorem t_andF : ∀ a : Fin 32, ∀ b : Fin 32, (iI (a.1 : Int)) &&& (iI (b.1 : Int)) = iI ((a.1 &&& b.1 : Nat) : Int) := by decide +kernel
theorem t_and {a b : Nat} (ha : a < 32) (hb : b < 32) : iI (a : Int) &&& iI (b : Int) = iI ((a &&& b : Nat) : Int) := t_andF ⟨a, ha⟩ ⟨b, hb⟩
theorem zUb_t {cd : Nat} : ∀ (d e : Nat), (zUb cd d).testBit e = (decide (e < d) && decide (zD cd e = 0)) := by
  intro d
  induction d with
  | zero =>
    intro e
    rw [zUb, Nat.zero_testBit]
    simp
  | succ d ih =>
    intro e
    rw [zUb, Nat.testBit_or, ih]
    by_cases h : e = d
    · subst h
      by_cases h0 : zD cd e = 0
      · rw [if_pos h0, Nat.testBit_two_pow]
        simp [h0]
      · rw [if_neg h0, Nat.zero_testBit]
        simp [h0]
    · have hz : (if zD cd d = 0 then 2 ^ d else 0).testBit e = false := by
        split
        · rw [Nat.testBit_two_pow]
          simp
          omega
        · exact Nat.zero_testBit _
      rw [hz, Bool.or_false]
      congr 1
      rw [decide_eq_decide]
      omega
theorem zNw_0 {nd nb cd : Nat} : ∀ (m d : Nat), nd < d + m → (zNw nd nb cd m d = -1 ↔ ∀ e, d ≤ e → e < nd → ¬ (zD cd e = 0 ∧ nb / 2 ^ e % 2 = 1)) := by
  intro m
  induction m with
  | zero => intro d h; exact ⟨fun _ e h1 h2 => by omega, fun _ => rfl⟩
  | succ m ih =>
    intro d h
    rw [zNw]
    by_cases h1 : nd ≤ d
    · rw [if_pos h1]; exact ⟨fun _ e h2 h3 => by omega, fun _ => rfl⟩
    · rw [if_neg h1]
      by_cases h2 : zD cd d = 0 ∧ nb / 2 ^ d % 2 = 1
      · rw [if_pos h2]; exact ⟨fun z => by omega, fun z => absurd h2 (z d (Nat.le_refl _) (by omega))⟩
      · rw [if_neg h2, ih (d + 1) (by omega)]
        constructor
        · intro z e h3 h4
          by_cases x : e = d
          · rw [x]; exact h2
          · exact z e (by omega) h4
        · intro z e h3 h4
          exact z e (by omega) h4
/-- nothing that is seen is unknown -/
theorem z_free {nd nb cd : Nat} : nb &&& zUb cd nd = 0 ↔ zNw nd nb cd (nd + 1) 0 = -1 := by
  rw [zNw_0 (nd + 1) 0 (by omega)]
  constructor
  · intro h e _ he hz
    have h1 : (nb &&& zUb cd nd).testBit e = false := by rw [h]; exact Nat.zero_testBit _
    rw [Nat.testBit_and, zUb_t, Nat.testBit_eq_decide_div_mod_eq] at h1
    simp [he, hz.1, hz.2] at h1
  · intro h
    apply Nat.eq_of_testBit_eq
    intro e
    rw [Nat.testBit_and, zUb_t, Nat.zero_testBit, Nat.testBit_eq_decide_div_mod_eq]
    by_cases he : e < nd
    · have := h e (by omega) he
      by_cases h0 : zD cd e = 0
      · simp [h0]
        intro z
        exact absurd ⟨h0, z⟩ this
      · simp [h0]
    · simp [he]
/-- Dijkstra: X against the values Y; P: settled -/
def zDj (n : Nat) (X Y : Nat → Nat) (ed : Nat → Nat → Option (Nat × Nat)) (fr P : Nat → Prop) : Prop := (∀ c, c < n → X c ≤ 1000000000000000 ∧ Y c ≤ X c) ∧ (∀ c, c < n → ¬ fr c → X c = Y c) ∧ (∀ c, c < n → P c → X c = Y c) ∧ ∀ c y d k, c < n → fr c → ed c y = some (d, k) → P d → Y d < 1000000000000000 → X c ≤ Y d + k
theorem z_low2 {n : Nat} {X Y : Nat → Nat} {ed : Nat → Nat → Option (Nat × Nat)} {fr P : Nat → Prop} (he : ∀ c y d k, c < n → ed c y = some (d, k) → d < n ∧ 1 ≤ k) (hY : ∀ c, c < n → fr c → zB Y ed c) (hD : zDj n X Y ed fr P) {M : Nat} (hM : ∀ c, c < n → ¬ P c → X c < 1000000000000000 → M ≤ X c) : ∀ (v c : Nat), c < n → Y c = v → v < M → v < 1000000000000000 → X c = Y c ∧ P c := by
  obtain ⟨d1, d2, d3, d4⟩ := hD
  intro v
  induction v using Nat.strongRecOn with
  | ind v ih =>
    intro c hc hv h1 h2
    have hx : X c = Y c := by
      by_cases hf : fr c
      · obtain ⟨-, -, h3⟩ := hY c hc hf
        obtain ⟨y, d, k, e, hd, hk⟩ := h3 (by omega)
        obtain ⟨a1, a2⟩ := he c y d k hc e
        obtain ⟨-, b2⟩ := ih (Y d) (by omega) d a1 rfl (by omega) hd
        have := d4 c y d k hc hf e b2 hd
        have := (d1 c hc).2
        omega
      · exact d2 c hc hf
    refine ⟨hx, Classical.byContradiction fun hn => ?_⟩
    have := hM c hc hn (by omega)
    omega
/-- the least one that is not settled has its value -/
theorem z_pick {n : Nat} {X Y : Nat → Nat} {ed : Nat → Nat → Option (Nat × Nat)} {fr P : Nat → Prop} (he : ∀ c y d k, c < n → ed c y = some (d, k) → d < n ∧ 1 ≤ k) (hY : ∀ c, c < n → fr c → zB Y ed c) (hD : zDj n X Y ed fr P) {q : Nat} (hq : q < n) (hp : ¬ P q) (hf : X q < 1000000000000000) (hM : ∀ c, c < n → ¬ P c → X c < 1000000000000000 → X q ≤ X c) : X q = Y q := by
  have h1 := (hD.1 q hq).2
  apply Classical.byContradiction
  intro hne
  exact hp (z_low2 he hY hD hM (Y q) q hq rfl (by omega) (by omega)).2
/-- nothing is left: all have their values -/
theorem z_end {n : Nat} {X Y : Nat → Nat} {ed : Nat → Nat → Option (Nat × Nat)} {fr P : Nat → Prop} (he : ∀ c y d k, c < n → ed c y = some (d, k) → d < n ∧ 1 ≤ k) (hY : ∀ c, c < n → fr c → zB Y ed c) (hYb : ∀ c, c < n → Y c ≤ 1000000000000000) (hD : zDj n X Y ed fr P) (hM : ∀ c, c < n → ¬ P c → 1000000000000000 ≤ X c) (c : Nat) (hc : c < n) : X c = Y c := by
  have h1 := hD.1 c hc
  have h2 := hYb c hc
  by_cases hf : Y c < 1000000000000000
  · exact (z_low2 he hY hD (M := 1000000000000000) (fun c hc hn hx => hM c hc hn) (Y c) c hc rfl hf hf).1
  · omega
