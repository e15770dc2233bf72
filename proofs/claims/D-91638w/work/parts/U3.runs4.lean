/-! PLAIN: the room: hops of a way: the bound -/
/-- straight where a line is plain between two of its plain cells -/
def rnS (T : Nat) (X Y : Nat → Nat) (sp : Nat → Nat → Bool) : Prop := ∀ i j, i < j → j ≤ T → Y i = Y j → sp (X i) (Y i) = false → sp (X j) (Y j) = false → (∀ x, min (X i) (X j) < x → x < max (X i) (X j) → sp x (Y i) = false) → X i + (j - i) = X j ∨ X j + (j - i) = X i
section U4s
variable {w h T : Nat} {X Y : Nat → Nat} {sp : Nat → Nat → Bool}
theorem rn_gap (H : rnP w h T X Y) (hC : rnS T X Y sp) {y a b : Nat} (hab : a < b) (va : rnV X Y T a y = 1) (vb : rnV X Y T b y = 1) (hn : ∀ x, a < x → x < b → rnV X Y T x y = 0) : rnL X Y T b y = 1 ∨ sp a y = true ∨ sp b y = true ∨ ∃ x, a < x ∧ x < b ∧ sp x y = true := by
  by_cases s1 : sp a y = true
  · exact Or.inr (Or.inl s1)
  by_cases s2 : sp b y = true
  · exact Or.inr (Or.inr (Or.inl s2))
  by_cases s3 : ∃ x, a < x ∧ x < b ∧ sp x y = true
  · exact Or.inr (Or.inr (Or.inr s3))
  left
  have f1 : sp a y = false := by cases e : sp a y with | true => exact absurd e s1 | false => rfl
  have f2 : sp b y = false := by cases e : sp b y with | true => exact absurd e s2 | false => rfl
  have f3 : ∀ x, a < x → x < b → sp x y = false := fun x h1 h2 => by
    cases e : sp x y with
    | true => exact absurd ⟨x, h1, h2, e⟩ s3
    | false => rfl
  obtain ⟨i, i1, i2, i3⟩ := rnV_ex T (by omega : rnV X Y T a y ≠ 0)
  obtain ⟨j, j1, j2, j3⟩ := rnV_ex T (by omega : rnV X Y T b y ≠ 0)
  have l1 := rnL_1 (x := b) (y := y) T H
  rcases Nat.lt_trichotomy i j with c | c | c
  · have z := hC i j c j1 (by omega) (by rw [i2, i3]; exact f1) (by rw [j2, j3]; exact f2) (fun x h1 h2 => by rw [i3]; exact f3 x (by omega) (by omega))
    have z : X i + (j - i) = X j := by omega
    have lp := (rn_lip (j - (i + 1)) (i + 1) H (by omega)).1
    rw [show i + 1 + (j - (i + 1)) = j by omega] at lp
    have sx : X (i + 1) = a + 1 ∧ Y (i + 1) = y := by
      rcases H.2.2 i (by omega) with ⟨a1, a2 | a2⟩ | ⟨a1, a2 | a2⟩ <;> omega
    by_cases d : a + 1 = b
    · have k := rnL_at (X := X) (Y := Y) (i := i) (by omega) T (by omega)
      rw [show max (X i) (X (i + 1)) = b by omega, i3] at k
      omega
    · have k := rnV_at (X := X) (Y := Y) (i := i + 1) T (by omega)
      rw [sx.1, sx.2, hn (a + 1) (by omega) (by omega)] at k
      omega
  · rw [c] at i2
    omega
  · have z := hC j i c i1 (by omega) (by rw [j2, j3]; exact f2) (by rw [i2, i3]; exact f1) (fun x h1 h2 => by rw [j3]; exact f3 x (by omega) (by omega))
    have z : X i + (i - j) = X j := by omega
    have lp := (rn_lip (i - (j + 1)) (j + 1) H (by omega)).2
    rw [show j + 1 + (i - (j + 1)) = i by omega] at lp
    have sx : X (j + 1) + 1 = b ∧ Y (j + 1) = y := by
      rcases H.2.2 j (by omega) with ⟨a1, a2 | a2⟩ | ⟨a1, a2 | a2⟩ <;> omega
    by_cases d : a + 1 = b
    · have k := rnL_at (X := X) (Y := Y) (i := j) (by omega) T (by omega)
      rw [show max (X j) (X (j + 1)) = b by omega, j3] at k
      omega
    · have k := rnV_at (X := X) (Y := Y) (i := j + 1) T (by omega)
      rw [sx.2, show X (j + 1) = b - 1 by omega, hn (b - 1) (by omega) (by omega)] at k
      omega
theorem rn_rows (H : rnP w h T X Y) (hC : rnS T X Y sp) : T + 1 ≤ s2 (rnL X Y T) w h + h + s2 (fun x y => rnC (fun x => rnV X Y T x y) (fun x => rnL X Y T x y) (fun x => sp x y) x) w h := by
  rw [← rnV_sum T H]
  unfold s2
  have e : ∀ y, y < h → zSum (fun x => rnV X Y T x y) w ≤ zSum (fun x => rnL X Y T x y) w + 1 + zSum (rnC (fun x => rnV X Y T x y) (fun x => rnL X Y T x y) (fun x => sp x y)) w := fun y _ =>
    rn_row (fun x => rnV_1 T H) (fun x => rnL_v H) (fun a b hab _ va vb hn => rn_gap H hC hab va vb hn)
  have k := zSum_lm h e
  have k2 : zSum (fun y => zSum (fun x => rnL X Y T x y) w + 1 + zSum (rnC (fun x => rnV X Y T x y) (fun x => rnL X Y T x y) (fun x => sp x y)) w) h = zSum (fun y => zSum (fun x => rnL X Y T x y) w) h + h + zSum (fun y => zSum (rnC (fun x => rnV X Y T x y) (fun x => rnL X Y T x y) (fun x => sp x y)) w) h := by
    rw [zSum_add (F := fun y => zSum (fun x => rnL X Y T x y) w + 1), zSum_add (G := fun _ => 1), zSum_c]
  rw [k2] at k
  exact k
/-- THE HOPS OF A WAY: both sides of the map, two for each special cell, one for each end that is special -/
theorem rn_hops (H : rnP w h T X Y) (hC : rnS T X Y sp) (hC' : rnS T Y X (fun y x => sp x y)) : T + 2 ≤ w + h + 2 * s2 (fun x y => if sp x y = true then 1 else 0) w h + (if sp (X 0) (Y 0) = true then 1 else 0) + (if sp (X T) (Y T) = true then 1 else 0) := by
  have r1 := rn_rows H hC
  have r2 := rn_rows H.sw hC'
  have r3 := rnL_sum T H
  have r4 := rn_deg (q := fun x y => if sp x y = true then 1 else 0) T H
  obtain ⟨A, eA⟩ : ∃ A : Nat → Nat → Nat, A = fun x y => rnC (fun x => rnV X Y T x y) (fun x => rnL X Y T x y) (fun x => sp x y) x := ⟨_, rfl⟩
  obtain ⟨B, eB⟩ : ∃ B : Nat → Nat → Nat, B = fun x y => rnC (fun y => rnV Y X T y x) (fun y => rnL Y X T y x) (fun y => sp x y) y := ⟨_, rfl⟩
  obtain ⟨q, eq⟩ : ∃ q : Nat → Nat → Nat, q = fun x y => if sp x y = true then 1 else 0 := ⟨_, rfl⟩
  have r1 : T + 1 ≤ s2 (rnL X Y T) w h + h + s2 A w h := by
    rw [eA]
    exact r1
  have r2 : T + 1 ≤ s2 (rnL Y X T) h w + w + s2 B w h := by
    rw [s2_swap (F := fun y x => rnC (fun y => rnV Y X T y x) (fun y => rnL Y X T y x) (fun y => sp x y) y)] at r2
    rw [eB]
    exact r2
  have r4 : s2 (fun x y => q x y * rnL X Y T x y) w h + s2 (fun x y => q x y * rnL X Y T (x + 1) y) w h + s2 (fun x y => q x y * rnL Y X T y x) w h + s2 (fun x y => q x y * rnL Y X T (y + 1) x) w h + q (X 0) (Y 0) + q (X T) (Y T) = 2 * s2 (fun x y => q x y * rnV X Y T x y) w h := by
    rw [s2_swap (F := fun y x => (if sp x y = true then 1 else 0) * rnL Y X T y x), s2_swap (F := fun y x => (if sp x y = true then 1 else 0) * rnL Y X T (y + 1) x)] at r4
    rw [eq]
    exact r4
  have k : s2 (fun x y => A x y + B x y + q x y * rnL X Y T x y + q x y * rnL X Y T (x + 1) y + q x y * rnL Y X T y x + q x y * rnL Y X T (y + 1) x) w h ≤ s2 (fun x y => q x y + q x y + q x y * rnV X Y T x y + q x y * rnV X Y T x y) w h := s2_le (fun x y _ _ => by
    have a1 : A x y = if sp x y = true then (if rnV X Y T x y = 0 then 1 else (1 - rnL X Y T x y) + (1 - rnL X Y T (x + 1) y)) else 0 := by
      rw [eA]
      rfl
    have b1 : B x y = if sp x y = true then (if rnV Y X T y x = 0 then 1 else (1 - rnL Y X T y x) + (1 - rnL Y X T (y + 1) x)) else 0 := by
      rw [eB]
      rfl
    have q1 : q x y = if sp x y = true then 1 else 0 := by
      rw [eq]
    by_cases c : sp x y = true
    · rw [if_pos c] at a1 b1 q1
      have v1 := rnV_1 (x := x) (y := y) T H
      have l1 := rnL_1 (x := x) (y := y) T H
      have l2 := rnL_1 (x := x + 1) (y := y) T H
      have l3 := rnL_1 (x := y) (y := x) T H.sw
      have l4 := rnL_1 (x := y + 1) (y := x) T H.sw
      have sw := rnV_sw (X := X) (Y := Y) (x := x) (y := y) T
      rw [q1]
      by_cases d : rnV X Y T x y = 0
      · obtain ⟨z1, z2⟩ := rnL_v0 H d
        obtain ⟨z3, z4⟩ := rnL_v0 H.sw (x := y) (y := x) (by omega)
        rw [if_pos d] at a1
        rw [if_pos (by omega)] at b1
        rw [a1, b1, z1, z2, z3, z4, d]
        omega
      · rw [if_neg d] at a1
        rw [if_neg (by omega)] at b1
        rw [a1, b1]
        omega
    · rw [if_neg c] at a1 b1 q1
      rw [a1, b1, q1]
      omega)
  rw [s2_add, s2_add, s2_add, s2_add, s2_add, s2_add, s2_add, s2_add] at k
  have g0 : q (X 0) (Y 0) = if sp (X 0) (Y 0) = true then 1 else 0 := by rw [eq]
  have g1 : q (X T) (Y T) = if sp (X T) (Y T) = true then 1 else 0 := by rw [eq]
  rw [← g0, ← g1, ← eq]
  omega
end U4s
