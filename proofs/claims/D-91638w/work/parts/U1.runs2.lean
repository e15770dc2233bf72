/-! PLAIN: the room: hops of a way, all lines together -/
theorem s1_ind {f : Nat → Nat} {a : Nat} : ∀ n, zSum (fun x => if a = x then f x else 0) n = if a < n then f a else 0 := by
  intro n
  induction n with
  | zero => rfl
  | succ n ih =>
    show zSum (fun x => if a = x then f x else 0) n + (if a = n then f n else 0) = _
    rw [ih]
    by_cases c : a = n
    · rw [if_neg (by omega), if_pos c, if_pos (by omega), c]
      omega
    · rw [if_neg c]
      by_cases d : a < n
      · rw [if_pos d, if_pos (by omega)]
        omega
      · rw [if_neg d, if_neg (by omega)]
section U1s
variable {F G : Nat → Nat → Nat} {w h a b : Nat}
/-- over all cells -/
def s2 (F : Nat → Nat → Nat) (w h : Nat) : Nat := zSum (fun y => zSum (fun x => F x y) w) h
theorem s2_add : s2 (fun x y => F x y + G x y) w h = s2 F w h + s2 G w h := by
  unfold s2
  have e : (fun y => zSum (fun x => F x y + G x y) w) = fun y => zSum (fun x => F x y) w + zSum (fun x => G x y) w := funext fun y => zSum_add w
  rw [e, zSum_add]
theorem s2_le (H : ∀ x y, x < w → y < h → F x y ≤ G x y) : s2 F w h ≤ s2 G w h := by
  unfold s2
  exact zSum_lm h (fun y hy => zSum_lm w (fun x hx => H x y hx hy))
theorem s2_ind (ha : a < w) (hb : b < h) : s2 (fun x y => if a = x ∧ b = y then F x y else 0) w h = F a b := by
  unfold s2
  have e : (fun y => zSum (fun x => if a = x ∧ b = y then F x y else 0) w) = fun y => if b = y then F a y else 0 := funext fun y => by
    by_cases c : b = y
    · rw [if_pos c]
      have e2 : (fun x => if a = x ∧ b = y then F x y else 0) = fun x => if a = x then F x y else 0 := funext fun x => by
        by_cases d : a = x
        · rw [if_pos ⟨d, c⟩, if_pos d]
        · rw [if_neg (fun z => d z.1), if_neg d]
      rw [e2, s1_ind, if_pos ha]
    · rw [if_neg c]
      refine zSum_0 w (fun x _ => if_neg (fun z => c z.2))
  rw [e, s1_ind, if_pos hb]
theorem s2_none {P : Prop} [Decidable P] (hp : ¬ P) : s2 (fun x y => if P ∧ a = x ∧ b = y then F x y else 0) w h = 0 := by
  unfold s2
  refine zSum_0 h (fun y _ => zSum_0 w (fun x _ => if_neg (fun z => hp z.1)))
theorem s2_one {P : Prop} [Decidable P] (hp : P) (ha : a < w) (hb : b < h) : s2 (fun x y => if P ∧ a = x ∧ b = y then F x y else 0) w h = F a b := by
  have e : (fun x y => if P ∧ a = x ∧ b = y then F x y else 0) = fun x y => if a = x ∧ b = y then F x y else 0 := funext fun x => funext fun y => by
    by_cases c : a = x ∧ b = y
    · rw [if_pos ⟨hp, c⟩, if_pos c]
    · rw [if_neg (fun z => c z.2), if_neg c]
  rw [e, s2_ind ha hb]
theorem s2_swap : s2 F w h = s2 (fun x y => F y x) h w := by
  unfold s2
  exact zSum_swap (F := fun y x => F x y) h
end U1s
/-- how often a cell is visited up to time t -/
def rnV (X Y : Nat → Nat) : Nat → Nat → Nat → Nat
  | 0, x, y => if X 0 = x ∧ Y 0 = y then 1 else 0
  | t + 1, x, y => rnV X Y t x y + if X (t + 1) = x ∧ Y (t + 1) = y then 1 else 0
/-- hops along a line whose right end is x -/
def rnL (X Y : Nat → Nat) : Nat → Nat → Nat → Nat
  | 0, _, _ => 0
  | t + 1, x, y => rnL X Y t x y + if Y t = Y (t + 1) ∧ max (X t) (X (t + 1)) = x ∧ Y t = y then 1 else 0
/-- a way on the grid -/
def rnP (w h T : Nat) (X Y : Nat → Nat) : Prop := (∀ i, i ≤ T → X i < w ∧ Y i < h) ∧ (∀ i j, i ≤ T → j ≤ T → X i = X j → Y i = Y j → i = j) ∧ ∀ i, i < T → (Y (i + 1) = Y i ∧ (X (i + 1) = X i + 1 ∨ X i = X (i + 1) + 1)) ∨ (X (i + 1) = X i ∧ (Y (i + 1) = Y i + 1 ∨ Y i = Y (i + 1) + 1))
section U2s
variable {w h T : Nat} {X Y : Nat → Nat}
theorem rnP.sw (H : rnP w h T X Y) : rnP h w T Y X := ⟨fun i hi => ⟨(H.1 i hi).2, (H.1 i hi).1⟩, fun i j hi hj a b => H.2.1 i j hi hj b a, fun i hi => (H.2.2 i hi).symm⟩
theorem rnP.le {t : Nat} (H : rnP w h T X Y) (ht : t ≤ T) : rnP w h t X Y := ⟨fun i hi => H.1 i (by omega), fun i j hi hj => H.2.1 i j (by omega) (by omega), fun i hi => H.2.2 i (by omega)⟩
theorem rnV_sw {x y : Nat} : ∀ t, rnV X Y t x y = rnV Y X t y x := by
  intro t
  induction t with
  | zero =>
    unfold rnV
    by_cases c : X 0 = x ∧ Y 0 = y
    · rw [if_pos c, if_pos ⟨c.2, c.1⟩]
    · rw [if_neg c, if_neg (fun z => c ⟨z.2, z.1⟩)]
  | succ t ih =>
    unfold rnV
    rw [ih]
    by_cases c : X (t + 1) = x ∧ Y (t + 1) = y
    · rw [if_pos c, if_pos ⟨c.2, c.1⟩]
    · rw [if_neg c, if_neg (fun z => c ⟨z.2, z.1⟩)]
theorem rnV_ex {x y : Nat} : ∀ t, rnV X Y t x y ≠ 0 → ∃ i, i ≤ t ∧ X i = x ∧ Y i = y := by
  intro t
  induction t with
  | zero =>
    intro z
    unfold rnV at z
    by_cases c : X 0 = x ∧ Y 0 = y
    · exact ⟨0, Nat.le_refl _, c⟩
    · exact absurd (if_neg c) z
  | succ t ih =>
    intro z
    unfold rnV at z
    by_cases c : X (t + 1) = x ∧ Y (t + 1) = y
    · exact ⟨t + 1, Nat.le_refl _, c⟩
    · rw [if_neg c] at z
      obtain ⟨i, i1, i2⟩ := ih z
      exact ⟨i, by omega, i2⟩
theorem rnV_at {i : Nat} : ∀ t, i ≤ t → 1 ≤ rnV X Y t (X i) (Y i) := by
  intro t
  induction t with
  | zero =>
    intro hi
    have e : i = 0 := by omega
    subst e
    unfold rnV
    rw [if_pos ⟨rfl, rfl⟩]
    omega
  | succ t ih =>
    intro hi
    unfold rnV
    by_cases c : i = t + 1
    · subst c
      rw [if_pos ⟨rfl, rfl⟩]
      omega
    · have := ih (by omega)
      omega
theorem rnV_1 {x y : Nat} : ∀ t, rnP w h t X Y → rnV X Y t x y ≤ 1 := by
  intro t
  induction t with
  | zero =>
    intro _
    unfold rnV
    split <;> omega
  | succ t ih =>
    intro H
    unfold rnV
    have := ih (H.le (by omega))
    by_cases c : X (t + 1) = x ∧ Y (t + 1) = y
    · by_cases d : rnV X Y t x y = 0
      · rw [d]
        split <;> omega
      · obtain ⟨i, i1, i2, i3⟩ := rnV_ex t d
        have := H.2.1 i (t + 1) (by omega) (by omega) (by omega) (by omega)
        omega
    · rw [if_neg c]
      omega
theorem rnV_sum : ∀ t, rnP w h t X Y → s2 (rnV X Y t) w h = t + 1 := by
  intro t
  induction t with
  | zero =>
    intro H
    obtain ⟨a, b⟩ := H.1 0 (Nat.le_refl _)
    exact s2_ind (F := fun _ _ => 1) a b
  | succ t ih =>
    intro H
    obtain ⟨a, b⟩ := H.1 (t + 1) (Nat.le_refl _)
    have e : s2 (rnV X Y (t + 1)) w h = s2 (rnV X Y t) w h + s2 (fun x y => if X (t + 1) = x ∧ Y (t + 1) = y then 1 else 0) w h := s2_add
    rw [e, ih (H.le (by omega)), s2_ind (F := fun _ _ => 1) a b]
theorem rnL_ex {x y : Nat} : ∀ t, rnL X Y t x y ≠ 0 → ∃ i, i < t ∧ Y i = Y (i + 1) ∧ max (X i) (X (i + 1)) = x ∧ Y i = y := by
  intro t
  induction t with
  | zero => intro z; exact absurd rfl z
  | succ t ih =>
    intro z
    unfold rnL at z
    by_cases c : Y t = Y (t + 1) ∧ max (X t) (X (t + 1)) = x ∧ Y t = y
    · exact ⟨t, by omega, c⟩
    · rw [if_neg c] at z
      obtain ⟨i, i1, i2⟩ := ih z
      exact ⟨i, by omega, i2⟩
theorem rnL_at {i : Nat} (hi : Y i = Y (i + 1)) : ∀ t, i < t → 1 ≤ rnL X Y t (max (X i) (X (i + 1))) (Y i) := by
  intro t
  induction t with
  | zero => intro z; omega
  | succ t ih =>
    intro z
    unfold rnL
    by_cases c : i = t
    · subst c
      rw [if_pos ⟨hi, rfl, rfl⟩]
      omega
    · have := ih (by omega)
      omega
theorem rnL_1 {x y : Nat} : ∀ t, rnP w h t X Y → rnL X Y t x y ≤ 1 := by
  intro t
  induction t with
  | zero => intro _; exact Nat.zero_le _
  | succ t ih =>
    intro H
    unfold rnL
    have := ih (H.le (by omega))
    by_cases c : Y t = Y (t + 1) ∧ max (X t) (X (t + 1)) = x ∧ Y t = y
    · by_cases d : rnL X Y t x y = 0
      · rw [d]
        split <;> omega
      · obtain ⟨i, i1, i2, i3, i4⟩ := rnL_ex t d
        have hi := H.2.2 i (by omega)
        have ht := H.2.2 t (by omega)
        have k1 := H.2.1 i (t + 1) (by omega) (by omega)
        have k2 := H.2.1 (i + 1) (t + 1) (by omega) (by omega)
        obtain ⟨c1, c2, c3⟩ := c
        exfalso
        rcases hi with ⟨a1, a2 | a2⟩ | ⟨a1, a2 | a2⟩ <;> rcases ht with ⟨b1, b2 | b2⟩ | ⟨b1, b2 | b2⟩ <;> first | omega | (have := k1 (by omega) (by omega); omega) | (have := k2 (by omega) (by omega); omega)
    · rw [if_neg c]
      omega
theorem rnL_v {x y : Nat} (H : rnP w h T X Y) : rnL X Y T (x + 1) y = 0 ∨ (rnL X Y T (x + 1) y = 1 ∧ rnV X Y T x y = 1 ∧ rnV X Y T (x + 1) y = 1) := by
  by_cases d : rnL X Y T (x + 1) y = 0
  · exact Or.inl d
  · right
    have d1 := rnL_1 (x := x + 1) (y := y) T H
    obtain ⟨i, i1, i2, i3, i4⟩ := rnL_ex T d
    have hi := H.2.2 i (by omega)
    have u0 := rnV_1 (x := x) (y := y) T H
    have u1 := rnV_1 (x := x + 1) (y := y) T H
    have v0 := rnV_at (X := X) (Y := Y) (i := i) T (by omega)
    have v1 := rnV_at (X := X) (Y := Y) (i := i + 1) T (by omega)
    have ey : Y i = y := i4
    have ey' : Y (i + 1) = y := by omega
    rw [ey] at v0
    rw [ey'] at v1
    have z : (X i = x ∧ X (i + 1) = x + 1) ∨ (X i = x + 1 ∧ X (i + 1) = x) := by
      rcases hi with ⟨a1, a2 | a2⟩ | ⟨a1, a2 | a2⟩ <;> omega
    rcases z with ⟨z1, z2⟩ | ⟨z1, z2⟩
    · rw [z1] at v0
      rw [z2] at v1
      exact ⟨by omega, by omega, by omega⟩
    · rw [z1] at v0
      rw [z2] at v1
      exact ⟨by omega, by omega, by omega⟩
end U2s
