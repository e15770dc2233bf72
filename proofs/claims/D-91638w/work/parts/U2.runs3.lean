/-! PLAIN: the room: hops of a way: at most both sides and two for each special cell -/
section U3s
variable {w h T : Nat} {X Y : Nat → Nat}
theorem rn_lip : ∀ (d i : Nat), rnP w h T X Y → i + d ≤ T → X (i + d) ≤ X i + d ∧ X i ≤ X (i + d) + d := by
  intro d
  induction d with
  | zero => intro i _ _; exact ⟨Nat.le_refl _, Nat.le_refl _⟩
  | succ d ih =>
    intro i H hd
    obtain ⟨h1, h2⟩ := ih i H (by omega)
    have := H.2.2 (i + d) (by omega)
    show X (i + d + 1) ≤ _ ∧ _ ≤ X (i + d + 1) + _
    rcases this with ⟨a1, a2 | a2⟩ | ⟨a1, a2 | a2⟩ <;> omega
theorem rnL_0 {y : Nat} (H : rnP w h T X Y) : rnL X Y T 0 y = 0 := by
  refine Classical.byContradiction (fun z => ?_)
  obtain ⟨i, i1, i2, i3, i4⟩ := rnL_ex T z
  have := H.2.2 i (by omega)
  rcases this with ⟨a1, a2 | a2⟩ | ⟨a1, a2 | a2⟩ <;> omega
theorem rnL_v0 {x y : Nat} (H : rnP w h T X Y) (hv : rnV X Y T x y = 0) : rnL X Y T x y = 0 ∧ rnL X Y T (x + 1) y = 0 := by
  refine ⟨?_, ?_⟩
  · cases x with
    | zero => exact rnL_0 H
    | succ x =>
      rcases rnL_v (x := x) (y := y) H with z | ⟨-, -, z⟩
      · exact z
      · omega
  · rcases rnL_v (x := x) (y := y) H with z | ⟨-, z, -⟩
    · exact z
    · omega
theorem rnL_sum : ∀ t, rnP w h t X Y → s2 (rnL X Y t) w h + s2 (rnL Y X t) h w = t := by
  intro t
  induction t with
  | zero =>
    intro _
    have e1 : s2 (rnL X Y 0) w h = 0 := zSum_0 h (fun y _ => zSum_0 w (fun x _ => rfl))
    have e2 : s2 (rnL Y X 0) h w = 0 := zSum_0 w (fun y _ => zSum_0 h (fun x _ => rfl))
    omega
  | succ t ih =>
    intro H
    obtain ⟨a0, b0⟩ := H.1 t (by omega)
    obtain ⟨a1, b1⟩ := H.1 (t + 1) (Nat.le_refl _)
    have e1 : s2 (rnL X Y (t + 1)) w h = s2 (rnL X Y t) w h + s2 (fun x y => if Y t = Y (t + 1) ∧ max (X t) (X (t + 1)) = x ∧ Y t = y then 1 else 0) w h := s2_add
    have e2 : s2 (rnL Y X (t + 1)) h w = s2 (rnL Y X t) h w + s2 (fun y x => if X t = X (t + 1) ∧ max (Y t) (Y (t + 1)) = y ∧ X t = x then 1 else 0) h w := s2_add
    have ih := ih (H.le (by omega))
    rcases H.2.2 t (by omega) with ⟨z1, z2⟩ | ⟨z1, z2⟩
    · rw [e1, e2, s2_one (F := fun _ _ => 1) z1.symm (by omega) b0, s2_none (F := fun _ _ => 1) (by omega)]
      omega
    · rw [e1, e2, s2_none (F := fun _ _ => 1) (by omega), s2_one (F := fun _ _ => 1) z1.symm (by omega) a0]
      omega
theorem s2_st {q A : Nat → Nat → Nat} {P : Prop} [Decidable P] {a b : Nat} (hp : P → a < w ∧ b < h) : s2 (fun x y => q x y * (A x y + if P ∧ a = x ∧ b = y then 1 else 0)) w h = s2 (fun x y => q x y * A x y) w h + (if P then q a b else 0) := by
  have e : (fun x y => q x y * (A x y + if P ∧ a = x ∧ b = y then 1 else 0)) = fun x y => q x y * A x y + (if P ∧ a = x ∧ b = y then q x y else 0) := funext fun x => funext fun y => by
    by_cases c : P ∧ a = x ∧ b = y
    · rw [if_pos c, if_pos c, Nat.mul_add, Nat.mul_one]
    · rw [if_neg c, if_neg c]
      rfl
  rw [e, s2_add]
  by_cases c : P
  · rw [if_pos c, s2_one c (hp c).1 (hp c).2]
  · rw [if_neg c, s2_none c]
theorem s2_st1 {q A : Nat → Nat → Nat} {P : Prop} [Decidable P] {a b : Nat} (hp : P → 1 ≤ a ∧ a - 1 < w ∧ b < h) : s2 (fun x y => q x y * (A x y + if P ∧ a = x + 1 ∧ b = y then 1 else 0)) w h = s2 (fun x y => q x y * A x y) w h + (if P then q (a - 1) b else 0) := by
  rw [← s2_st (q := q) (A := A) (P := P) (a := a - 1) (b := b) (fun z => ⟨(hp z).2.1, (hp z).2.2⟩)]
  have e : (fun x y => q x y * (A x y + if P ∧ a = x + 1 ∧ b = y then 1 else 0)) = fun x y => q x y * (A x y + if P ∧ a - 1 = x ∧ b = y then 1 else 0) := funext fun x => funext fun y => by
    by_cases c : P ∧ a = x + 1 ∧ b = y
    · rw [if_pos c, if_pos ⟨c.1, by omega, c.2.2⟩]
    · rw [if_neg c, if_neg (fun z => c ⟨z.1, by have := hp z.1; omega, z.2.2⟩)]
  rw [e]
theorem rn_deg {q : Nat → Nat → Nat} : ∀ t, rnP w h t X Y → s2 (fun x y => q x y * rnL X Y t x y) w h + s2 (fun x y => q x y * rnL X Y t (x + 1) y) w h + s2 (fun y x => q x y * rnL Y X t y x) h w + s2 (fun y x => q x y * rnL Y X t (y + 1) x) h w + q (X 0) (Y 0) + q (X t) (Y t) = 2 * s2 (fun x y => q x y * rnV X Y t x y) w h := by
  intro t
  induction t with
  | zero =>
    intro H
    obtain ⟨a, b⟩ := H.1 0 (Nat.le_refl _)
    have z : ∀ n m : Nat, ∀ F : Nat → Nat → Nat, (∀ x y, F x y = 0) → s2 F n m = 0 := fun n m F hF => zSum_0 m (fun y _ => zSum_0 n (fun x _ => hF x y))
    rw [z w h (fun x y => q x y * rnL X Y 0 x y) (fun x y => Nat.mul_zero _), z w h (fun x y => q x y * rnL X Y 0 (x + 1) y) (fun x y => Nat.mul_zero _), z h w (fun y x => q x y * rnL Y X 0 y x) (fun x y => Nat.mul_zero _), z h w (fun y x => q x y * rnL Y X 0 (y + 1) x) (fun x y => Nat.mul_zero _)]
    have e : (fun x y => q x y * rnV X Y 0 x y) = fun x y => if X 0 = x ∧ Y 0 = y then q x y else 0 := funext fun x => funext fun y => by
      show q x y * (if X 0 = x ∧ Y 0 = y then 1 else 0) = _
      by_cases c : X 0 = x ∧ Y 0 = y
      · rw [if_pos c, if_pos c, Nat.mul_one]
      · rw [if_neg c, if_neg c]
        rfl
    rw [e, s2_ind a b]
    omega
  | succ t ih =>
    intro H
    obtain ⟨a0, b0⟩ := H.1 t (by omega)
    obtain ⟨a1, b1⟩ := H.1 (t + 1) (Nat.le_refl _)
    have ih := ih (H.le (by omega))
    have st := H.2.2 t (by omega)
    have e1 : s2 (fun x y => q x y * rnL X Y (t + 1) x y) w h = s2 (fun x y => q x y * rnL X Y t x y) w h + (if Y t = Y (t + 1) then q (max (X t) (X (t + 1))) (Y t) else 0) := s2_st (fun _ => ⟨by omega, by omega⟩)
    have e2 : s2 (fun x y => q x y * rnL X Y (t + 1) (x + 1) y) w h = s2 (fun x y => q x y * rnL X Y t (x + 1) y) w h + (if Y t = Y (t + 1) then q (max (X t) (X (t + 1)) - 1) (Y t) else 0) := s2_st1 (A := fun x y => rnL X Y t (x + 1) y) (fun _ => by rcases st with ⟨z1, z2 | z2⟩ | ⟨z1, z2 | z2⟩ <;> exact ⟨by omega, by omega, by omega⟩)
    have e3 : s2 (fun y x => q x y * rnL Y X (t + 1) y x) h w = s2 (fun y x => q x y * rnL Y X t y x) h w + (if X t = X (t + 1) then q (X t) (max (Y t) (Y (t + 1))) else 0) := s2_st (q := fun y x => q x y) (fun _ => ⟨by omega, by omega⟩)
    have e4 : s2 (fun y x => q x y * rnL Y X (t + 1) (y + 1) x) h w = s2 (fun y x => q x y * rnL Y X t (y + 1) x) h w + (if X t = X (t + 1) then q (X t) (max (Y t) (Y (t + 1)) - 1) else 0) := s2_st1 (q := fun y x => q x y) (A := fun y x => rnL Y X t (y + 1) x) (fun _ => by rcases st with ⟨z1, z2 | z2⟩ | ⟨z1, z2 | z2⟩ <;> exact ⟨by omega, by omega, by omega⟩)
    have e5 : s2 (fun x y => q x y * rnV X Y (t + 1) x y) w h = s2 (fun x y => q x y * rnV X Y t x y) w h + q (X (t + 1)) (Y (t + 1)) := by
      have := s2_st (w := w) (h := h) (q := q) (A := rnV X Y t) (P := True) (a := X (t + 1)) (b := Y (t + 1)) (fun _ => ⟨a1, b1⟩)
      rw [if_pos trivial] at this
      rw [← this]
      have e : (fun x y => q x y * rnV X Y (t + 1) x y) = fun x y => q x y * (rnV X Y t x y + if True ∧ X (t + 1) = x ∧ Y (t + 1) = y then 1 else 0) := funext fun x => funext fun y => by
        show q x y * (rnV X Y t x y + if X (t + 1) = x ∧ Y (t + 1) = y then 1 else 0) = _
        by_cases c : X (t + 1) = x ∧ Y (t + 1) = y
        · rw [if_pos c, if_pos ⟨trivial, c⟩]
        · rw [if_neg c, if_neg (fun z => c z.2)]
      rw [e]
    rw [e1, e2, e3, e4, e5]
    rcases st with ⟨z1, z2⟩ | ⟨z1, z2⟩
    · rw [if_pos z1.symm, if_pos z1.symm, if_neg (by omega), if_neg (by omega)]
      rcases z2 with z2 | z2
      · rw [show max (X t) (X (t + 1)) = X (t + 1) by omega, show X (t + 1) - 1 = X t by omega, z1]
        rw [show q (X t) (Y t) = q (X t) (Y t) from rfl] at ih
        omega
      · rw [show max (X t) (X (t + 1)) = X t by omega, show X t - 1 = X (t + 1) by omega, z1]
        omega
    · rw [if_neg (by omega), if_neg (by omega), if_pos z1.symm, if_pos z1.symm]
      rcases z2 with z2 | z2
      · rw [show max (Y t) (Y (t + 1)) = Y (t + 1) by omega, show Y (t + 1) - 1 = Y t by omega, z1]
        omega
      · rw [show max (Y t) (Y (t + 1)) = Y t by omega, show Y t - 1 = Y (t + 1) by omega, z1]
        omega
end U3s
