/-! PLAIN: the room: hops of a way: the bound with its losses -/
/-- pairs along the lines that are not hopped over, and special cells on both rims -/
def rnEE (w h T : Nat) (X Y : Nat → Nat) (sp : Nat → Nat → Bool) : Nat := zSum (fun y => zSum (rnE (fun x => rnL X Y T x y) (fun x => sp x y)) w + (if sp 0 y = true then 1 else 0) + (if sp (w - 1) y = true then 1 else 0)) h
section U6s
variable {w h T : Nat} {X Y : Nat → Nat} {sp : Nat → Nat → Bool}
theorem rnL_w {y : Nat} (H : rnP w h T X Y) : rnL X Y T w y = 0 := by
  refine Classical.byContradiction (fun z => ?_)
  obtain ⟨i, i1, i2, i3, i4⟩ := rnL_ex T z
  have a := H.1 i (by omega)
  have b := H.1 (i + 1) (by omega)
  omega
theorem rn_rows2 (hw : 1 ≤ w) (H : rnP w h T X Y) (hC : rnS T X Y sp) : T + 1 + rnEE w h T X Y sp ≤ s2 (rnL X Y T) w h + h + s2 (fun x y => rnC (fun x => rnV X Y T x y) (fun x => rnL X Y T x y) (fun x => sp x y) x) w h := by
  rw [← rnV_sum T H]
  unfold s2 rnEE
  have e : ∀ y, y < h → zSum (fun x => rnV X Y T x y) w + (zSum (rnE (fun x => rnL X Y T x y) (fun x => sp x y)) w + (if sp 0 y = true then 1 else 0) + (if sp (w - 1) y = true then 1 else 0)) ≤ zSum (fun x => rnL X Y T x y) w + 1 + zSum (rnC (fun x => rnV X Y T x y) (fun x => rnL X Y T x y) (fun x => sp x y)) w := fun y _ => by
    have := rn_row2 (v := fun x => rnV X Y T x y) (l := fun x => rnL X Y T x y) (s := fun x => sp x y) hw (fun x => rnV_1 T H) (rnL_0 H) (rnL_w H) (fun x => rnL_v H) (fun a b hab _ va vb hn => rn_gap H hC hab va vb hn)
    rw [← Nat.add_assoc, ← Nat.add_assoc]
    exact this
  have k := zSum_lm h e
  have k2 : zSum (fun y => zSum (fun x => rnL X Y T x y) w + 1 + zSum (rnC (fun x => rnV X Y T x y) (fun x => rnL X Y T x y) (fun x => sp x y)) w) h = zSum (fun y => zSum (fun x => rnL X Y T x y) w) h + h + zSum (fun y => zSum (rnC (fun x => rnV X Y T x y) (fun x => rnL X Y T x y) (fun x => sp x y)) w) h := by
    rw [zSum_add (F := fun y => zSum (fun x => rnL X Y T x y) w + 1), zSum_add (G := fun _ => 1), zSum_c]
  rw [k2, zSum_add (F := fun y => zSum (fun x => rnV X Y T x y) w)] at k
  exact k
/-- THE HOPS OF A WAY, with its losses -/
theorem rn_hops2 (hw : 1 ≤ w) (hh : 1 ≤ h) (H : rnP w h T X Y) (hC : rnS T X Y sp) (hC' : rnS T Y X (fun y x => sp x y)) : T + 2 + rnEE w h T X Y sp + rnEE h w T Y X (fun y x => sp x y) ≤ w + h + 2 * s2 (fun x y => if sp x y = true then 1 else 0) w h + (if sp (X 0) (Y 0) = true then 1 else 0) + (if sp (X T) (Y T) = true then 1 else 0) := by
  have r1 := rn_rows2 hw H hC
  have r2 := rn_rows2 hh H.sw hC'
  have r3 := rnL_sum T H
  have r4 := rn_deg (q := fun x y => if sp x y = true then 1 else 0) T H
  obtain ⟨A, eA⟩ : ∃ A : Nat → Nat → Nat, A = fun x y => rnC (fun x => rnV X Y T x y) (fun x => rnL X Y T x y) (fun x => sp x y) x := ⟨_, rfl⟩
  obtain ⟨B, eB⟩ : ∃ B : Nat → Nat → Nat, B = fun x y => rnC (fun y => rnV Y X T y x) (fun y => rnL Y X T y x) (fun y => sp x y) y := ⟨_, rfl⟩
  obtain ⟨q, eq⟩ : ∃ q : Nat → Nat → Nat, q = fun x y => if sp x y = true then 1 else 0 := ⟨_, rfl⟩
  have r1 : T + 1 + rnEE w h T X Y sp ≤ s2 (rnL X Y T) w h + h + s2 A w h := by
    rw [eA]
    exact r1
  have r2 : T + 1 + rnEE h w T Y X (fun y x => sp x y) ≤ s2 (rnL Y X T) h w + w + s2 B w h := by
    rw [s2_swap (F := fun y x => rnC (fun y => rnV Y X T y x) (fun y => rnL Y X T y x) (fun y => sp x y) y)] at r2
    rw [eB]
    exact r2
  have r4 : s2 (fun x y => q x y * rnL X Y T x y) w h + s2 (fun x y => q x y * rnL X Y T (x + 1) y) w h + s2 (fun x y => q x y * rnL Y X T y x) w h + s2 (fun x y => q x y * rnL Y X T (y + 1) x) w h + q (X 0) (Y 0) + q (X T) (Y T) = 2 * s2 (fun x y => q x y * rnV X Y T x y) w h := by
    rw [s2_swap (F := fun y x => (if sp x y = true then 1 else 0) * rnL Y X T y x), s2_swap (F := fun y x => (if sp x y = true then 1 else 0) * rnL Y X T (y + 1) x)] at r4
    rw [eq]
    exact r4
  have k : s2 (fun x y => A x y + B x y + q x y * rnL X Y T x y + q x y * rnL X Y T (x + 1) y + q x y * rnL Y X T y x + q x y * rnL Y X T (y + 1) x) w h ≤ s2 (fun x y => q x y + q x y + q x y * rnV X Y T x y + q x y * rnV X Y T x y) w h := s2_le (fun x y _ _ => by
    have a1 : A x y = if sp x y = true then (if rnV X Y T x y = 0 then 1 else (1 - rnL X Y T x y) + (1 - rnL X Y T (x + 1) y)) else 0 := by
      rw [eA]
      rfl
    have b1 : B x y = if sp x y = true then (if rnV Y X T y x = 0 then 1 else (1 - rnL Y X T y x) + (1 - rnL Y X T (y + 1) x)) else 0 := by
      rw [eB]
      rfl
    have q1 : q x y = if sp x y = true then 1 else 0 := by
      rw [eq]
    by_cases c : sp x y = true
    · rw [if_pos c] at a1 b1 q1
      have v1 := rnV_1 (x := x) (y := y) T H
      have l1 := rnL_1 (x := x) (y := y) T H
      have l2 := rnL_1 (x := x + 1) (y := y) T H
      have l3 := rnL_1 (x := y) (y := x) T H.sw
      have l4 := rnL_1 (x := y + 1) (y := x) T H.sw
      have sw := rnV_sw (X := X) (Y := Y) (x := x) (y := y) T
      rw [q1]
      by_cases d : rnV X Y T x y = 0
      · obtain ⟨z1, z2⟩ := rnL_v0 H d
        obtain ⟨z3, z4⟩ := rnL_v0 H.sw (x := y) (y := x) (by omega)
        rw [if_pos d] at a1
        rw [if_pos (by omega)] at b1
        rw [a1, b1, z1, z2, z3, z4, d]
        omega
      · rw [if_neg d] at a1
        rw [if_neg (by omega)] at b1
        rw [a1, b1]
        omega
    · rw [if_neg c] at a1 b1 q1
      rw [a1, b1, q1]
      omega)
  rw [s2_add, s2_add, s2_add, s2_add, s2_add, s2_add, s2_add, s2_add] at k
  have g0 : q (X 0) (Y 0) = if sp (X 0) (Y 0) = true then 1 else 0 := by rw [eq]
  have g1 : q (X T) (Y T) = if sp (X T) (Y T) = true then 1 else 0 := by rw [eq]
  rw [← g0, ← g1, ← eq]
  omega
end U6s
