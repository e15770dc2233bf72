/-! PLAIN: the room: how far plain cells of one component are apart -/
/-- special cells side by side along the lines, and on both rims -/
def rnP0 (s : Nat → Bool) : Nat → Nat
  | 0 => 0
  | x + 1 => if s x = true ∧ s (x + 1) = true then 1 else 0
def rnB (w h : Nat) (sp : Nat → Nat → Bool) : Nat := zSum (fun y => zSum (rnP0 (fun x => sp x y)) w + (if sp 0 y = true then 1 else 0) + (if sp (w - 1) y = true then 1 else 0)) h
/-- how many special cells -/
def rnM (w h : Nat) (sp : Nat → Nat → Bool) : Nat := s2 (fun x y => if sp x y = true then 1 else 0) w h
section U8s
variable {w h : Nat} {sp : Nat → Nat → Bool}
theorem rn_min {P : Nat → Prop} (h : ∃ n, P n) : ∃ n, P n ∧ ∀ m, m < n → ¬ P m := by
  obtain ⟨n, hn⟩ := h
  induction n using Nat.strongRecOn with
  | ind n ih =>
    by_cases c : ∃ m, m < n ∧ P m
    · obtain ⟨m, m1, m2⟩ := c
      exact ih m m1 m2
    · exact ⟨n, hn, fun m m1 m2 => c ⟨m, m1, m2⟩⟩
theorem rnB_le {n : Nat} {X Y : Nat → Nat} (H : rnP w h n X Y) (hp : ∀ i, i ≤ n → sp (X i) (Y i) = false) : rnB w h sp ≤ rnEE w h n X Y sp := by
  unfold rnB rnEE
  refine zSum_lm h (fun y _ => ?_)
  have e : zSum (rnP0 (fun x => sp x y)) w ≤ zSum (rnE (fun x => rnL X Y n x y) (fun x => sp x y)) w := zSum_lm w (fun x _ => by
    cases x with
    | zero => exact Nat.le_refl _
    | succ x =>
      show (if sp x y = true ∧ sp (x + 1) y = true then 1 else 0) ≤ (if sp x y = true ∧ sp (x + 1) y = true ∧ rnL X Y n (x + 1) y = 0 then 1 else 0)
      by_cases c : sp x y = true ∧ sp (x + 1) y = true
      · have l : rnL X Y n (x + 1) y = 0 := by
          rcases rnL_v (x := x) (y := y) H with z | ⟨-, z, -⟩
          · exact z
          · obtain ⟨i, i1, i2, i3⟩ := rnV_ex n (by omega : rnV X Y n x y ≠ 0)
            have := hp i i1
            rw [i2, i3, c.1] at this
            cases this
        rw [if_pos c, if_pos ⟨c.1, c.2, l⟩]
        exact Nat.le_refl _
      · rw [if_neg c]
        exact Nat.zero_le _)
  omega
/-- THE DIAMETER: two plain cells joined by plain cells are at most so many hops apart -/
theorem rn_diam {x y a b : Nat} (hx : x < w) (hy : y < h) (hs : sp x y = false) (hQ : ∃ n, rnQ w h sp n x y a b) : ∃ n, rnQ w h sp n x y a b ∧ n + 2 + rnB w h sp + rnB h w (fun y x => sp x y) ≤ w + h + 2 * rnM w h sp := by
  obtain ⟨n, h1, h2⟩ := rn_min hQ
  refine ⟨n, h1, ?_⟩
  obtain ⟨X, Y, e1, e2, e3, e4, e5, e6⟩ := rnQ_path n x y a b h1
  obtain ⟨k1, k2, k3⟩ := rnQ_str hx hy hs h2 e1 e2 e3 e4 e5 e6
  obtain ⟨-, -, k4⟩ := rnQ_str (w := h) (h := w) (sp := fun y x => sp x y) (x := y) (y := x) (a := b) (b := a) (X := Y) (Y := X) hy hx hs (fun m hm z => h2 m hm (rnQ_sw (w := h) (h := w) (sp := fun y x => sp x y) m y x b a z)) e2 e1 e4 e3 (fun i hi => (e5 i hi).symm) (fun i i1 i2 => by
    obtain ⟨z1, z2, z3⟩ := e6 i i1 i2
    exact ⟨z2, z1, z3⟩)
  have g := rn_hops2 (by omega) (by omega) k2 k3 k4
  have b1 := rnB_le k2 (fun i hi => (k1 i hi).2.2)
  have b2 := rnB_le (sp := fun y x => sp x y) k2.sw (fun i hi => (k1 i hi).2.2)
  have s0 : sp (X 0) (Y 0) = false := (k1 0 (by omega)).2.2
  have sn : sp (X n) (Y n) = false := (k1 n (by omega)).2.2
  rw [if_neg (by rw [s0]; decide), if_neg (by rw [sn]; decide)] at g
  unfold rnM
  omega
end U8s
