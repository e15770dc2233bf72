/-! PLAIN: a new ground -/
theorem u_df9 : uDefs tyX9 3 = [.null, .null, .int 0] := by rfl
theorem u_df6 : uDefs tyX6 3 = [.null, .null, .null] := by rfl
section J4s
variable {N b : Nat} {g : uEnv} {u : UH}
theorem c_x9i {l : Nat} (h : u.2.2 l = some (.inr (7, [.null, .null, .int 0]))) (hb : b ≤ l) (ho : uOld u) : ∃ u', f_X9_init N b g u l = some u' ∧ u'.2.2 l = some (.inr (7, [.ref u.1, .ref (u.1 + 1), .int 0])) ∧ u'.2.2 u.1 = some (.inl (0, 4, .inl (fun _ => 0))) ∧ u'.2.2 (u.1 + 1) = some (.inl (0, 4, .inl (fun _ => 0))) ∧ (∀ x, x < u.1 → x ≠ l → u'.2.2 x = u.2.2 x) ∧ uOld u' ∧ u'.1 = u.1 + 2 ∧ u'.2.1 = u.2.1 + 8 := by
  have ll := ho _ _ h
  obtain ⟨u1, d1, c1, k1, o1, s1, z1⟩ := w_new (u := u) (n := 4) (e := .inl (0, 4, .inl (fun _ => 0))) ho
  obtain ⟨u2, d2, c2, k2, o2, s2, z2⟩ := w_put (b := b) (k := 0) (v := va_rf (some u.1)) ((k1 l ll).trans h) hb (Nat.le_of_ble_eq_true rfl) o1
  obtain ⟨u3, d3, c3, k3, o3, s3, z3⟩ := w_new (u := u2) (n := 4) (e := .inl (0, 4, .inl (fun _ => 0))) o2
  obtain ⟨u4, d4, c4, k4, o4, s4, z4⟩ := w_put (b := b) (k := 1) (v := va_rf (some u2.1)) ((k3 l (by omega)).trans c2) hb (Nat.le_of_ble_eq_true rfl) o3
  have e21 : u2.1 = u.1 + 1 := by omega
  have c4 : u4.2.2 l = some (.inr (7, [.ref u.1, .ref u2.1, .int 0])) := c4
  rw [e21] at c4 c3
  refine ⟨u4, ?_, c4, ?_, ?_, fun x x1 x2 => ?_, o4, by omega, by omega⟩
  · unfold f_X9_init f_X9_init_8 f_X9_init_15
    rw [if_pos (show ¬ (4 : Int32) < 0 ∧ (4 : Int32).toNatClampNeg ≤ 60000000 by decide), p_let, p_let, show (4 : Int32).toNatClampNeg = 4 from rfl, d1, p_bs, d2, p_bs, if_pos (show ¬ (4 : Int32) < 0 ∧ 4 ≤ 60000000 by decide), p_let, p_let, d3, p_bs, d4, p_bs]
  · rw [k4 _ (by omega), k3 _ (by omega), k2 _ (by omega)]
    exact c1
  · rw [k4 _ (by omega)]
    exact c3
  · rw [k4 x x2, k3 x (by omega), k2 x x2, k1 x x1]
theorem c_x6i {ga wa : Nat} (h : u.2.2 ga = some (.inr (5, [.null, .null, .null]))) (hb : b ≤ ga) (hbu : b ≤ u.1) (ho : uOld u) : ∃ u', f_X6_init N b g u ga (some wa) = some u' ∧ u'.2.2 ga = some (.inr (5, [.ref wa, .ref u.1, .ref (u.1 + 3)])) ∧ u'.2.2 u.1 = some (.inr (7, [.ref (u.1 + 1), .ref (u.1 + 2), .int 0])) ∧ u'.2.2 (u.1 + 1) = some (.inl (0, 4, .inl (fun _ => 0))) ∧ u'.2.2 (u.1 + 2) = some (.inl (0, 4, .inl (fun _ => 0))) ∧ u'.2.2 (u.1 + 3) = some (.inr (7, [.ref (u.1 + 4), .ref (u.1 + 5), .int 0])) ∧ u'.2.2 (u.1 + 4) = some (.inl (0, 4, .inl (fun _ => 0))) ∧ u'.2.2 (u.1 + 5) = some (.inl (0, 4, .inl (fun _ => 0))) ∧ (∀ x, x < u.1 → x ≠ ga → u'.2.2 x = u.2.2 x) ∧ uOld u' ∧ u'.1 = u.1 + 6 ∧ u'.2.1 = u.2.1 + 22 := by
  have lg := ho _ _ h
  obtain ⟨u1, d1, c1, k1, o1, s1, z1⟩ := w_new (u := u) (n := 3) (e := .inr (7, uDefs tyX9 3)) ho
  rw [u_df9] at c1
  obtain ⟨u2, d2, c2, a2, b2, k2, o2, s2, z2⟩ := c_x9i (N := N) (b := b) (g := g) c1 hbu o1
  have g2 : u2.2.2 ga = some (.inr (5, [.null, .null, .null])) := by
    rw [k2 ga (by omega) (by omega), k1 ga lg]
    exact h
  obtain ⟨u3, d3, c3, k3, o3, s3, z3⟩ := w_put (b := b) (k := 1) (v := va_rf (some u.1)) g2 hb (Nat.le_of_ble_eq_true rfl) o2
  obtain ⟨u4, d4, c4, k4, o4, s4, z4⟩ := w_new (u := u3) (n := 3) (e := .inr (7, uDefs tyX9 3)) o3
  rw [u_df9] at c4
  obtain ⟨u5, d5, c5, a5, b5, k5, o5, s5, z5⟩ := c_x9i (N := N) (b := b) (g := g) c4 (by omega) o4
  have g5 : u5.2.2 ga = some (.inr (5, [.null, .ref u.1, .null])) := by
    rw [k5 ga (by omega) (by omega), k4 ga (by omega)]
    exact c3
  obtain ⟨u6, d6, c6, k6, o6, s6, z6⟩ := w_put (b := b) (k := 2) (v := va_rf (some u3.1)) g5 hb (Nat.le_of_ble_eq_true rfl) o5
  obtain ⟨u7, d7, c7, k7, o7, s7, z7⟩ := w_put (b := b) (k := 0) (v := va_rf (some wa)) c6 hb (Nat.le_of_ble_eq_true rfl) o6
  have e1 : u1.1 = u.1 + 1 := by omega
  have e3 : u3.1 = u.1 + 3 := by omega
  have e4 : u4.1 = u.1 + 4 := by omega
  have c7 : u7.2.2 ga = some (.inr (5, [.ref wa, .ref u.1, .ref u3.1])) := c7
  rw [e3] at c7
  have up : ∀ x, x ≠ ga → u7.2.2 x = u5.2.2 x := fun x hx => (k7 x hx).trans (k6 x hx)
  have lo4 : ∀ x, x < u3.1 → x ≠ ga → u5.2.2 x = u2.2.2 x := fun x hx hg => by
    rw [k5 x (by omega) (by omega), k4 x hx, k3 x hg]
  rw [e1] at c2 a2 b2
  rw [e3, e4] at c5
  rw [e4] at a5 b5
  refine ⟨u7, ?_, c7, ?_, ?_, ?_, ?_, ?_, ?_, fun x x1 x2 => ?_, o7, by omega, by omega⟩
  · unfold f_X6_init f_X6_init_8 f_X6_init_12 f_X6_init_19 f_X6_init_23
    rw [p_let, p_let, d1, p_bs, d2, p_bs, p_bs, d3, p_bs, p_let, p_let, d4, p_bs, d5, p_bs, p_bs, d6, p_bs, d7, p_bs]
  · rw [up _ (by omega), lo4 _ (by omega) (by omega)]
    exact c2
  · rw [up _ (by omega), lo4 _ (by omega) (by omega)]
    exact a2
  · rw [up _ (by omega), lo4 _ (by omega) (by omega)]
    exact b2
  · rw [up _ (by omega)]
    exact c5
  · rw [up _ (by omega)]
    exact a5
  · rw [up _ (by omega)]
    exact b5
  · rw [up x x2, lo4 x (by omega) x2, k2 x (by omega) (by omega), k1 x x1]
end J4s
