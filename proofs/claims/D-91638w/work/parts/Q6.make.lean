/-! PLAIN: objects are made -/
/-- an object at w of class c, and arrays that were made for it, one behind the other -/
def iSt (c w : Nat) (base : UH) (E : Nat → uE) (m z : Nat) (fs : List Value) (u : UH) : Prop := u.1 = base.1 + m ∧ u.2.1 = base.2.1 + z ∧ uOld u ∧ u.2.2 w = some (.inr (c, fs)) ∧ (∀ x, x < base.1 → x ≠ w → u.2.2 x = base.2.2 x) ∧ ∀ i, i < m → u.2.2 (base.1 + i) = some (E i)
theorem i_new {b c w m z n k : Nat} {base u : UH} {E : Nat → uE} {e : uE} {fs : List Value} (h : iSt c w base E m z fs u) (hw : w < base.1) (hb : b ≤ w) (hk : k < fs.length) (he : E m = e) : ∃ u', uPut b (uNew u n e) w c k (.ref u.1) = some u' ∧ iSt c w base E (m + 1) (z + n) (fs.set k (.ref (base.1 + m))) u' := by
  obtain ⟨h1, h2, h3, h4, h5, h6⟩ := h
  obtain ⟨u1, e1, c1, r1, o1, s1, y1⟩ := w_new (u := u) (n := n) (e := e) h3
  obtain ⟨u2, e2, c2, r2, o2, s2, y2⟩ := w_put (b := b) (k := k) (v := .ref u.1) ((r1 w (by omega)).trans h4) hb hk o1
  rw [e1]
  refine ⟨u2, e2, by omega, by omega, o2, ?_, fun x q1 q2 => ?_, fun i hi => ?_⟩
  · rw [c2, h1]
  · rw [r2 x q2, r1 x (by omega), h5 x q1 q2]
  · by_cases q : i = m
    · rw [q, r2 _ (by omega), ← h1, c1, he]
    · rw [r2 _ (by omega), r1 _ (by omega), h6 i (by omega)]
theorem i_put {b c w m z k : Nat} {base u : UH} {E : Nat → uE} {fs : List Value} {v : Value} (h : iSt c w base E m z fs u) (hw : w < base.1) (hb : b ≤ w) (hk : k < fs.length) : ∃ u', uPut b u w c k v = some u' ∧ iSt c w base E m z (fs.set k v) u' := by
  obtain ⟨h1, h2, h3, h4, h5, h6⟩ := h
  obtain ⟨u2, e2, c2, r2, o2, s2, y2⟩ := w_put (b := b) (k := k) (v := v) h4 hb hk h3
  exact ⟨u2, e2, by omega, by omega, o2, c2, fun x q1 q2 => (r2 x q2).trans (h5 x q1 q2), fun i hi => (r2 _ (by omega)).trans (h6 i hi)⟩
theorem u_df2 : uDefs tyX2 9 = [.null, .int 0, .int 0, .null, .null, .null, .null, .null, .null] := by rfl
theorem u_df1 : uDefs tyX1 16 = [.int 0, .int 0, .null, .int 0, .null, .int 0, .int 0, .null, .null, .null, .null, .int 0, .int 0, .int 0, .null, .null] := by rfl
theorem t_c5 : (500 : Int32).toNatClampNeg = 500 := by decide
theorem t_c102400 : (102400 : Int32).toNatClampNeg = 102400 := by decide +kernel
theorem t_c1024 : (1024 : Int32).toNatClampNeg = 1024 := by decide +kernel
theorem t_c100 : (100 : Int32).toNatClampNeg = 100 := by decide
theorem t_c3200 : (3200 : Int32).toNatClampNeg = 3200 := by decide +kernel
theorem t_c6 : (6 : Int32).toNatClampNeg = 6 := by decide
def eX2 (i : Nat) : uE := if i = 0 then .inl (3, 102400, .inr (.inl (fun _ => 0))) else if i = 1 then .inl (2, 1024, .inl (fun _ => 0)) else if i = 2 then .inl (2, 100, .inl (fun _ => 0)) else if i = 3 then .inl (0, 100, .inl (fun _ => 0)) else .inl (0, 3200, .inl (fun _ => 0))
/-- a solver -/
theorem c_x2i {N b so : Nat} {g : uEnv} {u : UH} (h : u.2.2 so = some (.inr (1, uDefs tyX2 9))) (hb : b ≤ so) (ho : uOld u) : ∃ u', f_X2_init N b g u so = some u' ∧ iSt 1 so u eX2 5 106824 [.null, .int 0, .int 0, .null, .ref u.1, .ref (u.1 + 1), .ref (u.1 + 2), .ref (u.1 + 3), .ref (u.1 + 4)] u' := by
  have hw := ho _ _ h
  rw [u_df2] at h
  have i0 : iSt 1 so u eX2 0 0 [.null, .int 0, .int 0, .null, .null, .null, .null, .null, .null] u := ⟨rfl, rfl, ho, h, fun _ _ _ => rfl, fun i hi => absurd hi (by omega)⟩
  obtain ⟨u1, e1, i1⟩ := i_new (b := b) (n := 102400) (k := 4) i0 hw hb (Nat.le_of_ble_eq_true rfl) rfl
  obtain ⟨u2, e2, i2⟩ := i_new (b := b) (n := 1024) (k := 5) i1 hw hb (Nat.le_of_ble_eq_true rfl) rfl
  obtain ⟨u3, e3, i3⟩ := i_new (b := b) (n := 100) (k := 6) i2 hw hb (Nat.le_of_ble_eq_true rfl) rfl
  obtain ⟨u4, e4, i4⟩ := i_new (b := b) (n := 100) (k := 7) i3 hw hb (Nat.le_of_ble_eq_true rfl) rfl
  obtain ⟨u5, e5, i5⟩ := i_new (b := b) (n := 3200) (k := 8) i4 hw hb (Nat.le_of_ble_eq_true rfl) rfl
  have e1 : uPut b (uNew u 102400 (.inl (3, 102400, .inr (.inl (fun _ => 0))))) so 1 4 (va_rf (some u.1)) = some u1 := e1
  have e2 : uPut b (uNew u1 1024 (.inl (2, 1024, .inl (fun _ => 0)))) so 1 5 (va_rf (some u1.1)) = some u2 := e2
  have e3 : uPut b (uNew u2 100 (.inl (2, 100, .inl (fun _ => 0)))) so 1 6 (va_rf (some u2.1)) = some u3 := e3
  have e4 : uPut b (uNew u3 100 (.inl (0, 100, .inl (fun _ => 0)))) so 1 7 (va_rf (some u3.1)) = some u4 := e4
  have e5 : uPut b (uNew u4 3200 (.inl (0, 3200, .inl (fun _ => 0)))) so 1 8 (va_rf (some u4.1)) = some u5 := e5
  refine ⟨u5, ?_, i5⟩
  unfold f_X2_init f_X2_init_9 f_X2_init_18 f_X2_init_26 f_X2_init_34 f_X2_init_43
  rw [t_c102400, t_c1024, t_c100, t_c3200, if_pos (by decide), p_let, p_let, p_bs, e1, p_bs, if_pos (by decide), p_let, p_let, p_bs, e2, p_bs, if_pos (by decide), p_let, p_let, p_bs, e3, p_bs, if_pos (by decide), p_let, p_let, p_bs, e4, p_bs, if_pos (by decide), p_let, p_let, p_bs, e5, p_bs]
/-- the class's object -/
theorem c_x1i {N b v : Nat} {g : uEnv} {u : UH} {f : Nat → Option Nat} (h10 : g.1 10 = some v) (hv : u.2.2 v = some (.inl (4, 0, .inr (.inr (.inr (.inr f)))))) (hvb : v < b) (hb : b ≤ u.1) (ho : uOld u) : ∃ u', f_X1_init N b g (uNew u 16 (.inr (0, uDefs tyX1 16))) u.1 = some u' ∧ u'.1 = u.1 + 11 ∧ u'.2.1 = u.2.1 + 107361 ∧ uOld u' ∧ (∀ x, x < u.1 → u'.2.2 x = u.2.2 x) ∧ u'.2.2 u.1 = some (.inr (0, [.int 0, .int (-1), .null, .int 0, .ref (u.1 + 1), .int 0, .int 0, .null, .ref (u.1 + 2), .ref (u.1 + 8), .ref (u.1 + 9), .int (-1), .int (-1), .int (-1), .ref (u.1 + 10), .null])) ∧ u'.2.2 (u.1 + 1) = some (.inl (1, 500, .inl (fun _ => 0))) ∧ u'.2.2 (u.1 + 2) = some (.inr (1, [.null, .int 0, .int 0, .null, .ref (u.1 + 3), .ref (u.1 + 4), .ref (u.1 + 5), .ref (u.1 + 6), .ref (u.1 + 7)])) ∧ (∀ i, i < 5 → u'.2.2 (u.1 + 3 + i) = some (eX2 i)) ∧ vLs u' (u.1 + 8) v 0 0 0 f ∧ vLs u' (u.1 + 9) v 0 0 0 f ∧ u'.2.2 (u.1 + 10) = some (.inl (0, 6, .inl (fun _ => 0))) := by
  have lv := ho _ _ hv
  obtain ⟨p0, a0, b0, d0, f0, g0, h0⟩ := w_new (u := u) (n := 16) (e := .inr (0, uDefs tyX1 16)) ho
  rw [u_df1] at b0
  obtain ⟨p1, a1, b1, d1, f1, g1, h1⟩ := w_put (b := b) (k := 1) (v := .int (-1)) b0 hb (Nat.le_of_ble_eq_true rfl) f0
  obtain ⟨p2, a2, b2, d2, f2, g2, h2⟩ := w_new (u := p1) (n := 500) (e := .inl (1, 500, .inl (fun _ => 0))) f1
  obtain ⟨p3, a3, b3, d3, f3, g3, h3⟩ := w_put (b := b) (k := 4) (v := .ref p1.1) ((d2 u.1 (by omega)).trans b1) hb (Nat.le_of_ble_eq_true rfl) f2
  obtain ⟨p4, a4, b4, d4, f4, g4, h4⟩ := w_new (u := p3) (n := 9) (e := .inr (1, uDefs tyX2 9)) f3
  obtain ⟨p5, a5, b5⟩ := c_x2i (N := N) (b := b) (g := g) b4 (by omega) f4
  obtain ⟨g5, h5, f5, b5, d5, c5⟩ := b5
  obtain ⟨p6, a6, b6, d6, f6, g6, h6⟩ := w_put (b := b) (k := 8) (v := .ref p3.1) ((d5 u.1 (by omega) (by omega)).trans ((d4 u.1 (by omega)).trans b3)) hb (Nat.le_of_ble_eq_true rfl) f5
  have v6 : p6.2.2 v = some (.inl (4, 0, .inr (.inr (.inr (.inr f))))) := by
    rw [d6 v (by omega), d5 v (by omega) (by omega), d4 v (by omega), d3 v (by omega), d2 v (by omega), d1 v (by omega), d0 v (by omega)]
    exact hv
  obtain ⟨p7, a7, b7, d7, f7, g7, h7⟩ := l_new (N := N) (b := b) h10 v6 f6 (by omega)
  obtain ⟨p8, a8, b8, d8, f8, g8, h8⟩ := w_put (b := b) (k := 9) (v := .ref p6.1) ((d7 u.1 (by omega)).trans b6) hb (Nat.le_of_ble_eq_true rfl) f7
  have v8 : p8.2.2 v = some (.inl (4, 0, .inr (.inr (.inr (.inr f))))) := by
    rw [d8 v (by omega), d7 v (by omega)]
    exact v6
  obtain ⟨p9, a9, b9, d9, f9, g9, h9⟩ := l_new (N := N) (b := b) h10 v8 f8 (by omega)
  obtain ⟨q0, x0, y0, z0, w0, s0, t0⟩ := w_put (b := b) (k := 10) (v := .ref p8.1) ((d9 u.1 (by omega)).trans b8) hb (Nat.le_of_ble_eq_true rfl) f9
  obtain ⟨q1, x1, y1, z1, w1, s1, t1⟩ := w_put (b := b) (k := 11) (v := .int (-1)) y0 hb (Nat.le_of_ble_eq_true rfl) w0
  obtain ⟨q2, x2, y2, z2, w2, s2, t2⟩ := w_put (b := b) (k := 12) (v := .int (-1)) y1 hb (Nat.le_of_ble_eq_true rfl) w1
  obtain ⟨q3, x3, y3, z3, w3, s3, t3⟩ := w_put (b := b) (k := 13) (v := .int (-1)) y2 hb (Nat.le_of_ble_eq_true rfl) w2
  obtain ⟨q4, x4, y4, z4, w4, s4, t4⟩ := w_new (u := q3) (n := 6) (e := .inl (0, 6, .inl (fun _ => 0))) w3
  obtain ⟨q5, x5, y5, z5, w5, s5, t5⟩ := w_put (b := b) (k := 14) (v := .ref q3.1) ((z4 u.1 (by omega)).trans y3) hb (Nat.le_of_ble_eq_true rfl) w4
  -- what stays behind each stage
  have K9 : ∀ x, x < u.1 + 10 → x ≠ u.1 → q5.2.2 x = p9.2.2 x := fun x i1 i2 => by
    rw [z5 x i2, z4 x (by omega), z3 x i2, z2 x i2, z1 x i2, z0 x i2]
  have K8 : ∀ x, x < u.1 + 9 → x ≠ u.1 → q5.2.2 x = p7.2.2 x := fun x i1 i2 => by
    rw [K9 x (by omega) i2, d9 x (by omega), d8 x i2]
  have K6 : ∀ x, x < u.1 + 8 → x ≠ u.1 → q5.2.2 x = p5.2.2 x := fun x i1 i2 => by
    rw [K8 x (by omega) i2, d7 x (by omega), d6 x i2]
  have K2 : ∀ x, x < u.1 + 2 → x ≠ u.1 → q5.2.2 x = p2.2.2 x := fun x i1 i2 => by
    rw [K6 x (by omega) i2, d5 x (by omega) (by omega), d4 x (by omega), d3 x i2]
  have K0 : ∀ x, x < u.1 → q5.2.2 x = u.2.2 x := fun x i1 => by
    rw [K2 x (by omega) (by omega), d2 x (by omega), d1 x (by omega), d0 x i1]
  have e1 : p1.1 = u.1 + 1 := by omega
  have e3 : p3.1 = u.1 + 2 := by omega
  have e4 : p4.1 = u.1 + 3 := by omega
  have e6 : p6.1 = u.1 + 8 := by omega
  have e8 : p8.1 = u.1 + 9 := by omega
  have eq3 : q3.1 = u.1 + 10 := by omega
  refine ⟨q5, ?_, by omega, by omega, w5, K0, ?_, ?_, ?_, fun i hi => ?_, ⟨?_, ?_, b7.2.2⟩, ⟨?_, ?_, b9.2.2⟩, ?_⟩
  · have a3 : uPut b p2 u.1 0 4 (va_rf (some p1.1)) = some p3 := a3
    have a6 : uPut b p5 u.1 0 8 (va_rf (some p3.1)) = some p6 := a6
    have a8 : uPut b p7 u.1 0 9 (va_rf (some p6.1)) = some p8 := a8
    have x0 : uPut b p9 u.1 0 10 (va_rf (some p8.1)) = some q0 := x0
    have x5 : uPut b q4 u.1 0 14 (va_rf (some q3.1)) = some q5 := x5
    unfold f_X1_init f_X1_init_15 f_X1_init_22 f_X1_init_26 f_X1_init_33 f_X1_init_44 f_X1_init_71
    rw [a0, a1, p_bs, t_c5, t_c6, if_pos (by decide), p_let, p_let, a2, p_bs, a3, p_bs, p_let, p_let, a4, p_bs, a5, p_bs, p_bs, a6, p_bs, p_let, p_let, p_bs, a7, p_bs, p_bs, a8, p_bs, p_let, p_let, p_bs, a9, p_bs, p_bs, x0, p_bs, x1, p_bs, x2, p_bs, x3, p_bs, if_pos (by decide), p_let, p_let, x4, p_bs, x5, p_bs]
  · rw [y5, e1, e3, e6, e8, eq3]
    rfl
  · rw [K2 _ (by omega) (by omega), ← e1]
    exact b2
  · rw [K6 _ (by omega) (by omega), ← e3, b5, e4]
  · rw [K6 _ (by omega) (by omega), ← e4]
    exact c5 i hi
  · rw [K8 _ (by omega) (by omega), ← e6]
    exact b7.1
  · rw [K0 v lv, ]
    exact hv
  · rw [K9 _ (by omega) (by omega), ← e8]
    exact b9.1
  · rw [K0 v lv]
    exact hv
  · rw [z5 _ (by omega), ← eq3]
    exact y4
