/-! PLAIN: Land.why -/
theorem j_m1 : (-1 : Int32) = iI (-1) := rfl
theorem j_m2 : (-2 : Int32) = iI (-2) := rfl
theorem x_abs {N b : Nat} {g : uEnv} {u : UH} {x : Int} (h1 : -2147483647 ≤ x) (h2 : x ≤ 2147483647) : f_J9_abs N b g u (iI x) = some (iI (if 0 ≤ x then x else -x), u) := by
  unfold f_J9_abs f_J9_abs_10
  rw [j0, j_neg]
  by_cases c : 0 ≤ x
  · rw [p_le (by omega) (by omega) (by omega) (by omega) (by omega), if_pos c]
  · rw [n_le (by omega) (by omega) (by omega) (by omega) (by omega), if_neg c]
theorem x_max0 {N b : Nat} {g : uEnv} {u : UH} {x : Int} (h1 : -2147483648 ≤ x) (h2 : x ≤ 2147483647) : f_J9_max N b g u 0 (iI x) = some (iI (if 0 ≤ x then x else 0), u) := by
  unfold f_J9_max f_J9_max_10
  rw [j0]
  by_cases c : 0 < x
  · rw [p_lt (by omega) (by omega) (by omega) (by omega) (by omega), if_pos (show 0 ≤ x by omega)]
  · rw [n_lt (by omega) (by omega) (by omega) (by omega) (by omega)]
    by_cases c2 : 0 ≤ x
    · rw [if_pos c2, show x = 0 by omega]
    · rw [if_neg c2]
theorem x_load {N b : Nat} {g : uEnv} {u : UH} {lo hi a al : Nat} {rv : Int32} {nm : Nat → Nat} {B : bBk} (h : vBk u b lo hi a al rv nm B) (hB : bOk B) : f_X4_load N b g u a = some (iI (bLoad B), u) := by
  obtain ⟨gl, arr, m, mc, ga, xs, a1, a2, a3, h1, h2, h3⟩ := h
  have b0 := hB.1
  have b1 := hB.2.1
  unfold f_X4_load
  rw [v_gi h1 (k := 4) rfl, p_bs, v_gi h1 (k := 3) rfl, p_bs, j0, p_ne (by omega) (by omega) (by omega) (by omega) (by omega), j_div (by omega) (by omega) (by omega) (by omega)]
  rfl
theorem w_159 {N b : Nat} {g : uEnv} {u : UH} {lo hi a bk gl ga p q d : Nat} {B : bBk} {dead need : Int} {v1 v2 v3 v4 v5 v6 v7 v8 v9 v10 w1 w2 w4 w5 w6 w7 n0 : Value} (hL : u.2.2 a = some (.inr (12, [.ref bk, v1, v2, v3, v4, v5, v6, v7, v8, v9, v10]))) (hK : u.2.2 bk = some (.inr (3, [.ref gl, w1, w2, .int (iI (B.1 0)), w4, w5, w6, w7]))) (hG : u.2.2 ga = some (.inr (5, [n0, .ref p, .ref q]))) (hq : vLi u b lo hi q (B.2.2.2 d).1 (B.2.2.2 d).2.1 (B.2.2.2 d).2.2) (hB : bOk B) (hd : d < B.2.1) (hb : b ≤ a) (hdr : 0 ≤ dead ∧ dead ≤ 5) (hn : 0 ≤ need ∧ need ≤ 1000000) (hN : 5 ≤ N) : ∀ (m s : Nat), s ≤ 91 → 92 ≤ s + m → f_X14_why_159 N b g a m u (iI dead) (some ga) (iI (bLoad B)) (iI need) (iI s) = (match bSlip (bHold B dead) need (bGrip B d) (92 - s) s with
    | none => some (4, u)
    | some t => some (0, uSet u a (.inr (12, [.ref bk, v1, v2, v3, v4, v5, v6, v7, .int (iI need), .int (iI t), .int (iI (bCst need t))])))) := by
  have hh := bHold_b hB hdr
  have o2 := (hB.2.2.2.2.2.2 d hd).2
  have hql := hq.ln
  obtain ⟨q1, q2, y1, y2, -, -, -, i1, -⟩ := hq
  intro m
  induction m with
  | zero => intro s h1 h2; omega
  | succ m ih =>
    intro s h1 h2
    rw [f_X14_why_159, show 92 - s = (91 - s) + 1 from by omega, bSlip]
    by_cases c1 : 90 < s
    · rw [if_pos c1, j90, p_lt (by omega) (by omega) (by omega) (by omega) (by omega)]
    · have gb : 0 ≤ bGrip B d s ∧ bGrip B d s ≤ 300 := ln_bd o2 300 (fun k hk => (o2.2.2.1 k hk).2.2.2)
      have m1 : -(2994 * 300) ≤ bHold B dead * bGrip B d s ∧ bHold B dead * bGrip B d s ≤ 2994 * 300 := b_bd hh (by omega)
      have V : f_X9_value N b g u q (iI (s : Int)) = some (iI (bGrip B d s), u) := ln_value hql o2 ⟨by omega, by omega⟩ hN
      have E : iI (bLoad B) * (iI (B.1 0) - iI dead) * iI (bGrip B d s) = iI (bHold B dead * bGrip B d s) := by rw [i_sub, i_mul, i_mul]; rfl
      rw [if_neg c1, j90, n_lt (by omega) (by omega) (by omega) (by omega) (by omega), v_gr hL (k := 0) rfl, p_bs, p_bs, v_gi hK (k := 3) rfl, p_bs, p_bs, v_gr hG (k := 2) rfl, p_bs, p_bs, if_pos (v_is i1), V, q_uc, E]
      by_cases c2 : bHold B dead * bGrip B d s < need
      · rw [if_pos c2, n_le (by omega) (by omega) (by omega) (by omega) (by omega), p_let, j1, i_add]
        have := ih (s + 1) (by omega) (by omega)
        rw [show 92 - (s + 1) = 91 - s from by omega] at this
        exact this
      · rw [if_neg c2, p_le (by omega) (by omega) (by omega) (by omega) (by omega), u_pw hL hb (Nat.le_of_ble_eq_true rfl), p_bs, u_pw u_ss hb (Nat.le_of_ble_eq_true rfl), p_bs, j100, i_sub, j0, p_ne (by omega) (by omega) (by omega) (by omega) (by omega), u_pw u_ss hb (Nat.le_of_ble_eq_true rfl), p_bs, u_s2, u_s2, j1000, i_add, j_div (by omega) (by omega) (by omega) (by omega), j1, i_add]
        rfl
/-- need, slip, cost of a step, as Land keeps them -/
def bN3 (B : bBk) (dead : Int) (hts : Nat → Int) (w h c way d : Nat) : Int × Int × Int := if bWhy B dead hts w h c way d = 0 then (bNeed B dead (bRise hts w h c way) d, bSl (bSlipOf B dead (bNeed B dead (bRise hts w h c way) d) d), bCost B dead hts w h c way d) else (-2, -2, -2)
theorem L_why {N b : Nat} {g : uEnv} {u : UH} {a lo hi bk al hA w h c way r d n : Nat} {rv : Int32} {nm : Nat → Nat} {B : bBk} {dead : Int} {hts : Nat → Int} {hf : Nat → Int32} {v4 v5 v6 v7 v8 v9 v10 : Value} (hL : u.2.2 a = some (.inr (12, [.ref bk, .int (iI w), .int (iI h), .ref hA, v4, v5, v6, v7, v8, v9, v10]))) (hn : n = w * h) (hH : u.2.2 hA = some (.inl (0, n, .inl hf))) (hht : ∀ k, k < n → hf k = iI (hts k) ∧ 0 ≤ hts k ∧ hts k ≤ 999) (hb : b ≤ a) (ha : a < lo ∨ hi ≤ a) (vB : vBk u b lo hi bk al rv nm B) (hB : bOk B) (hr : uWay g r = some way) (hw : 1 ≤ w ∧ w ≤ 10) (hh : 1 ≤ h ∧ h ≤ 10) (hc : c < w * h) (hd : d < B.2.1) (hdr : 0 ≤ dead ∧ dead ≤ 5) (hN : 92 ≤ N) : f_X14_why N b g u a (iI c) (some r) (iI d) (iI dead) = some (iI (bWhy B dead hts w h c way d), uSet u a (.inr (12, [.ref bk, .int (iI w), .int (iI h), .ref hA, v4, v5, v6, v7, .int (iI (bN3 B dead hts w h c way d).1), .int (iI (bN3 B dead hts w h c way d).2.1), .int (iI (bN3 B dead hts w h c way d).2.2)]))) := by
  obtain ⟨s1, s2, s3⟩ := b_sm (d := d) hw hh hc
  have p8 : uPut b u a 12 8 (.int (-2)) = some (uSet u a (.inr (12, [.ref bk, .int (iI w), .int (iI h), .ref hA, v4, v5, v6, v7, .int (-2), v9, v10]))) := u_pw hL hb (Nat.le_of_ble_eq_true rfl)
  have p9 : uPut b (uSet u a (.inr (12, [.ref bk, .int (iI w), .int (iI h), .ref hA, v4, v5, v6, v7, .int (-2), v9, v10]))) a 12 9 (.int (-2)) = some (uSet (uSet u a (.inr (12, [.ref bk, .int (iI w), .int (iI h), .ref hA, v4, v5, v6, v7, .int (-2), v9, v10]))) a (.inr (12, [.ref bk, .int (iI w), .int (iI h), .ref hA, v4, v5, v6, v7, .int (-2), .int (-2), v10]))) := u_pw u_ss hb (Nat.le_of_ble_eq_true rfl)
  have p10 : uPut b (uSet u a (.inr (12, [.ref bk, .int (iI w), .int (iI h), .ref hA, v4, v5, v6, v7, .int (-2), .int (-2), v10]))) a 12 10 (.int (-2)) = some (uSet (uSet u a (.inr (12, [.ref bk, .int (iI w), .int (iI h), .ref hA, v4, v5, v6, v7, .int (-2), .int (-2), v10]))) a (.inr (12, [.ref bk, .int (iI w), .int (iI h), .ref hA, v4, v5, v6, v7, .int (-2), .int (-2), .int (-2)]))) := u_pw u_ss hb (Nat.le_of_ble_eq_true rfl)
  unfold f_X14_why
  rw [p8, p_bs, p9, p_bs, u_s2, p10, p_bs, u_s2]
  have hAa : hA ≠ a := fun e => by rw [e, hL] at hH; cases hH
  have vBU : vBk (uSet u a (.inr (12, [.ref bk, .int (iI w), .int (iI h), .ref hA, v4, v5, v6, v7, .int (-2), .int (-2), .int (-2)]))) b lo hi bk al rv nm B := vB.same (uSame.set hb ha)
  have hHU : (uSet u a (.inr (12, [.ref bk, .int (iI w), .int (iI h), .ref hA, v4, v5, v6, v7, .int (-2), .int (-2), .int (-2)]))).2.2 hA = some (.inl (0, n, .inl hf)) := (u_sn hAa).trans hH
  have hLU : (uSet u a (.inr (12, [.ref bk, .int (iI w), .int (iI h), .ref hA, v4, v5, v6, v7, .int (-2), .int (-2), .int (-2)]))).2.2 a = some (.inr (12, [.ref bk, .int (iI w), .int (iI h), .ref hA, v4, v5, v6, v7, .int (-2), .int (-2), .int (-2)])) := u_ss
  have hUs : ∀ e, uSet (uSet u a (.inr (12, [.ref bk, .int (iI w), .int (iI h), .ref hA, v4, v5, v6, v7, .int (-2), .int (-2), .int (-2)]))) a e = uSet u a e := fun e => u_s2
  have hU : uSet u a (.inr (12, [.ref bk, .int (iI w), .int (iI h), .ref hA, v4, v5, v6, v7, .int (iI (-2)), .int (iI (-2)), .int (iI (-2))])) = uSet u a (.inr (12, [.ref bk, .int (iI w), .int (iI h), .ref hA, v4, v5, v6, v7, .int (-2), .int (-2), .int (-2)])) := rfl
  generalize uSet u a (.inr (12, [.ref bk, .int (iI w), .int (iI h), .ref hA, v4, v5, v6, v7, .int (-2), .int (-2), .int (-2)])) = U at vBU hHU hLU hUs hU ⊢
  have vL := x_load (N := N) (g := g) vBU hB
  obtain ⟨gl, arr, m, mc, ga, xs, a1, a2, a3, h1, h2, h3⟩ := vBU
  obtain ⟨h4, P, Q, -, G1, S, T⟩ := h3 d hd
  have lb := bLoad_b hB
  have hB' := hB
  obtain ⟨b0, b1, b2, b3, b4, b5, b6⟩ := hB
  obtain ⟨o1, o2⟩ := b6 d hd
  have sb : 0 ≤ bSink B d ∧ bSink B d ≤ 300 := ln_bd o1 300 (fun k hk => (o1.2.2.1 k hk).2.2.2)
  have V : f_X9_value N b g U P (iI (bLoad B)) = some (iI (bSink B d), U) := ln_value S.ln o1 ⟨by omega, by omega⟩ (by omega)
  have LG : f_J2_get N b g U gl (iI (d : Int)) = some (some (ga d), U) := by
    rw [l_get h2 (by omega) (by omega)]
    exact congrArg (fun z => some (z, U)) h4
  have SI : uIs U P 7 = true := by
    obtain ⟨q1, q2, y1, y2, -, -, -, i1, -⟩ := S
    exact v_is i1
  rw [if_pos (v_is hLU), b_X14 hLU rfl rfl hr hw hh hc, q_uc]
  rcases bes_b (w := w) (h := h) (c := c) (d := way) hw hh with hbz | ⟨hb0, hb1, hb2⟩
  · have w1 : bWhy B dead hts w h c way d = 1 := by
      unfold bWhy
      rw [if_pos (show besI w h c way < 0 by omega)]
    have w2 : bN3 B dead hts w h c way d = (-2, -2, -2) := by
      unfold bN3
      rw [w1]
      exact if_neg (by decide)
    rw [w1, w2, hbz, if_pos (show iI (-1) = -1 from rfl), hU]
    rfl
  · have g1 := hht (besI w h c way).toNat (by omega)
    have g2 := hht c (by omega)
    have L1 : uLdI U hA 0 (iI (besI w h c way)) = some (iI (hts (besI w h c way).toNat)) := by
      rw [u_ldI hHU hb0 (by omega) (by omega), g1.1]
    have L2 : uLdI U hA 0 (iI (c : Int)) = some (iI (hts c)) := by
      rw [u_ldI hHU (by omega) (by omega) (by omega)]
      exact congrArg some g2.1
    have ri : -999 ≤ bRise hts w h c way ∧ bRise hts w h c way ≤ 999 := by
      unfold bRise
      omega
    have m1 : -(999 * 1299) ≤ B.1 1 * (bRise hts w h c way + bSink B d) ∧ B.1 1 * (bRise hts w h c way + bSink B d) ≤ 999 * 1299 := b_bd (by omega) (by omega)
    have m2 : -(5 * 499) ≤ dead * bLoad B ∧ dead * bLoad B ≤ 5 * 499 := b_bd (by omega) (by omega)
    have m3 : -(5 * 499 * 99) ≤ dead * bLoad B * B.1 4 ∧ dead * bLoad B * B.1 4 ≤ 5 * 499 * 99 := b_bd (by omega) (by omega)
    have m4 : -129771 ≤ (B.1 1 * (bRise hts w h c way + bSink B d)).fdiv 10 ∧ (B.1 1 * (bRise hts w h c way + bSink B d)).fdiv 10 ≤ 129771 := by
      rw [Int.fdiv_eq_ediv_of_nonneg _ (by decide)]
      omega
    rw [j_m1, n_eq (by omega) (by omega) (by omega) (by omega) (by omega), v_gr hLU (k := 3) rfl, p_bs, p_bs, L1, p_bs, p_bs, p_bs, L2, p_bs, p_let, i_sub, show hts (besI w h c way).toNat - hts c = bRise hts w h c way from rfl, x_abs (by omega) (by omega), q_uc, v_gr hLU (k := 0) rfl, p_bs, p_bs, v_gi h1 (k := 6) rfl, p_bs]
    have ab : (if 0 ≤ bRise hts w h c way then bRise hts w h c way else -(bRise hts w h c way)) ≤ B.1 3 ↔ ¬ (B.1 3 < bRise hts w h c way ∨ B.1 3 < -(bRise hts w h c way)) := by
      split <;> omega
    have ab2 : 0 ≤ (if 0 ≤ bRise hts w h c way then bRise hts w h c way else -(bRise hts w h c way)) ∧ (if 0 ≤ bRise hts w h c way then bRise hts w h c way else -(bRise hts w h c way)) ≤ 999 := by
      split <;> omega
    by_cases c2 : B.1 3 < bRise hts w h c way ∨ B.1 3 < -(bRise hts w h c way)
    · have w1 : bWhy B dead hts w h c way d = 2 := by
        unfold bWhy
        rw [if_neg (show ¬ besI w h c way < 0 by omega), if_pos c2]
      have w2 : bN3 B dead hts w h c way d = (-2, -2, -2) := by
        unfold bN3
        rw [w1]
        exact if_neg (by decide)
      rw [n_le (by omega) (by omega) (by omega) (by omega) (Int.not_le.mp (fun z => ab.mp z c2)), w1, w2, hU]
      rfl
    · rw [p_le (by omega) (by omega) (by omega) (by omega) (ab.mpr c2), p_bs, p_bs, v_gr h1 (k := 0) rfl, p_bs, p_bs, if_pos (v_is h2.1), LG, q_uc, p_bs, if_pos (v_is G1), v_gr hLU (k := 0) rfl, p_bs, p_bs, if_pos (v_is h1), vL, q_uc, v_gr G1 (k := 1) rfl, p_bs, p_bs, if_pos SI, V, q_uc, v_gr hLU (k := 0) rfl, p_bs, p_bs, v_gi h1 (k := 5) rfl, p_bs]
      by_cases c3 : B.1 2 < bSink B d
      · have w1 : bWhy B dead hts w h c way d = 3 := by
          unfold bWhy
          rw [if_neg (show ¬ besI w h c way < 0 by omega), if_neg c2, if_pos c3]
        have w2 : bN3 B dead hts w h c way d = (-2, -2, -2) := by
          unfold bN3
          rw [w1]
          exact if_neg (by decide)
        rw [n_le (by omega) (by omega) (by omega) (by omega) (by omega), w1, w2, hU]
        rfl
      · rw [p_le (by omega) (by omega) (by omega) (by omega) (by omega), p_bs, p_bs, v_gi h1 (k := 4) rfl, p_bs, i_add, i_mul, j10, ln_floorDiv ⟨by omega, by omega⟩ ⟨by decide, by decide⟩ (by decide), q_uc, v_gr hLU (k := 0) rfl, p_bs, p_bs, v_gi h1 (k := 7) rfl, p_bs, i_mul, i_mul, i_add, x_max0 (by omega) (by omega), q_uc, show (if 0 ≤ (B.1 1 * (bRise hts w h c way + bSink B d)).fdiv 10 + dead * bLoad B * B.1 4 then (B.1 1 * (bRise hts w h c way + bSink B d)).fdiv 10 + dead * bLoad B * B.1 4 else 0) = bNeed B dead (bRise hts w h c way) d from rfl]
        have nb : 0 ≤ bNeed B dead (bRise hts w h c way) d ∧ bNeed B dead (bRise hts w h c way) d ≤ 1000000 := by
          unfold bNeed
          split <;> omega
        have k9 := w_159 (N := N) (g := g) hLU h1 G1 T hB' hd hb hdr nb (by omega) N 0 (by omega) (by omega)
        have k8 : bSlipOf B dead (bNeed B dead (bRise hts w h c way) d) d = bSlip (bHold B dead) (bNeed B dead (bRise hts w h c way) d) (bGrip B d) (92 - 0) 0 := rfl
        rw [show (0 : Int32) = iI ((0 : Nat) : Int) from rfl, k9, ← k8]
        have w0 : bWhy B dead hts w h c way d = if bSl (bSlipOf B dead (bNeed B dead (bRise hts w h c way) d) d) < 0 then 4 else 0 := by
          unfold bWhy
          rw [if_neg (show ¬ besI w h c way < 0 by omega), if_neg c2, if_neg c3]
        have n0 : bN3 B dead hts w h c way d = if bWhy B dead hts w h c way d = 0 then (bNeed B dead (bRise hts w h c way) d, bSl (bSlipOf B dead (bNeed B dead (bRise hts w h c way) d) d), bCost B dead hts w h c way d) else (-2, -2, -2) := rfl
        unfold bCost at n0
        generalize bSlipOf B dead (bNeed B dead (bRise hts w h c way) d) d = o at w0 n0 ⊢
        cases o with
        | none =>
          have w1 : bWhy B dead hts w h c way d = 4 := w0
          have w2 : bN3 B dead hts w h c way d = (-2, -2, -2) := by
            rw [n0, w1]
            exact if_neg (by decide)
          rw [w1, w2, hU]
          rfl
        | some t =>
          have w1 : bWhy B dead hts w h c way d = 0 := by
            rw [w0]
            exact if_neg (show ¬ (t : Int) < 0 by omega)
          have w2 : bN3 B dead hts w h c way d = (bNeed B dead (bRise hts w h c way) d, (t : Int), bCst (bNeed B dead (bRise hts w h c way) d) t) := by
            rw [n0, w1]
            exact if_pos rfl
          rw [w1, w2]
          show some (0, uSet U a _) = _
          rw [hUs]
          rfl
