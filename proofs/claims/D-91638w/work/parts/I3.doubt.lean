/-! PLAIN: the call doubt -/
theorem zI_one : ∀ k : Fin 8, zCn (fun g => if g = k.1 then 1 else 0) 8 = 1 := by decide
theorem u_df15 : uDefs tyX15 3 = [.int 0, .null, .int 0] := by rfl
/-- a new doubt -/
theorem c_dinit {N b : Nat} {g : uEnv} {u : UH} {nd k : Nat} (ho : uOld u) (hb : b ≤ u.1) (hk : k < 8) : ∃ u' : UH, f_X15_init N b g (uNew u 3 (.inr (13, uDefs tyX15 3))) u.1 (iI nd) (iI k) = some u' ∧ u'.2.2 u.1 = some (.inr (13, [.int (iI nd), .ref (u.1 + 1), .int (iI (-1))])) ∧ (∃ wf : Nat → Int32, u'.2.2 (u.1 + 1) = some (.inl (0, 8, .inl wf)) ∧ ∀ q, wf q = iI ((if q = k then 1 else 0 : Nat) : Int)) ∧ (∀ x, x < u.1 → u'.2.2 x = u.2.2 x) ∧ uOld u' ∧ u'.1 = u.1 + 2 ∧ u'.2.1 = u.2.1 + 11 := by
  unfold f_X15_init f_X15_init_9
  rw [u_df15]
  have c8 : (8 : Int32).toNatClampNeg = 8 := rfl
  rw [if_pos (show ¬ (8 : Int32) < 0 ∧ (8 : Int32).toNatClampNeg ≤ 60000000 by decide), p_let, p_let, p_bs, c8]
  obtain ⟨u1, hu1⟩ : ∃ u1, u1 = uNew (uNew u 3 (.inr (13, [.int 0, .null, .int 0]))) 8 (.inl (0, 8, .inl (fun _ => 0))) := ⟨_, rfl⟩
  have ea : (uNew u 3 (.inr (13, [.int 0, .null, .int 0]))).1 = u.1 + 1 := rfl
  have h0 : u1.2.2 u.1 = some (.inr (13, [.int 0, .null, .int 0])) := by
    rw [hu1, u_nx (by rw [ea]; omega), u_nn]
  have h1 : u1.2.2 (u.1 + 1) = some (.inl (0, 8, .inl (fun _ => 0))) := by
    rw [hu1, ← ea, u_nn]
  have o1 : uOld u1 := by
    rw [hu1]
    exact ho.new.new
  rw [← hu1, ea]
  have e1 : va_rf (some (u.1 + 1)) = Value.ref (u.1 + 1) := rfl
  have p1 : uPut b u1 u.1 13 1 (va_rf (some (u.1 + 1))) = some (uSet u1 u.1 (.inr (13, [.int 0, .ref (u.1 + 1), .int 0]))) := u_pw h0 hb (Nat.le_of_ble_eq_true rfl)
  have p2 : uPut b (uSet u1 u.1 (.inr (13, [.int 0, .ref (u.1 + 1), .int 0]))) u.1 13 2 (.int (-1)) = some (uSet (uSet u1 u.1 (.inr (13, [.int 0, .ref (u.1 + 1), .int 0]))) u.1 (.inr (13, [.int 0, .ref (u.1 + 1), .int (-1)]))) := u_pw u_ss hb (Nat.le_of_ble_eq_true rfl)
  rw [p1, p_bs, p2, p_bs, u_s2]
  have p3 : uPut b (uSet u1 u.1 (.inr (13, [.int 0, .ref (u.1 + 1), .int (-1)]))) u.1 13 0 (.int (iI nd)) = some (uSet (uSet u1 u.1 (.inr (13, [.int 0, .ref (u.1 + 1), .int (-1)]))) u.1 (.inr (13, [.int (iI nd), .ref (u.1 + 1), .int (-1)]))) := u_pw u_ss hb (Nat.le_of_ble_eq_true rfl)
  rw [p3, p_bs, u_s2]
  have h0' : (uSet u1 u.1 (.inr (13, [.int (iI nd), .ref (u.1 + 1), .int (-1)]))).2.2 u.1 = some (.inr (13, [.int (iI nd), .ref (u.1 + 1), .int (-1)])) := u_ss
  have h1' : (uSet u1 u.1 (.inr (13, [.int (iI nd), .ref (u.1 + 1), .int (-1)]))).2.2 (u.1 + 1) = some (.inl (0, 8, .inl (fun _ => 0))) := (u_sn (by omega)).trans h1
  rw [v_gr h0' (k := 1) rfl, p_bs, p_bs, u_stI h1' (by omega) (by omega) (by omega) (by omega), p_bs]
  refine ⟨_, rfl, (u_sn (by omega)).trans h0', ⟨_, u_ss, fun q => ?_⟩, fun x hx => ?_, (o1.set h0).set h1', ?_, ?_⟩
  · by_cases c : q = k
    · subst c
      rw [if_pos rfl]
      exact upd_s
    · rw [if_neg c]
      exact upd_n c
  · rw [u_sn (by omega), u_sn (by omega), hu1, u_nx (by rw [ea]; omega), u_nx (by omega)]
  · show u1.1 = _
    rw [hu1]
    rfl
  · show u1.2.1 = _
    rw [hu1]
    rfl
/-- the model's weights of a new doubt -/
theorem m_do80 {N : Nat} {σ : MS} {c nd k : Nat} (hc : c < 100) (hk : k < 8) (hnd : nd < 5) (h42 : σ.2.1 42 c = iI k) (h37 : σ.1 37 = iI nd) : ∀ (m q : Nat) (σ' : MS), q ≤ 8 → 8 < q + m → σ'.1 = σ.1 → (∀ j, j ≠ 46 → σ'.2.1 j = σ.2.1 j) → (∀ i, i < 8 * nd → σ'.2.1 46 i = σ.2.1 46 i) → (∀ i, i < q → σ'.2.1 46 (8 * nd + i) = iI ((if i = k then 1 else 0 : Nat) : Int)) → ∃ σL : MS, f_doubt_80 N m σ' (iI c) (iI q) = some (iI nd, mSet (mSet σL 37 (iI ((nd + 1 : Nat) : Int))) 51 0) ∧ σL.1 = σ.1 ∧ (∀ j, j ≠ 46 → σL.2.1 j = σ.2.1 j) ∧ (∀ i, i < 8 * nd → σL.2.1 46 i = σ.2.1 46 i) ∧ ∀ i, i < 8 → σL.2.1 46 (8 * nd + i) = iI ((if i = k then 1 else 0 : Nat) : Int) := by
  intro m
  induction m with
  | zero => intro q σ' h1 h2; omega
  | succ m ih =>
    intro q σ' h1 h2 e1 e2 e3 e4
    rw [f_doubt_80]
    by_cases hq : q = 8
    · subst hq
      refine ⟨σ', ?_, e1, e2, e3, e4⟩
      have en : iI (nd : Int) + 1 = iI ((nd + 1 : Nat) : Int) := by
        rw [j1, i_add]
        rfl
      have es : iI ((nd + 1 : Nat) : Int) - 1 = iI nd := by
        rw [j1, i_sub]
        congr 1
        omega
      rw [j8, p_le (by omega) (by omega) (by omega) (by omega) (by omega), p_let, p_let, e1, h37, en]
      show some (iI ((nd + 1 : Nat) : Int) - 1, _) = _
      rw [es]
    · have n8 : ¬ (8 : Int32) ≤ iI (q : Int) := by
        rw [j8, j_le (by omega) (by omega) (by omega) (by omega)]
        omega
      obtain ⟨t1, t2⟩ := t_ix (a := (c : Int)) (n := mLen 42) (k := c) rfl (by rw [mL42]; omega) (by rw [mL42]; omega)
      obtain ⟨t3, t4⟩ := t_ix (a := 8 * (nd : Int) + (q : Int)) (n := mLen 46) (k := 8 * nd + q) (by omega) (by rw [mL46]; omega) (by rw [mL46]; omega)
      have eq : iI (q : Int) + 1 = iI ((q + 1 : Nat) : Int) := by
        rw [j1, i_add]
        rfl
      have h114 : ∀ v : Nat, v = (if q = k then 1 else 0) → ∃ σL : MS, f_doubt_114 N (f_doubt_80 N m) σ' (iI c) (iI q) (iI v) ((8 * (σ'.1 37)) + iI q) = some (iI nd, mSet (mSet σL 37 (iI ((nd + 1 : Nat) : Int))) 51 0) ∧ σL.1 = σ.1 ∧ (∀ j, j ≠ 46 → σL.2.1 j = σ.2.1 j) ∧ (∀ i, i < 8 * nd → σL.2.1 46 i = σ.2.1 46 i) ∧ ∀ i, i < 8 → σL.2.1 46 (8 * nd + i) = iI ((if i = k then 1 else 0 : Nat) : Int) := by
        intro v hv
        unfold f_doubt_114
        rw [e1, h37, j8, i_mul, i_add, if_pos t3, p_let, t4, p_let, eq]
        refine ih (q + 1) _ (by omega) (by omega) e1 (fun j hj => (if_neg hj).trans (e2 j hj)) (fun i hi => ?_) (fun i hi => ?_)
        · show upd (σ'.2.1 46) (8 * nd + q) (iI v) i = _
          rw [upd_n (by omega)]
          exact e3 i hi
        · show upd (σ'.2.1 46) (8 * nd + q) (iI v) (8 * nd + i) = _
          by_cases ci : i = q
          · subst ci
            rw [upd_s, hv]
          · rw [upd_n (by omega)]
            exact e4 i (by omega)
      rw [if_neg n8, if_pos t1, p_let, t2, e2 42 (by decide), h42]
      by_cases hqk : q = k
      · rw [if_pos (show iI (q : Int) = iI (k : Int) by rw [hqk])]
        exact h114 1 (by rw [if_pos hqk])
      · rw [if_neg (show ¬ iI (q : Int) = iI (k : Int) by rw [j_eq (by omega) (by omega) (by omega) (by omega)]; omega)]
        exact h114 0 (by rw [if_neg hqk])
