/-! PLAIN: next, of both -/
/-- the reader shows the token that the model has -/
def rTk (g : uEnv) (U : UH) (σ : MS) (lo rd tp n at' : Nat) : Prop := ∃ (st : Nat) (va : Int32) (kr : Nat) (wv : Value) (sg : Int32), U.2.2 rd = some (rdC tp n at' st va (.ref kr) wv sg) ∧ σ.1 4 = iI st ∧ st ≤ n ∧ at' ≤ n ∧ ((σ.1 6 = 0 ∧ g.1 1 = some kr) ∨ (σ.1 6 = 1 ∧ g.1 0 = some kr) ∨ (σ.1 6 = 2 ∧ g.1 2 = some kr ∧ σ.1 5 = iI at' ∧ ∃ (wa m : Nat) (f : Nat → Int32), wv = .ref wa ∧ lo ≤ wa ∧ σ.1 8 = iI m ∧ 1 ≤ m ∧ m ≤ 8 ∧ vSt lo U wa m f ∧ ∀ k, k < m → f k = σ.2.1 11 k ∧ ∃ c : Nat, f k = iI c ∧ 97 ≤ c ∧ c ≤ 122) ∨ (σ.1 6 = 3 ∧ g.1 3 = some kr ∧ σ.1 5 = iI at' ∧ ∃ q : Nat, va = iI q ∧ σ.1 7 = iI q ∧ q ≤ 9999) ∨ ∃ c : Nat, sgn c ∧ σ.1 6 = iI c ∧ g.1 4 = some kr ∧ σ.1 5 = iI at' ∧ sg = iI c)
section I7s
variable {N b : Nat} {g : uEnv} {U : UH} {σ : MS} {lo rd tp n : Nat} {T : Nat → Nat}
theorem k_next {at' st : Nat} {va : Int32} {kv wv : Value} {sg : Int32} (hc : U.2.2 rd = some (rdC tp n at' st va kv wv sg)) (h5 : σ.1 5 = iI at') (hat : at' ≤ n) (hT : rTp U σ tp T) (h3 : σ.1 3 = iI n) (hn : n ≤ 500) (hE : tEn b g U) (ho : uOld U) (hlo : b ≤ lo) (hrd : lo ≤ rd) (hlU : lo ≤ U.1) (hN : 2000 ≤ N) : ∃ (U' : UH) (at2 : Nat) (a4 a5 a6 a7 a8 : Int32) (r : Nat → Int32), f_X5_next N b g U rd = some U' ∧ f_next N σ = some (mTok σ a4 a5 a6 a7 a8 r) ∧ rTk g U' (mTok σ a4 a5 a6 a7 a8 r) lo rd tp n at2 ∧ (∀ x, x < U.1 → x ≠ rd → U'.2.2 x = U.2.2 x) ∧ uOld U' ∧ at' ≤ at2 ∧ U.1 ≤ U'.1 ∧ U'.1 ≤ U.1 + 4 * (at2 - at') ∧ U.2.1 ≤ U'.2.1 ∧ U'.2.1 ≤ U.2.1 + 32 * (at2 - at') := by
  obtain ⟨f, e1, e2⟩ := hT
  have ct : cTp U tp T := ⟨f, e1, fun k hk => (e2 k hk).2⟩
  have mt : mTp σ T n := ⟨h3, hn, fun k hk => ⟨(e2 k hk).1, (e2 k hk).2.1⟩⟩
  have tb : ∀ k, -1 ≤ tC T n k ∧ tC T n k ≤ 255 := fun k => tC_b (fun k hk => (e2 k hk).2.1) hn
  have tn : ∀ k, n ≤ k → tC T n k = -1 := fun k hk => by
    unfold tC
    rw [if_neg (by omega)]
  have lr := ho _ _ hc
  have br : b ≤ rd := by omega
  obtain ⟨k0, g0⟩ := hE.kd (i := 0) (by decide)
  obtain ⟨k1, g1⟩ := hE.kd (i := 1) (by decide)
  obtain ⟨k2, g2⟩ := hE.kd (i := 2) (by decide)
  obtain ⟨k3, g3⟩ := hE.kd (i := 3) (by decide)
  obtain ⟨k4, g4⟩ := hE.kd (i := 4) (by decide)
  obtain ⟨j, j1', j2, j3, j4⟩ := z_run (P := fun k => tC T n k = 32) (n := n) (fun k hk => by
    show ¬ tC T n k = 32
    rw [tn k hk]
    decide) (n - at') at' (by omega)
  have j4 : ¬ tC T n j = 32 := j4
  have h32 : ¬ iI (tC T n j) = 32 := by
    have := tb j
    rw [show (32 : Int32) = iI 32 from rfl, j_eq (by omega) (by omega) (by omega) (by omega)]
    exact j4
  obtain ⟨m1, hm1⟩ : ∃ m1, N - (j - at') = m1 + 1 := ⟨N - (j - at') - 1, by omega⟩
  have hcj : (uSet U rd (rdC tp n j st va kv wv sg)).2.2 rd = some (.inr (4, [.ref tp, .int (iI n), .int (iI j), .int (iI st), .int va, kv, wv, .int sg])) := u_ss
  have hc9 : (uSet U rd (rdC tp n j j va (.ref k0) wv sg)).2.2 rd = some (.inr (4, [.ref tp, .int (iI n), .int (iI j), .int (iI j), .int va, .ref k0, wv, .int sg])) := u_ss
  have tbj := tb j
  have C1 : f_X5_next N b g U rd = f_X5_next_0 N b g rd (m1 + 1) (uSet U rd (rdC tp n j st va kv wv sg)) := by
    have := c_nx0 (N := N) (b := b) (g := g) (st := st) (va := va) (kv := kv) (wv := wv) (sg := sg) hc ct br hn (j - at') at' (N - (j - at')) (by omega) (fun k q1 q2 => j3 k q1 (by omega))
    rw [Nat.sub_add_cancel (by omega), hm1, u_se hc, show at' + (j - at') = j by omega] at this
    exact this
  have pw1 : uPut b (uSet U rd (rdC tp n j st va kv wv sg)) rd 4 3 (.int (iI j)) = some (uSet U rd (rdC tp n j j va kv wv sg)) := by
    rw [u_pw hcj br (Nat.le_of_ble_eq_true rfl), u_s2]
    rfl
  have pw2 : uPut b (uSet U rd (rdC tp n j j va kv wv sg)) rd 4 5 (va_rf (some k0)) = some (uSet U rd (rdC tp n j j va (.ref k0) wv sg)) := by
    rw [u_pw (show (uSet U rd (rdC tp n j j va kv wv sg)).2.2 rd = some (.inr (4, [.ref tp, .int (iI n), .int (iI j), .int (iI j), .int va, kv, wv, .int sg])) from u_ss) br (Nat.le_of_ble_eq_true rfl), u_s2]
    rfl
  rw [f_X5_next_0, if_pos (v_is hcj), c_here hcj (ct.set hc) hn (by omega), q_uc, if_neg h32, v_gi hcj (k := 2) rfl, p_bs, pw1, p_bs, g0, p_let, pw2, p_bs, if_pos (v_is hc9), c_here hc9 (ct.set hc) hn (by omega), q_uc] at C1
  have e4 : mSet σ 4 (iI j) = mTok σ (iI j) (σ.1 5) (σ.1 6) (σ.1 7) (σ.1 8) (σ.2.1 11) := by
    have := mTok_4 (σ := σ) (a4 := σ.1 4) (a5 := σ.1 5) (a6 := σ.1 6) (a7 := σ.1 7) (a8 := σ.1 8) (r := σ.2.1 11) (v := iI j)
    rw [mTok_id] at this
    exact this
  have M1 : f_next N σ = f_next_5 N (m1 + 1) σ (iI j) := by
    have := m_nx5 (N := N) mt (j - at') at' (N - (j - at')) (by omega) (fun k q1 q2 => j3 k q1 (by omega))
    rw [Nat.sub_add_cancel (by omega), hm1, show at' + (j - at') = j by omega] at this
    unfold f_next
    rw [p_let, h5]
    exact this
  have mt4 : mTp (mTok σ (iI j) (σ.1 5) (σ.1 6) (σ.1 7) (σ.1 8) (σ.2.1 11)) T n := mt
  rw [f_next_5, m_look mt (by omega), q_mc, if_neg h32, e4, p_let, m_look mt4 (by omega), q_mc, mTok_8, p_let, mTok_7, p_let] at M1
  have kp : ∀ e : uE, ∀ x, x < U.1 → x ≠ rd → (uSet U rd e).2.2 x = U.2.2 x := fun e x _ q => u_sn q
  by_cases cA : tC T n j = -1
  · -- the end
    have pw3 : uPut b (uSet U rd (rdC tp n j j va (.ref k0) wv sg)) rd 4 5 (va_rf (some k1)) = some (uSet U rd (rdC tp n j j va (.ref k1) wv sg)) := by
      rw [u_pw hc9 br (Nat.le_of_ble_eq_true rfl), u_s2]
      rfl
    rw [cA, if_pos (show iI (-1) = -1 from rfl)] at C1 M1
    rw [g1, p_let, pw3, p_bs] at C1
    rw [mTok_6, p_let, mTok_5, p_let] at M1
    exact ⟨uSet U rd (rdC tp n j j va (.ref k1) wv sg), j, iI j, iI j, 0, 0, 0, σ.2.1 11, C1, M1, ⟨j, va, k1, wv, sg, u_ss, rfl, by omega, by omega, Or.inl ⟨rfl, g1⟩⟩, kp _, ho.set hc, j1', Nat.le_refl _, Nat.le_add_right _ _, Nat.le_refl _, Nat.le_add_right _ _⟩
  · obtain ⟨jn, tj⟩ := tC_i (T := T) (n := n) (k := j) (by omega)
    have nA : ¬ iI (tC T n j) = -1 := by
      rw [j_m1, j_eq (by omega) (by omega) (by omega) (by omega)]
      exact cA
    rw [if_neg nA] at C1 M1
    have ct9 : cTp (uSet U rd (rdC tp n j j va (.ref k0) wv sg)) tp T := ct.set hc
    have mt8 : mTp (mTok σ (iI j) (σ.1 5) (σ.1 6) 0 0 (σ.2.1 11)) T n := mt
    by_cases cB : 97 ≤ tC T n j ∧ tC T n j ≤ 122
    · -- a word
      obtain ⟨q, q1, q2, q3, q4⟩ := z_run (P := fun k => 97 ≤ tC T n k ∧ tC T n k ≤ 122) (n := n) (fun k hk => by
        show ¬ (97 ≤ tC T n k ∧ tC T n k ≤ 122)
        rw [tn k hk]
        omega) (n - j) j (by omega)
      have q3 : ∀ k, j ≤ k → k < q → 97 ≤ tC T n k ∧ tC T n k ≤ 122 := q3
      have q4 : ¬ (97 ≤ tC T n q ∧ tC T n q ≤ 122) := q4
      have qj : j < q := by
        apply Classical.byContradiction
        intro z
        have : q = j := by omega
        rw [this] at q4
        exact q4 cB
      have tl : ∀ k, j ≤ k → k < q → 97 ≤ T k ∧ T k ≤ 122 := fun k w1 w2 => by
        have z := q3 k w1 w2
        obtain ⟨-, e⟩ := tC_i (T := T) (n := n) (k := k) (by omega)
        omega
      have tbq := tb q
      obtain ⟨m2, hm2⟩ : ∃ m2, N - (q - j) = m2 + 1 := ⟨N - (q - j) - 1, by omega⟩
      have hcq : (uSet U rd (rdC tp n q j va (.ref k0) wv sg)).2.2 rd = some (.inr (4, [.ref tp, .int (iI n), .int (iI q), .int (iI j), .int va, .ref k0, wv, .int sg])) := u_ss
      have W1 : f_X5_nextWord N b g (uSet U rd (rdC tp n j j va (.ref k0) wv sg)) rd = f_X5_nextWord_0 N b g rd (m2 + 1) (uSet U rd (rdC tp n q j va (.ref k0) wv sg)) := by
        have := c_wd0 (N := N) (b := b) (g := g) (st := j) (va := va) (kv := .ref k0) (wv := wv) (sg := sg) hc ct br hn (q - j) j (N - (q - j)) (by omega) (fun k w1 w2 => q3 k w1 (by omega))
        rw [Nat.sub_add_cancel (by omega), hm2, show j + (q - j) = q by omega] at this
        exact this
      have es : iI (q : Int) - iI (j : Int) = iI ((q - j : Nat) : Int) := by
        rw [i_sub]
        congr 1
        omega
      rw [f_X5_nextWord_0, if_pos (v_is hcq), c_here hcq (ct.set hc) hn (by omega), q_uc, (c_letter tbq).2 q4, q_uc, if_pos rfl, v_gi hcq (k := 2) rfl, p_bs, v_gi hcq (k := 3) rfl, p_bs, es] at W1
      rw [(c_letter tbj).1 cB, q_uc, if_neg n10, if_pos (v_is hc9), W1] at C1
      obtain ⟨r', r1, r2⟩ := m_nx67 (N := N) (a4 := iI j) (a5 := σ.1 5) (a6 := σ.1 6) (a7 := 0) mt (q - j) j (N - (q - j)) 0 (σ.2.1 11) (by omega) (by omega) (fun k w1 w2 => q3 k w1 (by omega))
      rw [Nat.sub_add_cancel (by omega), hm2, show j + (q - j) = q by omega, Nat.zero_add] at r2
      have r2 : f_next_67 N N (mTok σ (iI j) (σ.1 5) (σ.1 6) 0 0 (σ.2.1 11)) (iI j) = f_next_67 N (m2 + 1) (mTok σ (iI j) (σ.1 5) (σ.1 6) 0 (iI ((q - j : Nat) : Int)) r') (iI q) := r2
      have mtq : mTp (mTok σ (iI j) (σ.1 5) (σ.1 6) 0 (iI ((q - j : Nat) : Int)) r') T n := mt
      rw [(m_small tbj).1 cB, q_mc, if_neg n10, r2, f_next_67, m_look mtq (by omega), q_mc, (m_small tbq).2 q4, q_mc, if_pos rfl, mTok_5, p_let, show (mTok σ (iI j) (iI q) (σ.1 6) 0 (iI ((q - j : Nat) : Int)) r').1 8 = iI ((q - j : Nat) : Int) from rfl] at M1
      unfold f_next_137 f_next_265 at M1
      by_cases c8 : q - j ≤ 8
      · rw [j8, p_le (by omega) (by omega) (by omega) (by omega) (by omega)] at C1 M1
        rw [mTok_6, p_let] at M1
        obtain ⟨u11, a1, a2, a3, a4, a5, a6⟩ := c_sbn (N := N) (b := b) (g := g) (U := uSet U rd (rdC tp n q j va (.ref k0) wv sg)) (ho.set hc) (by
          show b ≤ U.1
          omega)
        have a1 : f_J5_init N b g (uNew (uSet U rd (rdC tp n q j va (.ref k0) wv sg)) 4 (.inr (19, uDefs tyJ5 4))) U.1 = some u11 := a1
        have a2 : vSb u11 U.1 (U.1 + 1) 0 (fun _ => 0) := a2
        have a3 : ∀ x, x < U.1 → u11.2.2 x = (uSet U rd (rdC tp n q j va (.ref k0) wv sg)).2.2 x := a3
        have a5 : u11.1 = U.1 + 2 := a5
        have a6 : u11.2.1 = U.2.1 + 20 := a6
        have hc11 : u11.2.2 rd = some (.inr (4, [.ref tp, .int (iI n), .int (iI q), .int (iI j), .int va, .ref k0, wv, .int sg])) := (a3 rd lr).trans hcq
        have ltp := ho _ _ e1
        have ct11 : cTp u11 tp T := by
          obtain ⟨f', y1, y2⟩ := ct.set (e := rdC tp n q j va (.ref k0) wv sg) hc
          exact ⟨f', (a3 tp ltp).trans y1, y2⟩
        obtain ⟨U', f', w1, w2, w3, w4, w5, w6, w7, w8⟩ := c_wd51 (N := N) (b := b) (lo := lo) (g := g) (st := j) (j := q) (k2 := k2) (sb := U.1) (sv := U.1 + 1) (T := T) br (by omega) (by omega) (by omega) tl (by omega) g2 N j u11 (fun _ => 0) (Nat.le_refl _) (by omega) (by omega) hc11 ct11 (by
          rw [Nat.sub_self]
          exact a2) (fun i hi => by omega) a4 (by omega) (by omega) (by omega) (by omega) (by omega)
        refine ⟨U', q, iI j, iI q, 2, 0, iI ((q - j : Nat) : Int), r', ?_, M1, ⟨j, va, k2, .ref u11.1, sg, w2, rfl, by omega, by omega, Or.inr (Or.inr (Or.inl ⟨rfl, g2, rfl, u11.1, q - j, f', rfl, by omega, rfl, by omega, c8, w3, fun k hk => ?_⟩))⟩, fun x x1 x2 => ?_, w6, by omega, by omega, by omega, by omega, by omega⟩
        · rw [C1]
          show ((f_X5_nextWord_41 N b g rd (uNew (uSet U rd (rdC tp n q j va (.ref k0) wv sg)) 4 (.inr (19, uDefs tyJ5 4))) (some U.1)).bind fun u38 => _) = _
          unfold f_X5_nextWord_41 f_X5_nextWord_45 f_X5_next_68 f_X5_next_117
          rw [p_bs, a1, p_bs, v_gi hc11 (k := 3) rfl, p_bs, w1, p_bs]
        · have z := tl (j + k) (by omega) (by omega)
          refine ⟨?_, T (j + k), w4 k hk, by omega, by omega⟩
          rw [w4 k hk]
          show _ = r' k
          rw [r1 k, if_pos (by omega)]
          rfl
        · rw [w5 x (by omega) x2 (by omega) (by omega), a3 x x1, u_sn x2]
      · rw [j8, n_le (by omega) (by omega) (by omega) (by omega) (by omega)] at C1 M1
        rw [mTok_6, p_let] at M1
        refine ⟨uSet U rd (rdC tp n q j va (.ref k0) wv sg), q, iI j, iI q, 1, 0, iI ((q - j : Nat) : Int), r', ?_, M1, ⟨j, va, k0, wv, sg, u_ss, rfl, by omega, by omega, Or.inr (Or.inl ⟨rfl, g0⟩)⟩, kp _, ho.set hc, by omega, Nat.le_refl _, Nat.le_add_right _ _, Nat.le_refl _, Nat.le_add_right _ _⟩
        rw [C1, p_bs]
        rfl
    · rw [(c_letter tbj).2 cB, q_uc, if_pos rfl] at C1
      rw [(m_small tbj).2 cB, q_mc, if_pos rfl] at M1
      by_cases cD : 48 ≤ tC T n j ∧ tC T n j ≤ 57
      · -- a number
        obtain ⟨q, q1, q2, q3, q4⟩ := z_run (P := fun k => 48 ≤ tC T n k ∧ tC T n k ≤ 57) (n := n) (fun k hk => by
          show ¬ (48 ≤ tC T n k ∧ tC T n k ≤ 57)
          rw [tn k hk]
          omega) (n - j) j (by omega)
        have q3 : ∀ k, j ≤ k → k < q → 48 ≤ tC T n k ∧ tC T n k ≤ 57 := q3
        have q4 : ¬ (48 ≤ tC T n q ∧ tC T n q ≤ 57) := q4
        have tl : ∀ k, j ≤ k → k < q → 48 ≤ T k ∧ T k ≤ 57 := fun k w1 w2 => by
          have z := q3 k w1 w2
          obtain ⟨-, e⟩ := tC_i (T := T) (n := n) (k := k) (by omega)
          omega
        have tbq := tb q
        obtain ⟨m2, hm2⟩ : ∃ m2, N - (q - j) = m2 + 1 := ⟨N - (q - j) - 1, by omega⟩
        have hcq : (uSet U rd (rdC tp n q j va (.ref k0) wv sg)).2.2 rd = some (.inr (4, [.ref tp, .int (iI n), .int (iI q), .int (iI j), .int va, .ref k0, wv, .int sg])) := u_ss
        have W1 : f_X5_nextWhole N b g (uSet U rd (rdC tp n j j va (.ref k0) wv sg)) rd = f_X5_nextWhole_0 N b g rd (m2 + 1) (uSet U rd (rdC tp n q j va (.ref k0) wv sg)) := by
          have := c_wh0 (N := N) (b := b) (g := g) (st := j) (va := va) (kv := .ref k0) (wv := wv) (sg := sg) hc ct br hn (q - j) j (N - (q - j)) (by omega) (fun k w1 w2 => q3 k w1 (by omega))
          rw [Nat.sub_add_cancel (by omega), hm2, show j + (q - j) = q by omega] at this
          exact this
        have es : iI (q : Int) - iI (j : Int) = iI ((q - j : Nat) : Int) := by
          rw [i_sub]
          congr 1
          omega
        rw [f_X5_nextWhole_0, if_pos (v_is hcq), c_here hcq (ct.set hc) hn (by omega), q_uc, (c_digit tbq).2 q4, q_uc, if_pos rfl, v_gi hcq (k := 2) rfl, p_bs, v_gi hcq (k := 3) rfl, p_bs, es] at W1
        rw [(c_digit tbj).1 cD, q_uc, if_neg n10, if_pos (v_is hc9), W1] at C1
        have r2 := m_nx152 (N := N) (a4 := iI j) (a5 := σ.1 5) (a6 := σ.1 6) (a8 := 0) (r := σ.2.1 11) mt (st := j) (q - j) j (N - (q - j)) 0 (by omega) (by omega) (fun k w1 w2 => q3 k w1 (by omega))
        rw [Nat.sub_add_cancel (by omega), hm2, show j + (q - j) = q by omega, Nat.zero_add] at r2
        obtain ⟨V, hV⟩ : ∃ V : Nat, V = nV T j (if q - j < 4 then q - j else 4) := ⟨_, rfl⟩
        rw [← hV] at r2
        have r2 : f_next_152 N N (mTok σ (iI j) (σ.1 5) (σ.1 6) 0 0 (σ.2.1 11)) (iI j) 0 = f_next_152 N (m2 + 1) (mTok σ (iI j) (σ.1 5) (σ.1 6) (iI (V : Int)) 0 (σ.2.1 11)) (iI q) (iI ((q - j : Nat) : Int)) := r2
        have mtq : mTp (mTok σ (iI j) (σ.1 5) (σ.1 6) (iI (V : Int)) 0 (σ.2.1 11)) T n := mt
        rw [(m_digit tbj).1 cD, q_mc, if_neg n10, r2, f_next_152, m_look mtq (by omega), q_mc, (m_digit tbq).2 q4, q_mc, if_pos rfl, mTok_5, p_let] at M1
        unfold f_next_213 f_next_265 at M1
        by_cases c8 : q - j ≤ 4
        · have eV : V = nV T j (q - j) := by
            rw [hV]
            by_cases c4 : q - j < 4
            · rw [if_pos c4]
            · rw [if_neg c4, show q - j = 4 by omega]
          have bV := nV_le (T := T) (st := j) (q - j) (fun k hk => (tl (j + k) (by omega) (by omega)).2)
          have p4 : 10 ^ (q - j) ≤ 10 ^ 4 := Nat.pow_le_pow_right (by decide) c8
          rw [show (4 : Int32) = iI 4 from rfl, p_le (by omega) (by omega) (by omega) (by omega) (by omega)] at C1 M1
          rw [mTok_6, p_let] at M1
          have pw4 : uPut b (uSet U rd (rdC tp n q j va (.ref k0) wv sg)) rd 4 4 (.int 0) = some (uSet U rd (rdC tp n q j (iI ((nV T j 0 : Nat) : Int)) (.ref k0) wv sg)) := by
            rw [u_pw hcq br (Nat.le_of_ble_eq_true rfl), u_s2]
            rfl
          have hcz : (uSet U rd (rdC tp n q j (iI ((nV T j 0 : Nat) : Int)) (.ref k0) wv sg)).2.2 rd = some (.inr (4, [.ref tp, .int (iI n), .int (iI q), .int (iI j), .int (iI ((nV T j 0 : Nat) : Int)), .ref k0, wv, .int sg])) := u_ss
          have w47 := c_wh47 (N := N) (b := b) (g := g) (n := n) (st := j) (j := q) (k3 := k3) (kv := .ref k0) (wv := wv) (sg := sg) hc ct br (by omega) tl (by omega) g3 N 0 (by omega) (by omega)
          rw [Nat.add_zero] at w47
          refine ⟨uSet U rd (rdC tp n q j (iI ((nV T j (q - j) : Nat) : Int)) (.ref k3) wv sg), q, iI j, iI q, 3, iI (V : Int), 0, σ.2.1 11, ?_, M1, ⟨j, _, k3, wv, sg, u_ss, rfl, by omega, by omega, Or.inr (Or.inr (Or.inr (Or.inl ⟨rfl, g3, rfl, nV T j (q - j), rfl, by rw [← eV]; rfl, by omega⟩)))⟩, kp _, ho.set hc, by omega, Nat.le_refl _, Nat.le_add_right _ _, Nat.le_refl _, Nat.le_add_right _ _⟩
          rw [C1, pw4, p_bs, v_gi hcz (k := 3) rfl, p_bs, w47, p_bs]
          rfl
        · rw [show (4 : Int32) = iI 4 from rfl, n_le (by omega) (by omega) (by omega) (by omega) (by omega)] at C1 M1
          rw [mTok_6, p_let] at M1
          refine ⟨uSet U rd (rdC tp n q j va (.ref k0) wv sg), q, iI j, iI q, 1, iI (V : Int), 0, σ.2.1 11, ?_, M1, ⟨j, va, k0, wv, sg, u_ss, rfl, by omega, by omega, Or.inr (Or.inl ⟨rfl, g0⟩)⟩, kp _, ho.set hc, by omega, Nat.le_refl _, Nat.le_add_right _ _, Nat.le_refl _, Nat.le_add_right _ _⟩
          rw [C1, p_bs]
          rfl
      · -- a sign
        have hE9 : tEn b g (uSet U rd (rdC tp n j j va (.ref k0) wv sg)) := hE.keep (fun x hx => u_sn (by omega))
        obtain ⟨vl, hl, fl, l1, -⟩ := hE9.lit (j := 0) (by decide)
        have t256 := (e2 j (by omega)).2.1
        obtain ⟨s1, s2⟩ := c_index (N := N) (b := b) (g := g) hE9 t256 (by omega)
        have ej : iI (j : Int) + 1 = iI ((j + 1 : Nat) : Int) := by
          rw [j1, i_add]
          rfl
        rw [(c_digit tbj).2 cD, q_uc, if_pos rfl, if_pos (v_is l1), tj] at C1
        rw [(m_digit tbj).2 cD, q_mc, if_pos rfl, ej, mTok_5, p_let, tj] at M1
        by_cases cS : sgn (T j)
        · obtain ⟨r, r1, r2⟩ := s1 cS
          have t128 : T j < 128 := by
            unfold sgn at cS
            omega
          obtain ⟨-, tf, tu, -⟩ := t_cha ⟨T j, t128⟩
          have tf : uFit .char (iI ((T j : Nat) : Int)) = true := tf
          have tu : ((iI ((T j : Nat) : Int)).toUInt32 % 65536).toInt32 = iI ((T j : Nat) : Int) := tu
          have pw3 : uPut b (uSet U rd (rdC tp n j j va (.ref k0) wv sg)) rd 4 5 (va_rf (some k4)) = some (uSet U rd (rdC tp n j j va (.ref k4) wv sg)) := by
            rw [u_pw hc9 br (Nat.le_of_ble_eq_true rfl), u_s2]
            rfl
          have hc10 : (uSet U rd (rdC tp n j j va (.ref k4) wv sg)).2.2 rd = some (.inr (4, [.ref tp, .int (iI n), .int (iI j), .int (iI j), .int va, .ref k4, wv, .int sg])) := u_ss
          have pw4 : uPut b (uSet U rd (rdC tp n j j va (.ref k4) wv sg)) rd 4 7 (.int (iI ((T j : Nat) : Int))) = some (uSet U rd (rdC tp n j j va (.ref k4) wv (iI ((T j : Nat) : Int)))) := by
            rw [u_pw hc10 br (Nat.le_of_ble_eq_true rfl), u_s2]
            rfl
          have hc11 : (uSet U rd (rdC tp n j j va (.ref k4) wv (iI ((T j : Nat) : Int)))).2.2 rd = some (.inr (4, [.ref tp, .int (iI n), .int (iI j), .int (iI j), .int va, .ref k4, wv, .int (iI ((T j : Nat) : Int))])) := u_ss
          have pw5 : uPut b (uSet U rd (rdC tp n j j va (.ref k4) wv (iI ((T j : Nat) : Int)))) rd 4 2 (.int (iI ((j + 1 : Nat) : Int))) = some (uSet U rd (rdC tp n (j + 1) j va (.ref k4) wv (iI ((T j : Nat) : Int)))) := by
            rw [u_pw hc11 br (Nat.le_of_ble_eq_true rfl), u_s2]
            rfl
          rw [r2, q_uc, if_neg (show ¬ iI (r : Int) < 0 by
            rw [j0, j_lt (by omega) (by omega) (by omega) (by omega)]
            omega), g4, p_let, pw3, p_bs, tu, if_pos tf, pw4, p_bs, v_gi hc11 (k := 2) rfl, p_bs, ej, pw5, p_bs] at C1
          have M2 : f_next N σ = some (mTok σ (iI j) (iI ((j + 1 : Nat) : Int)) (iI ((T j : Nat) : Int)) 0 0 (σ.2.1 11)) := by
            rw [M1]
            unfold f_next_257 f_next_262 f_next_265
            rw [mTok_6, p_let]
            rcases cS with z | z | z | z | z
            · rw [z]
              rfl
            · rw [z]
              rfl
            · rw [z]
              rfl
            · rw [z]
              rfl
            · rw [z]
              rfl
          exact ⟨_, j + 1, _, _, _, _, _, _, C1, M2, ⟨j, va, k4, wv, _, u_ss, rfl, by omega, by omega, Or.inr (Or.inr (Or.inr (Or.inr ⟨T j, cS, rfl, g4, rfl, rfl⟩)))⟩, kp _, ho.set hc, by omega, Nat.le_refl _, Nat.le_add_right _ _, Nat.le_refl _, Nat.le_add_right _ _⟩
        · rw [s2 cS, q_uc, if_pos (show (-1 : Int32) < 0 by decide)] at C1
          have M2 : f_next N σ = some (mTok σ (iI j) (iI ((j + 1 : Nat) : Int)) 1 0 0 (σ.2.1 11)) := by
            unfold sgn at cS
            rw [M1, if_neg (show ¬ iI ((T j : Nat) : Int) = 59 by
              rw [show (59 : Int32) = iI 59 from rfl, j_eq (by omega) (by omega) (by omega) (by omega)]
              omega), if_neg (show ¬ iI ((T j : Nat) : Int) = 44 by
              rw [show (44 : Int32) = iI 44 from rfl, j_eq (by omega) (by omega) (by omega) (by omega)]
              omega), if_neg (show ¬ iI ((T j : Nat) : Int) = 45 by
              rw [show (45 : Int32) = iI 45 from rfl, j_eq (by omega) (by omega) (by omega) (by omega)]
              omega), if_neg (show ¬ iI ((T j : Nat) : Int) = 40 by
              rw [show (40 : Int32) = iI 40 from rfl, j_eq (by omega) (by omega) (by omega) (by omega)]
              omega), if_neg (show ¬ iI ((T j : Nat) : Int) = 41 by
              rw [show (41 : Int32) = iI 41 from rfl, j_eq (by omega) (by omega) (by omega) (by omega)]
              omega)]
            unfold f_next_262 f_next_265
            rw [mTok_6, p_let]
          exact ⟨_, j, _, _, _, _, _, _, C1, M2, ⟨j, va, k0, wv, sg, u_ss, rfl, by omega, by omega, Or.inr (Or.inl ⟨rfl, g0⟩)⟩, kp _, ho.set hc, by omega, Nat.le_refl _, Nat.le_add_right _ _, Nat.le_refl _, Nat.le_add_right _ _⟩
end I7s
