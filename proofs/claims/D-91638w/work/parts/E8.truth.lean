/-! PLAIN: the class's truths, a truth, a look -/
theorem c_kds13 {N b : Nat} {g : uEnv} {u : UH} {a0 a wa e : Nat} {f : Nat → Nat} {kn : Int} (hD : vDb u a wa e f kn) : ∀ (m q : Nat), q ≤ 8 → 8 < q + m → f_X15_kinds_13 N b g a0 m u (iI (zCn f q)) (some wa) (iI 8) (iI q) = some (iI (zCn f 8), u) := by
  obtain ⟨d1, wf, d2, d3⟩ := hD
  intro m
  induction m with
  | zero => intro q h1 h2; omega
  | succ m ih =>
    intro q h1 h2
    rw [f_X15_kinds_13]
    unfold f_X15_kinds_36
    by_cases hq : q = 8
    · subst hq
      rw [p_le (by omega) (by omega) (by omega) (by omega) (by omega)]
    · obtain ⟨w1, w2⟩ := d3 q (by omega)
      have eq : iI (q : Int) + 1 = iI ((q + 1 : Nat) : Int) := by
        rw [j1, i_add]
        rfl
      have L : uLdI u wa 0 (iI (q : Int)) = some (iI (f q)) := by
        rw [u_ldI d2 (by omega) (by omega) (by omega)]
        exact congrArg some w1
      have ihh := ih (q + 1) (by omega) (by omega)
      rw [zCn_s] at ihh
      rw [n_le (by omega) (by omega) (by omega) (by omega) (by omega), p_bs, L, p_bs]
      by_cases h0 : f q = 0
      · rw [if_pos h0] at ihh
        rw [if_pos (show iI (f q : Int) ≤ 0 by rw [h0]; decide), p_let, p_let, eq, j0, i_add]
        exact ihh
      · rw [if_neg h0] at ihh
        rw [if_neg (show ¬ iI (f q : Int) ≤ 0 by rw [j0, j_le (by omega) (by omega) (by omega) (by omega)]; omega), p_let, p_let, eq, j1, i_add]
        exact ihh
theorem c_kds {N b : Nat} {g : uEnv} {u : UH} {a wa e : Nat} {f : Nat → Nat} {kn : Int} (hD : vDb u a wa e f kn) (hN : 9 ≤ N) : f_X15_kinds N b g u a = some (iI (zCn f 8), u) := by
  have h := c_kds13 (N := N) (b := b) (g := g) (a0 := a) hD N 0 (by omega) (by omega)
  obtain ⟨d1, wf, d2, d3⟩ := hD
  unfold f_X15_kinds
  rw [v_gr d1 (k := 1) rfl, p_bs, p_bs, u_len d2, p_bs]
  exact h
theorem c_trs4 {N b : Nat} {g : uEnv} {u : UH} {la da wa : Nat → Nat} {bk : Nat} {v8 v9 v10 : Value} {w h n nd : Nat} {hts : Nat → Int} {fl : Nat → Nat} {dO kn : Nat → Int} {wg : Nat → Nat → Nat} (hL : vLd u g la da wa bk v8 v9 v10 w h n nd hts fl dO kn wg) (hkn : ∀ e, e < nd → -1 ≤ kn e ∧ kn e < 8) (hN : 9 ≤ N) : ∀ (m d : Nat), d ≤ nd → nd < d + m → f_X14_truths_4 N b g (la 0) m u (iI (zTm kn wg d)) (iI d) = some (iI (zTm kn wg nd), u) := by
  have sz := c_siz (N := N) (b := b) hL
  intro m
  induction m with
  | zero => intro d h1 h2; omega
  | succ m ih =>
    intro d h1 h2
    rw [f_X14_truths_4]
    unfold f_X14_truths_52
    have hnd := hL.2.2.2.2.1
    rw [v_gr hL.1 (k := 6) rfl, p_bs, p_bs, if_pos sz.2, sz.1, q_uc]
    by_cases hd : nd ≤ d
    · have : d = nd := by omega
      subst this
      rw [p_le (by omega) (by omega) (by omega) (by omega) (by omega)]
    · have gt := c_get (N := N) (b := b) (e := d) hL (by omega)
      obtain ⟨d1, d2, d3⟩ := hL.2.2.2.2.2.2.2.2.2.2 d (by omega)
      have kd := c_kds (N := N) (b := b) (g := g) d1 hN
      have hk := hkn d (by omega)
      have ed : iI (d : Int) + 1 = iI ((d + 1 : Nat) : Int) := by
        rw [j1, i_add]
        rfl
      have ihh := ih (d + 1) (by omega) (by omega)
      rw [zTm] at ihh
      rw [n_le (by omega) (by omega) (by omega) (by omega) (by omega), v_gr hL.1 (k := 6) rfl, p_bs, p_bs, if_pos sz.2, gt, q_uc, p_bs, if_pos (v_is d1.1), v_gi d1.1 (k := 2) rfl, p_bs]
      by_cases hn1 : kn d = -1
      · rw [if_pos hn1] at ihh
        rw [if_pos (show iI (kn d) = -1 by rw [hn1]; rfl), v_gr hL.1 (k := 6) rfl, p_bs, p_bs, if_pos sz.2, gt, q_uc, p_bs, if_pos (v_is d1.1), if_pos (v_is d1.1), kd, q_uc, i_mul, ← Int.natCast_mul, p_let, p_let, ed]
        exact ihh
      · rw [if_neg hn1] at ihh
        rw [if_neg (show ¬ iI (kn d) = -1 by rw [j_m1, j_eq (by omega) (by omega) (by omega) (by omega)]; exact hn1), j1, i_mul, Int.mul_one, p_let, p_let, ← j1, ed]
        exact ihh
theorem c_trs {N b : Nat} {g : uEnv} {u : UH} {la da wa : Nat → Nat} {bk : Nat} {v8 v9 v10 : Value} {w h n nd : Nat} {hts : Nat → Int} {fl : Nat → Nat} {dO kn : Nat → Int} {wg : Nat → Nat → Nat} (hL : vLd u g la da wa bk v8 v9 v10 w h n nd hts fl dO kn wg) (hkn : ∀ e, e < nd → -1 ≤ kn e ∧ kn e < 8) (hN : 9 ≤ N) : f_X14_truths N b g u (la 0) = some (iI (zTm kn wg nd), u) := by
  have hnd := hL.2.2.2.2.1
  exact c_trs4 (N := N) hL hkn hN N 0 (by omega) (by omega)
/-- the grounds of all doubts in a truth -/
def zTg (wg : Nat → Nat → Nat) (fd e : Nat) : Nat := zKd (wg e) (zD fd e - 1)
theorem c_tr17 {N b : Nat} {g : uEnv} {la da wa : Nat → Nat} {bk t ta : Nat} {v8 v9 v10 : Value} {w h n nd : Nat} {hts : Nat → Int} {fl : Nat → Nat} {dO kn : Nat → Int} {wg : Nat → Nat → Nat} (hkn : ∀ e, e < nd → -1 ≤ kn e ∧ kn e < 8 ∧ (kn e ≠ -1 → wg e (kn e).toNat ≠ 0)) (hb : b ≤ ta) (ht : t ≤ 1000) (hN : 9 ≤ N) : ∀ (m j : Nat) (u : UH) (f : Nat → Int32), j ≤ nd → nd < j + m → vLd u g la da wa bk v8 v9 v10 w h n nd hts fl dO kn wg → u.2.2 ta = some (.inl (0, 5, .inl f)) → (∀ f', vLd (uSet u ta (.inl (0, 5, .inl f'))) g la da wa bk v8 v9 v10 w h n nd hts fl dO kn wg) → (∀ e, nd - j ≤ e → e < nd → f e = iI (zTg wg (zFc nd kn wg t nd) e)) → ∃ f' : Nat → Int32, f_X14_truth_17 N b g (la 0) m u (some ta) (iI (zTl nd kn wg t j)) (iI ((nd : Int) - 1 - (j : Int))) = some (some ta, uSet u ta (.inl (0, 5, .inl f'))) ∧ ∀ e, e < nd → f' e = iI (zTg wg (zFc nd kn wg t nd) e) := by
  intro m
  induction m with
  | zero => intro j u f h1 h2; omega
  | succ m ih =>
    intro j u f h1' h2 hL hta hLs hf
    have hnd := hL.2.2.2.2.1
    have sz := c_siz (N := N) (b := b) hL
    rw [f_X14_truth_17]
    unfold f_X14_truth_81
    by_cases hj : j = nd
    · subst hj
      refine ⟨f, ?_, fun e he => hf e (by omega) he⟩
      rw [j0, p_lt (by omega) (by omega) (by omega) (by omega) (by omega), u_se hta]
    · obtain ⟨e, he⟩ : ∃ e, e = nd - 1 - j := ⟨_, rfl⟩
      have hen : e < nd := by omega
      have h3 : ∀ e, e < nd → 1 ≤ zCn (wg e) 8 ∧ zCn (wg e) 8 ≤ 3 := fun e he => (hL.2.2.2.2.2.2.2.2.2.2 e he).2
      obtain ⟨-, -, fd3, -⟩ := zFc_d (t := t) hnd h3 hkn nd (Nat.le_refl _)
      have fde := fd3 e (by omega) hen
      have gt := c_get (N := N) (b := b) (e := e) hL hen
      obtain ⟨d1, d2, d3⟩ := hL.2.2.2.2.2.2.2.2.2.2 e hen
      have kd := c_kds (N := N) (b := b) (g := g) d1 hN
      have hk := hkn e hen
      have ee : (nd : Int) - 1 - (j : Int) = (e : Int) := by omega
      have en : iI (e : Int) + (-1) = iI ((nd : Int) - 1 - ((j + 1 : Nat) : Int)) := by
        rw [j_m1, i_add]
        congr 1
        omega
      have tb := zTl_le (nd := nd) (t := t) (kn := kn) (wg := wg) j
      have step : ∀ (x : Int32), x = iI (zTg wg (zFc nd kn wg t nd) e) → ∃ f' : Nat → Int32, f_X14_truth_17 N b g (la 0) m (uSet u ta (.inl (0, 5, .inl (upd f e x)))) (some ta) (iI (zTl nd kn wg t (j + 1))) (iI ((nd : Int) - 1 - ((j + 1 : Nat) : Int))) = some (some ta, uSet u ta (.inl (0, 5, .inl f'))) ∧ ∀ e, e < nd → f' e = iI (zTg wg (zFc nd kn wg t nd) e) := fun x hx => by
        obtain ⟨f', r1, r2⟩ := ih (j + 1) (uSet u ta (.inl (0, 5, .inl (upd f e x)))) (upd f e x) (by omega) (by omega) (hLs _) u_ss (fun f' => by rw [u_s2]; exact hLs f') (fun e' q1 q2 => by
          by_cases x' : e' = e
          · rw [x']
            exact (if_pos rfl).trans hx
          · exact (if_neg x').trans (hf e' (by omega) q2))
        rw [u_s2] at r1
        exact ⟨f', r1, r2⟩
      rw [zTl, ← he] at step
      rw [ee, j0, n_lt (by omega) (by omega) (by omega) (by omega) (by omega), v_gr hL.1 (k := 6) rfl, p_bs, p_bs, if_pos sz.2, gt, q_uc, p_bs, if_pos (v_is d1.1), v_gi d1.1 (k := 2) rfl, p_bs]
      by_cases hn1 : kn e = -1
      · rw [if_pos hn1] at step
        rw [if_pos hn1, show nd - 1 - e = j from by omega] at fde
        have dv : iI (zTl nd kn wg t j : Int) / iI (zCn (wg e) 8 : Int) = iI ((zTl nd kn wg t j / zCn (wg e) 8 : Nat) : Int) := by
          rw [j_div (by omega) (by omega) (by omega) (by omega)]
          congr 1
        have md : iI (zTl nd kn wg t j : Int) - iI ((zTl nd kn wg t j / zCn (wg e) 8 : Nat) : Int) * iI (zCn (wg e) 8 : Int) = iI ((zTl nd kn wg t j % zCn (wg e) 8 : Nat) : Int) := by
          rw [i_mul, i_sub, ← Int.natCast_mul]
          congr 1
          have := Nat.div_add_mod (zTl nd kn wg t j) (zCn (wg e) 8)
          rw [Nat.mul_comm] at this
          omega
        have ml := Nat.mod_lt (zTl nd kn wg t j) (show zCn (wg e) 8 > 0 by omega)
        have ki := c_kind (N := N) (b := b) (g := g) d1 ml hN
        have st : uStI b u ta 0 (iI (e : Int)) (iI (zKd (wg e) (zTl nd kn wg t j % zCn (wg e) 8))) = some (uSet u ta (.inl (0, 5, .inl (upd f e (iI (zKd (wg e) (zTl nd kn wg t j % zCn (wg e) 8))))))) := u_stI hta hb (by omega) (by omega) (by omega)
        have d1s := (hLs (upd f e (iI (zKd (wg e) (zTl nd kn wg t j % zCn (wg e) 8))))).2.2.2.2.2.2.2.2.2.2 e hen
        have kds := c_kds (N := N) (b := b) (g := g) d1s.1 hN
        rw [if_pos (show iI (kn e) = -1 by rw [hn1]; rfl), if_pos (v_is d1.1), kd, q_uc, ← j0, if_pos (show ¬ iI (zCn (wg e) 8 : Int) = 0 by rw [j0, j_eq (by omega) (by omega) (by omega) (by omega)]; omega), if_pos (v_is d1.1), dv, md, ki, q_uc, p_bs, st, p_bs, if_pos (v_is d1s.1.1), kds, q_uc, if_pos (show ¬ iI (zCn (wg e) 8 : Int) = 0 by rw [j0, j_eq (by omega) (by omega) (by omega) (by omega)]; omega), dv, p_let, p_let, en]
        refine step _ ?_
        unfold zTg
        rw [fde, Nat.add_sub_cancel]
      · rw [if_neg hn1] at step
        rw [if_neg hn1] at fde
        have st : uStI b u ta 0 (iI (e : Int)) (iI (kn e)) = some (uSet u ta (.inl (0, 5, .inl (upd f e (iI (kn e)))))) := u_stI hta hb (by omega) (by omega) (by omega)
        rw [if_neg (show ¬ iI (kn e) = -1 by rw [j_m1, j_eq (by omega) (by omega) (by omega) (by omega)]; exact hn1), p_bs, p_bs, st, p_bs, p_let, en]
        refine step _ ?_
        unfold zTg
        have hb' : zBd1 kn wg e = zCn (wg e) (kn e).toNat + 1 := if_neg hn1
        rw [fde, hb', Nat.add_sub_cancel, zKd_at (hk.2.2 hn1) (by omega)]
        congr 1
        omega
/-- Land.truth: a new array -/
theorem c_truth {N b : Nat} {g : uEnv} {u : UH} {la da wa : Nat → Nat} {bk t : Nat} {v8 v9 v10 : Value} {w h n nd : Nat} {hts : Nat → Int} {fl : Nat → Nat} {dO kn : Nat → Int} {wg : Nat → Nat → Nat} (hL : vLd u g la da wa bk v8 v9 v10 w h n nd hts fl dO kn wg) (ho : uOld u) (hkn : ∀ e, e < nd → -1 ≤ kn e ∧ kn e < 8 ∧ (kn e ≠ -1 → wg e (kn e).toNat ≠ 0)) (hb : b ≤ u.1) (ht : t ≤ 1000) (hN : 9 ≤ N) : ∃ f : Nat → Int32, f_X14_truth N b g u (la 0) (iI t) = some (some u.1, uNew u 5 (.inl (0, 5, .inl f))) ∧ ∀ e, e < nd → f e = iI (zTg wg (zFc nd kn wg t nd) e) := by
  have hnd := hL.2.2.2.2.1
  have hid : ∀ f f', uSet (uNew u 5 (.inl (0, 5, .inl f))) u.1 (.inl (0, 5, .inl f')) = uNew u 5 (.inl (0, 5, .inl f')) := fun f f' => by
    refine Prod.ext rfl (Prod.ext rfl ?_)
    funext x
    by_cases hx : x = u.1
    · rw [hx, u_ss, u_nn]
    · rw [u_sn hx, u_nx hx, u_nx hx]
  have hLn : ∀ f, vLd (uNew u 5 (.inl (0, 5, .inl f))) g la da wa bk v8 v9 v10 w h n nd hts fl dO kn wg := fun f => hL.keep (fun x e hx _ => u_no ho hx)
  obtain ⟨f', r1, r2⟩ := c_tr17 (N := N) (b := b) (g := g) (t := t) hkn hb ht hN N 0 (uNew u 5 (.inl (0, 5, .inl (fun _ => 0)))) (fun _ => 0) (by omega) (by omega) (hLn _) u_nn (fun f' => by rw [hid]; exact hLn f') (fun e q1 q2 => by omega)
  rw [hid, show (nd : Int) - 1 - ((0 : Nat) : Int) = (nd : Int) - 1 from by omega] at r1
  have sz := c_siz (N := N) (b := b) (hLn (fun _ => 0))
  refine ⟨f', ?_, r2⟩
  unfold f_X14_truth f_X14_truth_3
  rw [if_pos (show ¬ (5 : Int32) < 0 ∧ (5 : Int32).toNatClampNeg ≤ 60000000 by decide), p_let, p_let]
  show ((uGR (uNew u 5 (.inl (0, 5, .inl (fun _ => 0)))) (la 0) 12 6).bind fun o1 => o1.bind fun a2 => if uIs (uNew u 5 (.inl (0, 5, .inl (fun _ => 0)))) a2 18 = true then ucall (f_J2_size N b g (uNew u 5 (.inl (0, 5, .inl (fun _ => 0)))) a2) fun r6 u4 => mlet (r6 - 1) fun y7 => f_X14_truth_17 N b g (la 0) N u4 (some u.1) (iI t) y7 else none) = _
  rw [v_gr (hLn _).1 (k := 6) rfl, p_bs, p_bs, if_pos sz.2, sz.1, q_uc, j1, i_sub, p_let]
  exact r1
