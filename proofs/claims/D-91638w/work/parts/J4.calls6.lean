/-! PLAIN: the calls led, count -/
theorem t_vbc : ∀ p : Fin 128, vb_c (p.1 + 128) = iI ((p.1 : Nat) : Int) := by decide +kernel
theorem q_ux1 {α β : Type} {x : Nat} {u : UH} {k : Nat → UH → Option β} {f : α → UH → Option β} : uxcall (some (.inl (x, u))) k f = k x u := rfl
theorem q_ux2 {α β : Type} {x : α} {u : UH} {k : Nat → UH → Option β} {f : α → UH → Option β} : uxcall (some (.inr (x, u))) k f = f x u := rfl
theorem mQ_k {σ : MS} {t : Int32} : mQ σ (mSet σ 0 t) := ⟨fun k hk => by rcases hk with rfl | rfl | rfl | rfl | rfl | rfl | rfl <;> rfl, fun j _ => rfl, Or.inl rfl⟩
section G5s
variable {N b : Nat} {g : uEnv} {A : pA} {ad sa : Nat → Nat} {Q : qT} {U : UH} {lab : Nat → Nat} {σ : MS} {ou : Nat} {u0 : UH}
theorem xSi.thk {bkv mpv ptv : Value} {t : Int32} (hQ : qOk Q) (h : xSi b g A ad sa Q U lab σ bkv mpv ptv) : xSi b g A ad sa Q U lab (mSet σ 0 t) bkv mpv ptv := by
  obtain ⟨ho, hb, hl, hE, hA, ⟨l0, h1, hS, h2, h3⟩, hbm, hq⟩ := h
  exact ⟨ho, hb, hl, hE, hA, ⟨l0, h1, hS, h2, h3⟩, hbm, hQ _ _ _ _ _ _ _ _ (fun x _ => ⟨rfl, rfl⟩) mQ_k hq⟩
theorem k_led (h : xSt b g A ad sa (qA g (ad 4) b u0 ou) U lab σ) (x : Int32) : ∃ k r U' σ' dc ds, f_X0_led N b g U (some (ad 0)) x (some ou) = some (k, U') ∧ f_led N σ x = some (r, σ') ∧ σ'.1 0 = k ∧ ((k = 1) ∨ (k = 0 ∧ ∃ f : Nat → Int64, U'.2.2 ou = some (.inl (3, 1, .inr (.inl f))) ∧ f 0 = r.toInt64)) ∧ xStep b g A ad sa (qA g (ad 4) b u0 ou) U lab U' σ' dc ds ∧ dc ≤ 1 ∧ ds ≤ 6 := by
  have hQ : qOk (qA g (ad 4) b u0 ou) := qA_ok
  obtain ⟨bkv, mpv, ptv, hx, hI⟩ := h
  have hI' := hI
  obtain ⟨oU, hb, ⟨hl, hfr⟩, hE, hA, ⟨l0, h1, hS3, h2, h3⟩, hbm, hq⟩ := hI'
  obtain ⟨-, -, -, hzi, hz2⟩ := hE
  obtain ⟨hq1, hq2, hq3, hq4, hcn, hou, fo, hfo⟩ := hq
  have h2' := h2
  obtain ⟨l4, arr, np, m, mc, xs, p, x1, x2, x3, x4, x5, x6, x7⟩ := h2
  have en : iI (np : Int) - 1 = iI ((np : Int) - 1) := by rw [j1, i_sub]
  unfold f_X0_led f_X1_ledx
  rw [p_bs, if_pos (x_is hx), v_gr hx (k := 9) rfl, p_bs, p_bs, if_pos (v_is x1.1), v_gi x1.1 (k := 2) rfl, p_bs, en]
  have xi : x = iI x.toInt := i_of x
  have xs' := i_S x
  by_cases hr : x.toInt < 0 ∨ (np : Int) - 1 < x.toInt
  · have thr : x < 0 ∨ iI ((np : Int) - 1) < x := by
      rcases hr with q | q
      · refine Or.inl ?_
        rw [xi, j0, j_lt xs'.1 xs'.2 (by omega) (by omega)]
        exact q
      · refine Or.inr ?_
        rw [xi, j_lt (by omega) (by omega) xs'.1 xs'.2]
        exact q
    have ni : uIs (uNew U 6 (.inr (23, []))) U.1 23 = true := v_is (u_nn (u := U) (k := 6) (e := .inr (23, [])))
    have ml : f_led N σ x = some (0, mSet σ 0 1) := by
      unfold f_led f_led_26 f_led_27 f_led_47
      have l27 : (mlet (mSet σ 0 1) fun σ1 => if σ1.1 0 ≤ 0 then if mIn x (mLen 54) = true then mlet (σ1.2.1 54 x.toNatClampNeg) fun y4 => some (y4, σ1) else none else some (0, σ1)) = some (0, mSet σ 0 1) := by
        rw [p_let, if_neg (show ¬ (mSet σ 0 1).1 0 ≤ 0 from (show ¬ (1 : Int32) ≤ 0 by decide))]
      rcases x7 with ⟨q1, q2⟩ | q
      · rw [if_pos q1]
        exact l27
      · rw [if_neg (show ¬ σ.1 73 = 0 by rw [q]; decide), x5, en]
        have c := m_in (N := N) (σ := σ) xs' (show iS 0 from ⟨by decide, by decide⟩) (show iS ((np : Int) - 1) from ⟨by omega, by omega⟩)
        rw [← xi, iB_0 (by omega)] at c
        have c' : f_within N σ x 0 (iI ((np : Int) - 1)) = some (0, σ) := c
        rw [c', q_mc, if_pos rfl]
        exact l27
    refine ⟨1, 0, uNew U 6 (.inr (23, [])), mSet σ 0 1, 1, 6, ?_, ml, rfl, Or.inl rfl, ⟨lab, ⟨bkv, mpv, ptv, u_no oU hx, (hI.thk hQ).junk hQ⟩, fun z hz => u_nx (Nat.ne_of_lt (hI.lt hz (by decide))), rfl, rfl⟩, by omega, by omega⟩
    rw [if_pos thr, q_ux1, if_pos ni]
    rfl
  · obtain ⟨j, hj⟩ : ∃ j : Nat, x.toInt = (j : Int) := ⟨x.toInt.toNat, by omega⟩
    have xj : x = iI (j : Int) := by rw [← hj]; exact xi
    have hjn : j < np := by omega
    have nthr : ¬ (x < 0 ∨ iI ((np : Int) - 1) < x) := by
      rw [xj, j0, j_lt (by omega) (by omega) (by omega) (by omega), j_lt (by omega) (by omega) (by omega) (by omega)]
      omega
    obtain ⟨p1, p2, p3⟩ := x4 j hjn
    have cz := hzi (p j + 128) (by omega)
    rw [t_vbc ⟨p j, by omega⟩] at cz
    have cz : U.2.2 (g.2.2 (p j + 128)) = some (.inr (21, [.int (iI ((p j : Nat) : Int))])) := cz
    have ci : f_X1_in N b g U x 0 (iI ((np : Int) - 1)) = some (1, U) := by
      have c := x_in (N := N) (b := b) (g := g) (u := U) xs' (show iS 0 from ⟨by decide, by decide⟩) (show iS ((np : Int) - 1) from ⟨by omega, by omega⟩)
      rw [← xi, iB_1 (by omega)] at c
      exact c
    have gt : f_J2_get N b g U (ad 3) x = some (some (g.2.2 (p j + 128)), U) := by
      rw [xj, l_get x1 (by omega) (by omega)]
      show some (xs j, U) = _
      rw [p1]
    have cl : f_X1_led N b g U (ad 0) x = some (iI ((p j : Nat) : Int), U) := by
      unfold f_X1_led f_J19_intValue
      rw [v_gr hx (k := 9) rfl, p_bs, p_bs, if_pos (v_is x1.1), l_size x1, q_uc, en, ci, q_uc, if_neg n10, v_gr hx (k := 9) rfl, p_bs, p_bs, if_pos (v_is x1.1), gt, q_uc, p_bs, if_pos (v_is cz), if_pos (v_is cz), v_gi cz (k := 0) rfl, p_bs, q_uc]
    have bou : b ≤ ou := lab_ge hl (by omega)
    have st : uStL b U ou 3 0 ((iI ((p j : Nat) : Int)).toInt64) = some (uSet U ou (.inl (3, 1, .inr (.inl (vp_updL fo 0 ((iI ((p j : Nat) : Int)).toInt64)))))) := u_stL (i := 0) hfo bou (by omega) (by omega) (by omega)
    have ml : f_led N σ x = some (iI ((p j : Nat) : Int), mSet σ 0 0) := by
      have q : σ.1 73 = 1 := by
        rcases x7 with ⟨q1, q2⟩ | q
        · omega
        · exact q
      obtain ⟨t1, t2⟩ := t_ix (a := (j : Int)) (n := mLen 54) (k := j) rfl (by rw [show mLen 54 = 2000 from rfl]; omega) (by rw [show mLen 54 = 2000 from rfl]; omega)
      have c := m_in (N := N) (σ := σ) xs' (show iS 0 from ⟨by decide, by decide⟩) (show iS ((np : Int) - 1) from ⟨by omega, by omega⟩)
      rw [← xi, iB_1 (by omega)] at c
      have c' : f_within N σ x 0 (iI ((np : Int) - 1)) = some (1, σ) := c
      unfold f_led f_led_27 f_led_47
      rw [if_neg (show ¬ σ.1 73 = 0 by rw [q]; decide), x5, en, c', q_mc, if_neg n10, p_let, if_pos (show (mSet σ 0 0).1 0 ≤ 0 from (show (0 : Int32) ≤ 0 by decide)), xj, if_pos t1, p_let, t2]
      show some (σ.2.1 54 j, _) = _
      rw [p2]
    have nx0 : ad 0 ≠ ou := fun z => by rw [z, hou] at l0; omega
    have ns : ∀ {pr : Nat → Prop}, ¬ pr 13 → uLb lab lab U (uSet U ou (.inl (3, 1, .inr (.inl (vp_updL fo 0 ((iI ((p j : Nat) : Int)).toInt64)))))) pr := fun hp => uLb.set (by rw [hou]; exact hp)
    refine ⟨0, iI ((p j : Nat) : Int), uSet U ou (.inl (3, 1, .inr (.inl (vp_updL fo 0 ((iI ((p j : Nat) : Int)).toInt64))))), mSet σ 0 0, 0, 0, ?_, ml, rfl, Or.inr ⟨rfl, _, u_ss, ?_⟩, ?_, by omega, by omega⟩
    · rw [if_neg nthr, cl, p_bs, q_ux2]
      unfold f_X0_led_7
      rw [p_bs, st, p_bs]
    · exact if_pos rfl
    · have sm : qSm (fun k => k ≠ 13) lab lab U (uSet U ou (.inl (3, 1, .inr (.inl (vp_updL fo 0 ((iI ((p j : Nat) : Int)).toInt64)))))) := ns (pr := fun k => k ≠ 13) (by decide)
      have nq : qA g (ad 4) b u0 ou (uSet U ou (.inl (3, 1, .inr (.inl (vp_updL fo 0 ((iI ((p j : Nat) : Int)).toInt64)))))) lab (mSet σ 0 0) bkv ptv := ⟨hq1.hp sm (by decide) (by decide) mQ_k, hq2, hq3.hp sm (by decide) (by decide) (by decide) mQ_k, hq4.hp sm (by decide) (by decide) mQ_k, hcn.hp sm (by decide), hou, _, u_ss⟩
      have sg : xSi b g A ad sa (qA g (ad 4) b u0 ou) (uSet U ou (.inl (3, 1, .inr (.inl (vp_updL fo 0 ((iI ((p j : Nat) : Int)).toInt64)))))) lab (mSet σ 0 0) bkv mpv ptv := hI.gen (oU.set hfo) (Nat.le_refl _) (fun _ _ => rfl) hfr (fun z hz => u_sn (by omega)) (h1.hp (ns (by decide))) (hS3.hp (ns (by decide))) (h2'.hp hl (ns (by decide))) (h3.hp (ns (by decide))) (hbm.hp hl (Nat.le_refl U.1) (ns (by decide))) nq
      exact ⟨lab, ⟨bkv, mpv, ptv, (u_sn nx0).trans hx, sg⟩, fun z hz => u_sn (fun e => by rw [e, hou] at hz; omega), rfl, rfl⟩
end G5s
