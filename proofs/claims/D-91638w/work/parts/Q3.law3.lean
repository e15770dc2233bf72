/-! BY gen_law.py: PLAIN: the law, calls -/
section O3s
variable {N b : Nat} {g : uEnv} {A : pA} {ad sa : Nat → Nat} {u0 u : UH} {ou sc L k n : Nat} {sx : Nat → Int32} {lab : Nat → Nat} {σ : MS}
theorem lw_weigh (hA : pGood b A) (hst : uStart b g u0 sc L sx) (hL : L ≤ 384) (hN : 200000000000000000 ≤ N) (hk : k + 6 ≤ L) (hop : sx k &&& 63 = 12) (hp : pSh A u σ) (h : xSt b g A ad sa (qA g (ad 4) b u0 ou) u lab σ) : ∃ (u' : UH) (σ' : MS) (dc ds : Nat), f_L_law_23 N b g (n + 1) u (some sc) (some (ad 0)) (some A.1) (some ou) (iI k) = f_L_law_23 N b g n u' (some sc) (some (ad 0)) (some A.1) (some ou) (iI ((k + 6 : Nat) : Int)) ∧ lSh b g A ad sa (qA g (ad 4) b u0 ou) u' σ' ∧ u'.1 = u.1 + dc ∧ u'.2.1 = u.2.1 + ds ∧ lStep N σ (sx k &&& 63) (sx (k + 1)) (sx (k + 2)) (sx (k + 3)) (sx (k + 4)) (sx (k + 5)) σ' dc ds := by
  obtain ⟨r, U', σ', e1, e2, e3⟩ := k_weigh (N := N) qA_ok h (by omega) (sx (k + 1)) (sx (k + 2)) (sx (k + 3))
  obtain ⟨p1, p2, p3, p4⟩ := lSh.call hA qA_ok hp h e3
  obtain ⟨lab', h', -⟩ := id e3
  have p1 : U' = pUp A U' σ := p1
  have md := s_weigh (N := N) (g := g) (u := U') (σ := σ) (x1 := (sx (k + 1))) (x2 := (sx (k + 2))) (x3 := (sx (k + 3))) hA
  rw [← p1] at md
  have md : f_X3_weigh N b g U' A.1 (sx (k + 1)) (sx (k + 2)) (sx (k + 3)) = some (r, pUp A U' σ') := by
    rw [md]
    exact congrArg (Option.map (pL A U')) e2
  have is2 : uIs U' A.1 2 = true := by
    rw [p1]
    exact p_is
  have l1 := lw_ld hst hL h (j := k + 1) (by omega)
  have m1 := lw_ld hst hL h' (j := k + 1) (by omega)
  have l2 := lw_ld hst hL h (j := k + 2) (by omega)
  have m2 := lw_ld hst hL h' (j := k + 2) (by omega)
  have l3 := lw_ld hst hL h (j := k + 3) (by omega)
  have m3 := lw_ld hst hL h' (j := k + 3) (by omega)
  have l4 := lw_ld hst hL h (j := k + 4) (by omega)
  have m4 := lw_ld hst hL h' (j := k + 4) (by omega)
  have l5 := lw_ld hst hL h (j := k + 5) (by omega)
  have m5 := lw_ld hst hL h' (j := k + 5) (by omega)
  have l0 := lw_ld hst hL h (j := k) (by omega)
  refine ⟨pUp A U' σ', σ', 0, 0, ?_, p2, p3, p4, ?_⟩
  · have hlt : True := trivial
    rw [f_L_law_23, p_bs, lw_len hst h, p_bs, show iI (L : Int) - 6 = iI ((L : Int) - 6) from by rw [show (6 : Int32) = iI 6 from rfl, i_sub], n_lt (by omega) (by omega) (by omega) (by omega) (by omega), l0, p_bs, hop, if_neg (by decide), if_neg (by decide), if_neg (by decide), if_neg (by decide), if_neg (by decide), if_neg (by decide), if_neg (by decide), if_neg (by decide), if_neg (by decide), if_neg (by decide), if_neg (by decide), if_neg (by decide), if_pos rfl]
    rw [lw_a1, l1, p_bs, lw_a2, l2, p_bs, lw_a3, l3, p_bs, p_bs, if_pos (k_is h), e1, q_uc, m1, p_bs, m2, p_bs, m3, p_bs, p_bs, if_pos is2, md, q_uc, if_pos rfl]
    unfold f_L_law_1593
    rw [p_let, lw_a6]
  · rw [hop]
    exact Or.inr (Or.inr (Or.inr (Or.inr (Or.inr (Or.inr (Or.inr (Or.inr (Or.inr (Or.inr (Or.inr (Or.inr (Or.inl ⟨rfl, ⟨r, e2⟩, ⟨rfl, rfl⟩⟩))))))))))))
theorem lw_told (hA : pGood b A) (hst : uStart b g u0 sc L sx) (hL : L ≤ 384) (hN : 200000000000000000 ≤ N) (hk : k + 6 ≤ L) (hop : sx k &&& 63 = 13) (hp : pSh A u σ) (h : xSt b g A ad sa (qA g (ad 4) b u0 ou) u lab σ) : ∃ (u' : UH) (σ' : MS) (dc ds : Nat), f_L_law_23 N b g (n + 1) u (some sc) (some (ad 0)) (some A.1) (some ou) (iI k) = f_L_law_23 N b g n u' (some sc) (some (ad 0)) (some A.1) (some ou) (iI ((k + 6 : Nat) : Int)) ∧ lSh b g A ad sa (qA g (ad 4) b u0 ou) u' σ' ∧ u'.1 = u.1 + dc ∧ u'.2.1 = u.2.1 + ds ∧ lStep N σ (sx k &&& 63) (sx (k + 1)) (sx (k + 2)) (sx (k + 3)) (sx (k + 4)) (sx (k + 5)) σ' dc ds := by
  obtain ⟨r, U', σ', e1, e2, e3⟩ := k_told (N := N) qA_ok h  (sx (k + 1)) (sx (k + 2))
  obtain ⟨p1, p2, p3, p4⟩ := lSh.call hA qA_ok hp h e3
  obtain ⟨lab', h', -⟩ := id e3
  have p1 : U' = pUp A U' σ := p1
  have md := s_told (N := N) (g := g) (u := U') (σ := σ) (x1 := (sx (k + 1))) (x2 := (sx (k + 2))) hA
  rw [← p1] at md
  have md : f_X3_told N b g U' A.1 (sx (k + 1)) (sx (k + 2)) = some (r, pUp A U' σ') := by
    rw [md]
    exact congrArg (Option.map (pL A U')) e2
  have is2 : uIs U' A.1 2 = true := by
    rw [p1]
    exact p_is
  have l1 := lw_ld hst hL h (j := k + 1) (by omega)
  have m1 := lw_ld hst hL h' (j := k + 1) (by omega)
  have l2 := lw_ld hst hL h (j := k + 2) (by omega)
  have m2 := lw_ld hst hL h' (j := k + 2) (by omega)
  have l3 := lw_ld hst hL h (j := k + 3) (by omega)
  have m3 := lw_ld hst hL h' (j := k + 3) (by omega)
  have l4 := lw_ld hst hL h (j := k + 4) (by omega)
  have m4 := lw_ld hst hL h' (j := k + 4) (by omega)
  have l5 := lw_ld hst hL h (j := k + 5) (by omega)
  have m5 := lw_ld hst hL h' (j := k + 5) (by omega)
  have l0 := lw_ld hst hL h (j := k) (by omega)
  refine ⟨pUp A U' σ', σ', 0, 0, ?_, p2, p3, p4, ?_⟩
  · have hlt : True := trivial
    rw [f_L_law_23, p_bs, lw_len hst h, p_bs, show iI (L : Int) - 6 = iI ((L : Int) - 6) from by rw [show (6 : Int32) = iI 6 from rfl, i_sub], n_lt (by omega) (by omega) (by omega) (by omega) (by omega), l0, p_bs, hop, if_neg (by decide), if_neg (by decide), if_neg (by decide), if_neg (by decide), if_neg (by decide), if_neg (by decide), if_neg (by decide), if_neg (by decide), if_neg (by decide), if_neg (by decide), if_neg (by decide), if_neg (by decide), if_neg (by decide), if_pos rfl]
    rw [lw_a1, l1, p_bs, lw_a2, l2, p_bs, p_bs, if_pos (k_is h), e1, q_uc, m1, p_bs, m2, p_bs, p_bs, if_pos is2, md, q_uc, if_pos rfl]
    unfold f_L_law_1593
    rw [p_let, lw_a6]
  · rw [hop]
    exact Or.inr (Or.inr (Or.inr (Or.inr (Or.inr (Or.inr (Or.inr (Or.inr (Or.inr (Or.inr (Or.inr (Or.inr (Or.inr (Or.inl ⟨rfl, ⟨r, e2⟩, ⟨rfl, rfl⟩⟩)))))))))))))
theorem lw_forget (hA : pGood b A) (hst : uStart b g u0 sc L sx) (hL : L ≤ 384) (hN : 200000000000000000 ≤ N) (hk : k + 6 ≤ L) (hop : sx k &&& 63 = 14) (hp : pSh A u σ) (h : xSt b g A ad sa (qA g (ad 4) b u0 ou) u lab σ) : ∃ (u' : UH) (σ' : MS) (dc ds : Nat), f_L_law_23 N b g (n + 1) u (some sc) (some (ad 0)) (some A.1) (some ou) (iI k) = f_L_law_23 N b g n u' (some sc) (some (ad 0)) (some A.1) (some ou) (iI ((k + 6 : Nat) : Int)) ∧ lSh b g A ad sa (qA g (ad 4) b u0 ou) u' σ' ∧ u'.1 = u.1 + dc ∧ u'.2.1 = u.2.1 + ds ∧ lStep N σ (sx k &&& 63) (sx (k + 1)) (sx (k + 2)) (sx (k + 3)) (sx (k + 4)) (sx (k + 5)) σ' dc ds := by
  obtain ⟨r, U', σ', e1, e2, e3⟩ := k_forget (N := N) qA_ok h  (sx (k + 1))
  obtain ⟨p1, p2, p3, p4⟩ := lSh.call hA qA_ok hp h e3
  obtain ⟨lab', h', -⟩ := id e3
  have p1 : U' = pUp A U' σ := p1
  have md := s_forget (N := N) (g := g) (u := U') (σ := σ) (x1 := (sx (k + 1))) hA
  rw [← p1] at md
  have md : f_X3_forget N b g U' A.1 (sx (k + 1)) = some (r, pUp A U' σ') := by
    rw [md]
    exact congrArg (Option.map (pL A U')) e2
  have is2 : uIs U' A.1 2 = true := by
    rw [p1]
    exact p_is
  have l1 := lw_ld hst hL h (j := k + 1) (by omega)
  have m1 := lw_ld hst hL h' (j := k + 1) (by omega)
  have l2 := lw_ld hst hL h (j := k + 2) (by omega)
  have m2 := lw_ld hst hL h' (j := k + 2) (by omega)
  have l3 := lw_ld hst hL h (j := k + 3) (by omega)
  have m3 := lw_ld hst hL h' (j := k + 3) (by omega)
  have l4 := lw_ld hst hL h (j := k + 4) (by omega)
  have m4 := lw_ld hst hL h' (j := k + 4) (by omega)
  have l5 := lw_ld hst hL h (j := k + 5) (by omega)
  have m5 := lw_ld hst hL h' (j := k + 5) (by omega)
  have l0 := lw_ld hst hL h (j := k) (by omega)
  refine ⟨pUp A U' σ', σ', 0, 0, ?_, p2, p3, p4, ?_⟩
  · have hlt : True := trivial
    rw [f_L_law_23, p_bs, lw_len hst h, p_bs, show iI (L : Int) - 6 = iI ((L : Int) - 6) from by rw [show (6 : Int32) = iI 6 from rfl, i_sub], n_lt (by omega) (by omega) (by omega) (by omega) (by omega), l0, p_bs, hop, if_neg (by decide), if_neg (by decide), if_neg (by decide), if_neg (by decide), if_neg (by decide), if_neg (by decide), if_neg (by decide), if_neg (by decide), if_neg (by decide), if_neg (by decide), if_neg (by decide), if_neg (by decide), if_neg (by decide), if_neg (by decide), if_pos rfl]
    rw [lw_a1, l1, p_bs, p_bs, if_pos (k_is h), e1, q_uc, m1, p_bs, p_bs, if_pos is2, md, q_uc, if_pos rfl]
    unfold f_L_law_1593
    rw [p_let, lw_a6]
  · rw [hop]
    exact Or.inr (Or.inr (Or.inr (Or.inr (Or.inr (Or.inr (Or.inr (Or.inr (Or.inr (Or.inr (Or.inr (Or.inr (Or.inr (Or.inr (Or.inl ⟨rfl, ⟨r, e2⟩, ⟨rfl, rfl⟩⟩))))))))))))))
theorem lw_of (hA : pGood b A) (hst : uStart b g u0 sc L sx) (hL : L ≤ 384) (hN : 200000000000000000 ≤ N) (hk : k + 6 ≤ L) (hop : sx k &&& 63 = 15) (hp : pSh A u σ) (h : xSt b g A ad sa (qA g (ad 4) b u0 ou) u lab σ) : ∃ (u' : UH) (σ' : MS) (dc ds : Nat), f_L_law_23 N b g (n + 1) u (some sc) (some (ad 0)) (some A.1) (some ou) (iI k) = f_L_law_23 N b g n u' (some sc) (some (ad 0)) (some A.1) (some ou) (iI ((k + 6 : Nat) : Int)) ∧ lSh b g A ad sa (qA g (ad 4) b u0 ou) u' σ' ∧ u'.1 = u.1 + dc ∧ u'.2.1 = u.2.1 + ds ∧ lStep N σ (sx k &&& 63) (sx (k + 1)) (sx (k + 2)) (sx (k + 3)) (sx (k + 4)) (sx (k + 5)) σ' dc ds := by
  obtain ⟨r, U', σ', e1, e2, e3⟩ := k_of (N := N) qA_ok h  (sx (k + 1)) (sx (k + 2))
  obtain ⟨p1, p2, p3, p4⟩ := lSh.call hA qA_ok hp h e3
  obtain ⟨lab', h', -⟩ := id e3
  have p1 : U' = pUp A U' σ := p1
  have md := s_of (N := N) (g := g) (u := U') (σ := σ) (x1 := (sx (k + 1))) (x2 := (sx (k + 2))) hA
  rw [← p1] at md
  have md : f_X3_of N b g U' A.1 (sx (k + 1)) (sx (k + 2)) = some (r, pUp A U' σ') := by
    rw [md]
    exact congrArg (Option.map (pL A U')) e2
  have is2 : uIs U' A.1 2 = true := by
    rw [p1]
    exact p_is
  have l1 := lw_ld hst hL h (j := k + 1) (by omega)
  have m1 := lw_ld hst hL h' (j := k + 1) (by omega)
  have l2 := lw_ld hst hL h (j := k + 2) (by omega)
  have m2 := lw_ld hst hL h' (j := k + 2) (by omega)
  have l3 := lw_ld hst hL h (j := k + 3) (by omega)
  have m3 := lw_ld hst hL h' (j := k + 3) (by omega)
  have l4 := lw_ld hst hL h (j := k + 4) (by omega)
  have m4 := lw_ld hst hL h' (j := k + 4) (by omega)
  have l5 := lw_ld hst hL h (j := k + 5) (by omega)
  have m5 := lw_ld hst hL h' (j := k + 5) (by omega)
  have l0 := lw_ld hst hL h (j := k) (by omega)
  refine ⟨pUp A U' σ', σ', 0, 0, ?_, p2, p3, p4, ?_⟩
  · have hlt : True := trivial
    rw [f_L_law_23, p_bs, lw_len hst h, p_bs, show iI (L : Int) - 6 = iI ((L : Int) - 6) from by rw [show (6 : Int32) = iI 6 from rfl, i_sub], n_lt (by omega) (by omega) (by omega) (by omega) (by omega), l0, p_bs, hop, if_neg (by decide), if_neg (by decide), if_neg (by decide), if_neg (by decide), if_neg (by decide), if_neg (by decide), if_neg (by decide), if_neg (by decide), if_neg (by decide), if_neg (by decide), if_neg (by decide), if_neg (by decide), if_neg (by decide), if_neg (by decide), if_neg (by decide), if_pos rfl]
    rw [lw_a1, l1, p_bs, lw_a2, l2, p_bs, p_bs, if_pos (k_is h), e1, q_uc, m1, p_bs, m2, p_bs, p_bs, if_pos is2, md, q_uc, if_pos rfl]
    unfold f_L_law_1593
    rw [p_let, lw_a6]
  · rw [hop]
    exact Or.inr (Or.inr (Or.inr (Or.inr (Or.inr (Or.inr (Or.inr (Or.inr (Or.inr (Or.inr (Or.inr (Or.inr (Or.inr (Or.inr (Or.inr (Or.inl ⟨rfl, ⟨r, e2⟩, ⟨rfl, rfl⟩⟩)))))))))))))))
theorem lw_step (hA : pGood b A) (hst : uStart b g u0 sc L sx) (hL : L ≤ 384) (hN : 200000000000000000 ≤ N) (hk : k + 6 ≤ L) (hop : sx k &&& 63 = 16) (hp : pSh A u σ) (h : xSt b g A ad sa (qA g (ad 4) b u0 ou) u lab σ) : ∃ (u' : UH) (σ' : MS) (dc ds : Nat), f_L_law_23 N b g (n + 1) u (some sc) (some (ad 0)) (some A.1) (some ou) (iI k) = f_L_law_23 N b g n u' (some sc) (some (ad 0)) (some A.1) (some ou) (iI ((k + 6 : Nat) : Int)) ∧ lSh b g A ad sa (qA g (ad 4) b u0 ou) u' σ' ∧ u'.1 = u.1 + dc ∧ u'.2.1 = u.2.1 + ds ∧ lStep N σ (sx k &&& 63) (sx (k + 1)) (sx (k + 2)) (sx (k + 3)) (sx (k + 4)) (sx (k + 5)) σ' dc ds := by
  obtain ⟨r, U', σ', e1, e2, e3⟩ := k_step (N := N) qA_ok h (by omega) (sx (k + 1)) (sx (k + 2)) (sx (k + 3)) (sx (k + 4))
  obtain ⟨p1, p2, p3, p4⟩ := lSh.call hA qA_ok hp h e3
  obtain ⟨lab', h', -⟩ := id e3
  have p1 : U' = pUp A U' σ := p1
  have md := s_step (N := N) (g := g) (u := U') (σ := σ) (x1 := (sx (k + 1))) (x2 := (sx (k + 2))) (x3 := (sx (k + 3))) (x4 := (sx (k + 4))) hA
  rw [← p1] at md
  have md : f_X3_step N b g U' A.1 (sx (k + 1)) (sx (k + 2)) (sx (k + 3)) (sx (k + 4)) = some (r, pUp A U' σ') := by
    rw [md]
    exact congrArg (Option.map (pL A U')) e2
  have is2 : uIs U' A.1 2 = true := by
    rw [p1]
    exact p_is
  have l1 := lw_ld hst hL h (j := k + 1) (by omega)
  have m1 := lw_ld hst hL h' (j := k + 1) (by omega)
  have l2 := lw_ld hst hL h (j := k + 2) (by omega)
  have m2 := lw_ld hst hL h' (j := k + 2) (by omega)
  have l3 := lw_ld hst hL h (j := k + 3) (by omega)
  have m3 := lw_ld hst hL h' (j := k + 3) (by omega)
  have l4 := lw_ld hst hL h (j := k + 4) (by omega)
  have m4 := lw_ld hst hL h' (j := k + 4) (by omega)
  have l5 := lw_ld hst hL h (j := k + 5) (by omega)
  have m5 := lw_ld hst hL h' (j := k + 5) (by omega)
  have l0 := lw_ld hst hL h (j := k) (by omega)
  refine ⟨pUp A U' σ', σ', 0, 0, ?_, p2, p3, p4, ?_⟩
  · have hlt : True := trivial
    rw [f_L_law_23, p_bs, lw_len hst h, p_bs, show iI (L : Int) - 6 = iI ((L : Int) - 6) from by rw [show (6 : Int32) = iI 6 from rfl, i_sub], n_lt (by omega) (by omega) (by omega) (by omega) (by omega), l0, p_bs, hop, if_neg (by decide), if_neg (by decide), if_neg (by decide), if_neg (by decide), if_neg (by decide), if_neg (by decide), if_neg (by decide), if_neg (by decide), if_neg (by decide), if_neg (by decide), if_neg (by decide), if_neg (by decide), if_neg (by decide), if_neg (by decide), if_neg (by decide), if_neg (by decide), if_pos rfl]
    rw [lw_a1, l1, p_bs, lw_a2, l2, p_bs, lw_a3, l3, p_bs, lw_a4, l4, p_bs, p_bs, if_pos (k_is h), e1, q_uc, m1, p_bs, m2, p_bs, m3, p_bs, m4, p_bs, p_bs, if_pos is2, md, q_uc, if_pos rfl]
    unfold f_L_law_1593
    rw [p_let, lw_a6]
  · rw [hop]
    exact Or.inr (Or.inr (Or.inr (Or.inr (Or.inr (Or.inr (Or.inr (Or.inr (Or.inr (Or.inr (Or.inr (Or.inr (Or.inr (Or.inr (Or.inr (Or.inr (Or.inl ⟨rfl, ⟨r, e2⟩, ⟨rfl, rfl⟩⟩))))))))))))))))
theorem lw_worst (hA : pGood b A) (hst : uStart b g u0 sc L sx) (hL : L ≤ 384) (hN : 200000000000000000 ≤ N) (hk : k + 6 ≤ L) (hop : sx k &&& 63 = 17) (hp : pSh A u σ) (h : xSt b g A ad sa (qA g (ad 4) b u0 ou) u lab σ) : ∃ (u' : UH) (σ' : MS) (dc ds : Nat), f_L_law_23 N b g (n + 1) u (some sc) (some (ad 0)) (some A.1) (some ou) (iI k) = f_L_law_23 N b g n u' (some sc) (some (ad 0)) (some A.1) (some ou) (iI ((k + 6 : Nat) : Int)) ∧ lSh b g A ad sa (qA g (ad 4) b u0 ou) u' σ' ∧ u'.1 = u.1 + dc ∧ u'.2.1 = u.2.1 + ds ∧ lStep N σ (sx k &&& 63) (sx (k + 1)) (sx (k + 2)) (sx (k + 3)) (sx (k + 4)) (sx (k + 5)) σ' dc ds := by
  obtain ⟨r, U', σ', dc, e1, e2, eb, e3⟩ := k_worst (N := N) qA_ok h (by omega) (sx (k + 1)) (sx (k + 2))
  obtain ⟨p1, p2, p3, p4⟩ := lSh.call hA qA_ok hp h e3
  obtain ⟨lab', h', -⟩ := id e3
  have p1 : U' = pUp A U' σ := p1
  have md := s_worst (N := N) (g := g) (u := U') (σ := σ) (x1 := (sx (k + 1))) (x2 := (sx (k + 2))) hA
  rw [← p1] at md
  have md : f_X3_worst N b g U' A.1 (sx (k + 1)) (sx (k + 2)) = some (r, pUp A U' σ') := by
    rw [md]
    exact congrArg (Option.map (pL A U')) e2
  have is2 : uIs U' A.1 2 = true := by
    rw [p1]
    exact p_is
  have l1 := lw_ld hst hL h (j := k + 1) (by omega)
  have m1 := lw_ld hst hL h' (j := k + 1) (by omega)
  have l2 := lw_ld hst hL h (j := k + 2) (by omega)
  have m2 := lw_ld hst hL h' (j := k + 2) (by omega)
  have l3 := lw_ld hst hL h (j := k + 3) (by omega)
  have m3 := lw_ld hst hL h' (j := k + 3) (by omega)
  have l4 := lw_ld hst hL h (j := k + 4) (by omega)
  have m4 := lw_ld hst hL h' (j := k + 4) (by omega)
  have l5 := lw_ld hst hL h (j := k + 5) (by omega)
  have m5 := lw_ld hst hL h' (j := k + 5) (by omega)
  have l0 := lw_ld hst hL h (j := k) (by omega)
  refine ⟨pUp A U' σ', σ', dc, 0, ?_, p2, p3, p4, ?_⟩
  · have hlt : True := trivial
    rw [f_L_law_23, p_bs, lw_len hst h, p_bs, show iI (L : Int) - 6 = iI ((L : Int) - 6) from by rw [show (6 : Int32) = iI 6 from rfl, i_sub], n_lt (by omega) (by omega) (by omega) (by omega) (by omega), l0, p_bs, hop, if_neg (by decide), if_neg (by decide), if_neg (by decide), if_neg (by decide), if_neg (by decide), if_neg (by decide), if_neg (by decide), if_neg (by decide), if_neg (by decide), if_neg (by decide), if_neg (by decide), if_neg (by decide), if_neg (by decide), if_neg (by decide), if_neg (by decide), if_neg (by decide), if_neg (by decide), if_pos rfl]
    rw [lw_a1, l1, p_bs, lw_a2, l2, p_bs, p_bs, if_pos (k_is h), e1, q_uc]
    unfold f_L_law_809 f_L_law_1593
    rw [p_bs, lw_a1, m1, p_bs, lw_a2, m2, p_bs, p_bs, if_pos is2, md, q_uc, if_pos rfl, p_let, lw_a6]
  · rw [hop]
    exact Or.inr (Or.inr (Or.inr (Or.inr (Or.inr (Or.inr (Or.inr (Or.inr (Or.inr (Or.inr (Or.inr (Or.inr (Or.inr (Or.inr (Or.inr (Or.inr (Or.inr (Or.inl ⟨rfl, ⟨r, e2⟩, ⟨eb, rfl⟩⟩)))))))))))))))))
theorem lw_mean (hA : pGood b A) (hst : uStart b g u0 sc L sx) (hL : L ≤ 384) (hN : 200000000000000000 ≤ N) (hk : k + 6 ≤ L) (hop : sx k &&& 63 = 18) (hp : pSh A u σ) (h : xSt b g A ad sa (qA g (ad 4) b u0 ou) u lab σ) : ∃ (u' : UH) (σ' : MS) (dc ds : Nat), f_L_law_23 N b g (n + 1) u (some sc) (some (ad 0)) (some A.1) (some ou) (iI k) = f_L_law_23 N b g n u' (some sc) (some (ad 0)) (some A.1) (some ou) (iI ((k + 6 : Nat) : Int)) ∧ lSh b g A ad sa (qA g (ad 4) b u0 ou) u' σ' ∧ u'.1 = u.1 + dc ∧ u'.2.1 = u.2.1 + ds ∧ lStep N σ (sx k &&& 63) (sx (k + 1)) (sx (k + 2)) (sx (k + 3)) (sx (k + 4)) (sx (k + 5)) σ' dc ds := by
  by_cases hz : sx (k + 3) = 0
  · have hz0 : True := trivial
    obtain ⟨r, U', σ', dc, e1, e2, eb, e3⟩ := k_mean (N := N) qA_ok h (by omega) (sx (k + 1)) (sx (k + 2)) 0
    obtain ⟨p1, p2, p3, p4⟩ := lSh.call hA qA_ok hp h e3
    obtain ⟨lab', h', -⟩ := id e3
    have p1 : U' = pUp A U' σ := p1
    have md := s_mean (N := N) (g := g) (u := U') (σ := σ) (x1 := (sx (k + 1))) (x2 := (sx (k + 2))) (x3 := 0) hA
    rw [← p1] at md
    have md : f_X3_mean N b g U' A.1 (sx (k + 1)) (sx (k + 2)) 0 = some (r, pUp A U' σ') := by
      rw [md]
      exact congrArg (Option.map (pL A U')) e2
    have is2 : uIs U' A.1 2 = true := by
      rw [p1]
      exact p_is
    have l1 := lw_ld hst hL h (j := k + 1) (by omega)
    have m1 := lw_ld hst hL h' (j := k + 1) (by omega)
    have l2 := lw_ld hst hL h (j := k + 2) (by omega)
    have m2 := lw_ld hst hL h' (j := k + 2) (by omega)
    have l3 := lw_ld hst hL h (j := k + 3) (by omega)
    have m3 := lw_ld hst hL h' (j := k + 3) (by omega)
    have l4 := lw_ld hst hL h (j := k + 4) (by omega)
    have m4 := lw_ld hst hL h' (j := k + 4) (by omega)
    have l5 := lw_ld hst hL h (j := k + 5) (by omega)
    have m5 := lw_ld hst hL h' (j := k + 5) (by omega)
    have l0 := lw_ld hst hL h (j := k) (by omega)
    refine ⟨pUp A U' σ', σ', dc, 0, ?_, p2, p3, p4, ?_⟩
    · have hlt : True := trivial
      rw [f_L_law_23, p_bs, lw_len hst h, p_bs, show iI (L : Int) - 6 = iI ((L : Int) - 6) from by rw [show (6 : Int32) = iI 6 from rfl, i_sub], n_lt (by omega) (by omega) (by omega) (by omega) (by omega), l0, p_bs, hop, if_neg (by decide), if_neg (by decide), if_neg (by decide), if_neg (by decide), if_neg (by decide), if_neg (by decide), if_neg (by decide), if_neg (by decide), if_neg (by decide), if_neg (by decide), if_neg (by decide), if_neg (by decide), if_neg (by decide), if_neg (by decide), if_neg (by decide), if_neg (by decide), if_neg (by decide), if_neg (by decide), if_pos rfl]
      rw [lw_a1, l1, p_bs, lw_a2, l2, p_bs, lw_a3, l3, p_bs, if_pos hz]
      unfold f_L_law_857 f_L_law_860 f_L_law_887 f_L_law_1593
      rw [p_bs, if_pos (k_is h), e1, q_uc, p_bs, lw_a1, m1, p_bs, lw_a2, m2, p_bs, lw_a3, m3, p_bs, if_pos hz, p_bs, if_pos is2, md, q_uc, if_pos lg_self, p_let, lw_a6]
    · rw [hop]
      exact Or.inr (Or.inr (Or.inr (Or.inr (Or.inr (Or.inr (Or.inr (Or.inr (Or.inr (Or.inr (Or.inr (Or.inr (Or.inr (Or.inr (Or.inr (Or.inr (Or.inr (Or.inr (Or.inl ⟨rfl, ⟨r, (by rw [if_pos hz]; exact e2)⟩, ⟨eb, rfl⟩⟩))))))))))))))))))
  · have hz0 : True := trivial
    obtain ⟨r, U', σ', dc, e1, e2, eb, e3⟩ := k_mean (N := N) qA_ok h (by omega) (sx (k + 1)) (sx (k + 2)) 1
    obtain ⟨p1, p2, p3, p4⟩ := lSh.call hA qA_ok hp h e3
    obtain ⟨lab', h', -⟩ := id e3
    have p1 : U' = pUp A U' σ := p1
    have md := s_mean (N := N) (g := g) (u := U') (σ := σ) (x1 := (sx (k + 1))) (x2 := (sx (k + 2))) (x3 := 1) hA
    rw [← p1] at md
    have md : f_X3_mean N b g U' A.1 (sx (k + 1)) (sx (k + 2)) 1 = some (r, pUp A U' σ') := by
      rw [md]
      exact congrArg (Option.map (pL A U')) e2
    have is2 : uIs U' A.1 2 = true := by
      rw [p1]
      exact p_is
    have l1 := lw_ld hst hL h (j := k + 1) (by omega)
    have m1 := lw_ld hst hL h' (j := k + 1) (by omega)
    have l2 := lw_ld hst hL h (j := k + 2) (by omega)
    have m2 := lw_ld hst hL h' (j := k + 2) (by omega)
    have l3 := lw_ld hst hL h (j := k + 3) (by omega)
    have m3 := lw_ld hst hL h' (j := k + 3) (by omega)
    have l4 := lw_ld hst hL h (j := k + 4) (by omega)
    have m4 := lw_ld hst hL h' (j := k + 4) (by omega)
    have l5 := lw_ld hst hL h (j := k + 5) (by omega)
    have m5 := lw_ld hst hL h' (j := k + 5) (by omega)
    have l0 := lw_ld hst hL h (j := k) (by omega)
    refine ⟨pUp A U' σ', σ', dc, 0, ?_, p2, p3, p4, ?_⟩
    · have hlt : True := trivial
      rw [f_L_law_23, p_bs, lw_len hst h, p_bs, show iI (L : Int) - 6 = iI ((L : Int) - 6) from by rw [show (6 : Int32) = iI 6 from rfl, i_sub], n_lt (by omega) (by omega) (by omega) (by omega) (by omega), l0, p_bs, hop, if_neg (by decide), if_neg (by decide), if_neg (by decide), if_neg (by decide), if_neg (by decide), if_neg (by decide), if_neg (by decide), if_neg (by decide), if_neg (by decide), if_neg (by decide), if_neg (by decide), if_neg (by decide), if_neg (by decide), if_neg (by decide), if_neg (by decide), if_neg (by decide), if_neg (by decide), if_neg (by decide), if_pos rfl]
      rw [lw_a1, l1, p_bs, lw_a2, l2, p_bs, lw_a3, l3, p_bs, if_neg hz]
      unfold f_L_law_857 f_L_law_860 f_L_law_887 f_L_law_1593
      rw [p_bs, if_pos (k_is h), e1, q_uc, p_bs, lw_a1, m1, p_bs, lw_a2, m2, p_bs, lw_a3, m3, p_bs, if_neg hz, p_bs, if_pos is2, md, q_uc, if_pos lg_self, p_let, lw_a6]
    · rw [hop]
      exact Or.inr (Or.inr (Or.inr (Or.inr (Or.inr (Or.inr (Or.inr (Or.inr (Or.inr (Or.inr (Or.inr (Or.inr (Or.inr (Or.inr (Or.inr (Or.inr (Or.inr (Or.inr (Or.inl ⟨rfl, ⟨r, (by rw [if_neg hz]; exact e2)⟩, ⟨eb, rfl⟩⟩))))))))))))))))))
theorem lw_way (hA : pGood b A) (hst : uStart b g u0 sc L sx) (hL : L ≤ 384) (hN : 200000000000000000 ≤ N) (hk : k + 6 ≤ L) (hop : sx k &&& 63 = 19) (hp : pSh A u σ) (h : xSt b g A ad sa (qA g (ad 4) b u0 ou) u lab σ) : ∃ (u' : UH) (σ' : MS) (dc ds : Nat), f_L_law_23 N b g (n + 1) u (some sc) (some (ad 0)) (some A.1) (some ou) (iI k) = f_L_law_23 N b g n u' (some sc) (some (ad 0)) (some A.1) (some ou) (iI ((k + 6 : Nat) : Int)) ∧ lSh b g A ad sa (qA g (ad 4) b u0 ou) u' σ' ∧ u'.1 = u.1 + dc ∧ u'.2.1 = u.2.1 + ds ∧ lStep N σ (sx k &&& 63) (sx (k + 1)) (sx (k + 2)) (sx (k + 3)) (sx (k + 4)) (sx (k + 5)) σ' dc ds := by
  by_cases hz : sx (k + 3) = 0
  · have hz0 : True := trivial
    obtain ⟨r, U', σ', dc, e1, e2, eb, e3⟩ := k_way (N := N) qA_ok h (by omega) (sx (k + 1)) (sx (k + 2)) 0 (by decide)
    obtain ⟨p1, p2, p3, p4⟩ := lSh.call hA qA_ok hp h e3
    obtain ⟨lab', h', -⟩ := id e3
    have p1 : U' = pUp A U' σ := p1
    have md := s_way (N := N) (g := g) (u := U') (σ := σ) (x1 := (sx (k + 1))) (x2 := (sx (k + 2))) (x3 := 0) hA
    rw [← p1] at md
    have md : f_X3_way N b g U' A.1 (sx (k + 1)) (sx (k + 2)) 0 = some (r, pUp A U' σ') := by
      rw [md]
      exact congrArg (Option.map (pL A U')) e2
    have is2 : uIs U' A.1 2 = true := by
      rw [p1]
      exact p_is
    have l1 := lw_ld hst hL h (j := k + 1) (by omega)
    have m1 := lw_ld hst hL h' (j := k + 1) (by omega)
    have l2 := lw_ld hst hL h (j := k + 2) (by omega)
    have m2 := lw_ld hst hL h' (j := k + 2) (by omega)
    have l3 := lw_ld hst hL h (j := k + 3) (by omega)
    have m3 := lw_ld hst hL h' (j := k + 3) (by omega)
    have l4 := lw_ld hst hL h (j := k + 4) (by omega)
    have m4 := lw_ld hst hL h' (j := k + 4) (by omega)
    have l5 := lw_ld hst hL h (j := k + 5) (by omega)
    have m5 := lw_ld hst hL h' (j := k + 5) (by omega)
    have l0 := lw_ld hst hL h (j := k) (by omega)
    refine ⟨pUp A U' σ', σ', dc, 0, ?_, p2, p3, p4, ?_⟩
    · have hlt : True := trivial
      rw [f_L_law_23, p_bs, lw_len hst h, p_bs, show iI (L : Int) - 6 = iI ((L : Int) - 6) from by rw [show (6 : Int32) = iI 6 from rfl, i_sub], n_lt (by omega) (by omega) (by omega) (by omega) (by omega), l0, p_bs, hop, if_neg (by decide), if_neg (by decide), if_neg (by decide), if_neg (by decide), if_neg (by decide), if_neg (by decide), if_neg (by decide), if_neg (by decide), if_neg (by decide), if_neg (by decide), if_neg (by decide), if_neg (by decide), if_neg (by decide), if_neg (by decide), if_neg (by decide), if_neg (by decide), if_neg (by decide), if_neg (by decide), if_neg (by decide), if_pos rfl]
      rw [lw_a1, l1, p_bs, lw_a2, l2, p_bs, lw_a3, l3, p_bs, if_pos hz]
      have e1 : f_X1_way N b g u (ad 0) (sx (k + 1)) (sx (k + 2)) 0 = some (r, U') := e1
      unfold f_L_law_923 f_L_law_926 f_L_law_953 f_L_law_1593
      rw [p_bs, if_pos (k_is h), e1, q_uc, p_bs, lw_a1, m1, p_bs, lw_a2, m2, p_bs, lw_a3, m3, p_bs, if_pos hz, p_bs, if_pos is2, md, q_uc, if_pos rfl, p_let, lw_a6]
    · rw [hop]
      exact Or.inr (Or.inr (Or.inr (Or.inr (Or.inr (Or.inr (Or.inr (Or.inr (Or.inr (Or.inr (Or.inr (Or.inr (Or.inr (Or.inr (Or.inr (Or.inr (Or.inr (Or.inr (Or.inr (Or.inl ⟨rfl, ⟨r, (by rw [if_pos hz]; exact e2)⟩, ⟨eb, rfl⟩⟩)))))))))))))))))))
  · have hz0 : True := trivial
    obtain ⟨r, U', σ', dc, e1, e2, eb, e3⟩ := k_way (N := N) qA_ok h (by omega) (sx (k + 1)) (sx (k + 2)) 1 (by decide)
    obtain ⟨p1, p2, p3, p4⟩ := lSh.call hA qA_ok hp h e3
    obtain ⟨lab', h', -⟩ := id e3
    have p1 : U' = pUp A U' σ := p1
    have md := s_way (N := N) (g := g) (u := U') (σ := σ) (x1 := (sx (k + 1))) (x2 := (sx (k + 2))) (x3 := 1) hA
    rw [← p1] at md
    have md : f_X3_way N b g U' A.1 (sx (k + 1)) (sx (k + 2)) 1 = some (r, pUp A U' σ') := by
      rw [md]
      exact congrArg (Option.map (pL A U')) e2
    have is2 : uIs U' A.1 2 = true := by
      rw [p1]
      exact p_is
    have l1 := lw_ld hst hL h (j := k + 1) (by omega)
    have m1 := lw_ld hst hL h' (j := k + 1) (by omega)
    have l2 := lw_ld hst hL h (j := k + 2) (by omega)
    have m2 := lw_ld hst hL h' (j := k + 2) (by omega)
    have l3 := lw_ld hst hL h (j := k + 3) (by omega)
    have m3 := lw_ld hst hL h' (j := k + 3) (by omega)
    have l4 := lw_ld hst hL h (j := k + 4) (by omega)
    have m4 := lw_ld hst hL h' (j := k + 4) (by omega)
    have l5 := lw_ld hst hL h (j := k + 5) (by omega)
    have m5 := lw_ld hst hL h' (j := k + 5) (by omega)
    have l0 := lw_ld hst hL h (j := k) (by omega)
    refine ⟨pUp A U' σ', σ', dc, 0, ?_, p2, p3, p4, ?_⟩
    · have hlt : True := trivial
      rw [f_L_law_23, p_bs, lw_len hst h, p_bs, show iI (L : Int) - 6 = iI ((L : Int) - 6) from by rw [show (6 : Int32) = iI 6 from rfl, i_sub], n_lt (by omega) (by omega) (by omega) (by omega) (by omega), l0, p_bs, hop, if_neg (by decide), if_neg (by decide), if_neg (by decide), if_neg (by decide), if_neg (by decide), if_neg (by decide), if_neg (by decide), if_neg (by decide), if_neg (by decide), if_neg (by decide), if_neg (by decide), if_neg (by decide), if_neg (by decide), if_neg (by decide), if_neg (by decide), if_neg (by decide), if_neg (by decide), if_neg (by decide), if_neg (by decide), if_pos rfl]
      rw [lw_a1, l1, p_bs, lw_a2, l2, p_bs, lw_a3, l3, p_bs, if_neg hz]
      have e1 : f_X1_way N b g u (ad 0) (sx (k + 1)) (sx (k + 2)) 1 = some (r, U') := e1
      unfold f_L_law_923 f_L_law_926 f_L_law_953 f_L_law_1593
      rw [p_bs, if_pos (k_is h), e1, q_uc, p_bs, lw_a1, m1, p_bs, lw_a2, m2, p_bs, lw_a3, m3, p_bs, if_neg hz, p_bs, if_pos is2, md, q_uc, if_pos rfl, p_let, lw_a6]
    · rw [hop]
      exact Or.inr (Or.inr (Or.inr (Or.inr (Or.inr (Or.inr (Or.inr (Or.inr (Or.inr (Or.inr (Or.inr (Or.inr (Or.inr (Or.inr (Or.inr (Or.inr (Or.inr (Or.inr (Or.inr (Or.inl ⟨rfl, ⟨r, (by rw [if_neg hz]; exact e2)⟩, ⟨eb, rfl⟩⟩)))))))))))))))))))
theorem lw_truths (hA : pGood b A) (hst : uStart b g u0 sc L sx) (hL : L ≤ 384) (hN : 200000000000000000 ≤ N) (hk : k + 6 ≤ L) (hop : sx k &&& 63 = 20) (hp : pSh A u σ) (h : xSt b g A ad sa (qA g (ad 4) b u0 ou) u lab σ) : ∃ (u' : UH) (σ' : MS) (dc ds : Nat), f_L_law_23 N b g (n + 1) u (some sc) (some (ad 0)) (some A.1) (some ou) (iI k) = f_L_law_23 N b g n u' (some sc) (some (ad 0)) (some A.1) (some ou) (iI ((k + 6 : Nat) : Int)) ∧ lSh b g A ad sa (qA g (ad 4) b u0 ou) u' σ' ∧ u'.1 = u.1 + dc ∧ u'.2.1 = u.2.1 + ds ∧ lStep N σ (sx k &&& 63) (sx (k + 1)) (sx (k + 2)) (sx (k + 3)) (sx (k + 4)) (sx (k + 5)) σ' dc ds := by
  obtain ⟨r, U', σ', e1, e2, e3⟩ := k_truths (N := N) qA_ok h (by omega) 
  obtain ⟨p1, p2, p3, p4⟩ := lSh.call hA qA_ok hp h e3
  obtain ⟨lab', h', -⟩ := id e3
  have p1 : U' = pUp A U' σ := p1
  have md := s_truths (N := N) (g := g) (u := U') (σ := σ) hA
  rw [← p1] at md
  have md : f_X3_truths N b g U' A.1  = some (r, pUp A U' σ') := by
    rw [md]
    exact congrArg (Option.map (pL A U')) e2
  have is2 : uIs U' A.1 2 = true := by
    rw [p1]
    exact p_is
  have l1 := lw_ld hst hL h (j := k + 1) (by omega)
  have m1 := lw_ld hst hL h' (j := k + 1) (by omega)
  have l2 := lw_ld hst hL h (j := k + 2) (by omega)
  have m2 := lw_ld hst hL h' (j := k + 2) (by omega)
  have l3 := lw_ld hst hL h (j := k + 3) (by omega)
  have m3 := lw_ld hst hL h' (j := k + 3) (by omega)
  have l4 := lw_ld hst hL h (j := k + 4) (by omega)
  have m4 := lw_ld hst hL h' (j := k + 4) (by omega)
  have l5 := lw_ld hst hL h (j := k + 5) (by omega)
  have m5 := lw_ld hst hL h' (j := k + 5) (by omega)
  have l0 := lw_ld hst hL h (j := k) (by omega)
  refine ⟨pUp A U' σ', σ', 0, 0, ?_, p2, p3, p4, ?_⟩
  · have hlt : True := trivial
    rw [f_L_law_23, p_bs, lw_len hst h, p_bs, show iI (L : Int) - 6 = iI ((L : Int) - 6) from by rw [show (6 : Int32) = iI 6 from rfl, i_sub], n_lt (by omega) (by omega) (by omega) (by omega) (by omega), l0, p_bs, hop, if_neg (by decide), if_neg (by decide), if_neg (by decide), if_neg (by decide), if_neg (by decide), if_neg (by decide), if_neg (by decide), if_neg (by decide), if_neg (by decide), if_neg (by decide), if_neg (by decide), if_neg (by decide), if_neg (by decide), if_neg (by decide), if_neg (by decide), if_neg (by decide), if_neg (by decide), if_neg (by decide), if_neg (by decide), if_neg (by decide), if_pos rfl]
    rw [p_bs, if_pos (k_is h), e1, q_uc, p_bs, if_pos is2, md, q_uc, if_pos rfl]
    unfold f_L_law_1593
    rw [p_let, lw_a6]
  · rw [hop]
    exact Or.inr (Or.inr (Or.inr (Or.inr (Or.inr (Or.inr (Or.inr (Or.inr (Or.inr (Or.inr (Or.inr (Or.inr (Or.inr (Or.inr (Or.inr (Or.inr (Or.inr (Or.inr (Or.inr (Or.inr (Or.inl ⟨rfl, ⟨r, e2⟩, ⟨rfl, rfl⟩⟩))))))))))))))))))))
theorem lw_truth (hA : pGood b A) (hst : uStart b g u0 sc L sx) (hL : L ≤ 384) (hN : 200000000000000000 ≤ N) (hk : k + 6 ≤ L) (hop : sx k &&& 63 = 21) (hp : pSh A u σ) (h : xSt b g A ad sa (qA g (ad 4) b u0 ou) u lab σ) : ∃ (u' : UH) (σ' : MS) (dc ds : Nat), f_L_law_23 N b g (n + 1) u (some sc) (some (ad 0)) (some A.1) (some ou) (iI k) = f_L_law_23 N b g n u' (some sc) (some (ad 0)) (some A.1) (some ou) (iI ((k + 6 : Nat) : Int)) ∧ lSh b g A ad sa (qA g (ad 4) b u0 ou) u' σ' ∧ u'.1 = u.1 + dc ∧ u'.2.1 = u.2.1 + ds ∧ lStep N σ (sx k &&& 63) (sx (k + 1)) (sx (k + 2)) (sx (k + 3)) (sx (k + 4)) (sx (k + 5)) σ' dc ds := by
  obtain ⟨r, U', σ', dc, ds, e1, e2, eb1, eb2, e3⟩ := k_truth (N := N) qA_ok h (by omega) (sx (k + 1)) (sx (k + 2))
  obtain ⟨p1, p2, p3, p4⟩ := lSh.call hA qA_ok hp h e3
  obtain ⟨lab', h', -⟩ := id e3
  have p1 : U' = pUp A U' σ := p1
  have md := s_truth (N := N) (g := g) (u := U') (σ := σ) (x1 := (sx (k + 1))) (x2 := (sx (k + 2))) hA
  rw [← p1] at md
  have md : f_X3_truth N b g U' A.1 (sx (k + 1)) (sx (k + 2)) = some (r, pUp A U' σ') := by
    rw [md]
    exact congrArg (Option.map (pL A U')) e2
  have is2 : uIs U' A.1 2 = true := by
    rw [p1]
    exact p_is
  have l1 := lw_ld hst hL h (j := k + 1) (by omega)
  have m1 := lw_ld hst hL h' (j := k + 1) (by omega)
  have l2 := lw_ld hst hL h (j := k + 2) (by omega)
  have m2 := lw_ld hst hL h' (j := k + 2) (by omega)
  have l3 := lw_ld hst hL h (j := k + 3) (by omega)
  have m3 := lw_ld hst hL h' (j := k + 3) (by omega)
  have l4 := lw_ld hst hL h (j := k + 4) (by omega)
  have m4 := lw_ld hst hL h' (j := k + 4) (by omega)
  have l5 := lw_ld hst hL h (j := k + 5) (by omega)
  have m5 := lw_ld hst hL h' (j := k + 5) (by omega)
  have l0 := lw_ld hst hL h (j := k) (by omega)
  refine ⟨pUp A U' σ', σ', dc, ds, ?_, p2, p3, p4, ?_⟩
  · have hlt : True := trivial
    rw [f_L_law_23, p_bs, lw_len hst h, p_bs, show iI (L : Int) - 6 = iI ((L : Int) - 6) from by rw [show (6 : Int32) = iI 6 from rfl, i_sub], n_lt (by omega) (by omega) (by omega) (by omega) (by omega), l0, p_bs, hop, if_neg (by decide), if_neg (by decide), if_neg (by decide), if_neg (by decide), if_neg (by decide), if_neg (by decide), if_neg (by decide), if_neg (by decide), if_neg (by decide), if_neg (by decide), if_neg (by decide), if_neg (by decide), if_neg (by decide), if_neg (by decide), if_neg (by decide), if_neg (by decide), if_neg (by decide), if_neg (by decide), if_neg (by decide), if_neg (by decide), if_neg (by decide), if_pos rfl]
    rw [lw_a1, l1, p_bs, lw_a2, l2, p_bs, p_bs, if_pos (k_is h), e1, q_uc]
    unfold f_L_law_990 f_L_law_1593
    rw [p_bs, lw_a1, m1, p_bs, lw_a2, m2, p_bs, p_bs, if_pos is2, md, q_uc, if_pos rfl, p_let, lw_a6]
  · rw [hop]
    exact Or.inr (Or.inr (Or.inr (Or.inr (Or.inr (Or.inr (Or.inr (Or.inr (Or.inr (Or.inr (Or.inr (Or.inr (Or.inr (Or.inr (Or.inr (Or.inr (Or.inr (Or.inr (Or.inr (Or.inr (Or.inr (Or.inl ⟨rfl, ⟨r, e2⟩, ⟨eb1, eb2⟩⟩)))))))))))))))))))))
theorem lw_run (hA : pGood b A) (hst : uStart b g u0 sc L sx) (hL : L ≤ 384) (hN : 200000000000000000 ≤ N) (hk : k + 6 ≤ L) (hop : sx k &&& 63 = 22) (hp : pSh A u σ) (h : xSt b g A ad sa (qA g (ad 4) b u0 ou) u lab σ) : ∃ (u' : UH) (σ' : MS) (dc ds : Nat), f_L_law_23 N b g (n + 1) u (some sc) (some (ad 0)) (some A.1) (some ou) (iI k) = f_L_law_23 N b g n u' (some sc) (some (ad 0)) (some A.1) (some ou) (iI ((k + 6 : Nat) : Int)) ∧ lSh b g A ad sa (qA g (ad 4) b u0 ou) u' σ' ∧ u'.1 = u.1 + dc ∧ u'.2.1 = u.2.1 + ds ∧ lStep N σ (sx k &&& 63) (sx (k + 1)) (sx (k + 2)) (sx (k + 3)) (sx (k + 4)) (sx (k + 5)) σ' dc ds := by
  by_cases hz : sx (k + 3) = 0
  · have hz0 : True := trivial
    obtain ⟨r, U', σ', dc, ds, e1, e2, eb1, eb2, e3⟩ := k_run (N := N) qA_ok h (by omega) (sx (k + 1)) (sx (k + 2)) (sx (k + 4)) 0 (by decide)
    obtain ⟨p1, p2, p3, p4⟩ := lSh.call hA qA_ok hp h e3
    obtain ⟨lab', h', -⟩ := id e3
    have p1 : U' = pUp A U' σ := p1
    have md := s_run (N := N) (g := g) (u := U') (σ := σ) (x1 := (sx (k + 1))) (x2 := (sx (k + 2))) (x3 := 0) (x4 := (sx (k + 4))) hA
    rw [← p1] at md
    have md : f_X3_run N b g U' A.1 (sx (k + 1)) (sx (k + 2)) 0 (sx (k + 4)) = some (r, pUp A U' σ') := by
      rw [md]
      exact congrArg (Option.map (pL A U')) e2
    have is2 : uIs U' A.1 2 = true := by
      rw [p1]
      exact p_is
    have l1 := lw_ld hst hL h (j := k + 1) (by omega)
    have m1 := lw_ld hst hL h' (j := k + 1) (by omega)
    have l2 := lw_ld hst hL h (j := k + 2) (by omega)
    have m2 := lw_ld hst hL h' (j := k + 2) (by omega)
    have l3 := lw_ld hst hL h (j := k + 3) (by omega)
    have m3 := lw_ld hst hL h' (j := k + 3) (by omega)
    have l4 := lw_ld hst hL h (j := k + 4) (by omega)
    have m4 := lw_ld hst hL h' (j := k + 4) (by omega)
    have l5 := lw_ld hst hL h (j := k + 5) (by omega)
    have m5 := lw_ld hst hL h' (j := k + 5) (by omega)
    have l0 := lw_ld hst hL h (j := k) (by omega)
    refine ⟨pUp A U' σ', σ', dc, ds, ?_, p2, p3, p4, ?_⟩
    · have hlt : True := trivial
      rw [f_L_law_23, p_bs, lw_len hst h, p_bs, show iI (L : Int) - 6 = iI ((L : Int) - 6) from by rw [show (6 : Int32) = iI 6 from rfl, i_sub], n_lt (by omega) (by omega) (by omega) (by omega) (by omega), l0, p_bs, hop, if_neg (by decide), if_neg (by decide), if_neg (by decide), if_neg (by decide), if_neg (by decide), if_neg (by decide), if_neg (by decide), if_neg (by decide), if_neg (by decide), if_neg (by decide), if_neg (by decide), if_neg (by decide), if_neg (by decide), if_neg (by decide), if_neg (by decide), if_neg (by decide), if_neg (by decide), if_neg (by decide), if_neg (by decide), if_neg (by decide), if_neg (by decide), if_neg (by decide), if_pos rfl]
      rw [lw_a1, l1, p_bs, lw_a2, l2, p_bs, lw_a3, l3, p_bs, if_pos hz]
      have e1 : f_X1_run N b g u (ad 0) (sx (k + 1)) (sx (k + 2)) 0 (sx (k + 4)) = some (r, U') := e1
      unfold f_L_law_1038 f_L_law_1047 f_L_law_1074 f_L_law_1593
      rw [p_bs, lw_a4, l4, p_bs, p_bs, if_pos (k_is h), e1, q_uc, p_bs, lw_a1, m1, p_bs, lw_a2, m2, p_bs, lw_a3, m3, p_bs, if_pos hz, p_bs, m4, p_bs, p_bs, if_pos is2, md, q_uc, if_pos rfl, p_let, lw_a6]
    · rw [hop]
      exact Or.inr (Or.inr (Or.inr (Or.inr (Or.inr (Or.inr (Or.inr (Or.inr (Or.inr (Or.inr (Or.inr (Or.inr (Or.inr (Or.inr (Or.inr (Or.inr (Or.inr (Or.inr (Or.inr (Or.inr (Or.inr (Or.inr (Or.inl ⟨rfl, ⟨r, (by rw [if_pos hz]; exact e2)⟩, ⟨eb1, eb2⟩⟩))))))))))))))))))))))
  · have hz0 : True := trivial
    obtain ⟨r, U', σ', dc, ds, e1, e2, eb1, eb2, e3⟩ := k_run (N := N) qA_ok h (by omega) (sx (k + 1)) (sx (k + 2)) (sx (k + 4)) 1 (by decide)
    obtain ⟨p1, p2, p3, p4⟩ := lSh.call hA qA_ok hp h e3
    obtain ⟨lab', h', -⟩ := id e3
    have p1 : U' = pUp A U' σ := p1
    have md := s_run (N := N) (g := g) (u := U') (σ := σ) (x1 := (sx (k + 1))) (x2 := (sx (k + 2))) (x3 := 1) (x4 := (sx (k + 4))) hA
    rw [← p1] at md
    have md : f_X3_run N b g U' A.1 (sx (k + 1)) (sx (k + 2)) 1 (sx (k + 4)) = some (r, pUp A U' σ') := by
      rw [md]
      exact congrArg (Option.map (pL A U')) e2
    have is2 : uIs U' A.1 2 = true := by
      rw [p1]
      exact p_is
    have l1 := lw_ld hst hL h (j := k + 1) (by omega)
    have m1 := lw_ld hst hL h' (j := k + 1) (by omega)
    have l2 := lw_ld hst hL h (j := k + 2) (by omega)
    have m2 := lw_ld hst hL h' (j := k + 2) (by omega)
    have l3 := lw_ld hst hL h (j := k + 3) (by omega)
    have m3 := lw_ld hst hL h' (j := k + 3) (by omega)
    have l4 := lw_ld hst hL h (j := k + 4) (by omega)
    have m4 := lw_ld hst hL h' (j := k + 4) (by omega)
    have l5 := lw_ld hst hL h (j := k + 5) (by omega)
    have m5 := lw_ld hst hL h' (j := k + 5) (by omega)
    have l0 := lw_ld hst hL h (j := k) (by omega)
    refine ⟨pUp A U' σ', σ', dc, ds, ?_, p2, p3, p4, ?_⟩
    · have hlt : True := trivial
      rw [f_L_law_23, p_bs, lw_len hst h, p_bs, show iI (L : Int) - 6 = iI ((L : Int) - 6) from by rw [show (6 : Int32) = iI 6 from rfl, i_sub], n_lt (by omega) (by omega) (by omega) (by omega) (by omega), l0, p_bs, hop, if_neg (by decide), if_neg (by decide), if_neg (by decide), if_neg (by decide), if_neg (by decide), if_neg (by decide), if_neg (by decide), if_neg (by decide), if_neg (by decide), if_neg (by decide), if_neg (by decide), if_neg (by decide), if_neg (by decide), if_neg (by decide), if_neg (by decide), if_neg (by decide), if_neg (by decide), if_neg (by decide), if_neg (by decide), if_neg (by decide), if_neg (by decide), if_neg (by decide), if_pos rfl]
      rw [lw_a1, l1, p_bs, lw_a2, l2, p_bs, lw_a3, l3, p_bs, if_neg hz]
      have e1 : f_X1_run N b g u (ad 0) (sx (k + 1)) (sx (k + 2)) 1 (sx (k + 4)) = some (r, U') := e1
      unfold f_L_law_1038 f_L_law_1047 f_L_law_1074 f_L_law_1593
      rw [p_bs, lw_a4, l4, p_bs, p_bs, if_pos (k_is h), e1, q_uc, p_bs, lw_a1, m1, p_bs, lw_a2, m2, p_bs, lw_a3, m3, p_bs, if_neg hz, p_bs, m4, p_bs, p_bs, if_pos is2, md, q_uc, if_pos rfl, p_let, lw_a6]
    · rw [hop]
      exact Or.inr (Or.inr (Or.inr (Or.inr (Or.inr (Or.inr (Or.inr (Or.inr (Or.inr (Or.inr (Or.inr (Or.inr (Or.inr (Or.inr (Or.inr (Or.inr (Or.inr (Or.inr (Or.inr (Or.inr (Or.inr (Or.inr (Or.inl ⟨rfl, ⟨r, (by rw [if_neg hz]; exact e2)⟩, ⟨eb1, eb2⟩⟩))))))))))))))))))))))
theorem lw_led (hA : pGood b A) (hst : uStart b g u0 sc L sx) (hL : L ≤ 384) (hN : 200000000000000000 ≤ N) (hk : k + 6 ≤ L) (hop : sx k &&& 63 = 23) (hp : pSh A u σ) (h : xSt b g A ad sa (qA g (ad 4) b u0 ou) u lab σ) : ∃ (u' : UH) (σ' : MS) (dc ds : Nat), f_L_law_23 N b g (n + 1) u (some sc) (some (ad 0)) (some A.1) (some ou) (iI k) = f_L_law_23 N b g n u' (some sc) (some (ad 0)) (some A.1) (some ou) (iI ((k + 6 : Nat) : Int)) ∧ lSh b g A ad sa (qA g (ad 4) b u0 ou) u' σ' ∧ u'.1 = u.1 + dc ∧ u'.2.1 = u.2.1 + ds ∧ lStep N σ (sx k &&& 63) (sx (k + 1)) (sx (k + 2)) (sx (k + 3)) (sx (k + 4)) (sx (k + 5)) σ' dc ds := by
  obtain ⟨kk, r, U', σ', dc, ds, e1, e2, e4, e5, e3, eb⟩ := k_led (N := N) h (sx (k + 1))
  obtain ⟨p1, p2, p3, p4⟩ := lSh.call hA qA_ok hp h e3
  obtain ⟨lab', h', -⟩ := id e3
  have p1 : U' = pUp A U' σ := p1
  have md := s_led (N := N) (g := g) (u := U') (σ := σ) (x1 := (sx (k + 1))) hA
  rw [← p1] at md
  have md : f_X3_led N b g U' A.1 (sx (k + 1)) = some (r, pUp A U' σ') := by
    rw [md]
    exact congrArg (Option.map (pL A U')) e2
  have is2 : uIs U' A.1 2 = true := by
    rw [p1]
    exact p_is
  have l1 := lw_ld hst hL h (j := k + 1) (by omega)
  have m1 := lw_ld hst hL h' (j := k + 1) (by omega)
  have l2 := lw_ld hst hL h (j := k + 2) (by omega)
  have m2 := lw_ld hst hL h' (j := k + 2) (by omega)
  have l3 := lw_ld hst hL h (j := k + 3) (by omega)
  have m3 := lw_ld hst hL h' (j := k + 3) (by omega)
  have l4 := lw_ld hst hL h (j := k + 4) (by omega)
  have m4 := lw_ld hst hL h' (j := k + 4) (by omega)
  have l5 := lw_ld hst hL h (j := k + 5) (by omega)
  have m5 := lw_ld hst hL h' (j := k + 5) (by omega)
  have l0 := lw_ld hst hL h (j := k) (by omega)
  have th := s_thrown (N := N) (g := g) (u := U') (σ := σ') hA
  have th : f_X3_thrown N b g (pUp A U' σ') A.1 = some (kk, pUp A U' σ') := by
    rw [th, ← e4]
    rfl
  refine ⟨pUp A U' σ', σ', dc, ds, ?_, p2, p3, p4, ?_⟩
  · have hlt : True := trivial
    rw [f_L_law_23, p_bs, lw_len hst h, p_bs, show iI (L : Int) - 6 = iI ((L : Int) - 6) from by rw [show (6 : Int32) = iI 6 from rfl, i_sub], n_lt (by omega) (by omega) (by omega) (by omega) (by omega), l0, p_bs, hop, if_neg (by decide), if_neg (by decide), if_neg (by decide), if_neg (by decide), if_neg (by decide), if_neg (by decide), if_neg (by decide), if_neg (by decide), if_neg (by decide), if_neg (by decide), if_neg (by decide), if_neg (by decide), if_neg (by decide), if_neg (by decide), if_neg (by decide), if_neg (by decide), if_neg (by decide), if_neg (by decide), if_neg (by decide), if_neg (by decide), if_neg (by decide), if_neg (by decide), if_neg (by decide), if_pos rfl]
    rw [lw_a1, l1, p_bs, e1, q_uc]
    unfold f_L_law_1099 f_L_law_1141 f_L_law_1593
    rw [p_bs, lw_a1, m1, p_bs, p_bs, if_pos is2, md, q_uc, if_pos p_is, th, q_uc, if_pos rfl]
    rcases e5 with e5 | ⟨e5, ff, e6, e7⟩
    · rw [e5, if_neg n10, p_let, lw_a6]
    · have eo : (pUp A U' σ').2.2 ou = some (.inl (3, 1, .inr (.inl ff))) := by
        obtain ⟨bkv, mpv, ptv, -, hI'⟩ := id h'
        have l13 := hI'.2.2.2.2.2.2.2.2.2.2.2.2.1
        have lA := hI'.2.2.2.2.1
        rw [pUp_else U' σ' (fun z => by have := lA.1; rw [← z, l13] at this; omega) (fun j hj z => by have := lA.2 j hj; rw [← z, l13] at this; omega)]
        exact e6
      have ll : uLdL (pUp A U' σ') ou 3 0 = some (ff 0) := u_ldL (i := 0) eo (by decide) (by decide) (by decide)
      rw [e5, if_pos rfl, p_bs, ll, p_bs, e7, if_pos lg_self, p_let, lw_a6]
  · rw [hop]
    exact Or.inr (Or.inr (Or.inr (Or.inr (Or.inr (Or.inr (Or.inr (Or.inr (Or.inr (Or.inr (Or.inr (Or.inr (Or.inr (Or.inr (Or.inr (Or.inr (Or.inr (Or.inr (Or.inr (Or.inr (Or.inr (Or.inr (Or.inr (Or.inl ⟨rfl, ⟨r, e2⟩, eb⟩)))))))))))))))))))))))
end O3s
