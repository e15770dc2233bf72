/-! BY gen_law.py: PLAIN: the law, calls -/
section O2s
variable {N b : Nat} {g : uEnv} {A : pA} {ad sa : Nat → Nat} {u0 u : UH} {ou sc L k n : Nat} {sx : Nat → Int32} {lab : Nat → Nat} {σ : MS}
theorem lw_feed (hA : pGood b A) (hst : uStart b g u0 sc L sx) (hL : L ≤ 384) (hN : 200000000000000000 ≤ N) (hk : k + 6 ≤ L) (hop : sx k &&& 63 = 0) (hp : pSh A u σ) (h : xSt b g A ad sa (qA g (ad 4) b u0 ou) u lab σ) : ∃ (u' : UH) (σ' : MS) (dc ds : Nat), f_L_law_23 N b g (n + 1) u (some sc) (some (ad 0)) (some A.1) (some ou) (iI k) = f_L_law_23 N b g n u' (some sc) (some (ad 0)) (some A.1) (some ou) (iI ((k + 6 : Nat) : Int)) ∧ lSh b g A ad sa (qA g (ad 4) b u0 ou) u' σ' ∧ u'.1 = u.1 + dc ∧ u'.2.1 = u.2.1 + ds ∧ lStep N σ (sx k &&& 63) (sx (k + 1)) (sx (k + 2)) (sx (k + 3)) (sx (k + 4)) (sx (k + 5)) σ' dc ds := by
  obtain ⟨r, U', σ', dc, ds, e1, e2, e3, eb⟩ := k_feed (N := N) qA_ok h (by omega) (sx (k + 1)) (sx (k + 2)) (sx (k + 3)) (sx (k + 4)) (sx (k + 5))
  obtain ⟨p1, p2, p3, p4⟩ := lSh.call hA qA_ok hp h e3
  obtain ⟨lab', h', -⟩ := id e3
  have p1 : U' = pUp A U' σ := p1
  have md := s_feed (N := N) (g := g) (u := U') (σ := σ) (x1 := (sx (k + 1))) (x2 := (sx (k + 2))) (x3 := (sx (k + 3))) (x4 := (sx (k + 4))) (x5 := (sx (k + 5))) hA
  rw [← p1] at md
  have md : f_X3_feed N b g U' A.1 (sx (k + 1)) (sx (k + 2)) (sx (k + 3)) (sx (k + 4)) (sx (k + 5)) = some (r, pUp A U' σ') := by
    rw [md]
    exact congrArg (Option.map (pL A U')) e2
  have is2 : uIs U' A.1 2 = true := by
    rw [p1]
    exact p_is
  have l1 := lw_ld hst hL h (j := k + 1) (by omega)
  have m1 := lw_ld hst hL h' (j := k + 1) (by omega)
  have l2 := lw_ld hst hL h (j := k + 2) (by omega)
  have m2 := lw_ld hst hL h' (j := k + 2) (by omega)
  have l3 := lw_ld hst hL h (j := k + 3) (by omega)
  have m3 := lw_ld hst hL h' (j := k + 3) (by omega)
  have l4 := lw_ld hst hL h (j := k + 4) (by omega)
  have m4 := lw_ld hst hL h' (j := k + 4) (by omega)
  have l5 := lw_ld hst hL h (j := k + 5) (by omega)
  have m5 := lw_ld hst hL h' (j := k + 5) (by omega)
  have l0 := lw_ld hst hL h (j := k) (by omega)
  refine ⟨pUp A U' σ', σ', dc, ds, ?_, p2, p3, p4, ?_⟩
  · have hlt : True := trivial
    rw [f_L_law_23, p_bs, lw_len hst h, p_bs, show iI (L : Int) - 6 = iI ((L : Int) - 6) from by rw [show (6 : Int32) = iI 6 from rfl, i_sub], n_lt (by omega) (by omega) (by omega) (by omega) (by omega), l0, p_bs, hop, if_pos rfl]
    rw [lw_a1, l1, p_bs, lw_a2, l2, p_bs, lw_a3, l3, p_bs, lw_a4, l4, p_bs, lw_a5, l5, p_bs, p_bs, if_pos (k_is h), e1, q_uc]
    unfold f_L_law_234 f_L_law_1593
    rw [p_bs, lw_a1, m1, p_bs, lw_a2, m2, p_bs, lw_a3, m3, p_bs, lw_a4, m4, p_bs, lw_a5, m5, p_bs, p_bs, if_pos is2, md, q_uc, if_pos rfl, p_let, lw_a6]
  · rw [hop]
    exact Or.inl ⟨rfl, ⟨r, e2⟩, eb⟩
theorem lw_book (hA : pGood b A) (hst : uStart b g u0 sc L sx) (hL : L ≤ 384) (hN : 200000000000000000 ≤ N) (hk : k + 6 ≤ L) (hop : sx k &&& 63 = 1) (hp : pSh A u σ) (h : xSt b g A ad sa (qA g (ad 4) b u0 ou) u lab σ) : ∃ (u' : UH) (σ' : MS) (dc ds : Nat), f_L_law_23 N b g (n + 1) u (some sc) (some (ad 0)) (some A.1) (some ou) (iI k) = f_L_law_23 N b g n u' (some sc) (some (ad 0)) (some A.1) (some ou) (iI ((k + 6 : Nat) : Int)) ∧ lSh b g A ad sa (qA g (ad 4) b u0 ou) u' σ' ∧ u'.1 = u.1 + dc ∧ u'.2.1 = u.2.1 + ds ∧ lStep N σ (sx k &&& 63) (sx (k + 1)) (sx (k + 2)) (sx (k + 3)) (sx (k + 4)) (sx (k + 5)) σ' dc ds := by
  obtain ⟨r, U', σ', dc, ds, e1, e2, e3, eb⟩ := k_book (N := N) hst h (by omega) (sx (k + 1))
  obtain ⟨p1, p2, p3, p4⟩ := lSh.call hA qA_ok hp h e3
  obtain ⟨lab', h', -⟩ := id e3
  have p1 : U' = pUp A U' σ := p1
  have md := s_book (N := N) (g := g) (u := U') (σ := σ) (x1 := (sx (k + 1))) hA (lw_lit hst h')
  rw [← p1] at md
  have md : f_X3_book N b g U' A.1 (sx (k + 1)) = some (r, pUp A U' σ') := by
    rw [md]
    exact congrArg (Option.map (pL A U')) e2
  have is2 : uIs U' A.1 2 = true := by
    rw [p1]
    exact p_is
  have l1 := lw_ld hst hL h (j := k + 1) (by omega)
  have m1 := lw_ld hst hL h' (j := k + 1) (by omega)
  have l2 := lw_ld hst hL h (j := k + 2) (by omega)
  have m2 := lw_ld hst hL h' (j := k + 2) (by omega)
  have l3 := lw_ld hst hL h (j := k + 3) (by omega)
  have m3 := lw_ld hst hL h' (j := k + 3) (by omega)
  have l4 := lw_ld hst hL h (j := k + 4) (by omega)
  have m4 := lw_ld hst hL h' (j := k + 4) (by omega)
  have l5 := lw_ld hst hL h (j := k + 5) (by omega)
  have m5 := lw_ld hst hL h' (j := k + 5) (by omega)
  have l0 := lw_ld hst hL h (j := k) (by omega)
  refine ⟨pUp A U' σ', σ', dc, ds, ?_, p2, p3, p4, ?_⟩
  · have hlt : True := trivial
    rw [f_L_law_23, p_bs, lw_len hst h, p_bs, show iI (L : Int) - 6 = iI ((L : Int) - 6) from by rw [show (6 : Int32) = iI 6 from rfl, i_sub], n_lt (by omega) (by omega) (by omega) (by omega) (by omega), l0, p_bs, hop, if_neg (by decide), if_pos rfl]
    rw [lw_a1, l1, p_bs, p_bs, if_pos (k_is h), e1, q_uc]
    unfold f_L_law_283 f_L_law_1593
    rw [p_bs, lw_a1, m1, p_bs, p_bs, if_pos is2, md, q_uc, if_pos rfl, p_let, lw_a6]
  · rw [hop]
    exact Or.inr (Or.inl ⟨rfl, ⟨r, e2⟩, eb⟩)
theorem lw_plan (hA : pGood b A) (hst : uStart b g u0 sc L sx) (hL : L ≤ 384) (hN : 200000000000000000 ≤ N) (hk : k + 6 ≤ L) (hop : sx k &&& 63 = 2) (hp : pSh A u σ) (h : xSt b g A ad sa (qA g (ad 4) b u0 ou) u lab σ) : ∃ (u' : UH) (σ' : MS) (dc ds : Nat), f_L_law_23 N b g (n + 1) u (some sc) (some (ad 0)) (some A.1) (some ou) (iI k) = f_L_law_23 N b g n u' (some sc) (some (ad 0)) (some A.1) (some ou) (iI ((k + 6 : Nat) : Int)) ∧ lSh b g A ad sa (qA g (ad 4) b u0 ou) u' σ' ∧ u'.1 = u.1 + dc ∧ u'.2.1 = u.2.1 + ds ∧ lStep N σ (sx k &&& 63) (sx (k + 1)) (sx (k + 2)) (sx (k + 3)) (sx (k + 4)) (sx (k + 5)) σ' dc ds := by
  obtain ⟨r, U', σ', dc, ds, e1, e2, e3, eb⟩ := k_plan (N := N) hst h (by omega) (sx (k + 1))
  obtain ⟨p1, p2, p3, p4⟩ := lSh.call hA qA_ok hp h e3
  obtain ⟨lab', h', -⟩ := id e3
  have p1 : U' = pUp A U' σ := p1
  have md := s_plan (N := N) (g := g) (u := U') (σ := σ) (x1 := (sx (k + 1))) hA (lw_lit hst h')
  rw [← p1] at md
  have md : f_X3_plan N b g U' A.1 (sx (k + 1)) = some (r, pUp A U' σ') := by
    rw [md]
    exact congrArg (Option.map (pL A U')) e2
  have is2 : uIs U' A.1 2 = true := by
    rw [p1]
    exact p_is
  have l1 := lw_ld hst hL h (j := k + 1) (by omega)
  have m1 := lw_ld hst hL h' (j := k + 1) (by omega)
  have l2 := lw_ld hst hL h (j := k + 2) (by omega)
  have m2 := lw_ld hst hL h' (j := k + 2) (by omega)
  have l3 := lw_ld hst hL h (j := k + 3) (by omega)
  have m3 := lw_ld hst hL h' (j := k + 3) (by omega)
  have l4 := lw_ld hst hL h (j := k + 4) (by omega)
  have m4 := lw_ld hst hL h' (j := k + 4) (by omega)
  have l5 := lw_ld hst hL h (j := k + 5) (by omega)
  have m5 := lw_ld hst hL h' (j := k + 5) (by omega)
  have l0 := lw_ld hst hL h (j := k) (by omega)
  refine ⟨pUp A U' σ', σ', dc, ds, ?_, p2, p3, p4, ?_⟩
  · have hlt : True := trivial
    rw [f_L_law_23, p_bs, lw_len hst h, p_bs, show iI (L : Int) - 6 = iI ((L : Int) - 6) from by rw [show (6 : Int32) = iI 6 from rfl, i_sub], n_lt (by omega) (by omega) (by omega) (by omega) (by omega), l0, p_bs, hop, if_neg (by decide), if_neg (by decide), if_pos rfl]
    rw [lw_a1, l1, p_bs, p_bs, if_pos (k_is h), e1, q_uc]
    unfold f_L_law_308 f_L_law_1593
    rw [p_bs, lw_a1, m1, p_bs, p_bs, if_pos is2, md, q_uc, if_pos rfl, p_let, lw_a6]
  · rw [hop]
    exact Or.inr (Or.inr (Or.inl ⟨rfl, ⟨r, e2⟩, eb⟩))
theorem lw_fault (hA : pGood b A) (hst : uStart b g u0 sc L sx) (hL : L ≤ 384) (hN : 200000000000000000 ≤ N) (hk : k + 6 ≤ L) (hop : sx k &&& 63 = 3) (hp : pSh A u σ) (h : xSt b g A ad sa (qA g (ad 4) b u0 ou) u lab σ) : ∃ (u' : UH) (σ' : MS) (dc ds : Nat), f_L_law_23 N b g (n + 1) u (some sc) (some (ad 0)) (some A.1) (some ou) (iI k) = f_L_law_23 N b g n u' (some sc) (some (ad 0)) (some A.1) (some ou) (iI ((k + 6 : Nat) : Int)) ∧ lSh b g A ad sa (qA g (ad 4) b u0 ou) u' σ' ∧ u'.1 = u.1 + dc ∧ u'.2.1 = u.2.1 + ds ∧ lStep N σ (sx k &&& 63) (sx (k + 1)) (sx (k + 2)) (sx (k + 3)) (sx (k + 4)) (sx (k + 5)) σ' dc ds := by
  obtain ⟨r, U', σ', e1, e2, e3⟩ := k_fault (N := N) qA_ok h  
  obtain ⟨p1, p2, p3, p4⟩ := lSh.call hA qA_ok hp h e3
  obtain ⟨lab', h', -⟩ := id e3
  have p1 : U' = pUp A U' σ := p1
  have md := s_fault (N := N) (g := g) (u := U') (σ := σ) hA
  rw [← p1] at md
  have md : f_X3_fault N b g U' A.1  = some (r, pUp A U' σ') := by
    rw [md]
    exact congrArg (Option.map (pL A U')) e2
  have is2 : uIs U' A.1 2 = true := by
    rw [p1]
    exact p_is
  have l1 := lw_ld hst hL h (j := k + 1) (by omega)
  have m1 := lw_ld hst hL h' (j := k + 1) (by omega)
  have l2 := lw_ld hst hL h (j := k + 2) (by omega)
  have m2 := lw_ld hst hL h' (j := k + 2) (by omega)
  have l3 := lw_ld hst hL h (j := k + 3) (by omega)
  have m3 := lw_ld hst hL h' (j := k + 3) (by omega)
  have l4 := lw_ld hst hL h (j := k + 4) (by omega)
  have m4 := lw_ld hst hL h' (j := k + 4) (by omega)
  have l5 := lw_ld hst hL h (j := k + 5) (by omega)
  have m5 := lw_ld hst hL h' (j := k + 5) (by omega)
  have l0 := lw_ld hst hL h (j := k) (by omega)
  refine ⟨pUp A U' σ', σ', 0, 0, ?_, p2, p3, p4, ?_⟩
  · have hlt : True := trivial
    rw [f_L_law_23, p_bs, lw_len hst h, p_bs, show iI (L : Int) - 6 = iI ((L : Int) - 6) from by rw [show (6 : Int32) = iI 6 from rfl, i_sub], n_lt (by omega) (by omega) (by omega) (by omega) (by omega), l0, p_bs, hop, if_neg (by decide), if_neg (by decide), if_neg (by decide), if_pos rfl]
    rw [p_bs, if_pos (k_is h), e1, q_uc, p_bs, if_pos is2, md, q_uc, if_pos rfl]
    unfold f_L_law_1593
    rw [p_let, lw_a6]
  · rw [hop]
    exact Or.inr (Or.inr (Or.inr (Or.inl ⟨rfl, ⟨r, e2⟩, ⟨rfl, rfl⟩⟩)))
theorem lw_where (hA : pGood b A) (hst : uStart b g u0 sc L sx) (hL : L ≤ 384) (hN : 200000000000000000 ≤ N) (hk : k + 6 ≤ L) (hop : sx k &&& 63 = 4) (hp : pSh A u σ) (h : xSt b g A ad sa (qA g (ad 4) b u0 ou) u lab σ) : ∃ (u' : UH) (σ' : MS) (dc ds : Nat), f_L_law_23 N b g (n + 1) u (some sc) (some (ad 0)) (some A.1) (some ou) (iI k) = f_L_law_23 N b g n u' (some sc) (some (ad 0)) (some A.1) (some ou) (iI ((k + 6 : Nat) : Int)) ∧ lSh b g A ad sa (qA g (ad 4) b u0 ou) u' σ' ∧ u'.1 = u.1 + dc ∧ u'.2.1 = u.2.1 + ds ∧ lStep N σ (sx k &&& 63) (sx (k + 1)) (sx (k + 2)) (sx (k + 3)) (sx (k + 4)) (sx (k + 5)) σ' dc ds := by
  obtain ⟨r, U', σ', e1, e2, e3⟩ := k_where (N := N) qA_ok h  
  obtain ⟨p1, p2, p3, p4⟩ := lSh.call hA qA_ok hp h e3
  obtain ⟨lab', h', -⟩ := id e3
  have p1 : U' = pUp A U' σ := p1
  have md := s_where (N := N) (g := g) (u := U') (σ := σ) hA
  rw [← p1] at md
  have md : f_X3_where N b g U' A.1  = some (r, pUp A U' σ') := by
    rw [md]
    exact congrArg (Option.map (pL A U')) e2
  have is2 : uIs U' A.1 2 = true := by
    rw [p1]
    exact p_is
  have l1 := lw_ld hst hL h (j := k + 1) (by omega)
  have m1 := lw_ld hst hL h' (j := k + 1) (by omega)
  have l2 := lw_ld hst hL h (j := k + 2) (by omega)
  have m2 := lw_ld hst hL h' (j := k + 2) (by omega)
  have l3 := lw_ld hst hL h (j := k + 3) (by omega)
  have m3 := lw_ld hst hL h' (j := k + 3) (by omega)
  have l4 := lw_ld hst hL h (j := k + 4) (by omega)
  have m4 := lw_ld hst hL h' (j := k + 4) (by omega)
  have l5 := lw_ld hst hL h (j := k + 5) (by omega)
  have m5 := lw_ld hst hL h' (j := k + 5) (by omega)
  have l0 := lw_ld hst hL h (j := k) (by omega)
  refine ⟨pUp A U' σ', σ', 0, 0, ?_, p2, p3, p4, ?_⟩
  · have hlt : True := trivial
    rw [f_L_law_23, p_bs, lw_len hst h, p_bs, show iI (L : Int) - 6 = iI ((L : Int) - 6) from by rw [show (6 : Int32) = iI 6 from rfl, i_sub], n_lt (by omega) (by omega) (by omega) (by omega) (by omega), l0, p_bs, hop, if_neg (by decide), if_neg (by decide), if_neg (by decide), if_neg (by decide), if_pos rfl]
    rw [p_bs, if_pos (k_is h), e1, q_uc, p_bs, if_pos is2, md, q_uc, if_pos rfl]
    unfold f_L_law_1593
    rw [p_let, lw_a6]
  · rw [hop]
    exact Or.inr (Or.inr (Or.inr (Or.inr (Or.inl ⟨rfl, ⟨r, e2⟩, ⟨rfl, rfl⟩⟩))))
theorem lw_sink (hA : pGood b A) (hst : uStart b g u0 sc L sx) (hL : L ≤ 384) (hN : 200000000000000000 ≤ N) (hk : k + 6 ≤ L) (hop : sx k &&& 63 = 5) (hp : pSh A u σ) (h : xSt b g A ad sa (qA g (ad 4) b u0 ou) u lab σ) : ∃ (u' : UH) (σ' : MS) (dc ds : Nat), f_L_law_23 N b g (n + 1) u (some sc) (some (ad 0)) (some A.1) (some ou) (iI k) = f_L_law_23 N b g n u' (some sc) (some (ad 0)) (some A.1) (some ou) (iI ((k + 6 : Nat) : Int)) ∧ lSh b g A ad sa (qA g (ad 4) b u0 ou) u' σ' ∧ u'.1 = u.1 + dc ∧ u'.2.1 = u.2.1 + ds ∧ lStep N σ (sx k &&& 63) (sx (k + 1)) (sx (k + 2)) (sx (k + 3)) (sx (k + 4)) (sx (k + 5)) σ' dc ds := by
  obtain ⟨r, U', σ', e1, e2, e3⟩ := k_sink (N := N) qA_ok h (by omega) (sx (k + 1)) (sx (k + 2))
  obtain ⟨p1, p2, p3, p4⟩ := lSh.call hA qA_ok hp h e3
  obtain ⟨lab', h', -⟩ := id e3
  have p1 : U' = pUp A U' σ := p1
  have md := s_sink (N := N) (g := g) (u := U') (σ := σ) (x1 := (sx (k + 1))) (x2 := (sx (k + 2))) hA
  rw [← p1] at md
  have md : f_X3_sink N b g U' A.1 (sx (k + 1)) (sx (k + 2)) = some (r, pUp A U' σ') := by
    rw [md]
    exact congrArg (Option.map (pL A U')) e2
  have is2 : uIs U' A.1 2 = true := by
    rw [p1]
    exact p_is
  have l1 := lw_ld hst hL h (j := k + 1) (by omega)
  have m1 := lw_ld hst hL h' (j := k + 1) (by omega)
  have l2 := lw_ld hst hL h (j := k + 2) (by omega)
  have m2 := lw_ld hst hL h' (j := k + 2) (by omega)
  have l3 := lw_ld hst hL h (j := k + 3) (by omega)
  have m3 := lw_ld hst hL h' (j := k + 3) (by omega)
  have l4 := lw_ld hst hL h (j := k + 4) (by omega)
  have m4 := lw_ld hst hL h' (j := k + 4) (by omega)
  have l5 := lw_ld hst hL h (j := k + 5) (by omega)
  have m5 := lw_ld hst hL h' (j := k + 5) (by omega)
  have l0 := lw_ld hst hL h (j := k) (by omega)
  refine ⟨pUp A U' σ', σ', 0, 0, ?_, p2, p3, p4, ?_⟩
  · have hlt : True := trivial
    rw [f_L_law_23, p_bs, lw_len hst h, p_bs, show iI (L : Int) - 6 = iI ((L : Int) - 6) from by rw [show (6 : Int32) = iI 6 from rfl, i_sub], n_lt (by omega) (by omega) (by omega) (by omega) (by omega), l0, p_bs, hop, if_neg (by decide), if_neg (by decide), if_neg (by decide), if_neg (by decide), if_neg (by decide), if_pos rfl]
    rw [lw_a1, l1, p_bs, lw_a2, l2, p_bs, p_bs, if_pos (k_is h), e1, q_uc, m1, p_bs, m2, p_bs, p_bs, if_pos is2, md, q_uc, if_pos rfl]
    unfold f_L_law_1593
    rw [p_let, lw_a6]
  · rw [hop]
    exact Or.inr (Or.inr (Or.inr (Or.inr (Or.inr (Or.inl ⟨rfl, ⟨r, e2⟩, ⟨rfl, rfl⟩⟩)))))
theorem lw_grip (hA : pGood b A) (hst : uStart b g u0 sc L sx) (hL : L ≤ 384) (hN : 200000000000000000 ≤ N) (hk : k + 6 ≤ L) (hop : sx k &&& 63 = 6) (hp : pSh A u σ) (h : xSt b g A ad sa (qA g (ad 4) b u0 ou) u lab σ) : ∃ (u' : UH) (σ' : MS) (dc ds : Nat), f_L_law_23 N b g (n + 1) u (some sc) (some (ad 0)) (some A.1) (some ou) (iI k) = f_L_law_23 N b g n u' (some sc) (some (ad 0)) (some A.1) (some ou) (iI ((k + 6 : Nat) : Int)) ∧ lSh b g A ad sa (qA g (ad 4) b u0 ou) u' σ' ∧ u'.1 = u.1 + dc ∧ u'.2.1 = u.2.1 + ds ∧ lStep N σ (sx k &&& 63) (sx (k + 1)) (sx (k + 2)) (sx (k + 3)) (sx (k + 4)) (sx (k + 5)) σ' dc ds := by
  obtain ⟨r, U', σ', e1, e2, e3⟩ := k_grip (N := N) qA_ok h (by omega) (sx (k + 1)) (sx (k + 2))
  obtain ⟨p1, p2, p3, p4⟩ := lSh.call hA qA_ok hp h e3
  obtain ⟨lab', h', -⟩ := id e3
  have p1 : U' = pUp A U' σ := p1
  have md := s_grip (N := N) (g := g) (u := U') (σ := σ) (x1 := (sx (k + 1))) (x2 := (sx (k + 2))) hA
  rw [← p1] at md
  have md : f_X3_grip N b g U' A.1 (sx (k + 1)) (sx (k + 2)) = some (r, pUp A U' σ') := by
    rw [md]
    exact congrArg (Option.map (pL A U')) e2
  have is2 : uIs U' A.1 2 = true := by
    rw [p1]
    exact p_is
  have l1 := lw_ld hst hL h (j := k + 1) (by omega)
  have m1 := lw_ld hst hL h' (j := k + 1) (by omega)
  have l2 := lw_ld hst hL h (j := k + 2) (by omega)
  have m2 := lw_ld hst hL h' (j := k + 2) (by omega)
  have l3 := lw_ld hst hL h (j := k + 3) (by omega)
  have m3 := lw_ld hst hL h' (j := k + 3) (by omega)
  have l4 := lw_ld hst hL h (j := k + 4) (by omega)
  have m4 := lw_ld hst hL h' (j := k + 4) (by omega)
  have l5 := lw_ld hst hL h (j := k + 5) (by omega)
  have m5 := lw_ld hst hL h' (j := k + 5) (by omega)
  have l0 := lw_ld hst hL h (j := k) (by omega)
  refine ⟨pUp A U' σ', σ', 0, 0, ?_, p2, p3, p4, ?_⟩
  · have hlt : True := trivial
    rw [f_L_law_23, p_bs, lw_len hst h, p_bs, show iI (L : Int) - 6 = iI ((L : Int) - 6) from by rw [show (6 : Int32) = iI 6 from rfl, i_sub], n_lt (by omega) (by omega) (by omega) (by omega) (by omega), l0, p_bs, hop, if_neg (by decide), if_neg (by decide), if_neg (by decide), if_neg (by decide), if_neg (by decide), if_neg (by decide), if_pos rfl]
    rw [lw_a1, l1, p_bs, lw_a2, l2, p_bs, p_bs, if_pos (k_is h), e1, q_uc, m1, p_bs, m2, p_bs, p_bs, if_pos is2, md, q_uc, if_pos rfl]
    unfold f_L_law_1593
    rw [p_let, lw_a6]
  · rw [hop]
    exact Or.inr (Or.inr (Or.inr (Or.inr (Or.inr (Or.inr (Or.inl ⟨rfl, ⟨r, e2⟩, ⟨rfl, rfl⟩⟩))))))
theorem lw_dead (hA : pGood b A) (hst : uStart b g u0 sc L sx) (hL : L ≤ 384) (hN : 200000000000000000 ≤ N) (hk : k + 6 ≤ L) (hop : sx k &&& 63 = 7) (hp : pSh A u σ) (h : xSt b g A ad sa (qA g (ad 4) b u0 ou) u lab σ) : ∃ (u' : UH) (σ' : MS) (dc ds : Nat), f_L_law_23 N b g (n + 1) u (some sc) (some (ad 0)) (some A.1) (some ou) (iI k) = f_L_law_23 N b g n u' (some sc) (some (ad 0)) (some A.1) (some ou) (iI ((k + 6 : Nat) : Int)) ∧ lSh b g A ad sa (qA g (ad 4) b u0 ou) u' σ' ∧ u'.1 = u.1 + dc ∧ u'.2.1 = u.2.1 + ds ∧ lStep N σ (sx k &&& 63) (sx (k + 1)) (sx (k + 2)) (sx (k + 3)) (sx (k + 4)) (sx (k + 5)) σ' dc ds := by
  obtain ⟨r, U', σ', e1, e2, e3⟩ := k_dead (N := N) qA_ok h  (sx (k + 1))
  obtain ⟨p1, p2, p3, p4⟩ := lSh.call hA qA_ok hp h e3
  obtain ⟨lab', h', -⟩ := id e3
  have p1 : U' = pUp A U' σ := p1
  have md := s_dead (N := N) (g := g) (u := U') (σ := σ) (x1 := (sx (k + 1))) hA
  rw [← p1] at md
  have md : f_X3_dead N b g U' A.1 (sx (k + 1)) = some (r, pUp A U' σ') := by
    rw [md]
    exact congrArg (Option.map (pL A U')) e2
  have is2 : uIs U' A.1 2 = true := by
    rw [p1]
    exact p_is
  have l1 := lw_ld hst hL h (j := k + 1) (by omega)
  have m1 := lw_ld hst hL h' (j := k + 1) (by omega)
  have l2 := lw_ld hst hL h (j := k + 2) (by omega)
  have m2 := lw_ld hst hL h' (j := k + 2) (by omega)
  have l3 := lw_ld hst hL h (j := k + 3) (by omega)
  have m3 := lw_ld hst hL h' (j := k + 3) (by omega)
  have l4 := lw_ld hst hL h (j := k + 4) (by omega)
  have m4 := lw_ld hst hL h' (j := k + 4) (by omega)
  have l5 := lw_ld hst hL h (j := k + 5) (by omega)
  have m5 := lw_ld hst hL h' (j := k + 5) (by omega)
  have l0 := lw_ld hst hL h (j := k) (by omega)
  refine ⟨pUp A U' σ', σ', 0, 0, ?_, p2, p3, p4, ?_⟩
  · have hlt : True := trivial
    rw [f_L_law_23, p_bs, lw_len hst h, p_bs, show iI (L : Int) - 6 = iI ((L : Int) - 6) from by rw [show (6 : Int32) = iI 6 from rfl, i_sub], n_lt (by omega) (by omega) (by omega) (by omega) (by omega), l0, p_bs, hop, if_neg (by decide), if_neg (by decide), if_neg (by decide), if_neg (by decide), if_neg (by decide), if_neg (by decide), if_neg (by decide), if_pos rfl]
    rw [lw_a1, l1, p_bs, p_bs, if_pos (k_is h), e1, q_uc, m1, p_bs, p_bs, if_pos is2, md, q_uc, if_pos rfl]
    unfold f_L_law_1593
    rw [p_let, lw_a6]
  · rw [hop]
    exact Or.inr (Or.inr (Or.inr (Or.inr (Or.inr (Or.inr (Or.inr (Or.inl ⟨rfl, ⟨r, e2⟩, ⟨rfl, rfl⟩⟩)))))))
theorem lw_map (hA : pGood b A) (hst : uStart b g u0 sc L sx) (hL : L ≤ 384) (hN : 200000000000000000 ≤ N) (hk : k + 6 ≤ L) (hop : sx k &&& 63 = 8) (hp : pSh A u σ) (h : xSt b g A ad sa (qA g (ad 4) b u0 ou) u lab σ) : ∃ (u' : UH) (σ' : MS) (dc ds : Nat), f_L_law_23 N b g (n + 1) u (some sc) (some (ad 0)) (some A.1) (some ou) (iI k) = f_L_law_23 N b g n u' (some sc) (some (ad 0)) (some A.1) (some ou) (iI ((k + 6 : Nat) : Int)) ∧ lSh b g A ad sa (qA g (ad 4) b u0 ou) u' σ' ∧ u'.1 = u.1 + dc ∧ u'.2.1 = u.2.1 + ds ∧ lStep N σ (sx k &&& 63) (sx (k + 1)) (sx (k + 2)) (sx (k + 3)) (sx (k + 4)) (sx (k + 5)) σ' dc ds := by
  obtain ⟨r, U', σ', dc, ds, e1, e2, e3, eb⟩ := k_mapc (N := N) hst h (by omega) (sx (k + 1)) (sx (k + 2))
  obtain ⟨p1, p2, p3, p4⟩ := lSh.call hA qA_ok hp h e3
  obtain ⟨lab', h', -⟩ := id e3
  have p1 : U' = pUp A U' σ := p1
  have md := s_map (N := N) (g := g) (u := U') (σ := σ) (x1 := (sx (k + 1))) (x2 := (sx (k + 2))) hA
  rw [← p1] at md
  have md : f_X3_map N b g U' A.1 (sx (k + 1)) (sx (k + 2)) = some (r, pUp A U' σ') := by
    rw [md]
    exact congrArg (Option.map (pL A U')) e2
  have is2 : uIs U' A.1 2 = true := by
    rw [p1]
    exact p_is
  have l1 := lw_ld hst hL h (j := k + 1) (by omega)
  have m1 := lw_ld hst hL h' (j := k + 1) (by omega)
  have l2 := lw_ld hst hL h (j := k + 2) (by omega)
  have m2 := lw_ld hst hL h' (j := k + 2) (by omega)
  have l3 := lw_ld hst hL h (j := k + 3) (by omega)
  have m3 := lw_ld hst hL h' (j := k + 3) (by omega)
  have l4 := lw_ld hst hL h (j := k + 4) (by omega)
  have m4 := lw_ld hst hL h' (j := k + 4) (by omega)
  have l5 := lw_ld hst hL h (j := k + 5) (by omega)
  have m5 := lw_ld hst hL h' (j := k + 5) (by omega)
  have l0 := lw_ld hst hL h (j := k) (by omega)
  refine ⟨pUp A U' σ', σ', dc, ds, ?_, p2, p3, p4, ?_⟩
  · have hlt : True := trivial
    rw [f_L_law_23, p_bs, lw_len hst h, p_bs, show iI (L : Int) - 6 = iI ((L : Int) - 6) from by rw [show (6 : Int32) = iI 6 from rfl, i_sub], n_lt (by omega) (by omega) (by omega) (by omega) (by omega), l0, p_bs, hop, if_neg (by decide), if_neg (by decide), if_neg (by decide), if_neg (by decide), if_neg (by decide), if_neg (by decide), if_neg (by decide), if_neg (by decide), if_pos rfl]
    rw [lw_a1, l1, p_bs, lw_a2, l2, p_bs, p_bs, if_pos (k_is h), e1, q_uc]
    unfold f_L_law_464 f_L_law_1593
    rw [p_bs, lw_a1, m1, p_bs, lw_a2, m2, p_bs, p_bs, if_pos is2, md, q_uc, if_pos rfl, p_let, lw_a6]
  · rw [hop]
    exact Or.inr (Or.inr (Or.inr (Or.inr (Or.inr (Or.inr (Or.inr (Or.inr (Or.inl ⟨rfl, ⟨r, e2⟩, eb⟩))))))))
theorem lw_height (hA : pGood b A) (hst : uStart b g u0 sc L sx) (hL : L ≤ 384) (hN : 200000000000000000 ≤ N) (hk : k + 6 ≤ L) (hop : sx k &&& 63 = 9) (hp : pSh A u σ) (h : xSt b g A ad sa (qA g (ad 4) b u0 ou) u lab σ) : ∃ (u' : UH) (σ' : MS) (dc ds : Nat), f_L_law_23 N b g (n + 1) u (some sc) (some (ad 0)) (some A.1) (some ou) (iI k) = f_L_law_23 N b g n u' (some sc) (some (ad 0)) (some A.1) (some ou) (iI ((k + 6 : Nat) : Int)) ∧ lSh b g A ad sa (qA g (ad 4) b u0 ou) u' σ' ∧ u'.1 = u.1 + dc ∧ u'.2.1 = u.2.1 + ds ∧ lStep N σ (sx k &&& 63) (sx (k + 1)) (sx (k + 2)) (sx (k + 3)) (sx (k + 4)) (sx (k + 5)) σ' dc ds := by
  obtain ⟨r, U', σ', e1, e2, e3⟩ := k_height (N := N) qA_ok h  (sx (k + 1)) (sx (k + 2))
  obtain ⟨p1, p2, p3, p4⟩ := lSh.call hA qA_ok hp h e3
  obtain ⟨lab', h', -⟩ := id e3
  have p1 : U' = pUp A U' σ := p1
  have md := s_height (N := N) (g := g) (u := U') (σ := σ) (x1 := (sx (k + 1))) (x2 := (sx (k + 2))) hA
  rw [← p1] at md
  have md : f_X3_height N b g U' A.1 (sx (k + 1)) (sx (k + 2)) = some (r, pUp A U' σ') := by
    rw [md]
    exact congrArg (Option.map (pL A U')) e2
  have is2 : uIs U' A.1 2 = true := by
    rw [p1]
    exact p_is
  have l1 := lw_ld hst hL h (j := k + 1) (by omega)
  have m1 := lw_ld hst hL h' (j := k + 1) (by omega)
  have l2 := lw_ld hst hL h (j := k + 2) (by omega)
  have m2 := lw_ld hst hL h' (j := k + 2) (by omega)
  have l3 := lw_ld hst hL h (j := k + 3) (by omega)
  have m3 := lw_ld hst hL h' (j := k + 3) (by omega)
  have l4 := lw_ld hst hL h (j := k + 4) (by omega)
  have m4 := lw_ld hst hL h' (j := k + 4) (by omega)
  have l5 := lw_ld hst hL h (j := k + 5) (by omega)
  have m5 := lw_ld hst hL h' (j := k + 5) (by omega)
  have l0 := lw_ld hst hL h (j := k) (by omega)
  refine ⟨pUp A U' σ', σ', 0, 0, ?_, p2, p3, p4, ?_⟩
  · have hlt : True := trivial
    rw [f_L_law_23, p_bs, lw_len hst h, p_bs, show iI (L : Int) - 6 = iI ((L : Int) - 6) from by rw [show (6 : Int32) = iI 6 from rfl, i_sub], n_lt (by omega) (by omega) (by omega) (by omega) (by omega), l0, p_bs, hop, if_neg (by decide), if_neg (by decide), if_neg (by decide), if_neg (by decide), if_neg (by decide), if_neg (by decide), if_neg (by decide), if_neg (by decide), if_neg (by decide), if_pos rfl]
    rw [lw_a1, l1, p_bs, lw_a2, l2, p_bs, p_bs, if_pos (k_is h), e1, q_uc, m1, p_bs, m2, p_bs, p_bs, if_pos is2, md, q_uc, if_pos rfl]
    unfold f_L_law_1593
    rw [p_let, lw_a6]
  · rw [hop]
    exact Or.inr (Or.inr (Or.inr (Or.inr (Or.inr (Or.inr (Or.inr (Or.inr (Or.inr (Or.inl ⟨rfl, ⟨r, e2⟩, ⟨rfl, rfl⟩⟩)))))))))
theorem lw_ground (hA : pGood b A) (hst : uStart b g u0 sc L sx) (hL : L ≤ 384) (hN : 200000000000000000 ≤ N) (hk : k + 6 ≤ L) (hop : sx k &&& 63 = 10) (hp : pSh A u σ) (h : xSt b g A ad sa (qA g (ad 4) b u0 ou) u lab σ) : ∃ (u' : UH) (σ' : MS) (dc ds : Nat), f_L_law_23 N b g (n + 1) u (some sc) (some (ad 0)) (some A.1) (some ou) (iI k) = f_L_law_23 N b g n u' (some sc) (some (ad 0)) (some A.1) (some ou) (iI ((k + 6 : Nat) : Int)) ∧ lSh b g A ad sa (qA g (ad 4) b u0 ou) u' σ' ∧ u'.1 = u.1 + dc ∧ u'.2.1 = u.2.1 + ds ∧ lStep N σ (sx k &&& 63) (sx (k + 1)) (sx (k + 2)) (sx (k + 3)) (sx (k + 4)) (sx (k + 5)) σ' dc ds := by
  obtain ⟨r, U', σ', e1, e2, e3⟩ := k_ground (N := N) qA_ok h  (sx (k + 1)) (sx (k + 2))
  obtain ⟨p1, p2, p3, p4⟩ := lSh.call hA qA_ok hp h e3
  obtain ⟨lab', h', -⟩ := id e3
  have p1 : U' = pUp A U' σ := p1
  have md := s_ground (N := N) (g := g) (u := U') (σ := σ) (x1 := (sx (k + 1))) (x2 := (sx (k + 2))) hA
  rw [← p1] at md
  have md : f_X3_ground N b g U' A.1 (sx (k + 1)) (sx (k + 2)) = some (r, pUp A U' σ') := by
    rw [md]
    exact congrArg (Option.map (pL A U')) e2
  have is2 : uIs U' A.1 2 = true := by
    rw [p1]
    exact p_is
  have l1 := lw_ld hst hL h (j := k + 1) (by omega)
  have m1 := lw_ld hst hL h' (j := k + 1) (by omega)
  have l2 := lw_ld hst hL h (j := k + 2) (by omega)
  have m2 := lw_ld hst hL h' (j := k + 2) (by omega)
  have l3 := lw_ld hst hL h (j := k + 3) (by omega)
  have m3 := lw_ld hst hL h' (j := k + 3) (by omega)
  have l4 := lw_ld hst hL h (j := k + 4) (by omega)
  have m4 := lw_ld hst hL h' (j := k + 4) (by omega)
  have l5 := lw_ld hst hL h (j := k + 5) (by omega)
  have m5 := lw_ld hst hL h' (j := k + 5) (by omega)
  have l0 := lw_ld hst hL h (j := k) (by omega)
  refine ⟨pUp A U' σ', σ', 0, 0, ?_, p2, p3, p4, ?_⟩
  · have hlt : True := trivial
    rw [f_L_law_23, p_bs, lw_len hst h, p_bs, show iI (L : Int) - 6 = iI ((L : Int) - 6) from by rw [show (6 : Int32) = iI 6 from rfl, i_sub], n_lt (by omega) (by omega) (by omega) (by omega) (by omega), l0, p_bs, hop, if_neg (by decide), if_neg (by decide), if_neg (by decide), if_neg (by decide), if_neg (by decide), if_neg (by decide), if_neg (by decide), if_neg (by decide), if_neg (by decide), if_neg (by decide), if_pos rfl]
    rw [lw_a1, l1, p_bs, lw_a2, l2, p_bs, p_bs, if_pos (k_is h), e1, q_uc, m1, p_bs, m2, p_bs, p_bs, if_pos is2, md, q_uc, if_pos rfl]
    unfold f_L_law_1593
    rw [p_let, lw_a6]
  · rw [hop]
    exact Or.inr (Or.inr (Or.inr (Or.inr (Or.inr (Or.inr (Or.inr (Or.inr (Or.inr (Or.inr (Or.inl ⟨rfl, ⟨r, e2⟩, ⟨rfl, rfl⟩⟩))))))))))
theorem lw_doubt (hA : pGood b A) (hst : uStart b g u0 sc L sx) (hL : L ≤ 384) (hN : 200000000000000000 ≤ N) (hk : k + 6 ≤ L) (hop : sx k &&& 63 = 11) (hp : pSh A u σ) (h : xSt b g A ad sa (qA g (ad 4) b u0 ou) u lab σ) : ∃ (u' : UH) (σ' : MS) (dc ds : Nat), f_L_law_23 N b g (n + 1) u (some sc) (some (ad 0)) (some A.1) (some ou) (iI k) = f_L_law_23 N b g n u' (some sc) (some (ad 0)) (some A.1) (some ou) (iI ((k + 6 : Nat) : Int)) ∧ lSh b g A ad sa (qA g (ad 4) b u0 ou) u' σ' ∧ u'.1 = u.1 + dc ∧ u'.2.1 = u.2.1 + ds ∧ lStep N σ (sx k &&& 63) (sx (k + 1)) (sx (k + 2)) (sx (k + 3)) (sx (k + 4)) (sx (k + 5)) σ' dc ds := by
  obtain ⟨r, U', σ', dc, ds, e1, e2, e3, eb⟩ := k_doubt (N := N) qA_ok h (by omega) (sx (k + 1))
  obtain ⟨p1, p2, p3, p4⟩ := lSh.call hA qA_ok hp h e3
  obtain ⟨lab', h', -⟩ := id e3
  have p1 : U' = pUp A U' σ := p1
  have md := s_doubt (N := N) (g := g) (u := U') (σ := σ) (x1 := (sx (k + 1))) hA
  rw [← p1] at md
  have md : f_X3_doubt N b g U' A.1 (sx (k + 1)) = some (r, pUp A U' σ') := by
    rw [md]
    exact congrArg (Option.map (pL A U')) e2
  have is2 : uIs U' A.1 2 = true := by
    rw [p1]
    exact p_is
  have l1 := lw_ld hst hL h (j := k + 1) (by omega)
  have m1 := lw_ld hst hL h' (j := k + 1) (by omega)
  have l2 := lw_ld hst hL h (j := k + 2) (by omega)
  have m2 := lw_ld hst hL h' (j := k + 2) (by omega)
  have l3 := lw_ld hst hL h (j := k + 3) (by omega)
  have m3 := lw_ld hst hL h' (j := k + 3) (by omega)
  have l4 := lw_ld hst hL h (j := k + 4) (by omega)
  have m4 := lw_ld hst hL h' (j := k + 4) (by omega)
  have l5 := lw_ld hst hL h (j := k + 5) (by omega)
  have m5 := lw_ld hst hL h' (j := k + 5) (by omega)
  have l0 := lw_ld hst hL h (j := k) (by omega)
  refine ⟨pUp A U' σ', σ', dc, ds, ?_, p2, p3, p4, ?_⟩
  · have hlt : True := trivial
    rw [f_L_law_23, p_bs, lw_len hst h, p_bs, show iI (L : Int) - 6 = iI ((L : Int) - 6) from by rw [show (6 : Int32) = iI 6 from rfl, i_sub], n_lt (by omega) (by omega) (by omega) (by omega) (by omega), l0, p_bs, hop, if_neg (by decide), if_neg (by decide), if_neg (by decide), if_neg (by decide), if_neg (by decide), if_neg (by decide), if_neg (by decide), if_neg (by decide), if_neg (by decide), if_neg (by decide), if_neg (by decide), if_pos rfl]
    rw [lw_a1, l1, p_bs, p_bs, if_pos (k_is h), e1, q_uc]
    unfold f_L_law_569 f_L_law_1593
    rw [p_bs, lw_a1, m1, p_bs, p_bs, if_pos is2, md, q_uc, if_pos rfl, p_let, lw_a6]
  · rw [hop]
    exact Or.inr (Or.inr (Or.inr (Or.inr (Or.inr (Or.inr (Or.inr (Or.inr (Or.inr (Or.inr (Or.inr (Or.inl ⟨rfl, ⟨r, e2⟩, eb⟩)))))))))))
end O2s
