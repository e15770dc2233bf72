/-! BY gen_law.py: PLAIN: the law, calls -/
section O4s
variable {N b : Nat} {g : uEnv} {A : pA} {ad sa : Nat → Nat} {u0 u : UH} {ou sc L k n : Nat} {sx : Nat → Int32} {lab : Nat → Nat} {σ : MS}
theorem lw_regret (hA : pGood b A) (hst : uStart b g u0 sc L sx) (hL : L ≤ 384) (hN : 200000000000000000 ≤ N) (hk : k + 6 ≤ L) (hop : sx k &&& 63 = 24) (hp : pSh A u σ) (h : xSt b g A ad sa (qA g (ad 4) b u0 ou) u lab σ) : ∃ (u' : UH) (σ' : MS) (dc ds : Nat), f_L_law_23 N b g (n + 1) u (some sc) (some (ad 0)) (some A.1) (some ou) (iI k) = f_L_law_23 N b g n u' (some sc) (some (ad 0)) (some A.1) (some ou) (iI ((k + 6 : Nat) : Int)) ∧ lSh b g A ad sa (qA g (ad 4) b u0 ou) u' σ' ∧ u'.1 = u.1 + dc ∧ u'.2.1 = u.2.1 + ds ∧ lStep N σ (sx k &&& 63) (sx (k + 1)) (sx (k + 2)) (sx (k + 3)) (sx (k + 4)) (sx (k + 5)) σ' dc ds := by
  obtain ⟨r, U', σ', dc, ds, e1, e2, eb, e3⟩ := k_regret (N := N) qA_ok h (by omega) (sx (k + 1)) (sx (k + 2))
  obtain ⟨p1, p2, p3, p4⟩ := lSh.call hA qA_ok hp h e3
  obtain ⟨lab', h', -⟩ := id e3
  have p1 : U' = pUp A U' σ := p1
  have md := s_regret (N := N) (g := g) (u := U') (σ := σ) (x1 := (sx (k + 1))) (x2 := (sx (k + 2))) hA
  rw [← p1] at md
  have md : f_X3_regret N b g U' A.1 (sx (k + 1)) (sx (k + 2)) = some (r, pUp A U' σ') := by
    rw [md]
    exact congrArg (Option.map (pL A U')) e2
  have is2 : uIs U' A.1 2 = true := by
    rw [p1]
    exact p_is
  have l1 := lw_ld hst hL h (j := k + 1) (by omega)
  have m1 := lw_ld hst hL h' (j := k + 1) (by omega)
  have l2 := lw_ld hst hL h (j := k + 2) (by omega)
  have m2 := lw_ld hst hL h' (j := k + 2) (by omega)
  have l3 := lw_ld hst hL h (j := k + 3) (by omega)
  have m3 := lw_ld hst hL h' (j := k + 3) (by omega)
  have l4 := lw_ld hst hL h (j := k + 4) (by omega)
  have m4 := lw_ld hst hL h' (j := k + 4) (by omega)
  have l5 := lw_ld hst hL h (j := k + 5) (by omega)
  have m5 := lw_ld hst hL h' (j := k + 5) (by omega)
  have l0 := lw_ld hst hL h (j := k) (by omega)
  refine ⟨pUp A U' σ', σ', dc, ds, ?_, p2, p3, p4, ?_⟩
  · have hlt : True := trivial
    rw [f_L_law_23, p_bs, lw_len hst h, p_bs, show iI (L : Int) - 6 = iI ((L : Int) - 6) from by rw [show (6 : Int32) = iI 6 from rfl, i_sub], n_lt (by omega) (by omega) (by omega) (by omega) (by omega), l0, p_bs, hop, if_neg (by decide), if_neg (by decide), if_neg (by decide), if_neg (by decide), if_neg (by decide), if_neg (by decide), if_neg (by decide), if_neg (by decide), if_neg (by decide), if_neg (by decide), if_neg (by decide), if_neg (by decide), if_neg (by decide), if_neg (by decide), if_neg (by decide), if_neg (by decide), if_neg (by decide), if_neg (by decide), if_neg (by decide), if_neg (by decide), if_neg (by decide), if_neg (by decide), if_neg (by decide), if_neg (by decide), if_pos rfl]
    rw [lw_a1, l1, p_bs, lw_a2, l2, p_bs, p_bs, if_pos (k_is h), e1, q_uc]
    unfold f_L_law_1160 f_L_law_1593
    rw [p_bs, lw_a1, m1, p_bs, lw_a2, m2, p_bs, p_bs, if_pos is2, md, q_uc, if_pos rfl, p_let, lw_a6]
  · rw [hop]
    exact Or.inr (Or.inr (Or.inr (Or.inr (Or.inr (Or.inr (Or.inr (Or.inr (Or.inr (Or.inr (Or.inr (Or.inr (Or.inr (Or.inr (Or.inr (Or.inr (Or.inr (Or.inr (Or.inr (Or.inr (Or.inr (Or.inr (Or.inr (Or.inr (Or.inl ⟨rfl, ⟨r, e2⟩, ⟨eb, lw_rg0 h e1 e3⟩⟩))))))))))))))))))))))))
theorem lw_worth (hA : pGood b A) (hst : uStart b g u0 sc L sx) (hL : L ≤ 384) (hN : 200000000000000000 ≤ N) (hk : k + 6 ≤ L) (hop : sx k &&& 63 = 25) (hp : pSh A u σ) (h : xSt b g A ad sa (qA g (ad 4) b u0 ou) u lab σ) : ∃ (u' : UH) (σ' : MS) (dc ds : Nat), f_L_law_23 N b g (n + 1) u (some sc) (some (ad 0)) (some A.1) (some ou) (iI k) = f_L_law_23 N b g n u' (some sc) (some (ad 0)) (some A.1) (some ou) (iI ((k + 6 : Nat) : Int)) ∧ lSh b g A ad sa (qA g (ad 4) b u0 ou) u' σ' ∧ u'.1 = u.1 + dc ∧ u'.2.1 = u.2.1 + ds ∧ lStep N σ (sx k &&& 63) (sx (k + 1)) (sx (k + 2)) (sx (k + 3)) (sx (k + 4)) (sx (k + 5)) σ' dc ds := by
  by_cases hz : sx (k + 4) = 0
  · have hz0 : True := trivial
    obtain ⟨r, U', σ', dc, e1, e2, eb, e3⟩ := k_worth (N := N) qA_ok h (by omega) (sx (k + 1)) (sx (k + 2)) (sx (k + 3)) 0
    obtain ⟨p1, p2, p3, p4⟩ := lSh.call hA qA_ok hp h e3
    obtain ⟨lab', h', -⟩ := id e3
    have p1 : U' = pUp A U' σ := p1
    have md := s_worth (N := N) (g := g) (u := U') (σ := σ) (x1 := (sx (k + 1))) (x2 := (sx (k + 2))) (x3 := (sx (k + 3))) (x4 := 0) hA
    rw [← p1] at md
    have md : f_X3_worth N b g U' A.1 (sx (k + 1)) (sx (k + 2)) (sx (k + 3)) 0 = some (r, pUp A U' σ') := by
      rw [md]
      exact congrArg (Option.map (pL A U')) e2
    have is2 : uIs U' A.1 2 = true := by
      rw [p1]
      exact p_is
    have l1 := lw_ld hst hL h (j := k + 1) (by omega)
    have m1 := lw_ld hst hL h' (j := k + 1) (by omega)
    have l2 := lw_ld hst hL h (j := k + 2) (by omega)
    have m2 := lw_ld hst hL h' (j := k + 2) (by omega)
    have l3 := lw_ld hst hL h (j := k + 3) (by omega)
    have m3 := lw_ld hst hL h' (j := k + 3) (by omega)
    have l4 := lw_ld hst hL h (j := k + 4) (by omega)
    have m4 := lw_ld hst hL h' (j := k + 4) (by omega)
    have l5 := lw_ld hst hL h (j := k + 5) (by omega)
    have m5 := lw_ld hst hL h' (j := k + 5) (by omega)
    have l0 := lw_ld hst hL h (j := k) (by omega)
    refine ⟨pUp A U' σ', σ', dc, 0, ?_, p2, p3, p4, ?_⟩
    · have hlt : True := trivial
      rw [f_L_law_23, p_bs, lw_len hst h, p_bs, show iI (L : Int) - 6 = iI ((L : Int) - 6) from by rw [show (6 : Int32) = iI 6 from rfl, i_sub], n_lt (by omega) (by omega) (by omega) (by omega) (by omega), l0, p_bs, hop, if_neg (by decide), if_neg (by decide), if_neg (by decide), if_neg (by decide), if_neg (by decide), if_neg (by decide), if_neg (by decide), if_neg (by decide), if_neg (by decide), if_neg (by decide), if_neg (by decide), if_neg (by decide), if_neg (by decide), if_neg (by decide), if_neg (by decide), if_neg (by decide), if_neg (by decide), if_neg (by decide), if_neg (by decide), if_neg (by decide), if_neg (by decide), if_neg (by decide), if_neg (by decide), if_neg (by decide), if_neg (by decide), if_pos rfl]
      rw [lw_a1, l1, p_bs, lw_a2, l2, p_bs, lw_a3, l3, p_bs, lw_a4, l4, p_bs, if_pos hz]
      unfold f_L_law_1214 f_L_law_1217 f_L_law_1250 f_L_law_1593
      rw [p_bs, if_pos (k_is h), e1, q_uc, p_bs, lw_a1, m1, p_bs, lw_a2, m2, p_bs, lw_a3, m3, p_bs, lw_a4, m4, p_bs, if_pos hz, p_bs, if_pos is2, md, q_uc, if_pos lg_self, p_let, lw_a6]
    · rw [hop]
      exact Or.inr (Or.inr (Or.inr (Or.inr (Or.inr (Or.inr (Or.inr (Or.inr (Or.inr (Or.inr (Or.inr (Or.inr (Or.inr (Or.inr (Or.inr (Or.inr (Or.inr (Or.inr (Or.inr (Or.inr (Or.inr (Or.inr (Or.inr (Or.inr (Or.inr (Or.inl ⟨rfl, ⟨r, (by rw [if_pos hz]; exact e2)⟩, ⟨eb, rfl⟩⟩)))))))))))))))))))))))))
  · have hz0 : True := trivial
    obtain ⟨r, U', σ', dc, e1, e2, eb, e3⟩ := k_worth (N := N) qA_ok h (by omega) (sx (k + 1)) (sx (k + 2)) (sx (k + 3)) 1
    obtain ⟨p1, p2, p3, p4⟩ := lSh.call hA qA_ok hp h e3
    obtain ⟨lab', h', -⟩ := id e3
    have p1 : U' = pUp A U' σ := p1
    have md := s_worth (N := N) (g := g) (u := U') (σ := σ) (x1 := (sx (k + 1))) (x2 := (sx (k + 2))) (x3 := (sx (k + 3))) (x4 := 1) hA
    rw [← p1] at md
    have md : f_X3_worth N b g U' A.1 (sx (k + 1)) (sx (k + 2)) (sx (k + 3)) 1 = some (r, pUp A U' σ') := by
      rw [md]
      exact congrArg (Option.map (pL A U')) e2
    have is2 : uIs U' A.1 2 = true := by
      rw [p1]
      exact p_is
    have l1 := lw_ld hst hL h (j := k + 1) (by omega)
    have m1 := lw_ld hst hL h' (j := k + 1) (by omega)
    have l2 := lw_ld hst hL h (j := k + 2) (by omega)
    have m2 := lw_ld hst hL h' (j := k + 2) (by omega)
    have l3 := lw_ld hst hL h (j := k + 3) (by omega)
    have m3 := lw_ld hst hL h' (j := k + 3) (by omega)
    have l4 := lw_ld hst hL h (j := k + 4) (by omega)
    have m4 := lw_ld hst hL h' (j := k + 4) (by omega)
    have l5 := lw_ld hst hL h (j := k + 5) (by omega)
    have m5 := lw_ld hst hL h' (j := k + 5) (by omega)
    have l0 := lw_ld hst hL h (j := k) (by omega)
    refine ⟨pUp A U' σ', σ', dc, 0, ?_, p2, p3, p4, ?_⟩
    · have hlt : True := trivial
      rw [f_L_law_23, p_bs, lw_len hst h, p_bs, show iI (L : Int) - 6 = iI ((L : Int) - 6) from by rw [show (6 : Int32) = iI 6 from rfl, i_sub], n_lt (by omega) (by omega) (by omega) (by omega) (by omega), l0, p_bs, hop, if_neg (by decide), if_neg (by decide), if_neg (by decide), if_neg (by decide), if_neg (by decide), if_neg (by decide), if_neg (by decide), if_neg (by decide), if_neg (by decide), if_neg (by decide), if_neg (by decide), if_neg (by decide), if_neg (by decide), if_neg (by decide), if_neg (by decide), if_neg (by decide), if_neg (by decide), if_neg (by decide), if_neg (by decide), if_neg (by decide), if_neg (by decide), if_neg (by decide), if_neg (by decide), if_neg (by decide), if_neg (by decide), if_pos rfl]
      rw [lw_a1, l1, p_bs, lw_a2, l2, p_bs, lw_a3, l3, p_bs, lw_a4, l4, p_bs, if_neg hz]
      unfold f_L_law_1214 f_L_law_1217 f_L_law_1250 f_L_law_1593
      rw [p_bs, if_pos (k_is h), e1, q_uc, p_bs, lw_a1, m1, p_bs, lw_a2, m2, p_bs, lw_a3, m3, p_bs, lw_a4, m4, p_bs, if_neg hz, p_bs, if_pos is2, md, q_uc, if_pos lg_self, p_let, lw_a6]
    · rw [hop]
      exact Or.inr (Or.inr (Or.inr (Or.inr (Or.inr (Or.inr (Or.inr (Or.inr (Or.inr (Or.inr (Or.inr (Or.inr (Or.inr (Or.inr (Or.inr (Or.inr (Or.inr (Or.inr (Or.inr (Or.inr (Or.inr (Or.inr (Or.inr (Or.inr (Or.inr (Or.inl ⟨rfl, ⟨r, (by rw [if_neg hz]; exact e2)⟩, ⟨eb, rfl⟩⟩)))))))))))))))))))))))))
theorem lw_spared (hA : pGood b A) (hst : uStart b g u0 sc L sx) (hL : L ≤ 384) (hN : 200000000000000000 ≤ N) (hk : k + 6 ≤ L) (hop : sx k &&& 63 = 26) (hp : pSh A u σ) (h : xSt b g A ad sa (qA g (ad 4) b u0 ou) u lab σ) : ∃ (u' : UH) (σ' : MS) (dc ds : Nat), f_L_law_23 N b g (n + 1) u (some sc) (some (ad 0)) (some A.1) (some ou) (iI k) = f_L_law_23 N b g n u' (some sc) (some (ad 0)) (some A.1) (some ou) (iI ((k + 6 : Nat) : Int)) ∧ lSh b g A ad sa (qA g (ad 4) b u0 ou) u' σ' ∧ u'.1 = u.1 + dc ∧ u'.2.1 = u.2.1 + ds ∧ lStep N σ (sx k &&& 63) (sx (k + 1)) (sx (k + 2)) (sx (k + 3)) (sx (k + 4)) (sx (k + 5)) σ' dc ds := by
  obtain ⟨r, U', σ', dc, e1, e2, eb, e3⟩ := k_spared (N := N) qA_ok h (by omega) (sx (k + 1)) (sx (k + 2)) (sx (k + 3))
  obtain ⟨p1, p2, p3, p4⟩ := lSh.call hA qA_ok hp h e3
  obtain ⟨lab', h', -⟩ := id e3
  have p1 : U' = pUp A U' σ := p1
  have md := s_spared (N := N) (g := g) (u := U') (σ := σ) (x1 := (sx (k + 1))) (x2 := (sx (k + 2))) (x3 := (sx (k + 3))) hA
  rw [← p1] at md
  have md : f_X3_spared N b g U' A.1 (sx (k + 1)) (sx (k + 2)) (sx (k + 3)) = some (r, pUp A U' σ') := by
    rw [md]
    exact congrArg (Option.map (pL A U')) e2
  have is2 : uIs U' A.1 2 = true := by
    rw [p1]
    exact p_is
  have l1 := lw_ld hst hL h (j := k + 1) (by omega)
  have m1 := lw_ld hst hL h' (j := k + 1) (by omega)
  have l2 := lw_ld hst hL h (j := k + 2) (by omega)
  have m2 := lw_ld hst hL h' (j := k + 2) (by omega)
  have l3 := lw_ld hst hL h (j := k + 3) (by omega)
  have m3 := lw_ld hst hL h' (j := k + 3) (by omega)
  have l4 := lw_ld hst hL h (j := k + 4) (by omega)
  have m4 := lw_ld hst hL h' (j := k + 4) (by omega)
  have l5 := lw_ld hst hL h (j := k + 5) (by omega)
  have m5 := lw_ld hst hL h' (j := k + 5) (by omega)
  have l0 := lw_ld hst hL h (j := k) (by omega)
  refine ⟨pUp A U' σ', σ', dc, 0, ?_, p2, p3, p4, ?_⟩
  · have hlt : True := trivial
    rw [f_L_law_23, p_bs, lw_len hst h, p_bs, show iI (L : Int) - 6 = iI ((L : Int) - 6) from by rw [show (6 : Int32) = iI 6 from rfl, i_sub], n_lt (by omega) (by omega) (by omega) (by omega) (by omega), l0, p_bs, hop, if_neg (by decide), if_neg (by decide), if_neg (by decide), if_neg (by decide), if_neg (by decide), if_neg (by decide), if_neg (by decide), if_neg (by decide), if_neg (by decide), if_neg (by decide), if_neg (by decide), if_neg (by decide), if_neg (by decide), if_neg (by decide), if_neg (by decide), if_neg (by decide), if_neg (by decide), if_neg (by decide), if_neg (by decide), if_neg (by decide), if_neg (by decide), if_neg (by decide), if_neg (by decide), if_neg (by decide), if_neg (by decide), if_neg (by decide), if_pos rfl]
    rw [lw_a1, l1, p_bs, lw_a2, l2, p_bs, lw_a3, l3, p_bs, p_bs, if_pos (k_is h), e1, q_uc]
    unfold f_L_law_1281 f_L_law_1593
    rw [p_bs, lw_a1, m1, p_bs, lw_a2, m2, p_bs, lw_a3, m3, p_bs, p_bs, if_pos is2, md, q_uc, if_pos rfl, p_let, lw_a6]
  · rw [hop]
    exact Or.inr (Or.inr (Or.inr (Or.inr (Or.inr (Or.inr (Or.inr (Or.inr (Or.inr (Or.inr (Or.inr (Or.inr (Or.inr (Or.inr (Or.inr (Or.inr (Or.inr (Or.inr (Or.inr (Or.inr (Or.inr (Or.inr (Or.inr (Or.inr (Or.inr (Or.inr (Or.inl ⟨rfl, ⟨r, e2⟩, ⟨eb, rfl⟩⟩))))))))))))))))))))))))))
theorem lw_failing (hA : pGood b A) (hst : uStart b g u0 sc L sx) (hL : L ≤ 384) (hN : 200000000000000000 ≤ N) (hk : k + 6 ≤ L) (hop : sx k &&& 63 = 27) (hp : pSh A u σ) (h : xSt b g A ad sa (qA g (ad 4) b u0 ou) u lab σ) : ∃ (u' : UH) (σ' : MS) (dc ds : Nat), f_L_law_23 N b g (n + 1) u (some sc) (some (ad 0)) (some A.1) (some ou) (iI k) = f_L_law_23 N b g n u' (some sc) (some (ad 0)) (some A.1) (some ou) (iI ((k + 6 : Nat) : Int)) ∧ lSh b g A ad sa (qA g (ad 4) b u0 ou) u' σ' ∧ u'.1 = u.1 + dc ∧ u'.2.1 = u.2.1 + ds ∧ lStep N σ (sx k &&& 63) (sx (k + 1)) (sx (k + 2)) (sx (k + 3)) (sx (k + 4)) (sx (k + 5)) σ' dc ds := by
  obtain ⟨r, U', σ', dc, ds, e1, e2, e3, eb⟩ := k_failing (N := N) h (by omega) (sx (k + 1)) (sx (k + 2)) (sx (k + 3)) (sx (k + 4))
  obtain ⟨p1, p2, p3, p4⟩ := lSh.call hA qA_ok hp h e3
  obtain ⟨lab', h', -⟩ := id e3
  have p1 : U' = pUp A U' σ := p1
  have md := s_failing (N := N) (g := g) (u := U') (σ := σ) (x1 := (sx (k + 1))) (x2 := (sx (k + 2))) (x3 := (sx (k + 3))) (x4 := (sx (k + 4))) hA
  rw [← p1] at md
  have md : f_X3_failing N b g U' A.1 (sx (k + 1)) (sx (k + 2)) (sx (k + 3)) (sx (k + 4)) = some (r, pUp A U' σ') := by
    rw [md]
    exact congrArg (Option.map (pL A U')) e2
  have is2 : uIs U' A.1 2 = true := by
    rw [p1]
    exact p_is
  have l1 := lw_ld hst hL h (j := k + 1) (by omega)
  have m1 := lw_ld hst hL h' (j := k + 1) (by omega)
  have l2 := lw_ld hst hL h (j := k + 2) (by omega)
  have m2 := lw_ld hst hL h' (j := k + 2) (by omega)
  have l3 := lw_ld hst hL h (j := k + 3) (by omega)
  have m3 := lw_ld hst hL h' (j := k + 3) (by omega)
  have l4 := lw_ld hst hL h (j := k + 4) (by omega)
  have m4 := lw_ld hst hL h' (j := k + 4) (by omega)
  have l5 := lw_ld hst hL h (j := k + 5) (by omega)
  have m5 := lw_ld hst hL h' (j := k + 5) (by omega)
  have l0 := lw_ld hst hL h (j := k) (by omega)
  refine ⟨pUp A U' σ', σ', dc, ds, ?_, p2, p3, p4, ?_⟩
  · have hlt : True := trivial
    rw [f_L_law_23, p_bs, lw_len hst h, p_bs, show iI (L : Int) - 6 = iI ((L : Int) - 6) from by rw [show (6 : Int32) = iI 6 from rfl, i_sub], n_lt (by omega) (by omega) (by omega) (by omega) (by omega), l0, p_bs, hop, if_neg (by decide), if_neg (by decide), if_neg (by decide), if_neg (by decide), if_neg (by decide), if_neg (by decide), if_neg (by decide), if_neg (by decide), if_neg (by decide), if_neg (by decide), if_neg (by decide), if_neg (by decide), if_neg (by decide), if_neg (by decide), if_neg (by decide), if_neg (by decide), if_neg (by decide), if_neg (by decide), if_neg (by decide), if_neg (by decide), if_neg (by decide), if_neg (by decide), if_neg (by decide), if_neg (by decide), if_neg (by decide), if_neg (by decide), if_neg (by decide), if_pos rfl]
    rw [lw_a1, l1, p_bs, lw_a2, l2, p_bs, lw_a3, l3, p_bs, lw_a4, l4, p_bs, p_bs, if_pos (k_is h), e1, q_uc]
    unfold f_L_law_1336 f_L_law_1593
    rw [p_bs, lw_a1, m1, p_bs, lw_a2, m2, p_bs, lw_a3, m3, p_bs, lw_a4, m4, p_bs, p_bs, if_pos is2, md, q_uc, if_pos rfl, p_let, lw_a6]
  · rw [hop]
    exact Or.inr (Or.inr (Or.inr (Or.inr (Or.inr (Or.inr (Or.inr (Or.inr (Or.inr (Or.inr (Or.inr (Or.inr (Or.inr (Or.inr (Or.inr (Or.inr (Or.inr (Or.inr (Or.inr (Or.inr (Or.inr (Or.inr (Or.inr (Or.inr (Or.inr (Or.inr (Or.inr (Or.inl ⟨rfl, ⟨r, e2⟩, eb⟩)))))))))))))))))))))))))))
theorem lw_first (hA : pGood b A) (hst : uStart b g u0 sc L sx) (hL : L ≤ 384) (hN : 200000000000000000 ≤ N) (hk : k + 6 ≤ L) (hop : sx k &&& 63 = 28) (hp : pSh A u σ) (h : xSt b g A ad sa (qA g (ad 4) b u0 ou) u lab σ) : ∃ (u' : UH) (σ' : MS) (dc ds : Nat), f_L_law_23 N b g (n + 1) u (some sc) (some (ad 0)) (some A.1) (some ou) (iI k) = f_L_law_23 N b g n u' (some sc) (some (ad 0)) (some A.1) (some ou) (iI ((k + 6 : Nat) : Int)) ∧ lSh b g A ad sa (qA g (ad 4) b u0 ou) u' σ' ∧ u'.1 = u.1 + dc ∧ u'.2.1 = u.2.1 + ds ∧ lStep N σ (sx k &&& 63) (sx (k + 1)) (sx (k + 2)) (sx (k + 3)) (sx (k + 4)) (sx (k + 5)) σ' dc ds := by
  obtain ⟨r, U', σ', e1, e2, e3⟩ := k_first (N := N) qA_ok h  (sx (k + 1))
  obtain ⟨p1, p2, p3, p4⟩ := lSh.call hA qA_ok hp h e3
  obtain ⟨lab', h', -⟩ := id e3
  have p1 : U' = pUp A U' σ := p1
  have md := s_first (N := N) (g := g) (u := U') (σ := σ) (x1 := (sx (k + 1))) hA
  rw [← p1] at md
  have md : f_X3_first N b g U' A.1 (sx (k + 1)) = some (r, pUp A U' σ') := by
    rw [md]
    exact congrArg (Option.map (pL A U')) e2
  have is2 : uIs U' A.1 2 = true := by
    rw [p1]
    exact p_is
  have l1 := lw_ld hst hL h (j := k + 1) (by omega)
  have m1 := lw_ld hst hL h' (j := k + 1) (by omega)
  have l2 := lw_ld hst hL h (j := k + 2) (by omega)
  have m2 := lw_ld hst hL h' (j := k + 2) (by omega)
  have l3 := lw_ld hst hL h (j := k + 3) (by omega)
  have m3 := lw_ld hst hL h' (j := k + 3) (by omega)
  have l4 := lw_ld hst hL h (j := k + 4) (by omega)
  have m4 := lw_ld hst hL h' (j := k + 4) (by omega)
  have l5 := lw_ld hst hL h (j := k + 5) (by omega)
  have m5 := lw_ld hst hL h' (j := k + 5) (by omega)
  have l0 := lw_ld hst hL h (j := k) (by omega)
  refine ⟨pUp A U' σ', σ', 0, 0, ?_, p2, p3, p4, ?_⟩
  · have hlt : True := trivial
    rw [f_L_law_23, p_bs, lw_len hst h, p_bs, show iI (L : Int) - 6 = iI ((L : Int) - 6) from by rw [show (6 : Int32) = iI 6 from rfl, i_sub], n_lt (by omega) (by omega) (by omega) (by omega) (by omega), l0, p_bs, hop, if_neg (by decide), if_neg (by decide), if_neg (by decide), if_neg (by decide), if_neg (by decide), if_neg (by decide), if_neg (by decide), if_neg (by decide), if_neg (by decide), if_neg (by decide), if_neg (by decide), if_neg (by decide), if_neg (by decide), if_neg (by decide), if_neg (by decide), if_neg (by decide), if_neg (by decide), if_neg (by decide), if_neg (by decide), if_neg (by decide), if_neg (by decide), if_neg (by decide), if_neg (by decide), if_neg (by decide), if_neg (by decide), if_neg (by decide), if_neg (by decide), if_neg (by decide), if_pos rfl]
    rw [lw_a1, l1, p_bs, p_bs, if_pos (k_is h), e1, q_uc, m1, p_bs, p_bs, if_pos is2, md, q_uc, if_pos rfl]
    unfold f_L_law_1593
    rw [p_let, lw_a6]
  · rw [hop]
    exact Or.inr (Or.inr (Or.inr (Or.inr (Or.inr (Or.inr (Or.inr (Or.inr (Or.inr (Or.inr (Or.inr (Or.inr (Or.inr (Or.inr (Or.inr (Or.inr (Or.inr (Or.inr (Or.inr (Or.inr (Or.inr (Or.inr (Or.inr (Or.inr (Or.inr (Or.inr (Or.inr (Or.inr (Or.inl ⟨rfl, ⟨r, e2⟩, ⟨rfl, rfl⟩⟩))))))))))))))))))))))))))))
theorem lw_costs (hA : pGood b A) (hst : uStart b g u0 sc L sx) (hL : L ≤ 384) (hN : 200000000000000000 ≤ N) (hk : k + 6 ≤ L) (hop : sx k &&& 63 = 29) (hp : pSh A u σ) (h : xSt b g A ad sa (qA g (ad 4) b u0 ou) u lab σ) : ∃ (u' : UH) (σ' : MS) (dc ds : Nat), f_L_law_23 N b g (n + 1) u (some sc) (some (ad 0)) (some A.1) (some ou) (iI k) = f_L_law_23 N b g n u' (some sc) (some (ad 0)) (some A.1) (some ou) (iI ((k + 6 : Nat) : Int)) ∧ lSh b g A ad sa (qA g (ad 4) b u0 ou) u' σ' ∧ u'.1 = u.1 + dc ∧ u'.2.1 = u.2.1 + ds ∧ lStep N σ (sx k &&& 63) (sx (k + 1)) (sx (k + 2)) (sx (k + 3)) (sx (k + 4)) (sx (k + 5)) σ' dc ds := by
  obtain ⟨r, U', σ', dc, ds, e1, e2, e3, eb⟩ := k_costs (N := N) h (by omega) (sx (k + 1)) (sx (k + 2)) (sx (k + 3))
  obtain ⟨p1, p2, p3, p4⟩ := lSh.call hA qA_ok hp h e3
  obtain ⟨lab', h', -⟩ := id e3
  have p1 : U' = pUp A U' σ := p1
  have md := s_costs (N := N) (g := g) (u := U') (σ := σ) (x1 := (sx (k + 1))) (x2 := (sx (k + 2))) (x3 := (sx (k + 3))) hA
  rw [← p1] at md
  have md : f_X3_costs N b g U' A.1 (sx (k + 1)) (sx (k + 2)) (sx (k + 3)) = some (r, pUp A U' σ') := by
    rw [md]
    exact congrArg (Option.map (pL A U')) e2
  have is2 : uIs U' A.1 2 = true := by
    rw [p1]
    exact p_is
  have l1 := lw_ld hst hL h (j := k + 1) (by omega)
  have m1 := lw_ld hst hL h' (j := k + 1) (by omega)
  have l2 := lw_ld hst hL h (j := k + 2) (by omega)
  have m2 := lw_ld hst hL h' (j := k + 2) (by omega)
  have l3 := lw_ld hst hL h (j := k + 3) (by omega)
  have m3 := lw_ld hst hL h' (j := k + 3) (by omega)
  have l4 := lw_ld hst hL h (j := k + 4) (by omega)
  have m4 := lw_ld hst hL h' (j := k + 4) (by omega)
  have l5 := lw_ld hst hL h (j := k + 5) (by omega)
  have m5 := lw_ld hst hL h' (j := k + 5) (by omega)
  have l0 := lw_ld hst hL h (j := k) (by omega)
  refine ⟨pUp A U' σ', σ', dc, ds, ?_, p2, p3, p4, ?_⟩
  · have hlt : True := trivial
    rw [f_L_law_23, p_bs, lw_len hst h, p_bs, show iI (L : Int) - 6 = iI ((L : Int) - 6) from by rw [show (6 : Int32) = iI 6 from rfl, i_sub], n_lt (by omega) (by omega) (by omega) (by omega) (by omega), l0, p_bs, hop, if_neg (by decide), if_neg (by decide), if_neg (by decide), if_neg (by decide), if_neg (by decide), if_neg (by decide), if_neg (by decide), if_neg (by decide), if_neg (by decide), if_neg (by decide), if_neg (by decide), if_neg (by decide), if_neg (by decide), if_neg (by decide), if_neg (by decide), if_neg (by decide), if_neg (by decide), if_neg (by decide), if_neg (by decide), if_neg (by decide), if_neg (by decide), if_neg (by decide), if_neg (by decide), if_neg (by decide), if_neg (by decide), if_neg (by decide), if_neg (by decide), if_neg (by decide), if_neg (by decide), if_pos rfl]
    rw [lw_a1, l1, p_bs, lw_a2, l2, p_bs, lw_a3, l3, p_bs, p_bs, if_pos (k_is h), e1, q_uc]
    unfold f_L_law_1416 f_L_law_1593
    rw [p_bs, lw_a1, m1, p_bs, lw_a2, m2, p_bs, lw_a3, m3, p_bs, p_bs, if_pos is2, md, q_uc, if_pos rfl, p_let, lw_a6]
  · rw [hop]
    exact Or.inr (Or.inr (Or.inr (Or.inr (Or.inr (Or.inr (Or.inr (Or.inr (Or.inr (Or.inr (Or.inr (Or.inr (Or.inr (Or.inr (Or.inr (Or.inr (Or.inr (Or.inr (Or.inr (Or.inr (Or.inr (Or.inr (Or.inr (Or.inr (Or.inr (Or.inr (Or.inr (Or.inr (Or.inr (Or.inl ⟨rfl, ⟨r, e2⟩, eb⟩)))))))))))))))))))))))))))))
theorem lw_dig (hA : pGood b A) (hst : uStart b g u0 sc L sx) (hL : L ≤ 384) (hN : 200000000000000000 ≤ N) (hk : k + 6 ≤ L) (hop : sx k &&& 63 = 30) (hp : pSh A u σ) (h : xSt b g A ad sa (qA g (ad 4) b u0 ou) u lab σ) : ∃ (u' : UH) (σ' : MS) (dc ds : Nat), f_L_law_23 N b g (n + 1) u (some sc) (some (ad 0)) (some A.1) (some ou) (iI k) = f_L_law_23 N b g n u' (some sc) (some (ad 0)) (some A.1) (some ou) (iI ((k + 6 : Nat) : Int)) ∧ lSh b g A ad sa (qA g (ad 4) b u0 ou) u' σ' ∧ u'.1 = u.1 + dc ∧ u'.2.1 = u.2.1 + ds ∧ lStep N σ (sx k &&& 63) (sx (k + 1)) (sx (k + 2)) (sx (k + 3)) (sx (k + 4)) (sx (k + 5)) σ' dc ds := by
  obtain ⟨r, U', σ', e1, e2, e3⟩ := k_dig (N := N) h  (sx (k + 1)) (sx (k + 2))
  obtain ⟨p1, p2, p3, p4⟩ := lSh.call hA qA_ok hp h e3
  obtain ⟨lab', h', -⟩ := id e3
  have p1 : U' = pUp A U' σ := p1
  have md := s_dig (N := N) (g := g) (u := U') (σ := σ) (x1 := (sx (k + 1))) (x2 := (sx (k + 2))) hA
  rw [← p1] at md
  have md : f_X3_dig N b g U' A.1 (sx (k + 1)) (sx (k + 2)) = some (r, pUp A U' σ') := by
    rw [md]
    exact congrArg (Option.map (pL A U')) e2
  have is2 : uIs U' A.1 2 = true := by
    rw [p1]
    exact p_is
  have l1 := lw_ld hst hL h (j := k + 1) (by omega)
  have m1 := lw_ld hst hL h' (j := k + 1) (by omega)
  have l2 := lw_ld hst hL h (j := k + 2) (by omega)
  have m2 := lw_ld hst hL h' (j := k + 2) (by omega)
  have l3 := lw_ld hst hL h (j := k + 3) (by omega)
  have m3 := lw_ld hst hL h' (j := k + 3) (by omega)
  have l4 := lw_ld hst hL h (j := k + 4) (by omega)
  have m4 := lw_ld hst hL h' (j := k + 4) (by omega)
  have l5 := lw_ld hst hL h (j := k + 5) (by omega)
  have m5 := lw_ld hst hL h' (j := k + 5) (by omega)
  have l0 := lw_ld hst hL h (j := k) (by omega)
  refine ⟨pUp A U' σ', σ', 0, 0, ?_, p2, p3, p4, ?_⟩
  · have hlt : True := trivial
    rw [f_L_law_23, p_bs, lw_len hst h, p_bs, show iI (L : Int) - 6 = iI ((L : Int) - 6) from by rw [show (6 : Int32) = iI 6 from rfl, i_sub], n_lt (by omega) (by omega) (by omega) (by omega) (by omega), l0, p_bs, hop, if_neg (by decide), if_neg (by decide), if_neg (by decide), if_neg (by decide), if_neg (by decide), if_neg (by decide), if_neg (by decide), if_neg (by decide), if_neg (by decide), if_neg (by decide), if_neg (by decide), if_neg (by decide), if_neg (by decide), if_neg (by decide), if_neg (by decide), if_neg (by decide), if_neg (by decide), if_neg (by decide), if_neg (by decide), if_neg (by decide), if_neg (by decide), if_neg (by decide), if_neg (by decide), if_neg (by decide), if_neg (by decide), if_neg (by decide), if_neg (by decide), if_neg (by decide), if_neg (by decide), if_neg (by decide), if_pos rfl]
    rw [lw_a1, l1, p_bs, lw_a2, l2, p_bs, p_bs, if_pos (k_is h), e1, q_uc, m1, p_bs, m2, p_bs, p_bs, if_pos is2, md, q_uc, if_pos rfl]
    unfold f_L_law_1593
    rw [p_let, lw_a6]
  · rw [hop]
    exact Or.inr (Or.inr (Or.inr (Or.inr (Or.inr (Or.inr (Or.inr (Or.inr (Or.inr (Or.inr (Or.inr (Or.inr (Or.inr (Or.inr (Or.inr (Or.inr (Or.inr (Or.inr (Or.inr (Or.inr (Or.inr (Or.inr (Or.inr (Or.inr (Or.inr (Or.inr (Or.inr (Or.inr (Or.inr (Or.inr (Or.inl ⟨rfl, ⟨r, e2⟩, ⟨rfl, rfl⟩⟩))))))))))))))))))))))))))))))
theorem lw_out (hA : pGood b A) (hst : uStart b g u0 sc L sx) (hL : L ≤ 384) (hN : 200000000000000000 ≤ N) (hk : k + 6 ≤ L) (hop : sx k &&& 63 = 31) (hp : pSh A u σ) (h : xSt b g A ad sa (qA g (ad 4) b u0 ou) u lab σ) : ∃ (u' : UH) (σ' : MS) (dc ds : Nat), f_L_law_23 N b g (n + 1) u (some sc) (some (ad 0)) (some A.1) (some ou) (iI k) = f_L_law_23 N b g n u' (some sc) (some (ad 0)) (some A.1) (some ou) (iI ((k + 6 : Nat) : Int)) ∧ lSh b g A ad sa (qA g (ad 4) b u0 ou) u' σ' ∧ u'.1 = u.1 + dc ∧ u'.2.1 = u.2.1 + ds ∧ lStep N σ (sx k &&& 63) (sx (k + 1)) (sx (k + 2)) (sx (k + 3)) (sx (k + 4)) (sx (k + 5)) σ' dc ds := by
  obtain ⟨r, U', σ', dc, ds, e1, e2, e3, eb⟩ := k_out (N := N) h (by omega) 
  obtain ⟨p1, p2, p3, p4⟩ := lSh.call hA qA_ok hp h e3
  obtain ⟨lab', h', -⟩ := id e3
  have p1 : U' = pUp A U' σ := p1
  have md := s_out (N := N) (g := g) (u := U') (σ := σ) hA
  rw [← p1] at md
  have md : f_X3_out N b g U' A.1  = some (r, pUp A U' σ') := by
    rw [md]
    exact congrArg (Option.map (pL A U')) e2
  have is2 : uIs U' A.1 2 = true := by
    rw [p1]
    exact p_is
  have l1 := lw_ld hst hL h (j := k + 1) (by omega)
  have m1 := lw_ld hst hL h' (j := k + 1) (by omega)
  have l2 := lw_ld hst hL h (j := k + 2) (by omega)
  have m2 := lw_ld hst hL h' (j := k + 2) (by omega)
  have l3 := lw_ld hst hL h (j := k + 3) (by omega)
  have m3 := lw_ld hst hL h' (j := k + 3) (by omega)
  have l4 := lw_ld hst hL h (j := k + 4) (by omega)
  have m4 := lw_ld hst hL h' (j := k + 4) (by omega)
  have l5 := lw_ld hst hL h (j := k + 5) (by omega)
  have m5 := lw_ld hst hL h' (j := k + 5) (by omega)
  have l0 := lw_ld hst hL h (j := k) (by omega)
  refine ⟨pUp A U' σ', σ', dc, ds, ?_, p2, p3, p4, ?_⟩
  · have hlt : True := trivial
    rw [f_L_law_23, p_bs, lw_len hst h, p_bs, show iI (L : Int) - 6 = iI ((L : Int) - 6) from by rw [show (6 : Int32) = iI 6 from rfl, i_sub], n_lt (by omega) (by omega) (by omega) (by omega) (by omega), l0, p_bs, hop, if_neg (by decide), if_neg (by decide), if_neg (by decide), if_neg (by decide), if_neg (by decide), if_neg (by decide), if_neg (by decide), if_neg (by decide), if_neg (by decide), if_neg (by decide), if_neg (by decide), if_neg (by decide), if_neg (by decide), if_neg (by decide), if_neg (by decide), if_neg (by decide), if_neg (by decide), if_neg (by decide), if_neg (by decide), if_neg (by decide), if_neg (by decide), if_neg (by decide), if_neg (by decide), if_neg (by decide), if_neg (by decide), if_neg (by decide), if_neg (by decide), if_neg (by decide), if_neg (by decide), if_neg (by decide), if_neg (by decide), if_pos rfl]
    rw [p_bs, if_pos (k_is h), e1, q_uc]
    unfold f_L_law_1484 f_L_law_1593
    rw [p_bs, if_pos is2, md, q_uc, if_pos rfl, p_let, lw_a6]
  · rw [hop]
    exact Or.inr (Or.inr (Or.inr (Or.inr (Or.inr (Or.inr (Or.inr (Or.inr (Or.inr (Or.inr (Or.inr (Or.inr (Or.inr (Or.inr (Or.inr (Or.inr (Or.inr (Or.inr (Or.inr (Or.inr (Or.inr (Or.inr (Or.inr (Or.inr (Or.inr (Or.inr (Or.inr (Or.inr (Or.inr (Or.inr (Or.inr (Or.inl ⟨rfl, ⟨r, e2⟩, eb⟩)))))))))))))))))))))))))))))))
theorem lw_tryAt (hA : pGood b A) (hst : uStart b g u0 sc L sx) (hL : L ≤ 384) (hN : 200000000000000000 ≤ N) (hk : k + 6 ≤ L) (hop : sx k &&& 63 = 32) (hp : pSh A u σ) (h : xSt b g A ad sa (qA g (ad 4) b u0 ou) u lab σ) : ∃ (u' : UH) (σ' : MS) (dc ds : Nat), f_L_law_23 N b g (n + 1) u (some sc) (some (ad 0)) (some A.1) (some ou) (iI k) = f_L_law_23 N b g n u' (some sc) (some (ad 0)) (some A.1) (some ou) (iI ((k + 6 : Nat) : Int)) ∧ lSh b g A ad sa (qA g (ad 4) b u0 ou) u' σ' ∧ u'.1 = u.1 + dc ∧ u'.2.1 = u.2.1 + ds ∧ lStep N σ (sx k &&& 63) (sx (k + 1)) (sx (k + 2)) (sx (k + 3)) (sx (k + 4)) (sx (k + 5)) σ' dc ds := by
  obtain ⟨r, U', σ', dc, ds, e1, e2, e3, eb⟩ := k_tryAt (N := N) h (by omega) (sx (k + 1))
  obtain ⟨p1, p2, p3, p4⟩ := lSh.call hA qA_ok hp h e3
  obtain ⟨lab', h', -⟩ := id e3
  have p1 : U' = pUp A U' σ := p1
  have md := s_tryAt (N := N) (g := g) (u := U') (σ := σ) (x1 := (sx (k + 1))) hA
  rw [← p1] at md
  have md : f_X3_tryAt N b g U' A.1 (sx (k + 1)) = some (r, pUp A U' σ') := by
    rw [md]
    exact congrArg (Option.map (pL A U')) e2
  have is2 : uIs U' A.1 2 = true := by
    rw [p1]
    exact p_is
  have l1 := lw_ld hst hL h (j := k + 1) (by omega)
  have m1 := lw_ld hst hL h' (j := k + 1) (by omega)
  have l2 := lw_ld hst hL h (j := k + 2) (by omega)
  have m2 := lw_ld hst hL h' (j := k + 2) (by omega)
  have l3 := lw_ld hst hL h (j := k + 3) (by omega)
  have m3 := lw_ld hst hL h' (j := k + 3) (by omega)
  have l4 := lw_ld hst hL h (j := k + 4) (by omega)
  have m4 := lw_ld hst hL h' (j := k + 4) (by omega)
  have l5 := lw_ld hst hL h (j := k + 5) (by omega)
  have m5 := lw_ld hst hL h' (j := k + 5) (by omega)
  have l0 := lw_ld hst hL h (j := k) (by omega)
  refine ⟨pUp A U' σ', σ', dc, ds, ?_, p2, p3, p4, ?_⟩
  · have hlt : True := trivial
    rw [f_L_law_23, p_bs, lw_len hst h, p_bs, show iI (L : Int) - 6 = iI ((L : Int) - 6) from by rw [show (6 : Int32) = iI 6 from rfl, i_sub], n_lt (by omega) (by omega) (by omega) (by omega) (by omega), l0, p_bs, hop, if_neg (by decide), if_neg (by decide), if_neg (by decide), if_neg (by decide), if_neg (by decide), if_neg (by decide), if_neg (by decide), if_neg (by decide), if_neg (by decide), if_neg (by decide), if_neg (by decide), if_neg (by decide), if_neg (by decide), if_neg (by decide), if_neg (by decide), if_neg (by decide), if_neg (by decide), if_neg (by decide), if_neg (by decide), if_neg (by decide), if_neg (by decide), if_neg (by decide), if_neg (by decide), if_neg (by decide), if_neg (by decide), if_neg (by decide), if_neg (by decide), if_neg (by decide), if_neg (by decide), if_neg (by decide), if_neg (by decide), if_neg (by decide), if_pos rfl]
    rw [lw_a1, l1, p_bs, p_bs, if_pos (k_is h), e1, q_uc]
    unfold f_L_law_1503 f_L_law_1593
    rw [p_bs, lw_a1, m1, p_bs, p_bs, if_pos is2, md, q_uc, if_pos rfl, p_let, lw_a6]
  · rw [hop]
    exact Or.inr (Or.inr (Or.inr (Or.inr (Or.inr (Or.inr (Or.inr (Or.inr (Or.inr (Or.inr (Or.inr (Or.inr (Or.inr (Or.inr (Or.inr (Or.inr (Or.inr (Or.inr (Or.inr (Or.inr (Or.inr (Or.inr (Or.inr (Or.inr (Or.inr (Or.inr (Or.inr (Or.inr (Or.inr (Or.inr (Or.inr (Or.inr (Or.inl ⟨rfl, ⟨r, e2⟩, eb⟩))))))))))))))))))))))))))))))))
theorem lw_make (hA : pGood b A) (hst : uStart b g u0 sc L sx) (hL : L ≤ 384) (hN : 200000000000000000 ≤ N) (hk : k + 6 ≤ L) (hop : sx k &&& 63 = 33) (hp : pSh A u σ) (h : xSt b g A ad sa (qA g (ad 4) b u0 ou) u lab σ) : ∃ (u' : UH) (σ' : MS) (dc ds : Nat), f_L_law_23 N b g (n + 1) u (some sc) (some (ad 0)) (some A.1) (some ou) (iI k) = f_L_law_23 N b g n u' (some sc) (some (ad 0)) (some A.1) (some ou) (iI ((k + 6 : Nat) : Int)) ∧ lSh b g A ad sa (qA g (ad 4) b u0 ou) u' σ' ∧ u'.1 = u.1 + dc ∧ u'.2.1 = u.2.1 + ds ∧ lStep N σ (sx k &&& 63) (sx (k + 1)) (sx (k + 2)) (sx (k + 3)) (sx (k + 4)) (sx (k + 5)) σ' dc ds := by
  obtain ⟨r, U', σ', e1, e2, e3⟩ := k_make (N := N) h (by omega) (sx (k + 1)) (sx (k + 2))
  obtain ⟨p1, p2, p3, p4⟩ := lSh.call hA qA_ok hp h e3
  obtain ⟨lab', h', -⟩ := id e3
  have p1 : U' = pUp A U' σ := p1
  have md := s_make (N := N) (g := g) (u := U') (σ := σ) (x1 := (sx (k + 1))) (x2 := (sx (k + 2))) hA
  rw [← p1] at md
  have md : f_X3_make N b g U' A.1 (sx (k + 1)) (sx (k + 2)) = some (r, pUp A U' σ') := by
    rw [md]
    exact congrArg (Option.map (pL A U')) e2
  have is2 : uIs U' A.1 2 = true := by
    rw [p1]
    exact p_is
  have l1 := lw_ld hst hL h (j := k + 1) (by omega)
  have m1 := lw_ld hst hL h' (j := k + 1) (by omega)
  have l2 := lw_ld hst hL h (j := k + 2) (by omega)
  have m2 := lw_ld hst hL h' (j := k + 2) (by omega)
  have l3 := lw_ld hst hL h (j := k + 3) (by omega)
  have m3 := lw_ld hst hL h' (j := k + 3) (by omega)
  have l4 := lw_ld hst hL h (j := k + 4) (by omega)
  have m4 := lw_ld hst hL h' (j := k + 4) (by omega)
  have l5 := lw_ld hst hL h (j := k + 5) (by omega)
  have m5 := lw_ld hst hL h' (j := k + 5) (by omega)
  have l0 := lw_ld hst hL h (j := k) (by omega)
  refine ⟨pUp A U' σ', σ', 0, 0, ?_, p2, p3, p4, ?_⟩
  · have hlt : True := trivial
    rw [f_L_law_23, p_bs, lw_len hst h, p_bs, show iI (L : Int) - 6 = iI ((L : Int) - 6) from by rw [show (6 : Int32) = iI 6 from rfl, i_sub], n_lt (by omega) (by omega) (by omega) (by omega) (by omega), l0, p_bs, hop, if_neg (by decide), if_neg (by decide), if_neg (by decide), if_neg (by decide), if_neg (by decide), if_neg (by decide), if_neg (by decide), if_neg (by decide), if_neg (by decide), if_neg (by decide), if_neg (by decide), if_neg (by decide), if_neg (by decide), if_neg (by decide), if_neg (by decide), if_neg (by decide), if_neg (by decide), if_neg (by decide), if_neg (by decide), if_neg (by decide), if_neg (by decide), if_neg (by decide), if_neg (by decide), if_neg (by decide), if_neg (by decide), if_neg (by decide), if_neg (by decide), if_neg (by decide), if_neg (by decide), if_neg (by decide), if_neg (by decide), if_neg (by decide), if_neg (by decide), if_pos rfl]
    rw [lw_a1, l1, p_bs, lw_a2, l2, p_bs, p_bs, if_pos (k_is h), e1, q_uc, m1, p_bs, m2, p_bs, p_bs, if_pos is2, md, q_uc, if_pos rfl]
    unfold f_L_law_1593
    rw [p_let, lw_a6]
  · rw [hop]
    exact Or.inr (Or.inr (Or.inr (Or.inr (Or.inr (Or.inr (Or.inr (Or.inr (Or.inr (Or.inr (Or.inr (Or.inr (Or.inr (Or.inr (Or.inr (Or.inr (Or.inr (Or.inr (Or.inr (Or.inr (Or.inr (Or.inr (Or.inr (Or.inr (Or.inr (Or.inr (Or.inr (Or.inr (Or.inr (Or.inr (Or.inr (Or.inr (Or.inr (Or.inl ⟨rfl, ⟨r, e2⟩, ⟨rfl, rfl⟩⟩)))))))))))))))))))))))))))))))))
theorem lw_count (hA : pGood b A) (hst : uStart b g u0 sc L sx) (hL : L ≤ 384) (hN : 200000000000000000 ≤ N) (hk : k + 6 ≤ L) (hop : sx k &&& 63 = 34) (hp : pSh A u σ) (h : xSt b g A ad sa (qA g (ad 4) b u0 ou) u lab σ) : ∃ (u' : UH) (σ' : MS) (dc ds : Nat), f_L_law_23 N b g (n + 1) u (some sc) (some (ad 0)) (some A.1) (some ou) (iI k) = f_L_law_23 N b g n u' (some sc) (some (ad 0)) (some A.1) (some ou) (iI ((k + 6 : Nat) : Int)) ∧ lSh b g A ad sa (qA g (ad 4) b u0 ou) u' σ' ∧ u'.1 = u.1 + dc ∧ u'.2.1 = u.2.1 + ds ∧ lStep N σ (sx k &&& 63) (sx (k + 1)) (sx (k + 2)) (sx (k + 3)) (sx (k + 4)) (sx (k + 5)) σ' dc ds := by
  obtain ⟨r, U', σ', e1, e2, e3⟩ := k_count (N := N) h (by omega) (sx (k + 1))
  obtain ⟨p1, p2, p3, p4⟩ := lSh.call hA qA_ok hp h e3
  obtain ⟨lab', h', -⟩ := id e3
  have p1 : U' = pUp A U' σ := p1
  have md := s_count (N := N) (g := g) (u := U') (σ := σ) (x1 := (sx (k + 1))) hA
  rw [← p1] at md
  have md : f_X3_count N b g U' A.1 (sx (k + 1)) = some (r, pUp A U' σ') := by
    rw [md]
    exact congrArg (Option.map (pL A U')) e2
  have is2 : uIs U' A.1 2 = true := by
    rw [p1]
    exact p_is
  have l1 := lw_ld hst hL h (j := k + 1) (by omega)
  have m1 := lw_ld hst hL h' (j := k + 1) (by omega)
  have l2 := lw_ld hst hL h (j := k + 2) (by omega)
  have m2 := lw_ld hst hL h' (j := k + 2) (by omega)
  have l3 := lw_ld hst hL h (j := k + 3) (by omega)
  have m3 := lw_ld hst hL h' (j := k + 3) (by omega)
  have l4 := lw_ld hst hL h (j := k + 4) (by omega)
  have m4 := lw_ld hst hL h' (j := k + 4) (by omega)
  have l5 := lw_ld hst hL h (j := k + 5) (by omega)
  have m5 := lw_ld hst hL h' (j := k + 5) (by omega)
  have l0 := lw_ld hst hL h (j := k) (by omega)
  refine ⟨pUp A U' σ', σ', 0, 0, ?_, p2, p3, p4, ?_⟩
  · have hlt : True := trivial
    rw [f_L_law_23, p_bs, lw_len hst h, p_bs, show iI (L : Int) - 6 = iI ((L : Int) - 6) from by rw [show (6 : Int32) = iI 6 from rfl, i_sub], n_lt (by omega) (by omega) (by omega) (by omega) (by omega), l0, p_bs, hop, if_neg (by decide), if_neg (by decide), if_neg (by decide), if_neg (by decide), if_neg (by decide), if_neg (by decide), if_neg (by decide), if_neg (by decide), if_neg (by decide), if_neg (by decide), if_neg (by decide), if_neg (by decide), if_neg (by decide), if_neg (by decide), if_neg (by decide), if_neg (by decide), if_neg (by decide), if_neg (by decide), if_neg (by decide), if_neg (by decide), if_neg (by decide), if_neg (by decide), if_neg (by decide), if_neg (by decide), if_neg (by decide), if_neg (by decide), if_neg (by decide), if_neg (by decide), if_neg (by decide), if_neg (by decide), if_neg (by decide), if_neg (by decide), if_neg (by decide), if_neg (by decide), if_pos rfl]
    rw [lw_a1, l1, p_bs, p_bs, if_pos (k_is h), e1, q_uc, m1, p_bs, p_bs, if_pos is2, md, q_uc, if_pos rfl]
    unfold f_L_law_1593
    rw [p_let, lw_a6]
  · rw [hop]
    exact Or.inr (Or.inr (Or.inr (Or.inr (Or.inr (Or.inr (Or.inr (Or.inr (Or.inr (Or.inr (Or.inr (Or.inr (Or.inr (Or.inr (Or.inr (Or.inr (Or.inr (Or.inr (Or.inr (Or.inr (Or.inr (Or.inr (Or.inr (Or.inr (Or.inr (Or.inr (Or.inr (Or.inr (Or.inr (Or.inr (Or.inr (Or.inr (Or.inr (Or.inr (Or.inl ⟨rfl, ⟨r, e2⟩, ⟨rfl, rfl⟩⟩))))))))))))))))))))))))))))))))))
theorem lw_trouble (hA : pGood b A) (hst : uStart b g u0 sc L sx) (hL : L ≤ 384) (hN : 200000000000000000 ≤ N) (hk : k + 6 ≤ L) (hop : sx k &&& 63 = 35) (hp : pSh A u σ) (h : xSt b g A ad sa (qA g (ad 4) b u0 ou) u lab σ) : ∃ (u' : UH) (σ' : MS) (dc ds : Nat), f_L_law_23 N b g (n + 1) u (some sc) (some (ad 0)) (some A.1) (some ou) (iI k) = f_L_law_23 N b g n u' (some sc) (some (ad 0)) (some A.1) (some ou) (iI ((k + 6 : Nat) : Int)) ∧ lSh b g A ad sa (qA g (ad 4) b u0 ou) u' σ' ∧ u'.1 = u.1 + dc ∧ u'.2.1 = u.2.1 + ds ∧ lStep N σ (sx k &&& 63) (sx (k + 1)) (sx (k + 2)) (sx (k + 3)) (sx (k + 4)) (sx (k + 5)) σ' dc ds := by
  obtain ⟨r, U', σ', e1, e2, e3⟩ := k_trouble (N := N) qA_ok h  
  obtain ⟨p1, p2, p3, p4⟩ := lSh.call hA qA_ok hp h e3
  obtain ⟨lab', h', -⟩ := id e3
  have p1 : U' = pUp A U' σ := p1
  have md := s_trouble (N := N) (g := g) (u := U') (σ := σ) hA
  rw [← p1] at md
  have md : f_X3_trouble N b g U' A.1  = some (r, pUp A U' σ') := by
    rw [md]
    exact congrArg (Option.map (pL A U')) e2
  have is2 : uIs U' A.1 2 = true := by
    rw [p1]
    exact p_is
  have l1 := lw_ld hst hL h (j := k + 1) (by omega)
  have m1 := lw_ld hst hL h' (j := k + 1) (by omega)
  have l2 := lw_ld hst hL h (j := k + 2) (by omega)
  have m2 := lw_ld hst hL h' (j := k + 2) (by omega)
  have l3 := lw_ld hst hL h (j := k + 3) (by omega)
  have m3 := lw_ld hst hL h' (j := k + 3) (by omega)
  have l4 := lw_ld hst hL h (j := k + 4) (by omega)
  have m4 := lw_ld hst hL h' (j := k + 4) (by omega)
  have l5 := lw_ld hst hL h (j := k + 5) (by omega)
  have m5 := lw_ld hst hL h' (j := k + 5) (by omega)
  have l0 := lw_ld hst hL h (j := k) (by omega)
  refine ⟨pUp A U' σ', σ', 0, 0, ?_, p2, p3, p4, ?_⟩
  · have hlt : True := trivial
    rw [f_L_law_23, p_bs, lw_len hst h, p_bs, show iI (L : Int) - 6 = iI ((L : Int) - 6) from by rw [show (6 : Int32) = iI 6 from rfl, i_sub], n_lt (by omega) (by omega) (by omega) (by omega) (by omega), l0, p_bs, hop, if_neg (by decide), if_neg (by decide), if_neg (by decide), if_neg (by decide), if_neg (by decide), if_neg (by decide), if_neg (by decide), if_neg (by decide), if_neg (by decide), if_neg (by decide), if_neg (by decide), if_neg (by decide), if_neg (by decide), if_neg (by decide), if_neg (by decide), if_neg (by decide), if_neg (by decide), if_neg (by decide), if_neg (by decide), if_neg (by decide), if_neg (by decide), if_neg (by decide), if_neg (by decide), if_neg (by decide), if_neg (by decide), if_neg (by decide), if_neg (by decide), if_neg (by decide), if_neg (by decide), if_neg (by decide), if_neg (by decide), if_neg (by decide), if_neg (by decide), if_neg (by decide), if_neg (by decide), if_pos rfl]
    rw [p_bs, if_pos (k_is h), e1, q_uc, p_bs, if_pos is2, md, q_uc, if_pos rfl]
    unfold f_L_law_1593
    rw [p_let, lw_a6]
  · rw [hop]
    exact Or.inr (Or.inr (Or.inr (Or.inr (Or.inr (Or.inr (Or.inr (Or.inr (Or.inr (Or.inr (Or.inr (Or.inr (Or.inr (Or.inr (Or.inr (Or.inr (Or.inr (Or.inr (Or.inr (Or.inr (Or.inr (Or.inr (Or.inr (Or.inr (Or.inr (Or.inr (Or.inr (Or.inr (Or.inr (Or.inr (Or.inr (Or.inr (Or.inr (Or.inr (Or.inr (Or.inl ⟨rfl, ⟨r, e2⟩, ⟨rfl, rfl⟩⟩)))))))))))))))))))))))))))))))))))
end O4s
