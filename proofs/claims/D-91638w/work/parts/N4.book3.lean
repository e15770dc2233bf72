/-! PLAIN: the call book -/
theorem qPl.clr {g : uEnv} {U : UH} {lab : Nat → Nat} {σ : MS} {pl : Nat} (h : qPl g U lab σ pl) : ∃ (arr np m : Nat) (mc : Int32) (xs : Nat → Option Nat), qLs g U lab 5 pl arr np m mc xs ∧ np ≤ 8 := by
  obtain ⟨arr, np, m, mc, xs, pa, kl, h1, h2, h3, -⟩ := h
  exact ⟨arr, np, m, mc, xs, h1, h3⟩
section K3s
variable {N b : Nat} {g : uEnv} {A : pA} {ad sa : Nat → Nat} {U : UH} {lab : Nat → Nat} {σ : MS} {ou : Nat} {u0 : UH} {sc L : Nat} {sx : Nat → Int32}
theorem k_book (hst : uStart b g u0 sc L sx) (h : xSt b g A ad sa (qA g (ad 4) b u0 ou) U lab σ) (hN : 2000 ≤ N) (x : Int32) : ∃ r U' σ' dc ds, f_X1_book N b g U (ad 0) x = some (r, U') ∧ f_book N σ x = some (r, σ') ∧ xStep b g A ad sa (qA g (ad 4) b u0 ou) U lab U' σ' dc ds ∧ ∃ nt : Nat, σ.1 2 = iI nt ∧ nt ≤ 500 ∧ dc ≤ 4 * nt + 140 ∧ ds ≤ 32 * nt + 700 := by
  have hQ : qOk (qA g (ad 4) b u0 ou) := qA_ok
  obtain ⟨U2, n3, n4⟩ := k_ref (N := N) (t := 2) (by decide) hQ h
  have hi0 := k_is h
  obtain ⟨bkv, mpv, ptv, hx, hI⟩ := h
  have hI' := hI
  obtain ⟨oU, hb, ⟨hl, hfr⟩, hE, hA, ⟨l0, ⟨l2, f0, nt, t1, t2, t3, t4⟩, hS3, h2, h3⟩, hbm, hq1, hq2, hq3, hq4, hq5, hq6⟩ := hI'
  have ba0 : b ≤ ad 0 := lab_ge hl (by omega)
  have lt0 := oU _ _ hx
  have lt1 := oU _ _ t1
  have hT0 : tEn b g U := ⟨u0, sc, L, sx, hst, fun x hx => (hq5 x hx).2⟩
  obtain ⟨T, hT⟩ := rTp_of (fun k hk => (t4 k hk).1)
  obtain ⟨v10, f10, g10, b10, c10⟩ := hE.2.2.1
  rcases k_in (N := N) (b := b) (g := g) (lo := 0) (hi := (nt : Int)) ⟨by decide, by decide⟩ ⟨by omega, by omega⟩ x U (mT σ 0) with ⟨f1, f2⟩ | ⟨f1, f2, i, f3, f4, f5⟩
  · have f1' : f_X1_in N b g U x 0 (iI (nt : Int)) = some (0, U) := f1
    have f2' : f_within N (mT σ 0) x 0 (iI (nt : Int)) = some (0, mT σ 0) := f2
    refine ⟨-1, U2, mT σ 2, 0, 0, ?_, ?_, n4, nt, t2, t3, by omega, by omega⟩
    · unfold f_X1_book
      rw [v_gi hx (k := 5) rfl, p_bs, t2, f1', q_uc, if_pos rfl, if_pos hi0, n3, q_uc]
    · unfold f_book
      rw [m_good, q_mv, p_let, show (mT σ 0).1 2 = iI nt from t2, f2', q_mc, if_pos rfl, m_no, q_mc]
  · have f1' : f_X1_in N b g U x 0 (iI (nt : Int)) = some (1, U) := f1
    have f2' : f_within N (mT σ 0) x 0 (iI (nt : Int)) = some (1, mT σ 0) := f2
    obtain ⟨n, rfl⟩ : ∃ n : Nat, i = (n : Int) := ⟨i.toNat, by omega⟩
    have hn : n ≤ nt := by omega
    -- the model sets out
    obtain ⟨r33, s1, s2, s3, s4, s5⟩ := m_save (N := N) (σ := mSet (mSet (mT σ 0) 2 0) 9 0) hN
    obtain ⟨σ0, hσ0⟩ : ∃ s : MS, s = mSet (mSet (mSet (mSet (mSet (mSet (mSet (mSet (mSet (mSet (mSet (mRow (mSet (mSet (mT σ 0) 2 0) 9 0) 33 r33) 22 0) 23 0) 24 4) 25 100) 26 100) 27 100) 28 0) 29 0) 3 (iI n)) 5 0) 13 0 := ⟨_, rfl⟩
    have r0 : ∀ j, j ≠ 33 → σ0.2.1 j = σ.2.1 j := fun j hj => by
      rw [hσ0]
      exact if_neg hj
    have r033 : σ0.2.1 33 = r33 := by
      rw [hσ0]
      rfl
    have fo0 : ∀ k, ¬ oK k → ¬ (22 ≤ k ∧ k ≤ 29) → σ0.1 k = σ.1 k := fun k k1 k2 => by
      rw [hσ0]
      unfold oK at k1
      show upd (upd (upd (upd (upd (upd (upd (upd (upd (upd (upd (upd (upd (upd (upd σ.1 0 0) 39 0) 2 0) 9 0) 22 0) 23 0) 24 4) 25 100) 26 100) 27 100) 28 0) 29 0) 3 (iI n)) 5 0) 13 0 k = σ.1 k
      rw [upd_n (by omega), upd_n (by omega), upd_n (by omega), upd_n (by omega), upd_n (by omega), upd_n (by omega), upd_n (by omega), upd_n (by omega), upd_n (by omega), upd_n (by omega), upd_n (by omega), upd_n (by omega), upd_n (by omega), upd_n (by omega), upd_n (by omega)]
    have hM : f_book N σ x = mcallv (f_next N σ0) (fun s1 => mcallv (f_line N s1) (f_book_89 N N)) := by
      unfold f_book f_begins
      rw [m_good, q_mv, p_let, show (mT σ 0).1 2 = iI nt from t2, f2', q_mc, if_neg n10, p_let, p_let, s1, q_mv, p_let, p_let, p_let, p_let, p_let, p_let, p_let, p_let, p_let, p_let, p_let, f3, ← hσ0]
      rcases f_next N σ0 with _ | q
      · rfl
      · rfl
    -- the class makes a book and a reader
    obtain ⟨u1, x1, x2, x3, x4, x5, x6, x7, x8⟩ := c_x4i (N := N) (b := b) g10 c10 oU hb
    have hx1 : u1.2.2 (ad 0) = some (xO ad σ bkv mpv ptv) := (x5 _ lt0).trans hx
    obtain ⟨u2, σ1, at1, y1, y2, y3, y4, y5, y6, y7, y8, y9, y10⟩ := c_rdn (N := N) (σ0 := σ0) (n := n) (lo := U.1) (T := T) hx1 ba0 ⟨f0, (x5 _ lt1).trans t1, fun k hk => ⟨by
      rw [r0 1 (by decide), (t4 k hk).2]
      exact (hT k hk).2.1, hT k hk⟩⟩ (by rw [hσ0]; rfl) (by rw [hσ0]; rfl) (by rw [hσ0]; rfl) (by rw [hσ0]; rfl) (by omega) (hT0.keep (fun x hx => x5 x (by omega))) x6 hb lt0 lt1 (by omega) hN
    have al1 := y3.le
    have f1s : ∀ k, ¬ tS k → σ1.1 k = σ0.1 k := y10.1
    have bP1 : bP b U.1 g u2 σ1 U.1 := by
      have n0 : ∀ {x : Nat}, U.1 ≤ x → x ≠ ad 0 := fun h => by omega
      have cb : u2.2.2 U.1 = some (bOb (U.1 + 1) (U.1 + 2) 0 bB0) := (y5 _ (by omega) (n0 (Nat.le_refl _))).trans x2
      have lc : ∀ a, U.1 ≤ a → vLs u1 a v10 0 0 0 f10 → vLs u2 a v10 0 0 0 f10 := fun a ha z => by
        obtain ⟨z1, z2, z3⟩ := z
        exact ⟨(y5 a (x6 _ _ z1) (n0 ha)).trans z1, (y5 v10 (x6 _ _ z2) (u_nlr z2 hx1)).trans z2, z3⟩
      refine ⟨U.1 + 1, U.1 + 2, v10, v10, 0, 0, 0, 0, 0, 0, f10, f10, fun _ => 0, fun _ => 0, fun _ => 0, fun _ => 0, fun _ => (0, fun _ => 0, fun _ => 0), fun _ => (0, fun _ => 0, fun _ => 0), bB0, 0, ⟨cb, Nat.le_refl _, Or.inl rfl, ?_⟩, ⟨?_, ?_, ?_, ?_, ?_⟩, ⟨by decide, by decide, by decide, by decide, by decide⟩, ⟨⟨lc _ (by omega) x3, by omega, fun _ => ⟨g10, b10⟩, fun z => absurd rfl z⟩, by omega, ?_, fun d hd => by omega⟩, ⟨⟨lc _ (by omega) x4, by omega, fun _ => ⟨g10, b10⟩, fun z => absurd rfl z⟩, by omega, ?_, fun d hd => by omega⟩, by omega, fun z => absurd rfl z⟩
      · rw [f1s 29 (fun z => by unfold tS at z; omega), hσ0]
        rfl
      · rw [f1s 24 (fun z => by unfold tS at z; omega), hσ0]
        rfl
      · rw [f1s 25 (fun z => by unfold tS at z; omega), hσ0]
        rfl
      · rw [f1s 26 (fun z => by unfold tS at z; omega), hσ0]
        rfl
      · rw [f1s 27 (fun z => by unfold tS at z; omega), hσ0]
        rfl
      · rw [f1s 28 (fun z => by unfold tS at z; omega), hσ0]
        rfl
      · rw [f1s 22 (fun z => by unfold tS at z; omega), hσ0]
        rfl
      · rw [f1s 23 (fun z => by unfold tS at z; omega), hσ0]
        rfl
    have bC1 : bCn σ1 0 := ⟨0, 0, 0, by rw [f1s 22 (fun z => by unfold tS at z; omega), hσ0]; rfl, by rw [f1s 23 (fun z => by unfold tS at z; omega), hσ0]; rfl, by rw [f1s 29 (fun z => by unfold tS at z; omega), hσ0]; rfl, by omega, by omega, by omega, rfl⟩
    have n0 : ad 0 ≠ U.1 := by omega
    have hbo2 : uIs u2 U.1 3 = true := by
      obtain ⟨rv, gl, al, B, -, -, -, -, z⟩ := bP1.rvx
      exact v_is z
    have hC : f_X1_book N b g U (ad 0) x = uxcall (f_X4_read_0 N b g U.1 N u2 (some u1.1)) (fun a6 u7 => if uIs u7 a6 6 = true then f_X1_book_40 N b g (ad 0) u7 (some a6) else none) (fun o5 u3 => f_X1_book_34 N b g (ad 0) u3 o5 (some (ad 0))) := by
      unfold f_X1_book f_X1_book_22 f_X1_book_26 f_X1_book_31
      rw [v_gi hx (k := 5) rfl, p_bs, t2, f1', q_uc, if_neg n10, p_let, p_let, p_bs, x1, p_bs, if_pos (x_is hx1), f3, y1, q_uc, p_bs, if_pos hbo2]
      rfl
    have r1s : ∀ j, j ≠ 11 → σ1.2.1 j = σ0.2.1 j := fun j hj => y10.2.1 j hj
    have hk2 : ∀ y, y < U.1 → y ≠ ad 0 → u2.2.2 y = U.2.2 y := fun y h1 h2 => (y5 y (by omega) h2).trans (x5 y h1)
    rcases k_rd (N := N) hE.2.1 hN 15 0 N N u2 σ1 at1 bC1 (by omega) (by omega) (by omega) y3 bP1 with ⟨xx, U', σ', e1, e2, e3⟩ | ⟨U', σ', at2, e1, e2, e3, e4, e5, e6, e7, e8, e9, e10, e11⟩
    · -- a fault
      obtain ⟨k, p, v1, v2, v3, v4, v5, v6, v7, v8, v9, v11, v12⟩ := e3
      obtain ⟨σR, w1, w2, w3, w4, w5, w6, w7, w8, w9⟩ := m_rest (N := N) (σ := σ') hN
      obtain ⟨σF, hσF⟩ : ∃ s : MS, s = mSet σR 39 4 := ⟨_, rfl⟩
      have R33 : σ'.2.1 33 = r33 := by
        rw [v5.2.1 33 (by unfold bR; decide), r1s 33 (by decide), r033]
      have fF : ∀ k, k ≠ 39 → σF.1 k = σR.1 k := fun k hk => by
        rw [hσF]
        exact upd_n hk
      have hf : ∀ k, ¬ oK k → σF.1 k = σ.1 k := fun k hk => by
        have hk' := hk
        unfold oK at hk'
        rw [fF k (by omega)]
        by_cases c : 22 ≤ k ∧ k ≤ 28
        · obtain ⟨i, rfl⟩ : ∃ i, k = 22 + i := ⟨k - 22, by omega⟩
          rw [w3 i (by omega), R33, s5 i (by omega)]
          show upd (upd (upd (upd σ.1 0 0) 39 0) 2 0) 9 0 (22 + i) = _
          rw [upd_n (by omega), upd_n (by omega), upd_n (by omega), upd_n (by omega)]
        · rw [w2 k (by omega), v5.1 k (fun z => by unfold bS tS at z; omega), f1s k (fun z => by unfold tS at z; omega), fo0 k hk (by omega)]
      have ch : ∀ j, j ≠ 11 → j ≠ 33 → ∀ i, mLen j ≤ i → σ'.2.1 j i = σ.2.1 j i := fun j j1 j2 i hi => by
        rw [v5.2.2.2 j j1 i hi, r1s j j1, r0 j j2]
      have hr : ∀ j, j ≠ 11 → j ≠ 33 → σF.2.1 j = σ.2.1 j := fun j h11 h33 => by
        have eF : σF.2.1 j = σR.2.1 j := by rw [hσF]; rfl
        rw [eF]
        by_cases c : (14 ≤ j ∧ j ≤ 21) ∨ (30 ≤ j ∧ j ≤ 32)
        · funext i
          by_cases ci : mLen j ≤ i
          · rw [w9 j c i ci, ch j h11 h33 i ci]
          · have ca : ∀ {j : Nat}, j = 14 ∨ j = 16 ∨ j = 20 ∨ j = 21 → mLen j = 64 := fun h => by rcases h with rfl | rfl | rfl | rfl <;> rfl
            have cb : ∀ {j : Nat}, j = 15 ∨ j = 17 ∨ j = 18 ∨ j = 19 → mLen j = 8 := fun h => by rcases h with rfl | rfl | rfl | rfl <;> rfl
            have cc : ∀ {j : Nat}, j = 30 ∨ j = 31 ∨ j = 32 → mLen j = 6 := fun h => by rcases h with rfl | rfl | rfl <;> rfl
            by_cases h1 : j = 14 ∨ j = 16 ∨ j = 20 ∨ j = 21
            · rw [ca h1] at ci
              obtain ⟨z0, z1, z2, z3⟩ := w6 i (by omega)
              obtain ⟨q0, q1, q2, q3⟩ := s2 i (by omega)
              rw [R33] at z0 z1 z2 z3
              rcases h1 with rfl | rfl | rfl | rfl
              · exact z0.trans q0
              · exact z1.trans q1
              · exact z2.trans q2
              · exact z3.trans q3
            · by_cases h2 : j = 15 ∨ j = 17 ∨ j = 18 ∨ j = 19
              · rw [cb h2] at ci
                obtain ⟨z0, z1, z2, z3⟩ := w7 i (by omega)
                obtain ⟨q0, q1, q2, q3⟩ := s3 i (by omega)
                rw [R33] at z0 z1 z2 z3
                rcases h2 with rfl | rfl | rfl | rfl
                · exact z0.trans q0
                · exact z1.trans q1
                · exact z2.trans q2
                · exact z3.trans q3
              · have h3 : j = 30 ∨ j = 31 ∨ j = 32 := by omega
                rw [cc h3] at ci
                obtain ⟨z0, z1, z2⟩ := w8 i (by omega)
                obtain ⟨q0, q1, q2⟩ := s4 i (by omega)
                rw [R33] at z0 z1 z2
                rcases h3 with rfl | rfl | rfl
                · exact z0.trans q0
                · exact z1.trans q1
                · exact z2.trans q2
        · rw [w5 j c, v5.2.1 j (fun z => by
            rcases z with z | z
            · exact h11 z
            · exact c z), r1s j h11, r0 j h33]
      have h22' : σF.2.2 = σ.2.2 := by
        rw [hσF]
        show σR.2.2 = _
        rw [w4, v5.2.2.1, y10.2.2.1, hσ0]
        rfl
      have eO := mOv_eq hf hr h22'
      have g39 : σF.1 39 = 4 := by rw [hσF]; rfl
      have g9 : σF.1 9 = k := by
        rw [fF 9 (by decide), w2 9 (by omega)]
        exact v3
      have g10' : σF.1 10 = p := by
        rw [fF 10 (by decide), w2 10 (by omega)]
        exact v4
      have g2 : σF.1 2 = 0 := by
        rw [fF 2 (by decide), w2 2 (by omega), v5.1 2 (fun z => by unfold bS tS at z; omega), f1s 2 (fun z => by unfold tS at z; omega), hσ0]
        rfl
      have hxU : U'.2.2 (ad 0) = some (xO ad (mSet (mSet σ 2 0) 9 0) bkv mpv ptv) := (v6 _ lt0).trans y4
      have kp : ∀ y, y < U.1 → y ≠ ad 0 → U'.2.2 y = U.2.2 y := fun y h1 h2 => (v6 y h1).trans (hk2 y h1 h2)
      have fl : f_X1_failed N b g U' (ad 0) (some xx) = some (-1, uSet U' (ad 0) (xO ad σF bkv mpv ptv)) := x_fail hxU v1 ba0 g39 g9 g10' ⟨hf 38 (by unfold oK; decide), g2, hf 63 (by unfold oK; decide), hf 64 (by unfold oK; decide), hf 65 (by unfold oK; decide)⟩
      have hv6 : uIs U' xx 6 = true := by
        obtain ⟨fs, z, -⟩ := v1
        exact v_is z
      refine ⟨-1, uSet U' (ad 0) (xO ad σF bkv mpv ptv), σF, U'.1 - U.1, U'.2.1 - U.2.1, ?_, ?_, ?_, nt, t2, t3, by omega, by omega⟩
      · unfold f_X1_book_40 at hC
        rw [hC, e1, q_ux1, if_pos hv6, if_pos (x_is hxU), fl, q_uc]
      · rw [hM, y2, q_mv, e2]
        unfold f_book_140
        rw [p_let, if_neg (show ¬ σ'.1 13 = 0 by rw [v2]; decide), w1, q_mv, m_no2, q_mc, hσF]
      · have kpl : ∀ y, y < U.1 → lab y ≠ 1 → U'.2.2 y = U.2.2 y := fun y h1 h2 => kp y h1 (fun z => h2 (by rw [z]; exact l0))
        have ns : ∀ {pr : Nat → Prop}, ¬ pr 1 → ¬ pr 11 → uLb lab lab U U' pr := fun p1 p11 => hI.lb (fun _ _ => rfl) (fun x hx hp => kpl x hx (fun z => p1 (by rw [← z]; exact hp))) p11
        have tpN : xTp U' lab (mOv σ σF) (ad 1) := ⟨l2, f0, 0, (kp _ lt1 (u_nlr t1 hx)).trans t1, g2, by omega, t4⟩
        have bmN : xBM b g U' lab σ bkv mpv := hbm.hp hl (by omega) (ns (by decide) (by decide))
        have clN : xCl b g U' lab σ (ad 3) := h2.hp hl (ns (by decide) (by decide))
        have dgN : xDg U' lab σ (ad 5) := h3.hp (ns (by decide) (by decide))
        have qN : qA g (ad 4) b u0 ou U' lab (mOv σ σF) bkv ptv := hQ U U' lab lab σ _ bkv ptv (ns (by unfold qLb; decide) (by unfold qLb; decide)) ⟨fun k hk => by rcases hk with rfl | rfl | rfl | rfl | rfl | rfl | rfl <;> rfl, fun j hj => by rcases hj with rfl | rfl | rfl | rfl | rfl | rfl | rfl | rfl | rfl | rfl | rfl <;> rfl, Or.inl rfl⟩ ⟨hq1, hq2, hq3, hq4, hq5, hq6⟩
        have sg : xSi b g A ad sa (qA g (ad 4) b u0 ou) U' lab (mOv σ σF) bkv mpv ptv := hI.gen v7 (by omega) (fun _ _ => rfl) (fun x hx => hfr x (by omega)) (fun x hx => kpl x (by omega) (by rw [hl x hx]; decide)) tpN (hS3.hp (ns (by decide) (by decide))) clN dgN bmN qN
        rw [eO] at sg
        exact sg.fin hQ hxU l0 (fun x q => kpl x (hI.lt q (by decide)) (by omega)) (by omega) (by omega)
    · -- a new book
      obtain ⟨gl, al, arr, arr2, nG, nT, m1, m2, mc, mc2, xs, xs2, ga, gn, ta, tn, s, q, B, rv, ⟨z1, z2, z3, z29⟩, ⟨z24, z25, z26, z27, z28⟩, zB, ⟨zl, zn8, z22, zg⟩, ⟨zl2, zn6, z23, zt⟩, zne, zna⟩ := e4
      have z1c : U'.2.2 U.1 = some (.inr (3, [.ref gl, .ref al, .int (iI rv), .int (iI (B 0)), .int (iI (B 1)), .int (iI (B 2)), .int (iI (B 3)), .int (iI (B 4))])) := z1
      have oU' : uOld U' := e3.2.2.2.2.2.1
      have al2 := e3.le
      have h13' : σ'.1 13 = 0 := e3.2.2.2.2.2.2.2.2.2.1
      have h9' : σ'.1 9 = 0 := e3.2.2.2.2.2.2.2.2.2.2.2
      obtain ⟨r47, a1, a2⟩ := m_b195 (N := N) (σ := mSet (mSet (mSet (mSet (mSet (mSet (mSet σ' 12 1) 69 0) 34 0) 40 0) 37 0) 38 0) 51 0) 6 0 (N - 7) (σ'.2.1 47) (by omega) (fun j hj => by omega)
      rw [show N - 7 + 6 + 1 = N by omega, show mRow (mSet (mSet (mSet (mSet (mSet (mSet (mSet σ' 12 1) 69 0) 34 0) 40 0) 37 0) 38 0) 51 0) 47 (σ'.2.1 47) = mSet (mSet (mSet (mSet (mSet (mSet (mSet σ' 12 1) 69 0) 34 0) 40 0) 37 0) 38 0) 51 0 from mRow_id] at a2
      obtain ⟨σF, hσF⟩ : ∃ t : MS, t = mRow (mSet (mSet (mSet (mSet (mSet (mSet (mSet σ' 12 1) 69 0) 34 0) 40 0) 37 0) 38 0) 51 0) 47 r47 := ⟨_, rfl⟩
      rw [← hσF] at a2
      have rF : ∀ j, j ≠ 47 → σF.2.1 j = σ'.2.1 j := fun j hj => by
        rw [hσF]
        exact if_neg hj
      have rF47 : σF.2.1 47 = r47 := by
        rw [hσF]
        rfl
      have fF : ∀ k, k ≠ 12 → k ≠ 69 → k ≠ 34 → k ≠ 40 → k ≠ 37 → k ≠ 38 → k ≠ 51 → σF.1 k = σ'.1 k := fun k k1 k2 k3 k4 k5 k6 k7 => by
        rw [hσF]
        show upd (upd (upd (upd (upd (upd (upd σ'.1 12 1) 69 0) 34 0) 40 0) 37 0) 38 0) 51 0 k = _
        rw [upd_n k7, upd_n k6, upd_n k5, upd_n k4, upd_n k3, upd_n k2, upd_n k1]
      have fO : ∀ k, ¬ oK k → ¬ (22 ≤ k ∧ k ≤ 29) → k ≠ 12 → k ≠ 69 → k ≠ 34 → k ≠ 40 → k ≠ 37 → k ≠ 38 → k ≠ 51 → σF.1 k = σ.1 k := fun k ko kb k1 k2 k3 k4 k5 k6 k7 => by
        have ko' := ko
        unfold oK at ko'
        rw [fF k k1 k2 k3 k4 k5 k6 k7, e11.1 k (fun z => by unfold bS tS at z; omega), f1s k (fun z => by unfold tS at z; omega), fo0 k ko kb]
      have rO : ∀ j, ¬ bR j → j ≠ 33 → j ≠ 47 → σF.2.1 j = σ.2.1 j := fun j jb j33 j47 => by
        rw [rF j j47, e11.2.1 j jb, r1s j (fun z => jb (Or.inl z)), r0 j j33]
      have g2 : σF.1 2 = 0 := by
        rw [fF 2 (by decide) (by decide) (by decide) (by decide) (by decide) (by decide) (by decide), e11.1 2 (fun z => by unfold bS tS at z; omega), f1s 2 (fun z => by unfold tS at z; omega), hσ0]
        rfl
      have g39 : σF.1 39 = 0 := by
        rw [fF 39 (by decide) (by decide) (by decide) (by decide) (by decide) (by decide) (by decide), e11.1 39 (fun z => by unfold bS tS at z; omega), f1s 39 (fun z => by unfold tS at z; omega), hσ0]
        rfl
      have g9 : σF.1 9 = 0 := (fF 9 (by decide) (by decide) (by decide) (by decide) (by decide) (by decide) (by decide)).trans h9'
      have g22 : σF.1 22 = iI nG := (fF 22 (by decide) (by decide) (by decide) (by decide) (by decide) (by decide) (by decide)).trans z22
      have g23 : σF.1 23 = iI nT := (fF 23 (by decide) (by decide) (by decide) (by decide) (by decide) (by decide) (by decide)).trans z23
      have hxU : U'.2.2 (ad 0) = some (xO ad (mSet (mSet σ 2 0) 9 0) bkv mpv ptv) := (e10 _ lt0).trans y4
      have kpU : ∀ y, y < U.1 → y ≠ ad 0 → U'.2.2 y = U.2.2 y := fun y h1 h2 => (e10 y h1).trans (hk2 y h1 h2)
      obtain ⟨parr, np, pm, pmc, pxs, pl1, pnp⟩ := hq3.clr
      obtain ⟨l6, fd, vI, w1, w2⟩ := h3
      have lP : lab (ad 4) = 5 := pl1.2.1
      have lt5 := oU _ _ w1
      have lt4 := oU _ _ pl1.1.1
      have ltp := oU _ _ pl1.1.2.1
      have n50 : ad 5 ≠ ad 0 := u_nlr w1 hx
      have n40 : ad 4 ≠ ad 0 := fun z => by rw [z] at lP; omega
      have n45 : ad 4 ≠ ad 5 := Ne.symm (u_nlr w1 pl1.1.1)
      have np0 : parr ≠ ad 0 := u_nlr pl1.1.2.1 hx
      have np5 : parr ≠ ad 5 := u_nll pl1.1.2.1 w1 (Or.inl (by decide))
      have ba5 : b ≤ ad 5 := lab_ge hl (by omega)
      have ba4 : b ≤ ad 4 := lab_ge hl (by omega)
      obtain ⟨V1, b1, b2, b3, b4, b5, b6⟩ := w_put (b := b) (k := 2) (v := va_rf (some U.1)) hxU ba0 (Nat.le_of_ble_eq_true rfl) oU'
      obtain ⟨V2, c1, c2, c3, c4, c5, c6⟩ := w_put (b := b) (k := 3) (v := .int 0) b2 ba0 (Nat.le_of_ble_eq_true rfl) b4
      have d5 : V2.2.2 (ad 5) = some (.inl (0, 6, .inl fd)) := by
        rw [c3 _ n50, b3 _ n50, kpU _ lt5 n50]
        exact w1
      obtain ⟨fd', d1, d2⟩ := c_fillI (N := N) (b := b) (g := g) (v := 0) d5 ba5 (by omega) (by omega)
      obtain ⟨V3, hV3⟩ : ∃ V3 : UH, V3 = uSet V2 (ad 5) (.inl (0, 6, .inl fd')) := ⟨_, rfl⟩
      rw [← hV3] at d1
      have v30 : V3.2.2 (ad 0) = V2.2.2 (ad 0) := by
        rw [hV3]
        exact u_sn (Ne.symm n50)
      have v3n : ∀ y, y ≠ ad 5 → V3.2.2 y = V2.2.2 y := fun y hy => by
        rw [hV3]
        exact u_sn hy
      have v35 : V3.2.2 (ad 5) = some (.inl (0, 6, .inl fd')) := by
        rw [hV3]
        exact u_ss
      have oV3 : uOld V3 := by
        rw [hV3]
        exact c4.set d5
      have s3' : V3.1 = V2.1 ∧ V3.2.1 = V2.2.1 := by
        rw [hV3]
        exact ⟨rfl, rfl⟩
      obtain ⟨V4, i1, i2, i3, i4, i5, i6⟩ := w_put (b := b) (k := 7) (v := va_rf none) (v30.trans c2) ba0 (Nat.le_of_ble_eq_true rfl) oV3
      have dn : ∀ y, y < U.1 → y ≠ ad 0 → y ≠ ad 5 → V4.2.2 y = U.2.2 y := fun y h1 h2 h3 => by
        rw [i3 y h2, v3n y h3, c3 y h2, b3 y h2, kpU y h1 h2]
      have nn : ∀ y, U.1 ≤ y → V4.2.2 y = U'.2.2 y := fun y h1 => by
        rw [i3 y (by omega), v3n y (by omega), c3 y (by omega), b3 y (by omega)]
      have pl4 : vLs V4 (ad 4) parr np pm pmc pxs := ⟨(dn _ lt4 n40 n45).trans pl1.1.1, (dn _ ltp np0 np5).trans pl1.1.2.1, pl1.1.2.2⟩
      have npm : np ≤ pm := pl1.1.2.2.1
      obtain ⟨V5, xs', j1', j2, j3, j4, j5, j6⟩ := l_clear (N := N) (b := b) (g := g) pl4 i4 ba4 (fun z => lab_ge hl (by
        rw [pl1.2.2.2 (by omega)]
        decide)) (by omega)
      have sz1 : V5.1 = U'.1 := by omega
      have sz2 : V5.2.1 = U'.2.1 := by omega
      have keepN : ∀ y, U.1 ≤ y → V5.2.2 y = U'.2.2 y := fun y h1 => (j3 y (by omega) (fun _ => by omega)).trans (nn y h1)
      have keepO : ∀ y, y < U.1 → lab y ≠ 1 → lab y ≠ 5 → lab y ≠ 6 → V5.2.2 y = U.2.2 y := fun y h1 h2 h3 h4 => by
        rw [j3 y (fun z => h3 (by rw [z]; exact lP)) (fun p z => h3 (by rw [z]; exact pl1.2.2.2 (by omega))), dn y h1 (fun z => h2 (by rw [z]; exact l0)) (fun z => h4 (by rw [z]; exact l6))]
      have hx5 : V5.2.2 (ad 0) = some (xO ad (mSet (mSet (mSet σ 2 0) 9 0) 38 0) (.ref U.1) .null ptv) := by
        rw [j3 _ (Ne.symm n40) (fun _ => Ne.symm np0), i2]
        rfl
      have zU : V5.2.2 U.1 = some (.inr (3, [.ref gl, .ref al, .int (iI rv), .int (iI (B 0)), .int (iI (B 1)), .int (iI (B 2)), .int (iI (B 3)), .int (iI (B 4))])) := (keepN _ (Nat.le_refl _)).trans z1c
      have lo0 : ∀ y, y < b → V5.2.2 y = U.2.2 y := fun y hy => by
        have := hl y hy
        exact keepO y (by omega) (by omega) (by omega) (by omega)
      have low : ∀ y, y < b → V5.2.2 y = U'.2.2 y := fun y hy => by
        have := hl y hy
        rw [lo0 y hy, kpU y (by omega) (fun z => by rw [z] at this; omega)]
      have lsm : ∀ {a ar nn mm : Nat} {mq : Int32} {xq : Nat → Option Nat}, bLs b U.1 g U' a ar nn mm mq xq → vLs V5 a ar nn mm mq xq := fun z => by
        obtain ⟨⟨q1, q2, q3⟩, q4, q5, q6⟩ := z
        refine ⟨(keepN _ q4).trans q1, ?_, q3⟩
        rename_i a ar nn mm mq xq
        by_cases c : mm = 0
        · exact (low _ (q5 c).2).trans q2
        · exact (keepN _ (q6 c)).trans q2
      have gl5 := lsm zl
      have al5 := lsm zl2
      have sz5 : f_J2_size N b g V5 gl = some (iI nG, V5) := l_size gl5
      have eX : xO ad (mT (mSet (mSet (mSet σ 2 0) 9 0) 38 0) 0) (.ref U.1) .null ptv = xO ad σF (.ref U.1) .null ptv := by
        rw [xO_t (by decide)]
        unfold xO
        rw [g39, if_neg (show ¬ (0 : Int32) = 4 by decide), g2, g9, fO 63 (by unfold oK; decide) (by decide) (by decide) (by decide) (by decide) (by decide) (by decide) (by decide) (by decide), fO 64 (by unfold oK; decide) (by decide) (by decide) (by decide) (by decide) (by decide) (by decide) (by decide) (by decide), fO 65 (by unfold oK; decide) (by decide) (by decide) (by decide) (by decide) (by decide) (by decide) (by decide) (by decide), show σF.1 38 = 0 by rw [hσF]; rfl]
        rfl
      refine ⟨iI nG, uSet V5 (ad 0) (xO ad σF (.ref U.1) .null ptv), σF, U'.1 - U.1, U'.2.1 - U.2.1, ?_, ?_, ?_, nt, t2, t3, by omega, by omega⟩
      · rw [hC, e1, q_ux2, ← eX]
        unfold f_X1_book_34
        rw [p_bs, b1, p_bs, c1, p_bs, v_gr c2 (k := 14) rfl, p_bs, d1, p_bs, i1, p_bs, v_gr i2 (k := 10) rfl, p_bs, p_bs, if_pos (v_is pl4.1), j1', p_bs, x_bk hx5, p_bs, p_bs, v_gr zU (k := 0) rfl, p_bs, p_bs, if_pos (v_is gl5.1), sz5, q_uc, if_pos (x_is hx5), x_don hx5 ba0, q_uc]
      · rw [hM, y2, q_mv, e2]
        unfold f_book_140
        rw [p_let, if_pos h13', p_let, p_let, p_let, p_let, p_let, p_let, p_let]
        have a2 : f_book_195 N N (mSet (mSet (mSet (mSet (mSet (mSet (mSet σ' 12 1) 69 0) 34 0) 40 0) 37 0) 38 0) 51 0) 0 = some (iI nG, σF) := by
          rw [← z22]
          exact a2
        exact a2
      · obtain ⟨lb, hlb⟩ : ∃ lb : Nat → Nat, lb = fun y => if U.1 ≤ y ∧ y < U'.1 then 7 else lab y := ⟨_, rfl⟩
        have lbO : ∀ y, y < U.1 → lb y = lab y := fun y q => by
          rw [hlb]
          exact if_neg (by omega)
        have lbN : ∀ y, U.1 ≤ y → y < U'.1 → lb y = 7 := fun y q1 q2 => by
          rw [hlb]
          exact if_pos ⟨q1, q2⟩
        have lbE : ∀ y, U'.1 ≤ y → lb y = 11 := fun y q => by
          rw [hlb]
          exact (if_neg (by omega)).trans (hfr y (by omega))
        have ns : ∀ {pr : Nat → Prop}, ¬ pr 1 → ¬ pr 5 → ¬ pr 6 → ¬ pr 11 → uLb lab lb U V5 pr := fun p1 p5 p6 p11 => hI.lb lbO (fun y hy hp => keepO y hy (fun z => p1 (by rw [← z]; exact hp)) (fun z => p5 (by rw [← z]; exact hp)) (fun z => p6 (by rw [← z]; exact hp))) p11
        have sm : qSm (fun k => k ≠ 1 ∧ k ≠ 5 ∧ k ≠ 6 ∧ k ≠ 11) lab lb U V5 := ns (pr := fun k => k ≠ 1 ∧ k ≠ 5 ∧ k ≠ 6 ∧ k ≠ 11) (by decide) (by decide) (by decide) (by decide)
        have tpN : xTp V5 lb σF (ad 1) := ⟨(lbO _ lt1).trans l2, f0, 0, (keepO _ lt1 (by omega) (by omega) (by omega)).trans t1, g2, by omega, fun k hk => by
          rw [rO 1 (by unfold bR; decide) (by decide) (by decide)]
          exact t4 k hk⟩
        have clN : xCl b g V5 lb σF (ad 3) := by
          have z := h2.hp (lab' := lb) (U' := V5) hl (ns (by decide) (by decide) (by decide) (by decide))
          obtain ⟨q1, arr', np', m', mc', xs'', p', q2, q3, q4, q5, q6, q7, q8⟩ := z
          refine ⟨q1, arr', np', m', mc', xs'', p', q2, q3, q4, fun j hj => ?_, ?_, q7, ?_⟩
          · rw [rO 54 (by unfold bR; decide) (by decide) (by decide)]
            exact q5 j hj
          · rw [fO 55 (by unfold oK; decide) (by decide) (by decide) (by decide) (by decide) (by decide) (by decide) (by decide) (by decide)]
            exact q6
          · rw [fO 73 (by unfold oK; decide) (by decide) (by decide) (by decide) (by decide) (by decide) (by decide) (by decide) (by decide)]
            exact q8
        have dgN : xDg V5 lb σF (ad 5) := by
          refine ⟨(lbO _ lt5).trans l6, fd', fun _ => 0, ?_, fun k hk => ⟨d2 k hk, ?_, Int.le_refl _, (show (0 : Int) ≤ 4 by decide)⟩⟩
          · rw [j3 _ (Ne.symm n45) (fun _ => Ne.symm np5), i3 _ n50]
            exact v35
          · rw [rF47]
            exact a1 k hk
        have sm2 : uSame b U.1 U'.1 U' V5 := fun y hy => by
          rcases hy with hy | ⟨hy, -⟩
          · exact low y hy
          · exact keepN y hy
        have vi : ∀ {y : Nat} {e : uE}, U'.2.2 y = some e → U.1 ≤ y → vIn b U.1 U'.1 y := fun h1 h2 => Or.inr ⟨h2, oU' _ _ h1⟩
        have nBM : xBM b g V5 lb σF (.ref U.1) .null := by
          refine Or.inr ⟨U.1, U'.1, U.1, al, iI rv, gn, (B, nG, s, q), 0, rfl, by rw [hσF]; rfl, ⟨gl, arr, m1, mc, ga, xs, vi z1c (Nat.le_refl _), vi zl.1.1 zl.2.1, ?_, zU, gl5, fun d hd => ⟨(zg d hd).1, (zg d hd).2.1.same sm2⟩⟩, ⟨zB.1, zB.2.1, zB.2.2.1, zB.2.2.2.1, zB.2.2.2.2, zn8, fun d hd => ⟨(zg d hd).2.2.2.2.1.1, (zg d hd).2.2.2.2.2.1⟩⟩, ⟨⟨(fF 24 (by decide) (by decide) (by decide) (by decide) (by decide) (by decide) (by decide)).trans z24, (fF 25 (by decide) (by decide) (by decide) (by decide) (by decide) (by decide) (by decide)).trans z25, (fF 26 (by decide) (by decide) (by decide) (by decide) (by decide) (by decide) (by decide)).trans z26, (fF 27 (by decide) (by decide) (by decide) (by decide) (by decide) (by decide) (by decide)).trans z27, (fF 28 (by decide) (by decide) (by decide) (by decide) (by decide) (by decide) (by decide)).trans z28, g22⟩, fun d hd => ?_⟩, by rw [hσF]; rfl, by decide, by omega, fun y h1 h2 => lbN y h1 h2, Or.inl ⟨rfl, by rw [hσF]; rfl⟩⟩
          · by_cases c : m1 = 0
            · exact Or.inl (zl.2.2.1 c).2
            · exact vi zl.1.2.1 (zl.2.2.2 c)
          · obtain ⟨-, -, -, ⟨q1, q2, q3⟩, q4, q5, q6⟩ := (zg d hd).2
            refine ⟨⟨?_, q3.sg q1.2.1 (fun i _ => by rw [rF 20 (by decide)])⟩, ?_, q6.sg q4.2.1 (fun i _ => by rw [rF 21 (by decide)])⟩
            · rw [rF 18 (by decide)]
              exact q2
            · rw [rF 19 (by decide)]
              exact q5
        have stN : ∀ {a m : Nat} {f : Nat → Int32}, vSt U.1 U' a m f → U.1 ≤ a → m ≤ 8 → (∀ k, k < m → ∃ c : Nat, f k = iI c ∧ 97 ≤ c ∧ c ≤ 122) → qSt V5 lb 7 a m f := fun z h1 h2 h3 => by
          obtain ⟨v, hh, zz, q1, q2, q3, q4, q5⟩ := z
          exact ⟨lbN _ h1 (oU' _ _ q1), h2, v, hh, zz, _, lbN _ q5 (oU' _ _ q2), (keepN _ h1).trans q1, (keepN _ q5).trans q2, fun k hk => ⟨rfl, h3 k hk⟩⟩
        have lsq : ∀ {a ar nn mm : Nat} {mq : Int32} {xq : Nat → Option Nat}, bLs b U.1 g U' a ar nn mm mq xq → vLs V5 a ar nn mm mq xq → qLs g V5 lb 7 a ar nn mm mq xq := fun z z' => by
          obtain ⟨⟨q1, q2, q3⟩, q4, q5, q6⟩ := z
          refine ⟨z', lbN _ q4 (oU' _ _ q1), fun c => ⟨(q5 c).1, ?_⟩, fun c => lbN _ (q6 c) (oU' _ _ q2)⟩
          have := (q5 c).2
          rw [lbO _ (by omega)]
          exact hl _ this
        have qbN : qBk g V5 lb σF (.ref U.1) := by
          refine Or.inr ⟨U.1, gl, al, arr, arr2, nG, nT, m1, m2, mc, mc2, ga, ta, xs, xs2, _, rfl, lbN _ (Nat.le_refl _) (oU' _ _ z1c), zU, ⟨lsq zl gl5, g22, zn8, fun d hd => ⟨(zg d hd).1, ?_⟩⟩, lsq zl2 al5, g23, zn6, fun t ht => ⟨(zt t ht).1, ?_⟩⟩
          · obtain ⟨⟨p, q', i0, q1, -⟩, q2, ⟨q3, mm, ff, q4, q5, q6, q7, q8⟩, -⟩ := (zg d hd).2
            refine ⟨lbN _ q2 (oU' _ _ q1), gn d, mm, _, _, ff, (keepN _ q2).trans q1, stN q4 q3 q6 (fun k hk => (q8 k hk).2), ?_, fun k hk => ?_⟩
            · rw [rF 15 (by decide)]
              exact q7
            · rw [rF 14 (by decide)]
              exact (q8 k hk).1.symm
          · obtain ⟨q1, -, ee, oo, cc, q2, q3, q4, q5, q6⟩ := (zt t ht).2
            refine ⟨lbN _ q1 (oU' _ _ q2), _, ee, oo, cc, (keepN _ q1).trans q2, ?_, ?_, ?_, q6⟩
            · rw [rF 30 (by decide)]
              exact q3
            · rw [rF 31 (by decide)]
              exact q4
            · rw [rF 32 (by decide)]
              exact q5
        have qN : qA g (ad 4) b u0 ou V5 lb σF (.ref U.1) ptv := by
          refine ⟨qbN, ⟨fun _ k hk => ?_, fun w _ _ k hk _ => ?_⟩, ⟨parr, 0, pm, pmc + 1, xs', fun _ => 0, fun _ => 0, ⟨j2, (lbO _ lt4).trans lP, fun z => ?_, fun z => (lbO _ ltp).trans (pl1.2.2.2 z)⟩, by rw [hσF]; rfl, by omega, fun z => absurd rfl z, fun i hi => by omega⟩, ⟨?_, Or.inl (by rw [hσF]; rfl)⟩, hq5.hp sm (by decide), hq6.hp sm (by decide)⟩
          · rw [rF47]
            exact a1 k hk
          · rw [rF47]
            exact a1 k hk
          · obtain ⟨q1, q2⟩ := pl1.2.2.1 z
            exact ⟨q1, (lbO _ ltp).trans q2⟩
          · rcases hq4.1 with z | ⟨p, bo, oa, fs, q1, q2, q3, q4, q5, q6, q7⟩
            · exact Or.inl z
            · obtain ⟨u1', u2'⟩ := sm.c (L := 9) (by decide) q2
              obtain ⟨u3', u4'⟩ := sm.c (L := 9) (by decide) q3
              obtain ⟨u5', u6'⟩ := sm.c (L := 7) (by decide) q4
              refine Or.inr ⟨p, bo, oa, fs, q1, u2', u4', u6', u5'.trans q5, u1'.trans q6, fun z => ?_⟩
              have hz : U.1 = bo := by injection z
              exact absurd (oU _ _ q5) (by rw [hz]; exact Nat.lt_irrefl _)
        have sg : xSi b g A ad sa (qA g (ad 4) b u0 ou) V5 lb σF (.ref U.1) .null ptv := hI.gen j4 (by omega) lbO (fun y hy => lbE y (by omega)) lo0 tpN (hS3.hp (ns (by decide) (by decide) (by decide) (by decide))) clN dgN nBM qN
        exact sg.fin hQ hx5 l0 (fun y qy => keepO y (hI.lt qy (by decide)) (by omega) (by omega) (by omega)) (by omega) (by omega)
end K3s
