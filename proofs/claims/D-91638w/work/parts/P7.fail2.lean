/-! PLAIN: the call failing -/
section M6s
variable {N b : Nat} {g : uEnv} {A : pA} {ad sa : Nat → Nat} {U : UH} {lab : Nat → Nat} {σ : MS} {ou : Nat} {u0 : UH}
/-- three numbers of the object -/
theorem x_fst {u : UH} {σo : MS} {bk mp pt : Value} {x y z : Int32} (hx : u.2.2 (ad 0) = some (xO ad σo bk mp pt)) (hb : b ≤ ad 0) : ∃ u1 u2, uPut b u (ad 0) 0 11 (.int x) = some u1 ∧ uPut b u1 (ad 0) 0 12 (.int y) = some u2 ∧ uPut b u2 (ad 0) 0 13 (.int z) = some (uSet u (ad 0) (xO ad (mG3 σo x y z) bk mp pt)) ∧ ∀ w, w ≠ ad 0 → u2.2.2 w = u.2.2 w := by
  refine ⟨_, _, u_pw hx hb (Nat.le_of_ble_eq_true rfl), u_pw u_ss hb (Nat.le_of_ble_eq_true rfl), ?_, fun w hw => ?_⟩
  · rw [u_pw u_ss hb (Nat.le_of_ble_eq_true rfl), u_s2, u_s2]
    rfl
  · rw [u_sn hw, u_sn hw]
theorem wW.fst {la da wa : Nat → Nat} {a w h n nd t : Nat} {hts : Nat → Int} {fl : Nat → Nat} {dO kn : Nat → Int} {wg : Nat → Nat → Nat} {bkv ptv : Value} {u : UH} {σo : MS} {x y z : Int32} (n08 : ad 0 ≠ la 0) (hW : wW g U ad la da wa a w h n nd hts fl dO kn wg bkv ptv u t σo) : wW g U ad la da wa a w h n nd hts fl dO kn wg bkv ptv (uSet u (ad 0) (xO ad (mG3 σo x y z) bkv (.ref (la 0)) ptv)) t (mG3 σo x y z) := by
  obtain ⟨⟨v8, v9, v10, hL⟩, hx, hsm, ho, z1, z2⟩ := hW
  refine ⟨⟨v8, v9, v10, hL.keep (fun i e q ht => (u_sn (fun k => ?_)).trans q)⟩, u_ss, fun i q1 q2 q3 => (u_sn q3).trans (hsm i q1 q2 q3), ho.set hx, z1, z2⟩
  rw [k, hx] at q
  have q : xO ad σo bkv (.ref (la 0)) ptv = e := by injection q
  rw [← q] at ht
  unfold xO at ht
  rcases ht with ⟨cc, fs, z1, z2⟩ | ⟨t, m, z, z1, -⟩
  · injection z1 with z1
    injection z1 with z1 _
    omega
  · cases z1
theorem k_failing (h : xSt b g A ad sa (qA g (ad 4) b u0 ou) U lab σ) (hN : 300 ≤ N) (x y z bd : Int32) : ∃ r U' σ' dc ds, f_X1_failing N b g U (ad 0) x y z bd = some (r, U') ∧ f_failing N σ x y z bd = some (r, σ') ∧ xStep b g A ad sa (qA g (ad 4) b u0 ou) U lab U' σ' dc ds ∧ dc ≤ 486 ∧ ds ≤ 3159 := by
  have hQ : qOk (qA g (ad 4) b u0 ou) := qA_ok
  obtain ⟨ar0, ar1, ar2⟩ := k_are (N := N) (b := b) (g := g) (ad := ad) (x := y) (y := z) (k_is h)
  obtain ⟨U0, n1, n2⟩ := k_ref (N := N) (t := 1) (by decide) hQ h
  obtain ⟨U2, n3, n4⟩ := k_ref (N := N) (t := 2) (by decide) hQ h
  obtain ⟨np, h40, hnp, hn34, isp⟩ := k_isp (N := N) h
  have h40' : (mT σ 0).1 40 = iI np := h40
  unfold f_X1_failing f_failing f_X1_failing_17 f_failing_41
  rw [if_pos (k_is h), m_good, q_mv, h40']
  rcases isp x with ⟨p1, p2⟩ | ⟨p1, p2, p, rfl, p3⟩
  · refine ⟨-1, U0, mT σ 1, 0, 0, ?_, ?_, n2, by omega, by omega⟩
    · rw [p1, q_uc, if_pos rfl, if_pos (k_is h), n1, q_uc]
    · rw [p2, q_mc, if_pos rfl, m_no, q_mc]
      split <;> rfl
  · have h34' : ¬ (mT σ 0).1 34 = 0 := by
      show ¬ σ.1 34 = 0
      rw [hn34 (by omega)]
      decide
    rw [p1, q_uc, if_neg n10, if_pos (k_is h), if_neg h34', p2, q_mc, if_neg n10]
    rcases k_map (N := N) h with hno | ⟨bkv, ptv, lo, hi, a, al, rv, nm, B, dead, la, da, wa, v8, v9, v10, w, h', n, nd, hts, fl, dO, kn, dc, wg, hx, hI, hbk, vB, h7, h12, h34, hL, hM, hSo, hG, hLl, hce⟩
    · refine ⟨-1, U0, mT σ 1, 0, 0, ?_, ?_, n2, by omega, by omega⟩
      · rw [ar0 (hno y).1, q_uc, if_pos rfl, if_pos (k_is h), n1, q_uc]
      · rw [(hno y).2, q_mc, if_pos rfl, m_no, q_mc]
    · rcases hce y with q | ⟨c1, c2, fr, rfl, c4⟩
      · refine ⟨-1, U0, mT σ 1, 0, 0, ?_, ?_, n2, by omega, by omega⟩
        · rw [ar0 q.1, q_uc, if_pos rfl, if_pos (k_is h), n1, q_uc]
        · rw [q.2, q_mc, if_pos rfl, m_no, q_mc]
      · rcases hce z with q | ⟨d1, d2, go, rfl, d4⟩
        · refine ⟨-1, U0, mT σ 1, 0, 0, ?_, ?_, n2, by omega, by omega⟩
          · rw [ar1 c1 q.1, q_uc, if_pos rfl, if_pos (k_is h), n1, q_uc]
          · rw [c2, q_mc, if_neg n10, q.2, q_mc, if_pos rfl, m_no, q_mc]
        · rw [ar2 c1 d1, q_uc, if_neg n10, c2, q_mc, if_neg n10, d2, q_mc, if_neg n10]
          rcases k_in (N := N) (b := b) (g := g) (lo := 0) (hi := 9999999) ⟨by decide, by decide⟩ ⟨by decide, by decide⟩ bd U (mT σ 0) with ⟨f1, f2⟩ | ⟨f1, f2, -⟩
          · have f1' : f_X1_in N b g U bd 0 9999999 = some (0, U) := f1
            have f2' : f_within N (mT σ 0) bd 0 9999999 = some (0, mT σ 0) := f2
            refine ⟨-1, U2, mT σ 2, 0, 0, ?_, ?_, n4, by omega, by omega⟩
            · rw [f1', q_uc, if_pos rfl, if_pos (k_is h), n3, q_uc]
            · rw [f2', q_mc, if_pos rfl, m_no, q_mc]
          · have f1' : f_X1_in N b g U bd 0 9999999 = some (1, U) := f1
            have f2' : f_within N (mT σ 0) bd 0 9999999 = some (1, mT σ 0) := f2
            have hnd := hL.2.2.2.2.1
            have hn := hL.2.2.2.1
            have m4 : w * h' ≤ 10 * 10 := Nat.mul_le_mul hL.2.1.2 hL.2.2.1.2
            have hdd := hL.2.2.2.2.2.2.2.2.2.2
            have hkn := k_knO (U := U) (g := g) (la := la) (da := da) (wa := wa) (a := a) (v8 := v8) (v9 := v9) (v10 := v10) hM hG
            have h3 : ∀ e, e < nd → 1 ≤ zCn (wg e) 8 ∧ zCn (wg e) 8 ≤ 3 := fun e he => (hdd e he).2
            have hM0 : mLand (mT σ 0) B dead w h' n nd hts fl dO kn dc wg := hM
            have hS0 : mSol (mT σ 0) B dead w h' n nd hts fl dO kn dc wg := hSo
            obtain ⟨σ2, l1, l2, l3, l4, l5, l6, l7⟩ := m_lsts (N := N) hM0 hS0 (by omega)
            have tb := zTm_b (kn := kn) (wg := wg) nd h3
            have p3' : 3 ^ nd ≤ 3 ^ 5 := Nat.pow_le_pow_right (by decide) hnd
            have l0 := hI.2.2.2.2.2.1.1
            have ba0 : b ≤ ad 0 := lab_ge hI.2.2.1.1 (by omega)
            have h38 : σ.1 38 = iI dead := hM.1.2.2.1
            have n08 : ad 0 ≠ la 0 := fun z => by
              have := hLl.1.1
              rw [z] at l0
              omega
            have kw2 : ∀ k, k ≠ 0 → k ≠ 39 → σ2.1 k = σ.1 k := fun k q0 q39 => by
              rw [l6]
              show upd (upd σ.1 0 0) 39 0 k = σ.1 k
              rw [upd_n q39, upd_n q0]
            have ka2 : ∀ j, j ≠ 52 → j ≠ 53 → j ≠ 70 → j ≠ 71 → j ≠ 72 → σ2.2.1 j = σ.2.1 j := fun j a b c d e => l2.2 j a b c d e
            have k39 : σ2.1 39 = 0 := by
              rw [l6]
              exact upd_s (f := upd σ.1 0 0) (k := 39) (a := 0)
            obtain ⟨v1, v2, y1, y2, y3, -⟩ := x_fst (x := -2) (y := -2) (z := -2) hx ba0
            rw [f1', q_uc, if_neg n10, y1, p_bs, y2, p_bs, y3, p_bs, f2', q_mc, if_neg n10, l1, q_mv, p_let, p_let, p_let]
            have lp : ∀ (r t m1 m2 : Nat) (cn : Nat) (u : UH) (s q xa xb xc : Int32), t + r = zTm kn wg nd → r < m1 → r < m2 → cn ≤ t → wW g U ad la da wa a w h' n nd hts fl dO kn wg bkv ptv u t (mG3 σ xa xb xc) → ∃ (u' : UH) (res : Int32) (s' q' xa' xb' xc' : Int32), wW g U ad la da wa a w h' n nd hts fl dO kn wg bkv ptv u' (zTm kn wg nd) (mG3 σ xa' xb' xc') ∧ f_X1_failing_65 N b g (ad 0) m1 u (iI p) (iI fr) (iI go) bd (iI cn) (iI t) = some (res, uSet u' (ad 0) (xO ad (mT (mG3 σ xa' xb' xc') 0) bkv (.ref (la 0)) ptv)) ∧ f_failing_93 N m2 (mW (mG3 σ2 xa xb xc) s q) (iI p) (iI fr) (iI go) bd (iI cn) (iI t) = some (res, mW (mG3 σ2 xa' xb' xc') s' q') := by
              intro r
              induction r with
              | zero =>
                intro t m1 m2 cn u s q xa xb xc ht h1 h2 hcn hW
                obtain ⟨m1', rfl⟩ : ∃ z, m1 = z + 1 := ⟨m1 - 1, by omega⟩
                obtain ⟨m2', rfl⟩ : ∃ z, m2 = z + 1 := ⟨m2 - 1, by omega⟩
                have et : t = zTm kn wg nd := by omega
                subst et
                obtain ⟨⟨w8, w9, w10, hLu⟩, hxu, -⟩ := id hW
                have hKw : zKn (mW (mG3 σ2 xa xb xc) s q).1 (mW (mG3 σ2 xa xb xc) s q).2.1 nd B.2.1 (fun e => zCn (wg e) 8) kn (fun e k => zKd (wg e) k) := l5
                refine ⟨u, iI cn, s, q, xa, xb, xc, hW, ?_, ?_⟩
                · rw [f_X1_failing_65, x_mp hxu, p_bs, p_bs, if_pos (v_is hLu.1), c_trs (N := N) (b := b) hLu (fun e he => ⟨(hkn e he).1, (hkn e he).2.1⟩) (by omega), q_uc, p_le (by omega) (by omega) (by omega) (by omega) (by omega), if_pos (v_is hxu), x_don hxu ba0, q_uc]
                · rw [f_failing_93, m_many hKw (by omega), q_mc, p_le (by omega) (by omega) (by omega) (by omega) (by omega)]
              | succ r ih =>
                intro t m1 m2 cn u s q xa xb xc ht h1 h2 hcn hW
                obtain ⟨m1', rfl⟩ : ∃ z, m1 = z + 1 := ⟨m1 - 1, by omega⟩
                obtain ⟨m2', rfl⟩ : ∃ z, m2 = z + 1 := ⟨m2 - 1, by omega⟩
                obtain ⟨⟨w8, w9, w10, hLu⟩, hxu, -⟩ := id hW
                have hKw : zKn (mW (mG3 σ2 xa xb xc) s q).1 (mW (mG3 σ2 xa xb xc) s q).2.1 nd B.2.1 (fun e => zCn (wg e) 8) kn (fun e k => zKd (wg e) k) := l5
                have hMw : mLand (mW (mG3 σ2 xa xb xc) s q) B dead w h' n nd hts fl dO kn dc wg := l3
                have h38' : (mG3 σ xa xb xc).1 38 = iI dead := h38
                obtain ⟨u1, f, fw, c, yb, q1, s1, g1, g2, g3, g4, g5, g6⟩ := k_walk (N := N) (u0 := u0) (ou := ou) (t := t) (p1 := p) (fr := fr) (go := go) (np := np) hI vB h7 hM.1.1 hM.1.2.2.2.1 hG hLl hW h38' hMw hKw hM.2.2.1 (ka2 56 (by decide) (by decide) (by decide) (by decide) (by decide)) (ka2 57 (by decide) (by decide) (by decide) (by decide) (by decide)) h40 p3 hnp c4 d4 (by omega) (by omega)
                rw [mW_2] at g4
                obtain ⟨⟨z8, z9, z10, hL1⟩, hx1, -⟩ := id g2
                have fa := c_fails (N := N) (b := b) (g := g) (n := n) (bd := bd) g3 g5 (by omega) (by omega)
                have g3' : u1.2.2 u.1 = some (.inr (16, [.ref (la 0), .int (iI dead), .ref (u.1 + 1), .int (iI c), .int (iI ((yb : Int) - 32)), .int q1, .int s1, .int (iI fw)])) := g3
                have et : iI (t : Int) + 1 = iI ((t + 1 : Nat) : Int) := by
                  rw [j1, i_add]
                  rfl
                have ec : iI (cn : Int) + 1 = iI ((cn + 1 : Nat) : Int) := by
                  rw [j1, i_add]
                  rfl
                have q67 : (mW (mG3 σ2 xa xb xc) s1 q1).1 67 = q1 := rfl
                have fb : f ≤ 6 := by
                  rcases g5 with q | q | q <;> omega
                -- the model: one number for what came of it
                have md : f_failing_93 N (m2' + 1) (mW (mG3 σ2 xa xb xc) s q) (iI p) (iI fr) (iI go) bd (iI cn) (iI t) = f_failing_134 N (f_failing_93 N m2') (mW (mG3 σ2 xa xb xc) s1 q1) (iI p) (iI fr) (iI go) bd (iI cn) (iI t) (if f = 0 then (if q1 ≤ bd then 0 else 7) else iI f) := by
                  rw [f_failing_93, m_many hKw (by omega), q_mc, n_le (by omega) (by omega) (by omega) (by omega) (by omega), g4, q_mc, q67]
                  unfold f_failing_132
                  by_cases f0 : f = 0
                  · subst f0
                    rw [if_pos (show iI ((0 : Nat) : Int) = 0 from rfl), if_pos rfl]
                    by_cases cq : q1 ≤ bd
                    · rw [if_pos cq, if_pos cq]
                      rfl
                    · rw [if_neg cq, if_neg cq]
                  · rw [if_neg (show ¬ iI (f : Int) = 0 by rw [j0, j_eq (by omega) (by omega) (by omega) (by omega)]; omega), if_neg f0]
                rw [f_X1_failing_65, md, x_mp hxu, p_bs, p_bs, if_pos (v_is hLu.1), c_trs (N := N) (b := b) hLu (fun e he => ⟨(hkn e he).1, (hkn e he).2.1⟩) (by omega), q_uc, n_le (by omega) (by omega) (by omega) (by omega) (by omega), if_pos (v_is hxu), g1, q_uc]
                generalize hR : (if f = 0 then (if q1 ≤ bd then (0 : Int32) else 7) else iI f) = R at fa ⊢
                unfold f_X1_failing_85 f_failing_134 f_X1_failing_131 f_failing_169 f_X1_failing_134 f_failing_172
                rw [p_bs, if_pos (v_is g3'), fa, q_uc]
                by_cases r0 : R = 0
                · rw [if_pos r0, if_pos r0, p_let, p_let, et]
                  exact ih (t + 1) m1' m2' cn u1 s1 q1 xa xb xc (by omega) (by omega) (by omega) (by omega) g2
                · rw [if_neg r0, if_neg r0]
                  by_cases k0 : cn = 0
                  · subst k0
                    obtain ⟨a1, a2, b1, b2, b3, b4⟩ := x_fst (x := iI t) (y := R) (z := s1) hx1 ba0
                    have nw : u.1 ≠ ad 0 := fun z => by
                      have := hW.2.2.2.1 _ _ hxu
                      omega
                    have g3'' : a2.2.2 u.1 = some (.inr (16, [.ref (la 0), .int (iI dead), .ref (u.1 + 1), .int (iI c), .int (iI ((yb : Int) - 32)), .int q1, .int s1, .int (iI fw)])) := (b4 _ nw).trans g3'
                    have s66 : (mSet (mSet (mW (mG3 σ2 xa xb xc) s1 q1) 63 (iI t)) 64 R).1 66 = s1 := rfl
                    rw [if_pos (show iI ((0 : Nat) : Int) = 0 from rfl), b1, p_bs, b2, p_bs, v_gi g3'' (k := 6) rfl, p_bs, b3, p_bs, p_let, p_let, et, ec, if_pos (show iI ((0 : Nat) : Int) = 0 from rfl), p_let, p_let, p_let, p_let, p_let, s66, mW_G3, mG3_2]
                    have hW2 := g2.fst (x := iI t) (y := R) (z := s1) n08
                    rw [mG3_2] at hW2
                    exact ih (t + 1) m1' m2' (0 + 1) _ s1 q1 _ _ _ (by omega) (by omega) (by omega) (by omega) hW2
                  · rw [if_neg (show ¬ iI (cn : Int) = 0 by rw [j0, j_eq (by omega) (by omega) (by omega) (by omega)]; omega), if_neg (show ¬ iI (cn : Int) = 0 by rw [j0, j_eq (by omega) (by omega) (by omega) (by omega)]; omega), p_let, p_let, p_let, p_let, et, ec]
                    exact ih (t + 1) m1' m2' (cn + 1) u1 s1 q1 xa xb xc (by omega) (by omega) (by omega) (by omega) g2
            have hW0 : wW g U ad la da wa a w h' n nd hts fl dO kn wg bkv ptv U 0 σ := ⟨⟨_, _, _, hL⟩, hx, fun _ _ _ _ => rfl, hI.1, by omega, by omega⟩
            have hW1 := hW0.fst (x := -2) (y := -2) (z := -2) n08
            obtain ⟨u', res, s', q', xa, xb, xc, e2, e4, e5⟩ := lp (zTm kn wg nd) 0 N N 0 _ ((mG3 σ2 (-2) (-2) (-2)).1 66) ((mG3 σ2 (-2) (-2) (-2)).1 67) (-2) (-2) (-2) (by omega) (by omega) (by omega) (by omega) hW1
            rw [mW_id] at e5
            obtain ⟨-, hx', hsm', -, sz1, sz2⟩ := id e2
            have lm : ∀ x, lab x = 10 → u'.2.2 x = U.2.2 x := fun x q => hsm' x (hI.lt q (by decide)) (fun z => by have := hLl.1.1; rw [z] at q; omega) (fun z => by rw [z] at q; omega)
            have aft := k_aft3 (σ1 := mW (mG3 σ2 xa xb xc) s' q') hI hbk vB h7 h12 h34 hL hG hLl e2 l3 l4 (fun k q => by
              show upd (upd (upd (upd (upd σ2.1 63 xa) 64 xb) 65 xc) 66 s') 67 q' k = σ.1 k
              rw [upd_n (by omega), upd_n (by omega), upd_n (by omega), upd_n (by omega), upd_n (by omega)]
              exact kw2 k (by omega) (by omega)) ka2
            have e : xO ad (mW (mG3 σ2 xa xb xc) s' q') bkv (.ref (la 0)) ptv = xO ad (mT (mG3 σ xa xb xc) 0) bkv (.ref (la 0)) ptv := xO_eq ⟨k39, kw2 10 (by decide) (by decide), kw2 38 (by decide) (by decide), kw2 2 (by decide) (by decide), kw2 9 (by decide) (by decide), rfl, rfl, rfl⟩
            refine ⟨res, uSet u' (ad 0) (xO ad (mT (mG3 σ xa xb xc) 0) bkv (.ref (la 0)) ptv), mW (mG3 σ2 xa xb xc) s' q', 2 * zTm kn wg nd, 13 * zTm kn wg nd, e4, e5, ?_, by omega, by omega⟩
            rw [← e]
            exact aft.fin hQ hx' l0 lm sz1 sz2
end M6s
