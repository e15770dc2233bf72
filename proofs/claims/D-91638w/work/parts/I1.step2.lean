/-! PLAIN: the call step -/
/-- the map's last three numbers are changed -/
theorem vLd.n3 {u : UH} {g : uEnv} {la da wa : Nat → Nat} {bk : Nat} {v8 v9 v10 w8 w9 w10 : Value} {w h n nd : Nat} {hts : Nat → Int} {fl : Nat → Nat} {dO kn : Nat → Int} {wg : Nat → Nat → Nat} (hL : vLd u g la da wa bk v8 v9 v10 w h n nd hts fl dO kn wg) : vLd (uSet u (la 0) (.inr (12, bF la bk w h w8 w9 w10))) g la da wa bk w8 w9 w10 w h n nd hts fl dO kn wg := by
  obtain ⟨l0, hw, hh, hn, hnd, ⟨hf, a1, a2⟩, ⟨gf, g1, g2⟩, ⟨df, f1, f2⟩, ⟨m, mc, xs, ⟨x1, x2, x3⟩, x4⟩, ⟨yf, wr, y1, y2⟩, hdd⟩ := hL
  have nr : ∀ {x cl : Nat} {fs : List Value}, u.2.2 x = some (.inr (cl, fs)) → cl ≠ 12 → (uSet u (la 0) (.inr (12, bF la bk w h w8 w9 w10))).2.2 x = some (.inr (cl, fs)) := fun q q' => (u_sn (u_nrr q l0 q')).trans q
  have nl : ∀ {x t m' : Nat} {z : uVs}, u.2.2 x = some (.inl (t, m', z)) → (uSet u (la 0) (.inr (12, bF la bk w h w8 w9 w10))).2.2 x = some (.inl (t, m', z)) := fun q => (u_sn (u_nlr q l0)).trans q
  refine ⟨u_ss, hw, hh, hn, hnd, ⟨hf, nl a1, a2⟩, ⟨gf, nl g1, g2⟩, ⟨df, nl f1, f2⟩, ⟨m, mc, xs, ⟨nr x1 (by decide), nl x2, x3⟩, x4⟩, ⟨yf, wr, nl y1, y2⟩, fun e he => ?_⟩
  obtain ⟨⟨d1, wf, d2, d3⟩, d4⟩ := hdd e he
  exact ⟨⟨nr d1 (by decide), wf, nl d2, d3⟩, d4⟩
section E1s
variable {N b : Nat} {g : uEnv} {A : pA} {ad sa : Nat → Nat} {Q : qT} {U : UH} {lab : Nat → Nat} {σ : MS}
theorem k_step (hQ : qOk Q) (h : xSt b g A ad sa Q U lab σ) (hN : 92 ≤ N) (x y z t : Int32) : ∃ r U' σ', f_X1_step N b g U (ad 0) x y z t = some (r, U') ∧ f_step N σ x y z t = some (r, σ') ∧ xStep b g A ad sa Q U lab U' σ' 0 0 := by
  obtain ⟨U1, n1, n2⟩ := k_ref (N := N) (t := 1) (by decide) hQ h
  have hi0 := k_is h
  unfold f_X1_step f_step f_X1_step_35 f_step_39 f_step_129 f_X1_step_115
  rw [if_pos hi0, m_good, q_mv]
  rcases k_map (N := N) h with hno | ⟨bkv, ptv, lo, hi, a, al, rv, nm, B, dead, la, da, wa, v8, v9, v10, w, h', n, nd, hts, fl, dO, kn, dc, wg, hx, hI, hbk, vB, h7, h12, h34, hL, hM, hSo, hG, hLl, hce⟩
  · refine ⟨-1, U1, mT σ 1, ?_, ?_, n2⟩
    · rw [(hno x).1, q_uc, if_pos rfl, if_pos hi0, n1, q_uc]
    · rw [(hno x).2, q_mc, if_pos rfl, m_no, q_mc]
  · rcases hce x with q | ⟨c1, c2, c, c3, c4⟩
    · refine ⟨-1, U1, mT σ 1, ?_, ?_, n2⟩
      · rw [q.1, q_uc, if_pos rfl, if_pos hi0, n1, q_uc]
      · rw [q.2, q_mc, if_pos rfl, m_no, q_mc]
    · rw [c1, c2, q_uc, q_mc, if_neg n10, if_neg n10]
      rcases k_in (N := N) (b := b) (g := g) (lo := 0) (hi := 3) ⟨by decide, by decide⟩ ⟨by decide, by decide⟩ y U (mT σ 0) with ⟨f1, f2⟩ | ⟨f1, f2, iy, f3, f4, f5⟩
      · have f1' : f_X1_in N b g U y 0 3 = some (0, U) := f1
        have f2' : f_within N (mT σ 0) y 0 3 = some (0, mT σ 0) := f2
        refine ⟨-1, U1, mT σ 1, ?_, ?_, n2⟩
        · rw [f1', q_uc, if_pos rfl, if_pos hi0, n1, q_uc]
        · rw [f2', q_mc, if_pos rfl, m_no, q_mc]
      · have f1' : f_X1_in N b g U y 0 3 = some (1, U) := f1
        have f2' : f_within N (mT σ 0) y 0 3 = some (1, mT σ 0) := f2
        rw [f1', f2', q_uc, q_mc, if_neg n10, if_neg n10, if_pos hi0]
        rcases k_gd (N := N) h z with ⟨g1, g2⟩ | ⟨g1, g2, k, lo', hi', a', al', rv', nm', B', mpv', ptv', e1, e2, e3, e4, e5, e6⟩
        · refine ⟨-1, U1, mT σ 1, ?_, ?_, n2⟩
          · rw [g1, q_uc, if_pos rfl, if_pos hi0, n1, q_uc]
          · rw [g2, q_mc, if_pos rfl, m_no, q_mc]
        · rw [g1, g2, q_uc, q_mc, if_neg n10, if_neg n10]
          rcases k_in (N := N) (b := b) (g := g) (lo := 0) (hi := 3) ⟨by decide, by decide⟩ ⟨by decide, by decide⟩ t U (mT σ 0) with ⟨p1, p2⟩ | ⟨p1, p2, it, p3, p4, p5⟩
          · have p1' : f_X1_in N b g U t 0 3 = some (0, U) := p1
            have p2' : f_within N (mT σ 0) t 0 3 = some (0, mT σ 0) := p2
            refine ⟨-1, U1, mT σ 1, ?_, ?_, n2⟩
            · rw [p1', q_uc, if_pos rfl, if_pos hi0, n1, q_uc]
            · rw [p2', q_mc, if_pos rfl, m_no, q_mc]
          · have p1' : f_X1_in N b g U t 0 3 = some (1, U) := p1
            have p2' : f_within N (mT σ 0) t 0 3 = some (1, mT σ 0) := p2
            have kB : k < B.2.1 := by
              rw [bk_same hM.1.2.1 e6 hM.1.1 e5]
              exact e2
            obtain ⟨yy, rfl⟩ : ∃ yy : Nat, iy = (yy : Int) := ⟨iy.toNat, by omega⟩
            have hy4 : yy < 4 := by omega
            have hn := hL.2.2.2.1
            have m4 : w * h' ≤ 10 * 10 := Nat.mul_le_mul hL.2.1.2 hL.2.2.1.2
            have hL' := hL
            obtain ⟨l0h, hw, hh, -, hnd, ⟨hf, a1, a2⟩, -, -, -, ⟨yf, wr, y1, y2⟩, -⟩ := hL'
            obtain ⟨w1, w2⟩ := y2 yy hy4
            have Ly : uLdR U (la 6) 5 (iI (yy : Int)) = some (some (wr yy)) := by
              rw [u_ldR y1 (by omega) (by omega) (by omega)]
              exact congrArg some w1
            have hl := hI.2.2.1.1
            have l0 := hI.2.2.2.2.2.1.1
            have ba0 : b ≤ ad 0 := lab_ge hl (by omega)
            have la0 := hLl.1.1
            have hM0 : mMap (mT σ 0) B dead w h' hts := hM.1
            have wy := L_why (N := N) (g := g) l0h hn a1 a2 (lab_ge hl (by omega)) (lab_out h7.2 (by omega)) vB hM.1.1 w2 hw hh (hn ▸ c4) kB hM.1.2.2.2.1 hN
            have bar := b_barred (N := N) (σ := mT σ 0) hM0 hN kB (hn ▸ c4) hy4
            have hde : U.2.2 (ad 0) = some (xO ad σ bkv (.ref (la 0)) ptv) := hx
            have h38 : σ.1 38 = iI dead := hM.1.2.2.1
            have nx0 : ad 0 ≠ la 0 := fun z => by rw [z] at l0; omega
            -- the map behind it
            have bF3 : ∀ w8 w9 w10, (uSet U (la 0) (.inr (12, [.ref a, .int (iI w), .int (iI h'), .ref (la 1), .ref (la 2), .ref (la 3), .ref (la 4), .ref (la 6), w8, w9, w10]))).2.2 (ad 0) = some (xO ad σ bkv (.ref (la 0)) ptv) := fun _ _ _ => (u_sn nx0).trans hx
            have fin : ∀ w8 w9 w10, xStep b g A ad sa Q U lab (uSet (uSet U (la 0) (.inr (12, [.ref a, .int (iI w), .int (iI h'), .ref (la 1), .ref (la 2), .ref (la 3), .ref (la 4), .ref (la 6), w8, w9, w10]))) (ad 0) (xO ad (mT σ 0) bkv (.ref (la 0)) ptv)) (mT σ 0) 0 0 := fun w8 w9 w10 => by
              have hL5 : ∀ m z, (uSet U (la 0) (.inr (12, bF la a w h' w8 w9 w10))).2.2 (la 5) = some (.inl (4, m, z)) → (m = 0 → g.1 10 = some (la 5) ∧ la 5 < b) ∧ (m ≠ 0 → lab (la 5) = 8) := fun m z q => by
                by_cases ee : la 5 = la 0
                · rw [ee, u_ss] at q
                  cases q
                · rw [u_sn ee] at q
                  exact hLl.2.2.2 m z q
              have sg := k_mut (σ1 := mT σ 0) (U' := uSet U (la 0) (.inr (12, bF la a w h' w8 w9 w10))) (lab' := lab) hQ hI hbk vB h7 h12 (fun x => Or.inl rfl) hI.2.2.1.2 (hI.1.set l0h) (Nat.le_refl _) (k_set8 la0) h34 (hL.n3 (w8 := w8) (w9 := w9) (w10 := w10)) hM hSo hG ⟨hLl.1, hLl.2.1, hLl.2.2.1, hL5⟩ (fun k q0 _ _ q39 _ => (upd_n q39).trans (upd_n q0)) (Or.inl rfl) (fun j _ _ _ _ _ _ => rfl)
              exact k_fins hQ sg ((u_sn nx0).trans hx) l0 (fun x q => u_sn (fun z => by rw [z, la0] at q; omega)) rfl rfl rfl ⟨rfl, rfl, rfl, rfl, rfl, rfl, rfl⟩
            have don : ∀ w8 w9 w10 (r : Int32), (if uIs (uSet U (la 0) (.inr (12, [.ref a, .int (iI w), .int (iI h'), .ref (la 1), .ref (la 2), .ref (la 3), .ref (la 4), .ref (la 6), w8, w9, w10]))) (ad 0) 0 = true then ucall (f_X1_done N b g (uSet U (la 0) (.inr (12, [.ref a, .int (iI w), .int (iI h'), .ref (la 1), .ref (la 2), .ref (la 3), .ref (la 4), .ref (la 6), w8, w9, w10]))) (ad 0) r) fun r5 u3 => some (r5, u3) else none) = some (r, uSet (uSet U (la 0) (.inr (12, [.ref a, .int (iI w), .int (iI h'), .ref (la 1), .ref (la 2), .ref (la 3), .ref (la 4), .ref (la 6), w8, w9, w10]))) (ad 0) (xO ad (mT σ 0) bkv (.ref (la 0)) ptv)) := fun w8 w9 w10 r => by
              rw [if_pos (v_is (bF3 w8 w9 w10)), x_don (bF3 w8 w9 w10) ba0, q_uc]
            rw [p1', p2', q_uc, q_mc, if_neg n10, if_neg n10, x_mp hx, p_bs, p_bs, p_bs, v_gr l0h (k := 7) rfl, p_bs, p_bs, f3, Ly, p_bs, v_gi hx (k := 3) rfl, p_bs, p_bs, if_pos (v_is l0h), c3, e1, h38, wy, q_uc, bar, q_mc]
            by_cases t0 : t = 0
            · refine ⟨iI (bWhy B dead hts w h' c yy k), _, mT σ 0, ?_, ?_, fin (.int (iI (bN3 B dead hts w h' c yy k).1)) (.int (iI (bN3 B dead hts w h' c yy k).2.1)) (.int (iI (bN3 B dead hts w h' c yy k).2.2))⟩
              · rw [if_pos t0, p_bs]
                exact don _ _ _ _
              · rw [if_pos t0]
            · have bi := bWhy_in (B := B) (dead := dead) (hts := hts) (w := w) (h := h') (c := c) (way := yy) (d := k)
              have rd : ∀ (kk : Nat) (v : Int32) (w8 w9 w10 : Value), (bF la a w h' w8 w9 w10)[kk]? = some (.int v) → (uGR (uSet U (la 0) (.inr (12, [.ref a, .int (iI w), .int (iI h'), .ref (la 1), .ref (la 2), .ref (la 3), .ref (la 4), .ref (la 6), w8, w9, w10]))) (ad 0) 0 7 = some (some (la 0))) ∧ uGI (uSet U (la 0) (.inr (12, [.ref a, .int (iI w), .int (iI h'), .ref (la 1), .ref (la 2), .ref (la 3), .ref (la 4), .ref (la 6), w8, w9, w10]))) (la 0) 12 kk = some v := fun kk v w8 w9 w10 q => ⟨x_mp (bF3 w8 w9 w10), v_gi u_ss q⟩
              -- the model's answer for the three
              have mdl : (if iI (bWhy B dead hts w h' c yy k) ≤ 0 then mcall (f_beside N (mT σ 0) (iI c) (iI yy)) fun r26 σ24 => if mIn r26 (mLen 41) = true then mlet (σ24.2.1 41 r26.toNatClampNeg) fun y28 => if mIn (iI (c : Int)) (mLen 41) = true then mlet (σ24.2.1 41 (iI (c : Int)).toNatClampNeg) fun y30 => mcall (f_need N σ24 (y28 - y30) (iI k)) fun r33 σ31 => if t = 1 then some (r33, σ31) else if t = 2 then mcall (f_slip N σ31 r33 (iI k)) fun r41 σ39 => some (r41, σ39) else mcall (f_cost N σ31 (iI c) (iI yy) (iI k)) fun r38 σ36 => some (r38, σ36) else none else none else some (-2, mT σ 0)) = some (if t = 1 then iI (bN3 B dead hts w h' c yy k).1 else if t = 2 then iI (bN3 B dead hts w h' c yy k).2.1 else iI (bN3 B dead hts w h' c yy k).2.2, mT σ 0) := by
                by_cases hw0 : bWhy B dead hts w h' c yy k = 0
                · obtain ⟨hb0, r1, r2, r3⟩ := bWhy_0 hw0
                  have b3 := hM.1.1.2.2.2.1
                  obtain ⟨nd1, nd2, nd3⟩ := b_need (N := N) (σ := mT σ 0) (rise := bRise hts w h' c yy) (by omega) hM.1.1 hM.1.2.1 kB hM.1.2.2.1 hM.1.2.2.2.1 (by omega)
                  have sl := b_slip (N := N) (σ := mT σ 0) hN hM.1.1 hM.1.2.1 kB hM.1.2.2.1 hM.1.2.2.2.1 ⟨nd2, nd3⟩
                  have co := b_cost (N := N) (σ := mT σ 0) hM0 hN kB (hn ▸ c4) hy4 hw0
                  have n3 : bN3 B dead hts w h' c yy k = (bNeed B dead (bRise hts w h' c yy) k, bSl (bSlipOf B dead (bNeed B dead (bRise hts w h' c yy) k) k), bCost B dead hts w h' c yy k) := if_pos hw0
                  have hht := hM.1.2.2.2.2.2.2.2.2
                  rcases bes_b (w := w) (h := h') (c := c) (d := yy) hw hh with hb | ⟨-, hb1, hb2⟩
                  · omega
                  · obtain ⟨k1, -, -⟩ := hht (besI w h' c yy).toNat (by omega)
                    obtain ⟨k2, -, -⟩ := hht c (by omega)
                    have k1' : (mT σ 0).2.1 41 (besI w h' c yy).toNat = iI (hts (besI w h' c yy).toNat) := k1
                    have k2' : (mT σ 0).2.1 41 c = iI (hts c) := k2
                    have bs := b_m24 (N := N) (σ := mT σ 0) hM.1.2.2.2.2.1 hM.1.2.2.2.2.2.1 hy4 hw hh (hn ▸ c4)
                    obtain ⟨i1, i2⟩ := t_ix (a := besI w h' c yy) (n := mLen 41) (k := (besI w h' c yy).toNat) (by omega) (by rw [mL41]; omega) (by rw [mL41]; omega)
                    obtain ⟨i3, i4⟩ := t_ix (a := (c : Int)) (n := mLen 41) (k := c) rfl (by rw [mL41]; omega) (by rw [mL41]; omega)
                    rw [n3, if_pos (show iI (bWhy B dead hts w h' c yy k) ≤ 0 by rw [hw0]; exact Int32.le_refl 0), bs, q_mc, if_pos i1, p_let, i2, k1', if_pos i3, p_let, i4, k2', i_sub, show hts (besI w h' c yy).toNat - hts c = bRise hts w h' c yy from rfl, nd1, q_mc]
                    by_cases t1 : t = 1
                    · rw [if_pos t1, if_pos t1]
                    · by_cases t2 : t = 2
                      · rw [if_neg t1, if_neg t1, if_pos t2, if_pos t2, sl, q_mc]
                      · rw [if_neg t1, if_neg t1, if_neg t2, if_neg t2, co, q_mc]
                · have n3 : bN3 B dead hts w h' c yy k = (-2, -2, -2) := if_neg hw0
                  rw [n3, if_neg (show ¬ iI (bWhy B dead hts w h' c yy k) ≤ 0 by rw [j0, j_le (by omega) (by omega) (by omega) (by omega)]; omega)]
                  by_cases t1 : t = 1
                  · rw [if_pos t1]
                    rfl
                  · by_cases t2 : t = 2
                    · rw [if_neg t1, if_pos t2]
                      rfl
                    · rw [if_neg t1, if_neg t2]
                      rfl
              by_cases t1 : t = 1
              · refine ⟨iI (bN3 B dead hts w h' c yy k).1, _, mT σ 0, ?_, ?_, fin (.int (iI (bN3 B dead hts w h' c yy k).1)) (.int (iI (bN3 B dead hts w h' c yy k).2.1)) (.int (iI (bN3 B dead hts w h' c yy k).2.2))⟩
                · obtain ⟨q1, q2⟩ := rd 8 (iI (bN3 B dead hts w h' c yy k).1) (.int (iI (bN3 B dead hts w h' c yy k).1)) (.int (iI (bN3 B dead hts w h' c yy k).2.1)) (.int (iI (bN3 B dead hts w h' c yy k).2.2)) rfl
                  rw [if_neg t0, if_pos t1, q1, p_bs, p_bs, q2, p_bs, p_bs]
                  exact don _ _ _ _
                · rw [show (if t = 1 then iI (bN3 B dead hts w h' c yy k).1 else if t = 2 then iI (bN3 B dead hts w h' c yy k).2.1 else iI (bN3 B dead hts w h' c yy k).2.2) = iI (bN3 B dead hts w h' c yy k).1 from if_pos t1] at mdl
                  rw [if_neg t0]
                  exact mdl
              · by_cases t2 : t = 2
                · refine ⟨iI (bN3 B dead hts w h' c yy k).2.1, _, mT σ 0, ?_, ?_, fin (.int (iI (bN3 B dead hts w h' c yy k).1)) (.int (iI (bN3 B dead hts w h' c yy k).2.1)) (.int (iI (bN3 B dead hts w h' c yy k).2.2))⟩
                  · obtain ⟨q1, q2⟩ := rd 9 (iI (bN3 B dead hts w h' c yy k).2.1) (.int (iI (bN3 B dead hts w h' c yy k).1)) (.int (iI (bN3 B dead hts w h' c yy k).2.1)) (.int (iI (bN3 B dead hts w h' c yy k).2.2)) rfl
                    rw [if_neg t0, if_neg t1, if_pos t2, q1, p_bs, p_bs, q2, p_bs, p_bs]
                    exact don _ _ _ _
                  · rw [show (if t = 1 then iI (bN3 B dead hts w h' c yy k).1 else if t = 2 then iI (bN3 B dead hts w h' c yy k).2.1 else iI (bN3 B dead hts w h' c yy k).2.2) = iI (bN3 B dead hts w h' c yy k).2.1 from (if_neg t1).trans (if_pos t2)] at mdl
                    rw [if_neg t0]
                    exact mdl
                · refine ⟨iI (bN3 B dead hts w h' c yy k).2.2, _, mT σ 0, ?_, ?_, fin (.int (iI (bN3 B dead hts w h' c yy k).1)) (.int (iI (bN3 B dead hts w h' c yy k).2.1)) (.int (iI (bN3 B dead hts w h' c yy k).2.2))⟩
                  · obtain ⟨q1, q2⟩ := rd 10 (iI (bN3 B dead hts w h' c yy k).2.2) (.int (iI (bN3 B dead hts w h' c yy k).1)) (.int (iI (bN3 B dead hts w h' c yy k).2.1)) (.int (iI (bN3 B dead hts w h' c yy k).2.2)) rfl
                    rw [if_neg t0, if_neg t1, if_neg t2, q1, p_bs, p_bs, q2, p_bs, p_bs]
                    exact don _ _ _ _
                  · rw [show (if t = 1 then iI (bN3 B dead hts w h' c yy k).1 else if t = 2 then iI (bN3 B dead hts w h' c yy k).2.1 else iI (bN3 B dead hts w h' c yy k).2.2) = iI (bN3 B dead hts w h' c yy k).2.2 from (if_neg t1).trans (if_neg t2)] at mdl
                    rw [if_neg t0]
                    exact mdl
end E1s
