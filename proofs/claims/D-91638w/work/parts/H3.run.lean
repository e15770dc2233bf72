/-! PLAIN: the call run -/
theorem lSt_b {m0 : Nat} : ∀ k, ((lSt m0 k).2.1 = 0 ∧ (lSt m0 k).2.2 = 0) ∨ ((lSt m0 k).2.1 ≤ 4 * (lSt m0 k).1 ∧ (lSt m0 k).1 ≤ 10 + 2 * k ∧ (lSt m0 k).2.2 ≤ (lSt m0 k).2.1) := by
  intro k
  induction k with
  | zero => exact Or.inl ⟨rfl, rfl⟩
  | succ k ih =>
    rw [lSt]
    by_cases h : k < (lSt m0 k).1
    · rw [if_pos h]
      rcases ih with q | ⟨q1, q2, q3⟩
      · exact Or.inl q
      · exact Or.inr ⟨q1, by omega, q3⟩
    · rw [if_neg h]
      right
      have gt := lGr_gt (m := (lSt m0 k).1)
      have gb : 4 * (lSt m0 k).1 ≤ 3 * lGr (lSt m0 k).1 ∧ lGr (lSt m0 k).1 ≤ 10 + 2 * (lSt m0 k).1 := by
        unfold lGr
        split
        · omega
        · split <;> omega
      show (lSt m0 k).2.1 + lGr (lSt m0 k).1 ≤ 4 * lGr (lSt m0 k).1 ∧ lGr (lSt m0 k).1 ≤ 10 + 2 * (k + 1) ∧ (lSt m0 k).2.2 + 1 ≤ (lSt m0 k).2.1 + lGr (lSt m0 k).1
      rcases ih with ⟨q1, q2⟩ | ⟨q1, q2, q3⟩ <;> omega
theorem lSt_b2 {m0 k : Nat} (h : k ≤ 700) : (lSt m0 k).2.1 ≤ 6000 ∧ (lSt m0 k).2.2 ≤ 6000 := by
  rcases lSt_b (m0 := m0) k with ⟨q1, q2⟩ | ⟨q1, q2, q3⟩ <;> omega
section D3
variable {N b : Nat} {g : uEnv} {A : pA} {ad sa : Nat → Nat} {Q : qT} {U : UH} {lab : Nat → Nat} {σ : MS}
/-- a call that is refused while the model has told more -/
theorem k_ref3 {bkv ptv : Value} {la : Nat → Nat} {σ1 : MS} {t : Int32} (h4 : t ≠ 4) (hQ : qOk Q) (hx : U.2.2 (ad 0) = some (xO ad σ bkv (.ref (la 0)) ptv)) (l0 : lab (ad 0) = 1) (hb : b ≤ ad 0) (sg : xSi b g A ad sa Q U lab (mSet σ1 39 t) bkv (.ref (la 0)) ptv) (kw : ∀ k, k ≠ 0 → k ≠ 39 → k ≠ 49 → k ≠ 50 → k ≠ 51 → σ1.1 k = σ.1 k) : ∃ U', f_X1_refused N b g U (ad 0) t = some (-1, U') ∧ xStep b g A ad sa Q U lab U' (mSet σ1 39 t) 0 0 := by
  refine ⟨_, x_ref h4 hx hb, ?_⟩
  have e : xO ad (mSet σ1 39 t) bkv (.ref (la 0)) ptv = xO ad (mT σ t) bkv (.ref (la 0)) ptv := xO_eq (σ := mT σ t) (σ' := mSet σ1 39 t) ⟨rfl, kw 10 (by decide) (by decide) (by decide) (by decide) (by decide), kw 38 (by decide) (by decide) (by decide) (by decide) (by decide), kw 2 (by decide) (by decide) (by decide) (by decide) (by decide), kw 9 (by decide) (by decide) (by decide) (by decide) (by decide), kw 63 (by decide) (by decide) (by decide) (by decide) (by decide), kw 64 (by decide) (by decide) (by decide) (by decide) (by decide), kw 65 (by decide) (by decide) (by decide) (by decide) (by decide)⟩
  rw [← e]
  exact sg.fin hQ hx l0 (fun _ _ => rfl) rfl rfl
theorem k_run (hQ : qOk Q) (h : xSt b g A ad sa Q U lab σ) (hN : 200000000000000000 ≤ N) (x y t : Int32) (mean : Nat) (hm : mean = 0 ∨ mean = 1) : ∃ r U' σ' dc ds, f_X1_run N b g U (ad 0) x y (iI mean) t = some (r, U') ∧ f_run N σ x y (iI mean) t = some (r, σ') ∧ dc ≤ 6002 ∧ ds ≤ 6005 ∧ xStep b g A ad sa Q U lab U' σ' dc ds := by
  obtain ⟨ar0, ar1, ar2⟩ := k_are (N := N) (b := b) (g := g) (ad := ad) (x := x) (y := y) (k_is h)
  unfold f_X1_run f_run f_X1_run_27 f_run_20
  rw [if_pos (k_is h), m_good, q_mv]
  obtain ⟨U0, n1, n2⟩ := k_ref (N := N) (t := 1) (by decide) hQ h
  rcases k_map (N := N) h with hno | ⟨bkv, ptv, lo, hi, a, al, rv, nm, B, dead, la, da, wa, v8, v9, v10, w, h', n, nd, hts, fl, dO, kn, dc, wg, hx, hI, hbk, vB, h7, h12, h34, hL, hM, hSo, hG, hLl, hce⟩
  · refine ⟨-1, U0, mT σ 1, 0, 0, ?_, ?_, by omega, by omega, n2⟩
    · rw [ar0 (hno x).1, q_uc, if_pos rfl, if_pos (k_is h), n1, q_uc]
    · rw [(hno x).2, q_mc, if_pos rfl, m_no, q_mc]
  · rcases hce x with q | ⟨c1, c2, fr, c3, c4⟩
    · refine ⟨-1, U0, mT σ 1, 0, 0, ?_, ?_, by omega, by omega, n2⟩
      · rw [ar0 q.1, q_uc, if_pos rfl, if_pos (k_is h), n1, q_uc]
      · rw [q.2, q_mc, if_pos rfl, m_no, q_mc]
    · rcases hce y with q | ⟨d1, d2, go, d3, d4⟩
      · refine ⟨-1, U0, mT σ 1, 0, 0, ?_, ?_, by omega, by omega, n2⟩
        · rw [ar1 c1 q.1, q_uc, if_pos rfl, if_pos (k_is h), n1, q_uc]
        · rw [c2, q_mc, if_neg n10, q.2, q_mc, if_pos rfl, m_no, q_mc]
      · have hnd := hL.2.2.2.2.1
        have hn := hL.2.2.2.1
        have m4 : w * h' ≤ 10 * 10 := Nat.mul_le_mul hL.2.1.2 hL.2.2.1.2
        have hdd := hL.2.2.2.2.2.2.2.2.2.2
        have hkn := k_knO (U := U) (g := g) (la := la) (da := da) (wa := wa) (a := a) (v8 := v8) (v9 := v9) (v10 := v10) hM hG
        have h3 : ∀ e, e < nd → 1 ≤ zCn (wg e) 8 ∧ zCn (wg e) 8 ≤ 3 := fun e he => (hdd e he).2
        have hM0 : mLand (mT σ 0) B dead w h' n nd hts fl dO kn dc wg := hM
        have hS0 : mSol (mT σ 0) B dead w h' n nd hts fl dO kn dc wg := hSo
        obtain ⟨σ2, l1, l2, l3, l4, l5, l6, l7⟩ := m_lsts (N := N) hM0 hS0 (by omega)
        have tr := c_trs (N := N) (b := b) hL (fun e he => ⟨(hkn e he).1, (hkn e he).2.1⟩) (by omega)
        have tb := zTm_b (kn := kn) (wg := wg) nd h3
        have p3 : 3 ^ nd ≤ 3 ^ 5 := Nat.pow_le_pow_right (by decide) hnd
        have e1 : iI (zTm kn wg nd : Int) - 1 = iI ((zTm kn wg nd : Int) - 1) := by rw [j1, i_sub]
        have l0 := hI.2.2.2.2.2.1.1
        have hl := hI.2.2.1.1
        have hfre := hI.2.2.1.2
        have oU := hI.1
        have ba0 : b ≤ ad 0 := lab_ge hl (by omega)
        have kw2 : ∀ k, k ≠ 0 → k ≠ 39 → k ≠ 49 → k ≠ 50 → k ≠ 51 → σ2.1 k = σ.1 k := fun k q0 q39 _ _ _ => by
          rw [l6]
          show upd (upd σ.1 0 0) 39 0 k = σ.1 k
          rw [upd_n q39, upd_n q0]
        have ka2 : ∀ j, j ≠ 52 → j ≠ 53 → j ≠ 70 → j ≠ 71 → j ≠ 72 → σ2.2.1 j = σ.2.1 j := fun j a b c d e => l2.2 j a b c d e
        rw [ar2 c1 d1, q_uc, if_neg n10, x_mp hx, p_bs, p_bs, if_pos (v_is hL.1), tr, q_uc, e1, c2, q_mc, if_neg n10, d2, q_mc, if_neg n10, l1, q_mv, m_many l5 (by omega), q_mc, e1]
        rcases k_in (N := N) (b := b) (g := g) (lo := 0) (hi := (zTm kn wg nd : Int) - 1) ⟨by decide, by decide⟩ ⟨by omega, by omega⟩ t U σ2 with ⟨f1, f2⟩ | ⟨f1, f2, i, f3, f4, f5⟩
        · have f1' : f_X1_in N b g U t 0 (iI ((zTm kn wg nd : Int) - 1)) = some (0, U) := f1
          have f2' : f_within N σ2 t 0 (iI ((zTm kn wg nd : Int) - 1)) = some (0, σ2) := f2
          have sg := k_sig (σ1 := mSet σ2 39 1) hQ hI hbk vB h7 h12 h34 hL hG hLl l3 l4 (fun k q0 q39 q49 q50 q51 => (upd_n q39).trans (kw2 k q0 q39 q49 q50 q51)) ka2
          obtain ⟨U', r1, r2⟩ := k_ref3 (N := N) (σ1 := σ2) (t := 1) (by decide) hQ hx l0 ba0 sg kw2
          refine ⟨-1, U', mSet σ2 39 1, 0, 0, ?_, ?_, by omega, by omega, r2⟩
          · rw [f1', q_uc, if_pos rfl, if_pos (k_is h), r1, q_uc]
          · rw [f2', q_mc, if_pos rfl, m_no2, q_mc]
        · have f1' : f_X1_in N b g U t 0 (iI ((zTm kn wg nd : Int) - 1)) = some (1, U) := f1
          have f2' : f_within N σ2 t 0 (iI ((zTm kn wg nd : Int) - 1)) = some (1, σ2) := f2
          obtain ⟨tn, rfl⟩ : ∃ tn : Nat, i = (tn : Int) := ⟨i.toNat, by omega⟩
          obtain ⟨ub, u8, u9, u10, σ3, s1, s2, s3, s4, s5, s6, s7, s8, s9, s10, s11⟩ := k_ses2 (N := N) (mean := mean) hx hI vB h7 hL hM l3 l4 hG hLl hm d4 c4 hN
          have kk := k_kOk hI
          have s3' := s3
          obtain ⟨⟨hO, hLb, -⟩, -⟩ := s3'
          obtain ⟨u1, o1, o2⟩ := s3.of (N := N) kk d4 hm s6 (by omega) s7.1 s7.2 c4
          rw [f1', q_uc, if_neg n10, if_pos (k_is h), f2', q_mc, if_neg n10, c3, d3, s1, q_uc, s2, q_mc]
          unfold f_X1_run_39 f_X1_run_86 f_X1_run_93
          rw [p_bs, if_pos (v_is hO), c_known hO hLb hkn (by omega), q_uc, if_pos (v_is hO), o1, q_uc, show (9223372036854775807 : Int64) = iL 9223372036854775807 from rfl, show (0 : Int64) = iL 0 from rfl]
          -- u1
          have o2' := o2
          obtain ⟨hX1, ⟨V1, D1, P1, kid1, hI1⟩, hf1, ho1, z1, z2⟩ := o2'
          have hS3 := hI.2.2.2.2.2.1.2.2.1.1
          have nf : ∀ {x}, lab x ≠ 3 → lab x ≠ 8 → ¬ kFp (ad 2) la sa x := fun q1 q2 => kFp_lab hLl.1.1 hS3 q1 q2
          have hxu1 : u1.2.2 (ad 0) = some (xO ad σ bkv (.ref (la 0)) ptv) := (hf1 _ (nf (by omega) (by omega)) (oU _ _ hx)).trans hx
          by_cases hf : zY σ3.2.2 (zBa kn wg nd) fr < 1000000000000000
          · -- the way
            obtain ⟨l3c, arr, np, mm, mc, xs, pp, hls, hm0, hm4, hj, h55, hnp, h73⟩ := hI.2.2.2.2.2.1.2.2.2.1
            have lna : lab arr = 0 ∨ lab arr = 4 := by
              by_cases q : mm = 0
              · exact Or.inl (hl _ (hm0 q).2)
              · exact Or.inr (hm4 q)
            have c1' : u1.2.2 (ad 3) = U.2.2 (ad 3) := hf1 _ (nf (by omega) (by omega)) (oU _ _ hls.1)
            have c2' : u1.2.2 arr = U.2.2 arr := hf1 _ (nf (by omega) (by omega)) (oU _ _ hls.2.1)
            have hls1 : vLs u1 (ad 3) arr np mm mc xs := ⟨c1'.trans hls.1, c2'.trans hls.2.1, hls.2.2⟩
            have bad3 : b ≤ ad 3 := lab_ge hl (by omega)
            have mne : 0 < np → mm ≠ 0 := fun q => by
              have := hls.2.2.1
              omega
            have barr : mm ≠ 0 → b ≤ arr := fun q => lab_ge hl (by rw [hm4 q]; decide)
            have lla5 : lab (la 5) = 0 ∨ lab (la 5) = 8 := by
              obtain ⟨-, -, -, -, -, -, -, -, ⟨m', mc', xs', ⟨x1, x2, x3⟩, x4⟩, -⟩ := hL
              obtain ⟨q1, q2⟩ := hLl.2.2.2 m' _ x2
              by_cases q : m' = 0
              · exact Or.inl (hl _ (q1 q).2)
              · exact Or.inr (q2 q)
            have n4 : la 4 ≠ ad 3 := fun z => by
              have := hLl.1.2.2.2.2.1
              rw [z] at this
              omega
            have n5 : mm ≠ 0 → la 5 ≠ arr := fun q z => by
              have := hm4 q
              rw [z] at lla5
              omega
            obtain ⟨u2, xs2, y1, y2, y3, y4, y5, y6⟩ := l_clear (N := N) (b := b) (g := g) hls1 ho1 bad3 (fun q => barr (mne q)) (by omega)
            have lk12 : lKp u1 u2 (ad 3) arr (0 < np) := fun x e hxe q1 q2 => (y3 x q1 q2).trans hxe
            have hX2 := hX1.keep lk12 hls1.1 hls1.2.1 n4 (fun q => n5 (mne q))
            have k41 : u1.2.2 (sa 4) = some (.inl (3, 102400, .inr (.inl V1))) := by
              rw [← kid1]
              exact kH_4
            have k51 : u1.2.2 (sa 5) = some (.inl (2, 1024, .inl D1)) := by
              rw [← kid1]
              exact kH_5 kk
            have k61 : u1.2.2 (sa 6) = some (.inl (2, 100, .inl P1)) := by
              rw [← kid1]
              exact kH_6 kk
            have k42 := lk12.l hls1.1 hls1.2.1 k41 (by decide)
            have k52 := lk12.l hls1.1 hls1.2.1 k51 (by decide)
            have k62 := lk12.l hls1.1 hls1.2.1 k61 (by decide)
            have hx2 := lk12.r hls1.1 hls1.2.1 hxu1 (by decide)
            have hx2 : u2.2.2 (ad 0) = some (xO ad σ bkv (.ref (la 0)) ptv) := hx2
            obtain ⟨hE1, hE2, hE3, hE4, hE5⟩ := hI.2.2.2.1
            obtain ⟨t11, h11⟩ := hE1
            obtain ⟨mi, h20⟩ := hE2
            have zi1 : zInt g u1 := fun k hk => (hf1 _ (nf (by rw [hl _ (hE5 k hk)]; decide) (by rw [hl _ (hE5 k hk)]; decide)) (by have := hE5 k hk; have := hI.2.1; omega)).trans (hE4 k hk)
            have zi2 : zInt g u2 := fun k hk => lk12.r hls1.1 hls1.2.1 (zi1 k hk) (by decide)
            have bu2 : b ≤ u2.1 := by
              have := hI.2.1
              omega
            obtain ⟨f, r1, r2⟩ := c_truth (N := N) (b := b) (t := tn) hX2.2.1 y4 hkn bu2 (by omega) (by omega)
            have on3 : uOld (uNew u2 5 (.inl (0, 5, .inl f))) := y4.new
            have lk23 : lKp u2 (uNew u2 5 (.inl (0, 5, .inl f))) (ad 3) arr False := fun x e hxe _ _ => u_no y4 hxe
            have hX3 := hX2.keep lk23 y2.1 y2.2.1 n4 (fun q => q.elim)
            have kid3 : kH (uNew u2 5 (.inl (0, 5, .inl f))) sa V1 D1 P1 = uNew u2 5 (.inl (0, 5, .inl f)) := kH_id (u_no y4 k42) (u_no y4 k52) (u_no y4 k62)
            obtain ⟨q1, q2, q3⟩ := zFc_can (t := tn) (kn := kn) (wg := wg) hnd h3 hkn
            have hwt : ∀ e k, e < nd → k < zCn (wg e) 8 → 1 ≤ wg e (zKd (wg e) k) ∧ wg e (zKd (wg e) k) ≤ 9 := fun e k he hk => by
              obtain ⟨⟨-, wf, -, q⟩, -⟩ := hdd e he
              obtain ⟨a, b⟩ := zKd_ok hk
              exact ⟨Nat.pos_of_ne_zero b, (q _ a).2⟩
            have hW : wWd w h' n nd B.2.1 go mean fl (fun c => zNb w h' dc c nd) dO kn wg (zBG B dead hts w h') (zY σ3.2.2) (zFc nd kn wg tn nd) := ⟨s6, ⟨hL.2.1, hL.2.2.1, hn, hnd⟩, h3, hwt, fun c hc => ⟨(hM.2.2.2.2.1 c hc).2.2.2.1, (hM.2.2.2.2.1 c hc).2.2.2.2⟩, hX1.2.2.2.2.2.2.1, hX1.2.2.2.2.2.2.2.1, hX1.2.2.2.2.2.2.2.2.1, q1, q2, q3⟩
            have hs : wOk n nd kn wg (zY σ3.2.2) (fr, zBa kn wg nd, 0) := ⟨c4, s7.1, s7.2, hf⟩
            obtain ⟨T, t1, t2, t3⟩ := w_T hW hs
            have hl3 : vLs (uNew u2 5 (.inl (0, 5, .inl f))) (ad 3) arr 0 mm (mc + 1) xs2 := ⟨u_no y4 y2.1, u_no y4 y2.2.1, y2.2.2⟩
            obtain ⟨u4, V4, D4, P4, arr4, g1, g2, g3, g4, g5, g6⟩ := c_goes (N := N) (b := b) (ta := u2.1) kk d4 hm hW hs hkn t2 t3 t1 (by omega) h11 h20 bad3 (Nat.le_succ_of_le bu2) n4 n5 hX3 kid3 hI1 on3 hl3 barr (fun q => (hm0 q).1) (fun k hk => u_no y4 (zi2 k hk)) ⟨f, u_nn, r2⟩
            obtain ⟨G1, ⟨mc4, xs4, G2, G3⟩, G4, G5, G6, G7, G8, G9⟩ := g5
            -- the model
            obtain ⟨P', R', M1, M2⟩ := m_goes (N := N) (s1 := upd σ3.1 73 1) (s2 := σ3.2.1) (V := σ3.2.2) (t := tn) (fr := fr) s8 s10 s11 hm d4 (fun e he => ⟨(s4.2 44 (by decide) (by decide) (by decide) (by decide) (by decide)).symm ▸ (l3.2.2.2.2.2.1 e he).1, (l3.2.2.2.2.2.1 e he).2.1⟩) hG.2.2 s9 hW hs t2 t3 t1 (by omega) (by omega)
            have gb := lSt_b2 (m0 := mm) (k := T + 1) (by omega)
            have fr4 : ∀ x, ¬ kFp (ad 2) la sa x → lab x ≠ 4 → x < U.1 → u4.2.2 x = U.2.2 x := fun x q1 q2 q3 => by
              obtain ⟨k4, k5, k6⟩ := kFp_n q1
              have xn3 : x ≠ ad 3 := fun z => q2 (by rw [z]; exact l3c)
              have xna : mm ≠ 0 → x ≠ arr := fun q z => q2 (by rw [z]; exact hm4 q)
              rw [G4 x xn3 xna k4 k5 k6 (by show x < u2.1 + 1; omega), u_nx (by omega), y3 x xn3 (fun q => xna (mne q)), hf1 x q1 q3]
            have hU4 : u4.1 = U.1 + (2 + (lSt mm (T + 1)).2.2) := by
              rw [G5]
              show u2.1 + 1 + _ = _
              omega
            have hU5 : u4.2.1 = U.2.1 + (5 + (lSt mm (T + 1)).2.1) := by
              rw [G6]
              show u2.2.1 + 5 + _ = _
              omega
            have a4 : arr4 < u4.1 := G1 _ _ G2.2.1
            have cap := G2.2.2.1
            have hlab : ∀ x, (fun x => if x = arr4 ∧ U.1 ≤ arr4 then 4 else lab x) x = lab x ∨ (U.1 ≤ x ∧ (fun x => if x = arr4 ∧ U.1 ≤ arr4 then 4 else lab x) x = 4) := fun x => by
              show (if x = arr4 ∧ U.1 ≤ arr4 then 4 else lab x) = lab x ∨ (U.1 ≤ x ∧ (if x = arr4 ∧ U.1 ≤ arr4 then 4 else lab x) = 4)
              by_cases q : x = arr4 ∧ U.1 ≤ arr4
              · rw [if_pos q]
                exact Or.inr ⟨by omega, rfl⟩
              · rw [if_neg q]
                exact Or.inl rfl
            have hlt : ∀ {x}, x < U.1 → (fun x => if x = arr4 ∧ U.1 ≤ arr4 then 4 else lab x) x = lab x := fun {x} q => if_neg (fun z => by omega)
            have kwf : ∀ k, k ≠ 0 → k ≠ 39 → k ≠ 49 → k ≠ 50 → k ≠ 51 → k ≠ 55 → k ≠ 73 → (upd (upd σ3.1 73 1) 55 (iI ((T + 1 : Nat) : Int)), zRow (zRow σ3.2.1 54 P') 70 R', σ3.2.2).1 k = σ.1 k := fun k q0 q39 q49 q50 q51 q55 q73 => by
              show upd (upd σ3.1 73 1) 55 (iI ((T + 1 : Nat) : Int)) k = σ.1 k
              rw [upd_n q55, upd_n q73, s4.1 k q49 q50 q51]
              exact kw2 k q0 q39 q49 q50 q51
            have kaf : ∀ j, j ≠ 52 → j ≠ 53 → j ≠ 54 → j ≠ 70 → j ≠ 71 → j ≠ 72 → j ≠ 74 → (upd (upd σ3.1 73 1) 55 (iI ((T + 1 : Nat) : Int)), zRow (zRow σ3.2.1 54 P') 70 R', σ3.2.2).2.1 j = σ.2.1 j := fun j q1 q2 q3 q4 q5 q6 _ => by
              show zRow (zRow σ3.2.1 54 P') 70 R' j = σ.2.1 j
              rw [zRow_n q4, zRow_n q3, s4.2 j q1 q2 q4 q5 q6]
              exact ka2 j q1 q2 q4 q5 q6
            have hM3 : mLand σ3 B dead w h' n nd hts fl dO kn dc wg := s4.land l3
            have hMf : mLand (upd (upd σ3.1 73 1) 55 (iI ((T + 1 : Nat) : Int)), zRow (zRow σ3.2.1 54 P') 70 R', σ3.2.2) B dead w h' n nd hts fl dO kn dc wg := hM3
            have hSf : mSol (upd (upd σ3.1 73 1) 55 (iI ((T + 1 : Nat) : Int)), zRow (zRow σ3.2.1 54 P') 70 R', σ3.2.2) B dead w h' n nd hts fl dO kn dc wg := s5
            have hClf : xCl b g u4 (fun x => if x = arr4 ∧ U.1 ≤ arr4 then 4 else lab x) (upd (upd σ3.1 73 1) 55 (iI ((T + 1 : Nat) : Int)), zRow (zRow σ3.2.1 54 P') 70 R', σ3.2.2) (ad 3) := by
              refine ⟨(hlt (oU _ _ hls.1)).trans l3c, arr4, T + 1, (lSt mm (T + 1)).1, mc4, xs4, fun j => (wIt w h' nd go mean fl (fun c => zNb w h' dc c nd) dO wg (zBG B dead hts w h') (zY σ3.2.2) (zFc nd kn wg tn nd) (fr, zBa kn wg nd, 0) j).1, G2, fun q => by omega, fun _ => ?_, fun j hj' => ⟨G3 j hj', ?_, ?_⟩, ?_, by omega, Or.inr ?_⟩
              · rcases G7 with ⟨q1, q2⟩ | q1
                · have ha : arr4 < U.1 := by
                    rw [q1]
                    exact oU _ _ hls.2.1
                  exact (hlt ha).trans (by rw [q1]; exact hm4 (by omega))
                · have q1 : u2.1 + 1 ≤ arr4 := q1
                  exact if_pos ⟨rfl, by omega⟩
              · show zRow (zRow σ3.2.1 54 P') 70 R' 54 j = _
                rw [zRow_n (by decide), zRow_s]
                exact M2 j hj'
              · have := (w_ok hW hs j).1.1
                show (wIt w h' nd go mean fl (fun c => zNb w h' dc c nd) dO wg (zBG B dead hts w h') (zY σ3.2.2) (zFc nd kn wg tn nd) (fr, zBa kn wg nd, 0) j).1 < 100
                omega
              · exact upd_s (f := upd σ3.1 73 1) (k := 55) (a := iI ((T + 1 : Nat) : Int))
              · show upd (upd σ3.1 73 1) 55 (iI ((T + 1 : Nat) : Int)) 73 = 1
                rw [upd_n (by decide), upd_s]
            have aft := k_after2 (lab1 := fun x => if x = arr4 ∧ U.1 ≤ arr4 then 4 else lab x) hQ hI hbk vB h7 h12 h34 hL hG hLl g2 g3 fr4 G1 (by omega) hlab (fun x q => (if_neg (fun z => by omega)).trans (hfre x (by omega))) hClf hMf hSf kwf kaf
            have hx4 : u4.2.2 (ad 0) = some (xO ad σ bkv (.ref (la 0)) ptv) := (fr4 _ (nf (by omega) (by omega)) (by omega) (oU _ _ hx)).trans hx
            refine ⟨iI (wIt w h' nd go mean fl (fun c => zNb w h' dc c nd) dO wg (zBG B dead hts w h') (zY σ3.2.2) (zFc nd kn wg tn nd) (fr, zBa kn wg nd, 0) T).2.2, uSet u4 (ad 0) (xO ad (mT σ 0) bkv (.ref (la 0)) ptv), (upd (upd σ3.1 73 1) 55 (iI ((T + 1 : Nat) : Int)), zRow (zRow σ3.2.1 54 P') 70 R', σ3.2.2), 2 + (lSt mm (T + 1)).2.2, 5 + (lSt mm (T + 1)).2.1, ?_, ?_, by omega, by omega, ?_⟩
            · have hx3 : (uNew u2 5 (.inl (0, 5, .inl f))).2.2 (ad 0) = some (xO ad σ bkv (.ref (la 0)) ptv) := u_no y4 hx2
              rw [iV_f hf, n_c0 (by omega) (by omega) (by omega) (by omega) (by omega), v_gr hxu1 (k := 9) rfl, p_bs, p_bs, if_pos (v_is hls1.1), y1, p_bs, x_mp hx2, p_bs, p_bs, if_pos (v_is hX2.2.1.1), f3, r1, q_uc, v_gr hx3 (k := 9) rfl, p_bs, p_bs, if_pos (v_is hX3.1), g1, q_uc, p_bs, if_pos (v_is hx4), x_don hx4 ba0, q_uc]
            · unfold iW
              rw [if_pos hf, p_cg (by omega) (by omega) (by omega) (by omega) (by omega), p_let, f3]
              show mcall (f_goes N (upd σ3.1 73 1, σ3.2.1, σ3.2.2) (iI fr) (iI tn)) _ = _
              rw [M1, q_mc]
            · have e : xO ad (upd (upd σ3.1 73 1) 55 (iI ((T + 1 : Nat) : Int)), zRow (zRow σ3.2.1 54 P') 70 R', σ3.2.2) bkv (.ref (la 0)) ptv = xO ad (mT σ 0) bkv (.ref (la 0)) ptv := by
                refine xO_eq ⟨?_, kwf 10 (by decide) (by decide) (by decide) (by decide) (by decide) (by decide) (by decide), kwf 38 (by decide) (by decide) (by decide) (by decide) (by decide) (by decide) (by decide), kwf 2 (by decide) (by decide) (by decide) (by decide) (by decide) (by decide) (by decide), kwf 9 (by decide) (by decide) (by decide) (by decide) (by decide) (by decide) (by decide), kwf 63 (by decide) (by decide) (by decide) (by decide) (by decide) (by decide) (by decide), kwf 64 (by decide) (by decide) (by decide) (by decide) (by decide) (by decide) (by decide), kwf 65 (by decide) (by decide) (by decide) (by decide) (by decide) (by decide) (by decide)⟩
                show upd (upd σ3.1 73 1) 55 (iI ((T + 1 : Nat) : Int)) 39 = 0
                rw [upd_n (by decide), upd_n (by decide), s4.1 39 (by decide) (by decide) (by decide), l6]
                exact upd_s (f := upd σ.1 0 0) (k := 39) (a := 0)
              rw [← e]
              exact aft.fin hQ hx4 l0 (fun x q => fr4 x (nf (by omega) (by omega)) (by omega) (by
                apply Classical.byContradiction
                intro z
                have := hfre x (by omega)
                omega)) hU4 hU5
          · have hKK : mKeep (mT σ 0) σ3 := ⟨fun k a b c => (s4.1 k a b c).trans (l2.1 k a b c), fun j a b c d e => (s4.2 j a b c d e).trans (l2.2 j a b c d e)⟩
            obtain ⟨e1', e2', e3'⟩ := k_end (N := N) hQ hx hI hbk vB h7 h12 h34 hL hM hG hLl o2 hKK s5
            obtain ⟨U', r1, r2⟩ := e3' 6 (by decide)
            refine ⟨-1, U', mSet σ3 39 6, 1, 0, ?_, ?_, by omega, by omega, r2⟩
            · rw [iV_n hf, p_c0 (by omega) (by omega) (by omega) (by omega) (by omega), if_pos e1', r1, q_uc]
            · unfold iW
              rw [if_neg hf, n_cg (by omega) (by omega) (by omega) (by omega) (by omega), m_no2, q_mc]
end D3
