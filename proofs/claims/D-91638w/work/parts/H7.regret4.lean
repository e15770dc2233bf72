/-! PLAIN: the call regret -/
/-- what a regret takes: the ways that are gone in all truths -/
def rgL (σ : MS) (x y : Int32) (Tf : Nat → Nat) (tm : Nat) : Prop := ∃ (B : bBk) (dead : Int) (w h n nd go fr : Nat) (hts : Nat → Int) (fl : Nat → Nat) (dO kn : Nat → Int) (dc : Nat → Nat) (wg : Nat → Nat → Nat) (Y : Nat → Nat → Nat), mLand σ B dead w h n nd hts fl dO kn dc wg ∧ xGe n nd dO kn dc wg ∧ x = iI fr ∧ y = iI go ∧ fr < n ∧ go < n ∧ tm = zTm kn wg nd ∧ Y (zBa kn wg nd) fr < 1000000000000000 ∧ (∀ t, wWd w h n nd B.2.1 go 0 fl (fun c => zNb w h dc c nd) dO kn wg (zBG B dead hts w h) Y (zFc nd kn wg t nd)) ∧ rgT w h n nd go fl (fun c => zNb w h dc c nd) dO kn wg (zBG B dead hts w h) Y fr Tf
section D7
variable {N b : Nat} {g : uEnv} {A : pA} {ad sa : Nat → Nat} {Q : qT} {U : UH} {lab : Nat → Nat} {σ : MS}
theorem k_regret (hQ : qOk Q) (h : xSt b g A ad sa Q U lab σ) (hN : 200000000000000000 ≤ N) (x y : Int32) : ∃ r U' σ' dc ds, f_X1_regret N b g U (ad 0) x y = some (r, U') ∧ f_regret N σ x y = some (r, σ') ∧ ((dc ≤ 1 ∧ ds = 0) ∨ ∃ Tf tm, rgL σ x y Tf tm ∧ dc = 1 + zSum (fun t => 2 + (lSt 0 (Tf t + 1)).2.2) tm ∧ ds = zSum (fun t => 8 + (lSt 0 (Tf t + 1)).2.1) tm) ∧ xStep b g A ad sa Q U lab U' σ' dc ds := by
  obtain ⟨ar0, ar1, ar2⟩ := k_are (N := N) (b := b) (g := g) (ad := ad) (x := x) (y := y) (k_is h)
  unfold f_X1_regret f_regret f_regret_20
  rw [if_pos (k_is h), m_good, q_mv]
  obtain ⟨U0, n1, n2⟩ := k_ref (N := N) (t := 1) (by decide) hQ h
  rcases k_map (N := N) h with hno | ⟨bkv, ptv, lo, hi, a, al, rv, nm, B, dead, la, da, wa, v8, v9, v10, w, h', n, nd, hts, fl, dO, kn, dc, wg, hx, hI, hbk, vB, h7, h12, h34, hL, hM, hSo, hG, hLl, hce⟩
  · refine ⟨-1, U0, mT σ 1, 0, 0, ?_, ?_, Or.inl ⟨by omega, rfl⟩, n2⟩
    · rw [ar0 (hno x).1, q_uc, if_pos rfl, if_pos (k_is h), n1, q_uc]
    · rw [(hno x).2, q_mc, if_pos rfl, m_no, q_mc]
  · rcases hce x with q | ⟨c1, c2, fr, c3, c4⟩
    · refine ⟨-1, U0, mT σ 1, 0, 0, ?_, ?_, Or.inl ⟨by omega, rfl⟩, n2⟩
      · rw [ar0 q.1, q_uc, if_pos rfl, if_pos (k_is h), n1, q_uc]
      · rw [q.2, q_mc, if_pos rfl, m_no, q_mc]
    · rcases hce y with q | ⟨d1, d2, go, d3, d4⟩
      · refine ⟨-1, U0, mT σ 1, 0, 0, ?_, ?_, Or.inl ⟨by omega, rfl⟩, n2⟩
        · rw [ar1 c1 q.1, q_uc, if_pos rfl, if_pos (k_is h), n1, q_uc]
        · rw [c2, q_mc, if_neg n10, q.2, q_mc, if_pos rfl, m_no, q_mc]
      · obtain ⟨ub, u8, u9, u10, σ1, s1, s2, s3, s4, s5, s6, s7, s8, s9, s10, s11⟩ := k_ses (N := N) (mean := 0) hx hI vB h7 hL hM hSo hG hLl (Or.inl rfl) d4 c4 hN
        have kk := k_kOk hI
        have hnd := hL.2.2.2.2.1
        have hdd := hL.2.2.2.2.2.2.2.2.2.2
        have hkn := k_knO (U := U) (g := g) (la := la) (da := da) (wa := wa) (a := a) (v8 := v8) (v9 := v9) (v10 := v10) hM hG
        have s3' := s3
        obtain ⟨hXb, -⟩ := s3'
        have hXb' := hXb
        obtain ⟨hO, hLb, -⟩ := hXb'
        obtain ⟨u1, o1, o2⟩ := s3.of (N := N) kk d4 (Or.inl rfl) s6 (by omega) s7.1 s7.2 c4
        rw [ar2 c1 d1, q_uc, if_neg n10, if_pos (k_is h), c2, q_mc, if_neg n10, d2, q_mc, if_neg n10, c3, d3]
        have s1' : f_X1_solver N b g U (ad 0) (iI go) 0 = some (some (ad 2), ub) := s1
        have s2' : f_from N (mT σ 0) (iI fr) (iI go) 0 = some (iL (iW (zY σ1.2.2 (zBa kn wg nd) fr)), σ1) := s2
        rw [s1', q_uc, s2', q_mc]
        unfold f_X1_regret_21
        rw [p_bs, if_pos (v_is hO), c_known hO hLb hkn (by omega), q_uc, if_pos (v_is hO), o1, q_uc, show (9223372036854775807 : Int64) = iL 9223372036854775807 from rfl, show (0 : Int64) = iL 0 from rfl]
        by_cases hf : zY σ1.2.2 (zBa kn wg nd) fr < 1000000000000000
        · have h3 : ∀ e, e < nd → 1 ≤ zCn (wg e) 8 ∧ zCn (wg e) 8 ≤ 3 := fun e he => (hdd e he).2
          have hwt : ∀ e k, e < nd → k < zCn (wg e) 8 → 1 ≤ wg e (zKd (wg e) k) ∧ wg e (zKd (wg e) k) ≤ 9 := fun e k he hk => by
            obtain ⟨⟨-, wf, -, q⟩, -⟩ := hdd e he
            obtain ⟨a, b⟩ := zKd_ok hk
            exact ⟨Nat.pos_of_ne_zero b, (q _ a).2⟩
          have hW : ∀ t, wWd w h' n nd B.2.1 go 0 fl (fun c => zNb w h' dc c nd) dO kn wg (zBG B dead hts w h') (zY σ1.2.2) (zFc nd kn wg t nd) := fun t => by
            obtain ⟨q1, q2, q3⟩ := zFc_can (t := t) (kn := kn) (wg := wg) hnd h3 hkn
            exact ⟨s6, ⟨hL.2.1, hL.2.2.1, hL.2.2.2.1, hnd⟩, h3, hwt, fun c hc => ⟨(hM.2.2.2.2.1 c hc).2.2.2.1, (hM.2.2.2.2.1 c hc).2.2.2.2⟩, hXb.2.2.2.2.2.2.1, hXb.2.2.2.2.2.2.2.1, hXb.2.2.2.2.2.2.2.2.1, q1, q2, q3⟩
          have hs : wOk n nd kn wg (zY σ1.2.2) (fr, zBa kn wg nd, 0) := ⟨c4, s7.1, s7.2, hf⟩
          have hTf : rgT w h' n nd go fl (fun c => zNb w h' dc c nd) dO kn wg (zBG B dead hts w h') (zY σ1.2.2) fr (fun t => Classical.choose (w_T (hW t) hs)) := fun t => Classical.choose_spec (w_T (hW t) hs)
          generalize (fun t => Classical.choose (w_T (hW t) hs)) = Tf at hTf
          have hl := hI.2.2.1.1
          have hfre := hI.2.2.1.2
          have oU := hI.1
          have l0 := hI.2.2.2.2.2.1.1
          have ba0 : b ≤ ad 0 := lab_ge hl (by omega)
          have hS3 := hI.2.2.2.2.2.1.2.2.1.1
          have nf : ∀ {x}, lab x ≠ 3 → lab x ≠ 8 → ¬ kFp (ad 2) la sa x := fun q1 q2 => kFp_lab hLl.1.1 hS3 q1 q2
          obtain ⟨⟨t11, h11⟩, ⟨mi, h20⟩, ⟨v10', fD, hE3, hE3b, hE3c⟩, hE4, hE5⟩ := hI.2.2.2.1
          have hl4 : la 4 < U.1 := by
            obtain ⟨-, -, -, -, -, -, -, -, ⟨m', mc', xs', ⟨x1, x2, x3⟩, x4⟩, -⟩ := hL
            exact oU _ _ x1
          obtain ⟨u2, p1, p2⟩ := c_rg51 (N := N) (b := b) (g := g) (ad := ad) (bkv := bkv) (ptv := ptv) (fr := fr) kk d4 hI.2.1 h11 h20 hE3 hE3b hE3c (fun k hk => ⟨hE5 k hk, hE4 k hk⟩) (fun x hxb => nf (by rw [hl x hxb]; decide) (by rw [hl x hxb]; decide)) hx (nf (by omega) (by omega)) (oU _ _ hx) hl4 hkn hW c4 s7 hf hTf (by omega) N 0 u1 1 0 (by omega) (by have := zTm_b (kn := kn) (wg := wg) nd h3; have p3 : 3 ^ nd ≤ 3 ^ 5 := Nat.pow_le_pow_right (by decide) hnd; omega) rfl rfl o2
          -- the model
          obtain ⟨l3c, arr, np, mm, mc, xs, pp, hls, hm0, hm4, hj, h55, hnp, h73⟩ := hI.2.2.2.2.2.1.2.2.2.1
          have k55 : σ1.1 55 = iI np := (s4.1 55 (by decide) (by decide) (by decide)).trans h55
          have k54 : σ1.2.1 54 = σ.2.1 54 := s4.2 54 (by decide) (by decide) (by decide) (by decide) (by decide)
          obtain ⟨O, r1, r2⟩ := m_rg53 (N := N) (s1 := σ1.1) (s2 := σ1.2.1) (V := σ1.2.2) (x1 := iI fr) hnp N 0 (σ1.2.1 74) (by omega) (by omega) (fun j hj => by omega)
          rw [zRow_id] at r1
          have hB' : yBs σ1.1 (zRow σ1.2.1 74 O) B dead w h' n nd hts fl dO kn dc wg := s8
          have h44 : ∀ e, e < nd → zRow σ1.2.1 74 O 44 e = iI (dc e) ∧ dc e < n := fun e he => by
            have e44 : zRow σ1.2.1 74 O 44 = σ.2.1 44 := (zRow_n (by decide)).trans (s4.2 44 (by decide) (by decide) (by decide) (by decide) (by decide))
            rw [e44]
            exact ⟨(hM.2.2.2.2.2.1 e he).1, (hM.2.2.2.2.2.1 e he).2.1⟩
          obtain ⟨a', c', g1, g2, g3, g4, g5⟩ := m_rg85 (N := N) (s1 := σ1.1) (s2 := zRow σ1.2.1 74 O) (V := σ1.2.2) (np := np) (fr := fr) hB' s10 s11 d4 h44 hkn s9 hW c4 s7 hf hTf hnp (by omega) N 0 σ1.1 (zRow σ1.2.1 74 O) (by omega) (by have := zTm_b (kn := kn) (wg := wg) nd h3; have p3 : 3 ^ nd ≤ 3 ^ 5 := Nat.pow_le_pow_right (by decide) hnd; omega) (fun _ _ => rfl) (fun _ _ _ => rfl)
          have hs0 : wOk n nd kn wg (zY σ1.2.2) (fr, zBa kn wg nd, 0) := hs
          have csb : ∀ t, rgC w h' nd go fl (fun c => zNb w h' dc c nd) dO kn wg (zBG B dead hts w h') (zY σ1.2.2) fr Tf t ≤ 18042600 := fun t => by
            have q := (w_ok (hW t) hs0 (Tf t)).2
            have q2 := (hTf t).1
            have q : rgC w h' nd go fl (fun c => zNb w h' dc c nd) dO kn wg (zBG B dead hts w h') (zY σ1.2.2) fr Tf t ≤ 0 + 30071 * Tf t := q
            omega
          have rb := zRg_b (yv := fun t => zY σ1.2.2 (zFc nd kn wg t nd) fr) csb (zTm kn wg nd)
          -- behind it
          have p1' := p1
          obtain ⟨hX2, ⟨V2, D2, P2, kid2, -⟩, hf2, ho2, z1, z2⟩ := p1'
          have kwf : ∀ k, k ≠ 0 → k ≠ 39 → k ≠ 49 → k ≠ 50 → k ≠ 51 → k ≠ 55 → k ≠ 73 → ((a', c', σ1.2.2) : MS).1 k = σ.1 k := fun k q0 q39 q49 q50 q51 q55 q73 => by
            show a' k = σ.1 k
            rw [g2 k q55, s4.1 k q49 q50 q51]
            show upd (upd σ.1 0 0) 39 0 k = σ.1 k
            rw [upd_n q39, upd_n q0]
          have kaf : ∀ j, j ≠ 52 → j ≠ 53 → j ≠ 54 → j ≠ 70 → j ≠ 71 → j ≠ 72 → j ≠ 74 → ((a', c', σ1.2.2) : MS).2.1 j = σ.2.1 j := fun j q1 q2 q3 q4 q5 q6 q7 => by
            show c' j = σ.2.1 j
            rw [g4 j q3 q4, zRow_n q7]
            exact s4.2 j q1 q2 q4 q5 q6
          have hMf : mLand (a', c', σ1.2.2) B dead w h' n nd hts fl dO kn dc wg := by
            have hM1 : mLand σ1 B dead w h' n nd hts fl dO kn dc wg := s4.land hM
            have ka : ∀ k, k ≠ 55 → ((a', c', σ1.2.2) : MS).1 k = σ1.1 k := fun k q => g2 k q
            have kc : ∀ j, j ≠ 54 → j ≠ 70 → j ≠ 74 → ((a', c', σ1.2.2) : MS).2.1 j = σ1.2.1 j := fun j q1 q2 q3 => (g4 j q1 q2).trans (zRow_n q3)
            unfold mLand mMap mBk mLn at hM1 ⊢
            rw [ka 37 (by decide), ka 38 (by decide), ka 35 (by decide), ka 36 (by decide), ka 24 (by decide), ka 25 (by decide), ka 26 (by decide), ka 27 (by decide), ka 28 (by decide), ka 22 (by decide), kc 41 (by decide) (by decide) (by decide), kc 42 (by decide) (by decide) (by decide), kc 43 (by decide) (by decide) (by decide), kc 44 (by decide) (by decide) (by decide), kc 45 (by decide) (by decide) (by decide), kc 46 (by decide) (by decide) (by decide), kc 18 (by decide) (by decide) (by decide), kc 19 (by decide) (by decide) (by decide), kc 20 (by decide) (by decide) (by decide), kc 21 (by decide) (by decide) (by decide)]
            exact hM1
          have hSf : mSol (a', c', σ1.2.2) B dead w h' n nd hts fl dO kn dc wg := fun hz => by
            have k51 : ((a', c', σ1.2.2) : MS).1 51 = σ1.1 51 := g2 51 (by decide)
            have k49 : ((a', c', σ1.2.2) : MS).1 49 = σ1.1 49 := g2 49 (by decide)
            have k50 : ((a', c', σ1.2.2) : MS).1 50 = σ1.1 50 := g2 50 (by decide)
            rw [k51] at hz ⊢
            obtain ⟨w1, go', mean', w2, w3, w4, w5, w6, w7⟩ := s5 hz
            exact ⟨w1, go', mean', w2, w3, k49.trans w4, k50.trans w5, hB'.same g2 g4, w7⟩
          have hClf : xCl b g u2 lab (a', c', σ1.2.2) (ad 3) := by
            have lna : lab arr = 0 ∨ lab arr = 4 := by
              by_cases q : mm = 0
              · exact Or.inl (hl _ (hm0 q).2)
              · exact Or.inr (hm4 q)
            refine ⟨l3c, arr, np, mm, mc, xs, pp, ⟨(hf2 _ (nf (by omega) (by omega)) (oU _ _ hls.1)).trans hls.1, (hf2 _ (nf (by omega) (by omega)) (oU _ _ hls.2.1)).trans hls.2.1, hls.2.2⟩, hm0, hm4, fun j hj' => ⟨(hj j hj').1, ?_, (hj j hj').2.2⟩, g3, hnp, ?_⟩
            · show c' 54 j = _
              rw [g5 j hj', zRow_s, r2 j hj', k54]
              exact (hj j hj').2.1
            · have k73 : ((a', c', σ1.2.2) : MS).1 73 = σ.1 73 := (g2 73 (by decide)).trans (s4.1 73 (by decide) (by decide) (by decide))
              rw [k73]
              exact h73
          have aft := k_after2 (lab1 := lab) hQ hI hbk vB h7 h12 h34 hL hG hLl hX2 kid2 (fun x q1 _ q3 => hf2 x q1 q3) ho2 (by omega) (fun x => Or.inl rfl) (fun x q => hfre x (by omega)) hClf hMf hSf kwf kaf
          have hx2 : u2.2.2 (ad 0) = some (xO ad σ bkv (.ref (la 0)) ptv) := (hf2 _ (nf (by omega) (by omega)) (oU _ _ hx)).trans hx
          refine ⟨iI (zRg (rgC w h' nd go fl (fun c => zNb w h' dc c nd) dO kn wg (zBG B dead hts w h') (zY σ1.2.2) fr Tf) (fun t => zY σ1.2.2 (zFc nd kn wg t nd) fr) (zTm kn wg nd)), uSet u2 (ad 0) (xO ad (mT σ 0) bkv (.ref (la 0)) ptv), (a', c', σ1.2.2), _, _, ?_, ?_, Or.inr ⟨Tf, zTm kn wg nd, ⟨B, dead, w, h', n, nd, go, fr, hts, fl, dO, kn, dc, wg, zY σ1.2.2, hM, hG, rfl, rfl, c4, d4, rfl, hf, hW, hTf⟩, rfl, rfl⟩, ?_⟩
          · have p2' : f_X1_regret_51 N b g (ad 0) N u1 (iI fr) (some (ad 2)) (iL 0) 0 = _ := p2
            rw [iV_f hf, n_c0 (by omega) (by omega) (by omega) (by omega) (by omega), p2', if_pos (v_is hx2), e_l2i (by omega) (by omega), x_don hx2 ba0, q_uc]
          · unfold iW
            have r1' : f_regret_53 N N σ1 (iI fr) (iI np) 0 = f_regret_85 N N (σ1.1, zRow σ1.2.1 74 O, σ1.2.2) (iI fr) (iI np) 0 0 := r1
            rw [if_pos hf, p_cg (by omega) (by omega) (by omega) (by omega) (by omega), p_let, k55, r1']
            exact g1
          · have e : xO ad (a', c', σ1.2.2) bkv (.ref (la 0)) ptv = xO ad (mT σ 0) bkv (.ref (la 0)) ptv := xO_eq ⟨(g2 39 (by decide)).trans (s4.1 39 (by decide) (by decide) (by decide)), kwf 10 (by decide) (by decide) (by decide) (by decide) (by decide) (by decide) (by decide), kwf 38 (by decide) (by decide) (by decide) (by decide) (by decide) (by decide) (by decide), kwf 2 (by decide) (by decide) (by decide) (by decide) (by decide) (by decide) (by decide), kwf 9 (by decide) (by decide) (by decide) (by decide) (by decide) (by decide) (by decide), kwf 63 (by decide) (by decide) (by decide) (by decide) (by decide) (by decide) (by decide), kwf 64 (by decide) (by decide) (by decide) (by decide) (by decide) (by decide) (by decide), kwf 65 (by decide) (by decide) (by decide) (by decide) (by decide) (by decide) (by decide)⟩
            rw [← e]
            exact aft.fin hQ hx2 l0 (fun x q => hf2 x (nf (by omega) (by omega)) (by
              apply Classical.byContradiction
              intro z
              have := hfre x (by omega)
              omega)) z1 z2
        · obtain ⟨e1, e2, e3⟩ := k_end (N := N) hQ hx hI hbk vB h7 h12 h34 hL hM hG hLl o2 s4 s5
          obtain ⟨U', r1, r2⟩ := e3 6 (by decide)
          refine ⟨-1, U', mSet σ1 39 6, 1, 0, ?_, ?_, Or.inl ⟨by omega, rfl⟩, r2⟩
          · rw [iV_n hf, p_c0 (by omega) (by omega) (by omega) (by omega) (by omega), if_pos e1, r1, q_uc]
          · unfold iW
            rw [if_neg hf, n_cg (by omega) (by omega) (by omega) (by omega) (by omega), m_no2, q_mc]
end D7
