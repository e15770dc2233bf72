/-! PLAIN: the call plan -/
theorem u_df11 : uDefs tyX11 5 = [.null, .null, .null, .int 0, .int 0] := by rfl
section L5s
variable {N b : Nat} {g : uEnv} {A : pA} {ad sa : Nat → Nat} {U : UH} {lab : Nat → Nat} {σ : MS} {ou : Nat} {u0 : UH} {sc L : Nat} {sx : Nat → Int32}
theorem pOld_of {V : UH} {τ : MS} {bkv mpv ptv : Value} (hI : xSi b g A ad sa (qA g (ad 4) b u0 ou) U lab σ bkv mpv ptv) (hmp : σ.1 34 ≠ 0) (kp : ∀ y, y < U.1 → lab y ≠ 1 → V.2.2 y = U.2.2 y) (h22 : τ.1 22 = σ.1 22) (h37 : τ.1 37 = σ.1 37) (h14 : τ.2.1 14 = σ.2.1 14) (h15 : τ.2.1 15 = σ.2.1 15) : ∃ bo mp nD nG : Nat, bkv = .ref bo ∧ mpv = .ref mp ∧ σ.1 34 = 1 ∧ σ.1 37 = iI nD ∧ nD ≤ 5 ∧ σ.1 22 = iI nG ∧ nG ≤ 8 ∧ pOld U.1 V τ bo mp nD nG := by
  obtain ⟨oU, hb, ⟨hl, hfr⟩, hE, hA, -, hbm, hq1, -⟩ := hI
  rcases hbm with ⟨-, -, -, z, -⟩ | ⟨lo, hi, a, al, rv, nm0, B, dead, e1, e2, e3, e4, e5, e6, e7, e8, e9, e10⟩
  · exact absurd z hmp
  rcases e10 with ⟨-, z⟩ | ⟨m34, la, da, wa, v8, v9, v10, w, h', n, nd, hts, fl, dO, kn, dc, wg, m1, m2, m3, m4, m5, m6⟩
  · exact absurd z hmp
  rcases hq1 with z | ⟨a', gl, al', arr, arr2, nG, nT, m, mm2, mc, mc2, ga, ta, xs, xs2, fs, h1, h2, h3, ⟨⟨⟨v1, v2, v3⟩, h4b, h4c, h4d⟩, h5, h6, h7⟩, -⟩
  · rw [e1] at z
    cases z
  have ea : a = a' := by
    rw [e1] at h1
    injection h1
  subst ea
  have kc : ∀ {y : Nat} {e : uE}, U.2.2 y = some e → lab y ≠ 1 → V.2.2 y = some e := fun hy hn => (kp _ (oU _ _ hy) hn).trans hy
  have larr : lab arr ≠ 1 := by
    by_cases c : m = 0
    · rw [(h4c c).2]
      decide
    · rw [h4d c]
      decide
  have hnm : ∀ d, ∃ nm : Nat, d < nG → nm < U.1 ∧ (∃ w1 w2 : Value, V.2.2 (ga d) = some (.inr (5, [.ref nm, w1, w2]))) ∧ ∃ (v q : Nat) (hh z : Int32) (f : Nat → Int32), v < U.1 ∧ V.2.2 nm = some (.inr (20, [.ref v, .int 0, .int hh, .int z])) ∧ V.2.2 v = some (.inl (1, q, .inl f)) ∧ q ≤ 8 ∧ τ.2.1 15 d = iI q ∧ ∀ k, k < q → f k = τ.2.1 14 (8 * d + k) := fun d => by
    by_cases hd : d < nG
    · obtain ⟨-, q1, nm, n', s, q, ws, q2, ⟨q3, q4, v, hh, z, f, q5, q6, q7, q8⟩, q9, q10⟩ := h7 d hd
      refine ⟨nm, fun _ => ⟨oU _ _ q6, ⟨_, _, kc q2 (by omega)⟩, v, n', hh, z, f, oU _ _ q7, kc q6 (by omega), kc q7 (by omega), q4, ?_, fun k hk => ?_⟩⟩
      · rw [h15]
        exact q9
      · rw [h14, q10 k hk]
        exact (q8 k hk).1
    · exact ⟨0, fun z => absurd z hd⟩
  obtain ⟨nm, hnm⟩ := Classical.skolem.mp hnm
  obtain ⟨l0, -, -, -, hnd5, -, -, -, ⟨m', mc', xs', ⟨w1, w2, w3⟩, -⟩, -⟩ := m2
  obtain ⟨⟨i0, i1, i2, i3, i4, i6⟩, -, -, j3⟩ := m6
  have l5 : lab (la 5) ≠ 1 := by
    obtain ⟨q1, q2⟩ := j3 _ _ w2
    by_cases c : m' = 0
    · rw [hl _ (q1 c).2]
      decide
    · rw [q2 c]
      decide
  refine ⟨a, la 0, nd, nG, e1, m1, m34, m3.2.2.1, hnd5, h5, h6, ⟨gl, arr, m, mc, xs, ga, nm, _, oU _ _ h3, oU _ _ v1, oU _ _ v2, kc h3 (by omega), ⟨kc v1 (by omega), kc v2 larr, v3⟩, h6, h22.trans h5, fun d hd => ?_⟩, la 4, la 5, m', mc', xs', _, _, _, _, _, _, _, oU _ _ l0, oU _ _ w1, oU _ _ w2, kc l0 (by omega), ⟨kc w1 (by omega), kc w2 l5, w3⟩, hnd5, h37.trans m3.2.2.1⟩
  obtain ⟨g1, g2⟩ := h7 d hd
  obtain ⟨x1, x2, x3⟩ := hnm d hd
  obtain ⟨q1, nm', n', s, q, ws, q2, -⟩ := g2
  exact ⟨g1, oU _ _ q2, x2, x1, x3⟩
theorem k_plan (hst : uStart b g u0 sc L sx) (h : xSt b g A ad sa (qA g (ad 4) b u0 ou) U lab σ) (hN : 2000 ≤ N) (x : Int32) : ∃ r U' σ' dc ds, f_X1_plan N b g U (ad 0) x = some (r, U') ∧ f_plan N σ x = some (r, σ') ∧ xStep b g A ad sa (qA g (ad 4) b u0 ou) U lab U' σ' dc ds ∧ ∃ nt : Nat, σ.1 2 = iI nt ∧ nt ≤ 500 ∧ dc ≤ 4 * nt + 180 ∧ ds ≤ 32 * nt + 3400 := by
  have hQ : qOk (qA g (ad 4) b u0 ou) := qA_ok
  obtain ⟨U1, r1, r2⟩ := k_ref (N := N) (t := 1) (by decide) hQ h
  obtain ⟨U2, n3, n4⟩ := k_ref (N := N) (t := 2) (by decide) hQ h
  have hi0 := k_is h
  obtain ⟨bkv, mpv, ptv, hx, hI⟩ := h
  have hI' := hI
  obtain ⟨oU, hb, ⟨hl, hfr⟩, hE, hA, ⟨l0, ⟨l2, f0, nt, t1, t2, t3, t4⟩, hS3, h2, h3⟩, hbm, hq1, hq2, hq3, hq4, hq5, hq6⟩ := hI'
  have ba0 : b ≤ ad 0 := lab_ge hl (by omega)
  have lt0 := oU _ _ hx
  have lt1 := oU _ _ t1
  have hT0 : tEn b g U := ⟨u0, sc, L, sx, hst, fun x hx => (hq5 x hx).2⟩
  by_cases c34 : σ.1 34 = 0
  · have mn : mpv = .null := by
      rcases hbm with ⟨-, z, -⟩ | ⟨lo, hi, a, al, rv, nm0, B, dead, e1, e2, e3, e4, e5, e6, e7, e8, e9, e10⟩
      · exact z
      · rcases e10 with ⟨z, -⟩ | ⟨z, -⟩
        · exact z
        · rw [c34] at z
          exact absurd z.symm n10
    subst mn
    refine ⟨-1, U1, mT σ 1, 0, 0, ?_, ?_, r2, nt, t2, t3, by omega, by omega⟩
    · unfold f_X1_plan
      rw [x_mpn hx, p_bs, q_cn, if_pos hi0, r1, q_uc]
    · unfold f_plan
      rw [m_good, q_mv, p_let, if_pos (show (mT σ 0).1 34 = 0 from c34), m_no, q_mc]
  obtain ⟨bo0, mp0, nD0, nG0, eb0, em0, e34, -⟩ := pOld_of (V := U) (τ := σ) hI c34 (fun _ _ _ => rfl) rfl rfl rfl rfl
  subst eb0 em0
  have n34 : ¬ (mT σ 0).1 34 = 0 := c34
  obtain ⟨T, hT⟩ := rTp_of (fun k hk => (t4 k hk).1)
  rcases k_in (N := N) (b := b) (g := g) (lo := 0) (hi := (nt : Int)) ⟨by decide, by decide⟩ ⟨by omega, by omega⟩ x U (mT σ 0) with ⟨f1, f2⟩ | ⟨f1, f2, i, f3, f4, f5⟩
  · have f1' : f_X1_in N b g U x 0 (iI (nt : Int)) = some (0, U) := f1
    have f2' : f_within N (mT σ 0) x 0 (iI (nt : Int)) = some (0, mT σ 0) := f2
    refine ⟨-1, U2, mT σ 2, 0, 0, ?_, ?_, n4, nt, t2, t3, by omega, by omega⟩
    · unfold f_X1_plan
      rw [x_mp hx, p_bs, q_cs, v_gi hx (k := 5) rfl, p_bs, t2, f1', q_uc, if_pos rfl, if_pos hi0, n3, q_uc]
    · unfold f_plan
      rw [m_good, q_mv, p_let, if_neg n34, p_let, show (mT σ 0).1 2 = iI nt from t2, f2', q_mc, if_pos rfl, m_no, q_mc]
  have f1' : f_X1_in N b g U x 0 (iI (nt : Int)) = some (1, U) := f1
  have f2' : f_within N (mT σ 0) x 0 (iI (nt : Int)) = some (1, mT σ 0) := f2
  obtain ⟨n, rfl⟩ : ∃ n : Nat, i = (n : Int) := ⟨i.toNat, by omega⟩
  have hn : n ≤ nt := by omega
  -- the model sets out
  obtain ⟨σ0, hσ0⟩ : ∃ s : MS, s = mSet (mSet (mSet (mSet (mSet (mSet (mSet (mT σ 0) 2 0) 9 0) 58 0) 59 0) 3 (iI n)) 5 0) 13 0 := ⟨_, rfl⟩
  have r0 : σ0.2 = σ.2 := by
    rw [hσ0]
    rfl
  have fo0 : ∀ k, ¬ oP k → σ0.1 k = σ.1 k := fun k k1 => by
    rw [hσ0]
    unfold oP at k1
    show upd (upd (upd (upd (upd (upd (upd (upd (upd σ.1 0 0) 39 0) 2 0) 9 0) 58 0) 59 0) 3 (iI n)) 5 0) 13 0 k = σ.1 k
    rw [upd_n (by omega), upd_n (by omega), upd_n (by omega), upd_n (by omega), upd_n (by omega), upd_n (by omega), upd_n (by omega), upd_n (by omega), upd_n (by omega)]
  obtain ⟨tl, htl⟩ : ∃ tl : MS → Option (Int32 × MS), tl = fun σ19 => mlet (σ19.1 13) fun y21 => if y21 = 0 then mlet (σ19.1 40) fun y23 => if y23 = 8 then mcall (f_no N σ19 3) fun r36 σ34 => some (r36, σ34) else mlet (σ19.1 40) fun y26 => mlet (σ19.1 58) fun y27 => if mIn y26 (mLen 57) = true then mlet (mArr σ19 57 y26.toNatClampNeg y27) fun σ29 => mlet (σ29.1 40) fun y30 => mlet (mSet σ29 40 ((y30 + 1))) fun σ31 => mlet (σ31.1 40) fun y32 => some (y32 - 1, σ31) else none else mcall (f_no N σ19 4) fun r40 σ38 => some (r40, σ38) := ⟨_, rfl⟩
  have hM : f_plan N σ x = mcallv (f_next N σ0) (fun s1 => mcallv (f_reads_4 N N s1 0 1) tl) := by
    unfold f_plan f_begins f_reads
    rw [m_good, q_mv, p_let, if_neg n34, p_let, show (mT σ 0).1 2 = iI nt from t2, f2', q_mc, if_neg n10, p_let, p_let, p_let, p_let, p_let, p_let, p_let, f3, ← hσ0, htl]
    rcases f_next N σ0 with _ | q
    · rfl
    · rfl
  -- the class makes a planner and a reader
  obtain ⟨u1, x1, x2, x3, x4, x5, x6⟩ := w_new (u := U) (n := 5) (e := .inr (9, uDefs tyX11 5)) oU
  rw [u_df11] at x2
  have hx1 : u1.2.2 (ad 0) = some (xO ad σ (.ref bo0) (.ref mp0) ptv) := (x3 _ lt0).trans hx
  obtain ⟨u2, σ1, at1, y1, y2, y3, y4, y5, y6, y7, y8, y9, y10⟩ := c_rdn (N := N) (σ0 := σ0) (n := n) (lo := U.1) (T := T) hx1 ba0 ⟨f0, (x3 _ lt1).trans t1, fun k hk => ⟨by
    rw [show σ0.2.1 1 = σ.2.1 1 by rw [r0], (t4 k hk).2]
    exact (hT k hk).2.1, hT k hk⟩⟩ (by rw [hσ0]; rfl) (by rw [hσ0]; rfl) (by rw [hσ0]; rfl) (by rw [hσ0]; rfl) (by omega) (hT0.keep (fun x hx => x3 x (by omega))) x4 hb lt0 lt1 (by omega) hN
  have al1 := y3.le
  have o2 : uOld u2 := y3.2.2.2.2.2.1
  have f1s : ∀ k, ¬ tS k → σ1.1 k = σ0.1 k := y10.1
  have r1s : ∀ j, j ≠ 11 → σ1.2.1 j = σ.2.1 j := fun j hj => by
    rw [y10.2.1 j hj, r0]
  have np0 : U.1 ≠ ad 0 := by omega
  have c9 : u2.2.2 U.1 = some (.inr (9, [.null, .null, .null, .int 0, .int 0])) := (y5 _ (by omega) np0).trans x2
  obtain ⟨p1, a1, a2, a3, a4, a5, a6⟩ := w_put (b := b) (k := 0) (v := va_rf (some u1.1)) c9 hb (Nat.le_of_ble_eq_true rfl) o2
  obtain ⟨p2, b1, b2, b3, b4, b5, b6⟩ := w_put (b := b) (k := 1) (v := va_rf (some bo0)) a2 hb (Nat.le_of_ble_eq_true rfl) a4
  obtain ⟨u3, d1, d2, d3, d4, d5, d6⟩ := w_put (b := b) (k := 2) (v := va_rf (some mp0)) b2 hb (Nat.le_of_ble_eq_true rfl) b4
  have d2' : u3.2.2 U.1 = some (.inr (9, [.ref u1.1, .ref bo0, .ref mp0, .int (iI ((0 : Nat) : Int)), .int (iI ((0 : Nat) : Int))])) := d2
  have kw23 : rKw U.1 (fun x => x = U.1) u2 u3 := rKw.wr (fun x hx => by rw [d3 x hx, b3 x hx, a3 x hx]) rfl (Nat.le_refl _) c9 (Or.inl ⟨_, _, rfl, by decide⟩) d4 (by omega) (by omega)
  have y3' : rCx b g U.1 u1.1 (ad 1) n T u3 σ1 at1 := y3.kw kw23 (by omega)
  have k3 : ∀ y, y < U.1 → y ≠ ad 0 → u3.2.2 y = U.2.2 y := fun y h1 h2 => by
    rw [kw23.1 y h1, y5 y (by omega) h2, x3 y h1]
  have hx3 : u3.2.2 (ad 0) = some (xO ad (mSet (mSet σ 2 0) 9 0) (.ref bo0) (.ref mp0) ptv) := (kw23.1 _ lt0).trans y4
  obtain ⟨bo, mp, nD, nG, eb, em, -, e37, hnD, e22, hnG, hO⟩ := pOld_of (V := u3) (τ := σ1) hI c34 (fun y h1 h2 => k3 y h1 (fun z => h2 (by rw [z]; exact l0))) (by rw [f1s 22 (fun z => by unfold tS at z; omega), fo0 22 (fun z => by unfold oP at z; omega)]) (by rw [f1s 37 (fun z => by unfold tS at z; omega), fo0 37 (fun z => by unfold oP at z; omega)]) (r1s 14 (by decide)) (r1s 15 (by decide))
  have eb' : bo0 = bo := by injection eb
  have em' : mp0 = mp := by injection em
  subst eb' em'
  obtain ⟨arr, np, m, mc, xs, pa, kl, z1, z2, z3, z4, z5⟩ := id hq3
  have P0 : pP b g U.1 u1.1 (ad 1) n T U.1 bo0 mp0 nD nG np u3 σ1 at1 0 0 0 := by
    refine ⟨y3', d2', Nat.le_refl _, ⟨?_, by omega⟩, ⟨?_, by omega⟩, ⟨?_, z3⟩, hO⟩
    · rw [f1s 59 (fun z => by unfold tS at z; omega), hσ0]
      rfl
    · rw [f1s 58 (fun z => by unfold tS at z; omega), hσ0]
      rfl
    · rw [f1s 40 (fun z => by unfold tS at z; omega), hσ0]
      exact z2
  have hC : f_X1_plan N b g U (ad 0) x = uxcall (f_X11_all N b g u3 U.1) (fun a11 u12 => if uIs u12 a11 6 = true then f_X1_plan_58 N b g (ad 0) u12 (some a11) else none) (fun o10 u8 => f_X1_plan_54 N b g (ad 0) u8 o10) := by
    unfold f_X1_plan f_X1_plan_34 f_X1_plan_40 f_X11_init
    rw [x_mp hx, p_bs, q_cs, v_gi hx (k := 5) rfl, p_bs, t2, f1', q_uc, if_neg n10, p_let, p_let, x1, if_pos (x_is hx1), f3, y1, q_uc, x_bk y4, p_bs, x_mp y4, p_bs, p_bs, a1, p_bs, b1, p_bs, d1, p_bs, p_bs, p_bs, if_pos (v_is d2')]
  have sz3 : u3.1 = u2.1 ∧ u3.2.1 = u2.2.1 := ⟨by omega, by omega⟩
  -- what both leave
  have hf0 : ∀ {τ : MS}, mSm pS pRw σ1 τ → ∀ k, ¬ oP k → τ.1 k = σ.1 k := fun {τ} hτ k hk => by
    have hk' := hk
    unfold oP at hk'
    rw [hτ.1 k (fun z => by unfold pS tS at z; omega), f1s k (fun z => by unfold tS at z; omega), fo0 k hk]
  have hr0 : ∀ {τ : MS}, mSm pS pRw σ1 τ → ∀ j, ¬ pRw j → τ.2.1 j = σ.2.1 j := fun {τ} hτ j hj => by
    rw [hτ.2.1 j hj, r1s j (fun z => hj (Or.inl z))]
  have h20 : ∀ {τ : MS}, mSm pS pRw σ1 τ → τ.2.2 = σ.2.2 := fun {τ} hτ => by
    rw [hτ.2.2.1, y10.2.2.1, r0]
  have g20 : ∀ {τ : MS}, mSm pS pRw σ1 τ → τ.1 2 = 0 := fun {τ} hτ => by
    rw [hτ.1 2 (fun z => by unfold pS tS at z; omega), f1s 2 (fun z => by unfold tS at z; omega), hσ0]
    rfl
  have g40 : ∀ {τ : MS}, mSm pS pRw σ1 τ → τ.1 40 = σ.1 40 := fun {τ} hτ => by
    rw [hτ.1 40 (fun z => by unfold pS tS at z; omega), f1s 40 (fun z => by unfold tS at z; omega), hσ0]
    rfl
  have g39 : ∀ {τ : MS}, mSm pS pRw σ1 τ → τ.1 39 = 0 := fun {τ} hτ => by
    rw [hτ.1 39 (fun z => by unfold pS tS at z; omega), f1s 39 (fun z => by unfold tS at z; omega), hσ0]
    rfl
  have hM' : f_plan N σ x = mcallv (f_reads_4 N N σ1 (iI ((0 : Nat) : Int)) 1) tl := by
    rw [hM, y2, q_mv]
    rfl
  have kP := k_rec (b := b) (g := g) (lo := U.1) (rd := u1.1) (tp := ad 1) (n := n) (T := T) (pl := U.1) (bo := bo0) (mp := mp0) (nD := nD) (nG := nG) (np := np) hN 6 0 30 (by omega) (by omega) u3 σ1 at1 0 0 N P0 (by omega)
  -- a fault
  have fault : ∀ (xx : Nat) (U' : UH) (τ : MS), f_X11_all N b g u3 U.1 = some (.inl (xx, U')) → f_reads_4 N N σ1 (iI ((0 : Nat) : Int)) 1 = some τ → rEp U.1 np (4 * (n - at1) + 163) (32 * (n - at1) + 3213) u3 σ1 xx U' τ → ∃ r U' σ' dc ds, f_X1_plan N b g U (ad 0) x = some (r, U') ∧ f_plan N σ x = some (r, σ') ∧ xStep b g A ad sa (qA g (ad 4) b u0 ou) U lab U' σ' dc ds ∧ ∃ nt : Nat, σ.1 2 = iI nt ∧ nt ≤ 500 ∧ dc ≤ 4 * nt + 180 ∧ ds ≤ 32 * nt + 3400 := fun xx U' τ q1 q2 q3 => by
    obtain ⟨⟨k, p, v1, v2, v3, v4, v5, v6, v7, v8, v9, v11, v12⟩, q4⟩ := q3
    obtain ⟨σF, hσF⟩ : ∃ s : MS, s = mSet τ 39 4 := ⟨_, rfl⟩
    have fF : ∀ k, k ≠ 39 → σF.1 k = τ.1 k := fun k hk => by
      rw [hσF]
      exact upd_n hk
    have rF : σF.2 = τ.2 := by
      rw [hσF]
      rfl
    have hf : ∀ k, ¬ oP k → σF.1 k = σ.1 k := fun k hk => by
      rw [fF k (fun z => hk (by unfold oP; omega))]
      exact hf0 v5 k hk
    have g9 : σF.1 9 = k := (fF 9 (by decide)).trans v3
    have g10' : σF.1 10 = p := (fF 10 (by decide)).trans v4
    have g2 : σF.1 2 = 0 := (fF 2 (by decide)).trans (g20 v5)
    have h39 : σF.1 39 = 4 := by
      rw [hσF]
      rfl
    have hxU : U'.2.2 (ad 0) = some (xO ad (mSet (mSet σ 2 0) 9 0) (.ref bo0) (.ref mp0) ptv) := (v6 _ lt0).trans hx3
    have fl : f_X1_failed N b g U' (ad 0) (some xx) = some (-1, uSet U' (ad 0) (xO ad σF (.ref bo0) (.ref mp0) ptv)) := x_fail hxU v1 ba0 h39 g9 g10' ⟨hf 38 (by unfold oP; decide), g2, hf 63 (by unfold oP; decide), hf 64 (by unfold oP; decide), hf 65 (by unfold oP; decide)⟩
    have hv6 : uIs U' xx 6 = true := by
      obtain ⟨fs, z, -⟩ := v1
      exact v_is z
    have kp : ∀ y, y < U.1 → lab y ≠ 1 → U'.2.2 y = U.2.2 y := fun y w1 w2 => (v6 y w1).trans (k3 y w1 (fun z => w2 (by rw [z]; exact l0)))
    have sm : qSm (fun k => k = 0 ∨ k = 5 ∨ k = 12) lab lab U U' := hI.lb (p := fun k => k = 0 ∨ k = 5 ∨ k = 12) (fun _ _ => rfl) (fun y hy hp => kp y hy (by omega)) (by decide)
    have pl := hq3.st (σF := σF) sm (hf 34 (by unfold oP; decide)) (hf 37 (by unfold oP; decide)) (hf 22 (by unfold oP; decide)) ((fF 40 (by decide)).trans (g40 v5)) (by rw [rF]; exact hr0 v5 57 (by unfold pRw; decide)) (fun np' w1 w2 i hi => by
      have e : np' = np := by
        have := w1.symm.trans z2
        rw [j_eq (by omega) (by omega) (by omega) (by omega)] at this
        omega
      subst e
      rw [rF, q4 i hi, r1s 56 (by decide)])
    have sg := k_plF hI v7 (by omega) (fun _ _ => rfl) (fun y hy => hfr y (by omega)) (fun y w1 w2 _ => kp y w1 w2) hf (fun j w1 _ => by rw [rF]; exact hr0 v5 j w1) (by rw [rF]; exact h20 v5) g2 pl
    refine ⟨-1, uSet U' (ad 0) (xO ad σF (.ref bo0) (.ref mp0) ptv), σF, U'.1 - U.1, U'.2.1 - U.2.1, ?_, ?_, ?_, nt, t2, t3, by omega, by omega⟩
    · rw [hC, q1, q_ux1, if_pos hv6]
      unfold f_X1_plan_58
      rw [if_pos (x_is hxU), fl, q_uc]
    · rw [hM', q2, q_mv, htl]
      show (mlet (τ.1 13) fun y21 => _) = _
      rw [p_let, if_neg (by rw [v2]; exact n10), m_no2, q_mc, hσF]
    · exact sg.fin hQ hxU l0 (fun y q => kp y (hI.lt q (by decide)) (by omega)) (by omega) (by omega)
  rcases kP with ⟨xx, U', τ, e1, e2, e3⟩ | ⟨a, U', τ, at2, k', cs', m', n', e1, e2, e3, e4, ⟨c1, c2, c3, c4, c5⟩, e6, e7, e8⟩
  · refine fault xx U' τ ?_ e2 (e3.mo (by omega) (by omega))
    unfold f_X11_all f_X11_plan
    rw [if_pos (v_is d2'), e1, q_ux1]
  have cs40 : cs' ≤ 40 := e3.2.2.2.1.2
  have kk80 : k' ≤ 2 * cs' := e3.2.2.2.2.1.2
  have al2 := e3.1.le
  obtain ⟨kr, st, va, wv, sgq, cr, -⟩ := k_kind e3.1
  obtain ⟨eo1, eo2⟩ := k_eot (N := N) e3.1
  obtain ⟨m'', hm''⟩ : ∃ z, m' = z + 1 := ⟨m' - 1, by omega⟩
  obtain ⟨n'', hn''⟩ : ∃ z, n' = z + 1 := ⟨n' - 1, by omega⟩
  subst hm'' hn''
  have s13 : τ.1 13 = 0 := e3.1.2.2.2.2.2.2.2.2.2.1
  have s9 : τ.1 9 = 0 := e3.1.2.2.2.2.2.2.2.2.2.2.2
  have eR : f_reads_4 N N σ1 (iI ((0 : Nat) : Int)) 1 = (if τ.1 6 = 0 then some τ else some (mEr τ 1 (τ.1 4))) := by
    rw [e2, f_reads_35, if_neg n10, if_pos (show iI ((0 : Nat) : Int) ≤ 0 by decide)]
    unfold f_reads_189 f_reads_211 f_reads_220
    rw [if_neg n10, p_let, if_neg e4, if_pos rfl, f_reads_4, if_pos rfl, if_neg (show ¬ 0 < iI ((0 : Nat) : Int) by decide), p_let]
    by_cases h6 : τ.1 6 = 0
    · rw [if_pos h6, if_pos h6]
      rfl
    · rw [if_neg h6, if_neg h6]
      unfold f_reads_234 f_reads_244
      rw [p_let, m_wrong s13, q_mc]
  have eA : f_X11_all N b g u3 U.1 = uxcallv (f_X5_needsEnd N b g U' u1.1) (fun a6 u7 => some (.inl (a6, u7))) (fun u4 => some (.inr (some a, u4))) := by
    unfold f_X11_all f_X11_plan f_X11_all_4 f_X11_all_12
    rw [if_pos (v_is d2'), e1, q_ux2, v_gr e3.2.1 (k := 0) rfl, p_bs, p_bs, if_pos (v_is cr)]
  by_cases h6 : τ.1 6 = 0
  rotate_left
  · obtain ⟨xx, V, g1, g2⟩ := eo2 h6
    refine fault xx V _ ?_ (eR.trans (if_neg h6)) (e7.ex g2.pp al2 (by omega) (by omega))
    rw [eA, g1, q_xv1]
  rw [if_pos h6] at eR
  rw [eo1 h6, q_xv2] at eA
  have v5 : mSm pS pRw σ1 τ := e7.2.2.2.2.1
  have oU' : uOld U' := e3.1.2.2.2.2.2.1
  have kl0 : ∀ y, y < U.1 → U'.2.2 y = u3.2.2 y := e7.1.1
  have kp : ∀ y, y < U.1 → lab y ≠ 1 → U'.2.2 y = U.2.2 y := fun y w1 w2 => (kl0 y w1).trans (k3 y w1 (fun z => w2 (by rw [z]; exact l0)))
  have lU' : u3.1 ≤ U'.1 := e7.1.2.2.2.2.1
  have lZ' : u3.2.1 ≤ U'.2.1 := e7.1.2.2.2.2.2
  obtain ⟨-, w72, w73, w74, -⟩ := id e7
  have hxU : U'.2.2 (ad 0) = some (xO ad (mSet (mSet σ 2 0) 9 0) (.ref bo0) (.ref mp0) ptv) := (kl0 _ lt0).trans hx3
  have sm : qSm (fun k => k = 0 ∨ k = 5 ∨ k = 12) lab lab U U' := hI.lb (p := fun k => k = 0 ∨ k = 5 ∨ k = 12) (fun _ _ => rfl) (fun y hy hp => kp y hy (by omega)) (by decide)
  have z1' := z1.hp sm (Or.inl rfl) (Or.inr (Or.inl rfl))
  have r56 : ∀ i, i < 512 * np → τ.2.1 56 i = σ.2.1 56 i := fun i hi => by
    rw [e7.2.2.2.2.2.1 i (by omega), r1s 56 (by decide)]
  have g4 : uGR U' (ad 0) 0 10 = some (some (ad 4)) := v_gr hxU (k := 10) rfl
  by_cases c8 : np = 8
  · obtain ⟨σF, hσF⟩ : ∃ s : MS, s = mSet τ 39 3 := ⟨_, rfl⟩
    have fF : ∀ k, k ≠ 39 → σF.1 k = τ.1 k := fun k hk => by
      rw [hσF]
      exact upd_n hk
    have rF : σF.2 = τ.2 := by
      rw [hσF]
      rfl
    have hf : ∀ k, ¬ oP k → σF.1 k = σ.1 k := fun k hk => by
      rw [fF k (fun z => hk (by unfold oP; omega))]
      exact hf0 v5 k hk
    have g2 : σF.1 2 = 0 := (fF 2 (by decide)).trans (g20 v5)
    have h39 : σF.1 39 = 3 := by
      rw [hσF]
      rfl
    have pl := hq3.st (σF := σF) sm (hf 34 (by unfold oP; decide)) (hf 37 (by unfold oP; decide)) (hf 22 (by unfold oP; decide)) ((fF 40 (by decide)).trans (g40 v5)) (by rw [rF]; exact hr0 v5 57 (by unfold pRw; decide)) (fun np' w1 w2 i hi => by
      have e : np' = np := by
        have := w1.symm.trans z2
        rw [j_eq (by omega) (by omega) (by omega) (by omega)] at this
        omega
      subst e
      rw [rF, r56 i hi])
    have sg := k_plF hI oU' (by omega) (fun _ _ => rfl) (fun y hy => hfr y (by omega)) (fun y w1 w2 _ => kp y w1 w2) hf (fun j w1 _ => by rw [rF]; exact hr0 v5 j w1) (by rw [rF]; exact h20 v5) g2 pl
    have eX : xO ad (mT (mSet (mSet σ 2 0) 9 0) 3) (.ref bo0) (.ref mp0) ptv = xO ad σF (.ref bo0) (.ref mp0) ptv := by
      rw [xO_t (by decide)]
      unfold xO
      rw [h39, if_neg (show ¬ (3 : Int32) = 4 by decide), g2, (fF 9 (by decide)).trans s9, hf 38 (by unfold oP; decide), hf 63 (by unfold oP; decide), hf 64 (by unfold oP; decide), hf 65 (by unfold oP; decide)]
      rfl
    refine ⟨-1, uSet U' (ad 0) (xO ad σF (.ref bo0) (.ref mp0) ptv), σF, U'.1 - U.1, U'.2.1 - U.2.1, ?_, ?_, ?_, nt, t2, t3, by omega, by omega⟩
    · rw [hC, eA, q_ux2]
      unfold f_X1_plan_54
      rw [g4, p_bs, p_bs, if_pos (v_is z1'.1.1), l_size z1'.1, q_uc, j8, p_eq (by omega) (by omega) (by omega) (by omega) (by omega), if_pos (x_is hxU), x_ref (by decide) hxU ba0, q_uc, eX]
    · rw [hM', eR, q_mv, htl]
      show (mlet (τ.1 13) fun y21 => _) = _
      rw [p_let, if_pos s13, p_let, g40 v5, z2, j8, p_eq (by omega) (by omega) (by omega) (by omega) (by omega), m_no2, q_mc, hσF]
    · exact sg.fin hQ hxU l0 (fun y q => kp y (hI.lt q (by decide)) (by omega)) (by omega) (by omega)
  · have hp : np < 8 := by omega
    obtain ⟨mi, g20'⟩ := hE.2.1
    have vq := e8 hp
    have ha18 : ∃ fs, U'.2.2 a = some (.inr (18, fs)) := by
      obtain ⟨arr', cnt', mm', mc', xs'', ks', ea', q1, -⟩ := vq
      exact ⟨_, q1.1.1⟩
    obtain ⟨fa, ha18⟩ := ha18
    have la : a < U'.1 := oU' _ _ ha18
    have l4 : lab (ad 4) = 5 := z1.2.1
    have lt4 : ad 4 < U.1 := oU _ _ z1.1.1
    have ba4 : b ≤ ad 4 := lab_ge hl (by omega)
    have npm : np ≤ m := z1.1.2.2.1
    have larr : m ≠ 0 → lab arr = 5 := z1.2.2.2
    have ltarr : arr < U.1 := oU _ _ z1.1.2.1
    obtain ⟨V, arr', m2, xs', w1, w2, w3, w4, w5, w6, w7, w8⟩ := l_add (N := N) (b := b) (g := g) (v := a) z1'.1 oU' ba4 (by omega) (fun q => lab_ge hl (by rw [larr (by omega)]; decide)) (fun q => (z1.2.2.1 q).1) g20' (fun i hi => by
      obtain ⟨q1, q2, q3, q4, nD', nG', q5, q6, q7, q8⟩ := z5 i hi
      rw [q1]
      obtain ⟨arr'', cnt'', mm'', mc'', xs'', ks'', ea'', x1', -⟩ := q8
      exact u_ob ((kp _ (oU _ _ x1'.1.1) (by omega)).trans x1'.1.1)) (by omega) (u_ob ha18)
    have lV : U'.1 ≤ V.1 ∧ V.1 ≤ U'.1 + 1 ∧ U'.2.1 ≤ V.2.1 ∧ V.2.1 ≤ U'.2.1 + 60 := by
      rcases w8 with ⟨-, -, -, q, q'⟩ | ⟨z, -, -, q, q'⟩
      · omega
      · have := lGr_le (m := m) (by omega)
        omega
    have kV : ∀ y, y < U'.1 → y ≠ ad 4 → (lab y ≠ 5 ∨ U.1 ≤ y) → V.2.2 y = U'.2.2 y := fun y y1 y2 y3 => w5 y y2 (fun q z => by
      have := larr (by omega)
      rw [z] at y3
      omega) y1
    have kpV : ∀ y, y < U.1 → lab y ≠ 1 → lab y ≠ 5 → V.2.2 y = U.2.2 y := fun y y1 y2 y3 => (kV y (by omega) (fun z => y3 (by rw [z]; exact l4)) (Or.inl y3)).trans (kp y y1 y2)
    have n04 : ad 0 ≠ ad 4 := fun z => by
      rw [z] at l0
      omega
    have hxV : V.2.2 (ad 0) = some (xO ad (mSet (mSet σ 2 0) 9 0) (.ref bo0) (.ref mp0) ptv) := (kV _ (by omega) n04 (Or.inl (by omega))).trans hxU
    obtain ⟨σF, hσF⟩ : ∃ s : MS, s = mSet (mArr τ 57 np (iI k')) 40 (iI ((np + 1 : Nat) : Int)) := ⟨_, rfl⟩
    have fF : ∀ k, k ≠ 40 → σF.1 k = τ.1 k := fun k hk => by
      rw [hσF]
      exact upd_n hk
    have f40 : σF.1 40 = iI ((np + 1 : Nat) : Int) := by
      rw [hσF]
      rfl
    have rF : ∀ j, j ≠ 57 → σF.2.1 j = τ.2.1 j := fun j hj => by
      rw [hσF]
      exact mArr_n hj
    have rF57 : σF.2.1 57 = upd (σ.2.1 57) np (iI k') := by
      rw [← hr0 v5 57 (by unfold pRw; decide), hσF]
      exact mArr_s
    have r2F : σF.2.2 = τ.2.2 := by
      rw [hσF]
      rfl
    have hf : ∀ k, ¬ oP k → σF.1 k = σ.1 k := fun k hk => by
      rw [fF k (fun z => hk (by unfold oP; omega))]
      exact hf0 v5 k hk
    have g2 : σF.1 2 = 0 := (fF 2 (by decide)).trans (g20 v5)
    have h39 : σF.1 39 = 0 := (fF 39 (by decide)).trans (g39 v5)
    obtain ⟨lb, hlb⟩ : ∃ lb : Nat → Nat, lb = fun y => if U.1 ≤ y ∧ y < U'.1 then 12 else if U'.1 ≤ y ∧ y < V.1 then 5 else lab y := ⟨_, rfl⟩
    have lbO : ∀ y, y < U.1 → lb y = lab y := fun y q => by
      rw [hlb]
      exact (if_neg (by omega)).trans (if_neg (by omega))
    have lbN : ∀ y, U.1 ≤ y → y < U'.1 → lb y = 12 := fun y q1 q2 => by
      rw [hlb]
      exact if_pos ⟨q1, q2⟩
    have lbA : ∀ y, U'.1 ≤ y → y < V.1 → lb y = 5 := fun y q1 q2 => by
      rw [hlb]
      exact (if_neg (by omega)).trans (if_pos ⟨q1, q2⟩)
    have lbE : ∀ y, V.1 ≤ y → lb y = 11 := fun y q => by
      rw [hlb]
      exact (if_neg (by omega)).trans ((if_neg (by omega)).trans (hfr y (by omega)))
    have smV : qSm (fun k => k = 0 ∨ k = 12) lab lb U V := hI.lb (p := fun k => k = 0 ∨ k = 12) lbO (fun y hy hp => kpV y hy (by omega) (by omega)) (by decide)
    have lb0 : ∀ y, y < b → lb y = 0 := fun y hy => (lbO y (by omega)).trans (hl y hy)
    have plN : qPl g V lb σF (ad 4) := by
      refine ⟨arr', np + 1, m2, mc + 1, xs', fun i => if i < np then pa i else a, fun i => if i < np then kl i else k', ⟨w2, (lbO _ lt4).trans l4, fun q => ?_, fun q => ?_⟩, f40, by omega, fun _ => (hf 34 (by unfold oP; decide)).trans e34, fun i hi => ?_⟩
      · exfalso
        have := w2.2.2.1
        omega
      · rcases w8 with ⟨q1, q2, -⟩ | ⟨q1, q2, -, q3, -⟩
        · rw [q2, lbO _ ltarr]
          exact larr (by omega)
        · rw [q2]
          exact lbA _ (Nat.le_refl _) (by omega)
      · show xs' i = some (if i < np then pa i else a) ∧ lb (if i < np then pa i else a) = 12 ∧ σF.2.1 57 i = iI ((if i < np then kl i else k' : Nat) : Int) ∧ (if i < np then kl i else k') ≤ 128 ∧ ∃ nD nG : Nat, (∃ n : Nat, σF.1 37 = iI n ∧ nD ≤ n ∧ n ≤ 5) ∧ σF.1 22 = iI nG ∧ nG ≤ 8 ∧ vPl g V lb (fun k => σF.2.1 56 (512 * i + k)) nD nG 8 (if i < np then pa i else a) 0 (if i < np then kl i else k')
        by_cases ci : i < np
        · obtain ⟨q1, q2, q3, q4, nD', nG', ⟨nn, q5, q5', q5''⟩, q6, q7, q8⟩ := z5 i ci
          rw [if_pos ci, if_pos ci]
          refine ⟨(w3 i ci).trans q1, (smV.c (Or.inr rfl) q2).2, ?_, q4, nD', nG', ⟨nn, (hf 37 (by unfold oP; decide)).trans q5, q5', q5''⟩, (hf 22 (by unfold oP; decide)).trans q6, q7, ?_⟩
          · rw [rF57, upd_n (by omega)]
            exact q3
          · exact vPl.od _ _ _ _ (vPl.hp smV (Or.inl rfl) (Or.inr rfl) _ _ _ _ q8) (fun j _ j2 => by
              show σF.2.1 56 (512 * i + j) = σ.2.1 56 (512 * i + j)
              rw [rF 56 (by decide), r56 _ (by omega)])
        · have ei : i = np := by omega
          subst ei
          rw [if_neg ci, if_neg ci]
          refine ⟨w4, lbN _ (by omega) la, ?_, by omega, nD, nG, ⟨nD, (hf 37 (by unfold oP; decide)).trans e37, Nat.le_refl _, hnD⟩, (hf 22 (by unfold oP; decide)).trans e22, hnG, ?_⟩
          · rw [rF57, upd_s]
          · have kf : kF b (pF u3 U') U' V := by
              refine ⟨fun y c fs hF hy _ => (kV y hF.2 (by have := hF.1; omega) (Or.inr (by have := hF.1; omega))).trans hy, fun y k z hF hy => ?_⟩
              rcases hF with hF | hF
              · exact (kV y hF.2 (by have := hF.1; omega) (Or.inr (by have := hF.1; omega))).trans hy
              · have := hl y hF
                exact (kV y (by omega) (by omega) (Or.inl (by omega))).trans hy
            have q1 := vPf.p2 (F' := pF u3 U') kf (fun _ z => z) _ _ _ _ vq
            have q2 := vPf.up _ _ _ _ q1
            have q3 := vPf.vPl (lab := lb) lb0 (fun y hF => lbN y (by have := hF.1; omega) hF.2) _ _ _ _ q2
            exact vPl.od _ _ _ _ q3 (fun j _ _ => by
              show σF.2.1 56 (512 * i + j) = τ.2.1 56 (512 * i + j)
              rw [rF 56 (by decide)])
    have sg := k_plF hI w6 (by omega) lbO lbE kpV hf (fun j y1 y2 => by rw [rF j y2]; exact hr0 v5 j y1) (by rw [r2F]; exact h20 v5) g2 plN
    have eX : xO ad (mT (mSet (mSet σ 2 0) 9 0) 0) (.ref bo0) (.ref mp0) ptv = xO ad σF (.ref bo0) (.ref mp0) ptv := by
      rw [xO_t (by decide)]
      unfold xO
      rw [h39, if_neg (show ¬ (0 : Int32) = 4 by decide), g2, (fF 9 (by decide)).trans s9, hf 38 (by unfold oP; decide), hf 63 (by unfold oP; decide), hf 64 (by unfold oP; decide), hf 65 (by unfold oP; decide)]
      rfl
    have em1 : iI ((np + 1 : Nat) : Int) - 1 = iI (np : Int) := by
      rw [j1, i_sub]
      congr 1
      omega
    have ep1 : iI (np : Int) + 1 = iI ((np + 1 : Nat) : Int) := by
      rw [j1, i_add]
      rfl
    obtain ⟨tx1, tx2⟩ := t_ix (a := (np : Int)) (n := mLen 57) (k := np) rfl (by rw [show mLen 57 = 8 from rfl]; omega) (by rw [show mLen 57 = 8 from rfl]; omega)
    have gV : uGR V (ad 0) 0 10 = some (some (ad 4)) := v_gr hxV (k := 10) rfl
    refine ⟨iI np, uSet V (ad 0) (xO ad σF (.ref bo0) (.ref mp0) ptv), σF, V.1 - U.1, V.2.1 - U.2.1, ?_, ?_, ?_, nt, t2, t3, by omega, by omega⟩
    · rw [hC, eA, q_ux2]
      unfold f_X1_plan_54 f_X1_plan_91
      rw [g4, p_bs, p_bs, if_pos (v_is z1'.1.1), l_size z1'.1, q_uc, j8, n_eq (by omega) (by omega) (by omega) (by omega) (by omega), g4, p_bs, p_bs, if_pos (v_is z1'.1.1), w1, q_uc, gV, p_bs, p_bs, if_pos (v_is w2.1), l_size w2, q_uc, if_pos (x_is hxV), x_don hxV ba0, q_uc, em1, eX]
    · rw [hM', eR, q_mv, htl]
      show (mlet (τ.1 13) fun y21 => _) = _
      rw [p_let, if_pos s13, p_let, g40 v5, z2, j8, n_eq (by omega) (by omega) (by omega) (by omega) (by omega), p_let, p_let, e3.2.2.2.2.1.1, if_pos tx1, p_let, tx2, p_let, show (mArr τ 57 np (iI k')).1 40 = iI np from (g40 v5).trans z2, ep1, p_let, ← hσF, p_let, f40, em1]
    · exact sg.fin hQ hxV l0 (fun y q => kpV y (hI.lt q (by decide)) (by omega) (by omega)) (by omega) (by omega)
end L5s
