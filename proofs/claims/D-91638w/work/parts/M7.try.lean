/-! PLAIN: a line that says a try, of both -/
theorem u_df10 : uDefs tyX10 4 = [.null, .int 0, .int 0, .int 0] := by rfl
theorem m_tl83 {N nG m : Nat} {σ : MS} (h8 : σ.1 8 = iI m) (hm : m ≤ 8) (h23 : σ.1 23 = iI nG) (hG : nG < 8) : ∀ (d k q : Nat) (r : Nat → Int32), k + d = m → ∃ r' : Nat → Int32, (∀ i, r' i = if 8 * nG + k ≤ i ∧ i < 8 * nG + m then σ.2.1 11 (i - 8 * nG) else r i) ∧ f_tryLine_83 N (q + d) (mRow σ 16 r) (iI k) = f_tryLine_83 N q (mRow σ 16 r') (iI m) := by
  intro d
  induction d with
  | zero =>
    intro k q r hk
    refine ⟨r, fun i => (if_neg (by omega)).symm, ?_⟩
    rw [show k = m by omega]
    rfl
  | succ d ih =>
    intro k q r hk
    have ek : iI (k : Int) + 1 = iI ((k + 1 : Nat) : Int) := by
      rw [j1, i_add]
      rfl
    have ei : (8 : Int32) * iI (nG : Int) + iI (k : Int) = iI ((8 * nG + k : Nat) : Int) := by
      rw [j8, i_mul, i_add]
      rfl
    obtain ⟨t1, t2⟩ := t_ix (a := ((8 * nG + k : Nat) : Int)) (n := mLen 16) (k := 8 * nG + k) rfl (by rw [show mLen 16 = 64 from rfl]; omega) (by rw [show mLen 16 = 64 from rfl]; omega)
    obtain ⟨t3, t4⟩ := t_ix (a := (k : Int)) (n := mLen 11) (k := k) rfl (by rw [show mLen 11 = 8 from rfl]; omega) (by rw [show mLen 11 = 8 from rfl]; omega)
    obtain ⟨r', w1, w2⟩ := ih (k + 1) q (upd r (8 * nG + k) (σ.2.1 11 k)) (by omega)
    refine ⟨r', fun i => ?_, ?_⟩
    · rw [w1 i]
      by_cases c : i = 8 * nG + k
      · subst c
        rw [if_neg (by omega), upd_s, if_pos (by omega), Nat.add_sub_cancel_left]
      · rw [upd_n c]
        by_cases c2 : 8 * nG + k ≤ i ∧ i < 8 * nG + m
        · rw [if_pos c2, if_pos (by omega)]
        · rw [if_neg c2, if_neg (by omega)]
    · rw [show q + (d + 1) = (q + d) + 1 by omega, f_tryLine_83, p_let, show (mRow σ 16 r).1 8 = iI m from h8, n_le (by omega) (by omega) (by omega) (by omega) (by omega), p_let, show (mRow σ 16 r).1 23 = iI nG from h23, if_pos t3, p_let, t4, ei, if_pos t1, p_let, t2, mRow_a, ek, p_let]
      exact w2
theorem rSt.kw {b : Nat} {g : uEnv} {lo rd tp n : Nat} {T : Nat → Nat} {U U' : UH} {σ σ' : MS} {at' at2 : Nat} (h : rSt b g lo rd tp n T U σ at' U' σ' at2) : rKw lo (fun x => x = rd) U U' := h.2.1.w rfl
theorem rSt.f {b : Nat} {g : uEnv} {lo rd tp n : Nat} {T : Nat → Nat} {U U' : UH} {σ σ' : MS} {at' at2 : Nat} (h : rSt b g lo rd tp n T U σ at' U' σ' at2) {k : Nat} (hk : ¬ (4 ≤ k ∧ k ≤ 10) ∧ k ≠ 13) : σ'.1 k = σ.1 k := h.b.1 k (fun z => by unfold tS at z; omega)
theorem rSt.r {b : Nat} {g : uEnv} {lo rd tp n : Nat} {T : Nat → Nat} {U U' : UH} {σ σ' : MS} {at' at2 : Nat} (h : rSt b g lo rd tp n T U σ at' U' σ' at2) {j : Nat} (hj : j ≠ 11) : σ'.2.1 j = σ.2.1 j := h.b.2.1 j hj
theorem rEr.f {lo rd n : Nat} {U U' : UH} {σ σ' : MS} {at' x : Nat} (h : rEr lo rd n U σ at' x U' σ') : σ'.1 13 = 1 ∧ ∀ k, ¬ (4 ≤ k ∧ k ≤ 10) → k ≠ 13 → σ'.1 k = σ.1 k := by
  obtain ⟨k, p, -, h1, -, -, h2, -⟩ := h
  exact ⟨h1, h2.1⟩
section J7s
variable {N b : Nat} {g : uEnv} {lo rd tp n bo : Nat} {T : Nat → Nat} {U : UH} {σ : MS} {at' : Nat}
theorem k_tLine (h : rCx b g lo rd tp n T U σ at') (hP : bP b lo g U σ bo) (h20 : ∃ mi, g.1 20 = some mi) (hN : 2000 ≤ N) : (∃ (x : Nat) (U' : UH) (σ' : MS), f_X4_readAttempt N b g U bo (some rd) = some (.inl (x, U')) ∧ f_tryLine N σ = some σ' ∧ rEx lo bS bR (4 * (n - at') + 9) (32 * (n - at') + 60) U σ x U' σ') ∨ (∃ (U' : UH) (σ' : MS) (at2 : Nat), f_X4_readAttempt N b g U bo (some rd) = some (.inr U') ∧ f_tryLine N σ = some σ' ∧ rCx b g lo rd tp n T U' σ' at2 ∧ bP b lo g U' σ' bo ∧ at' ≤ at2 ∧ U.1 ≤ U'.1 ∧ U'.1 ≤ U.1 + 4 * (at2 - at') + 8 ∧ U.2.1 ≤ U'.2.1 ∧ U'.2.1 ≤ U.2.1 + 32 * (at2 - at') + 40 ∧ (∀ y, y < lo → U'.2.2 y = U.2.2 y) ∧ mSm bS bR σ σ' ∧ ∀ c, bCn σ c → bCn σ' (c + 1)) := by
  have h13 : σ.1 13 = 0 := h.2.2.2.2.2.2.2.2.2.1
  have ho : uOld U := h.2.2.2.2.2.1
  have hlo : b ≤ lo := h.2.2.2.2.2.2.1
  have hlU : lo ≤ U.1 := h.2.2.2.2.2.2.2.2.1
  have hal := h.le
  have sS : ∀ k, tS k → bS k := fun k z => Or.inl z
  have sR : ∀ k, tR k → bR k := fun k z => Or.inl z
  have n13e : ∀ {s : MS}, s.1 13 = 1 → ¬ s.1 13 = 0 := fun e z => by
    rw [e] at z
    exact absurd z (by decide)
  obtain ⟨kr, st, va, wv, sg, c1, -⟩ := k_kind h
  have lrd := ho _ _ c1
  obtain ⟨gl, al, arr, arr2, nG, nT, m1, m2, mc, mc2, xs, xs2, ga, gn, ta, tn, s, q, B, rv, ⟨h1, hbo, hrv, h29⟩, hB5, hBd, ⟨hl, hn8, h22, hg⟩, ⟨hl2, hn6, h23, ht⟩, hne, hna⟩ := id hP
  obtain ⟨i1, i2⟩ := m_isName (N := N) h hN
  unfold f_X4_readAttempt f_tryLine
  rw [p_bs, if_pos (v_is c1)]
  rcases k_name (N := N) h hN with ⟨hn, U2, wa, m, f, y1, hc2, kp, t1, t2, lwa, h8, m1', m8, vs, hf⟩ | ⟨hn, x, U', y1, y2⟩
  · rw [y1, q_ux2, i1 hn, q_mc, if_neg n10, p_let]
    have kw12 : rKw lo (fun x => x = rd) U U2 := kp.w rfl
    have o2 : uOld U2 := hc2.2.2.2.2.2.1
    have kw02 : rKw lo (oW rd U.1) U U2 := kw12.mono (fun x _ z => Or.inl z)
    obtain ⟨kr3, st3, va3, wv3, sg3, c3, -⟩ := k_kind hc2
    have h1c : U.2.2 bo = some (.inr (3, [.ref gl, .ref al, .int (iI rv), .int (iI (B 0)), .int (iI (B 1)), .int (iI (B 2)), .int (iI (B 3)), .int (iI (B 4))])) := h1
    have lbo := ho _ _ h1
    have nW : ∀ {y : Nat} {e : uE}, U.2.2 y = some e → y ≠ rd → ¬ oW rd U.1 y := fun hy hn z => by
      have := ho _ _ hy
      unfold oW at z
      omega
    have nbo : bo ≠ rd := u_nrr h1c c1 (by decide)
    have h13c : U2.2.2 bo = some (.inr (3, [.ref gl, .ref al, .int (iI rv), .int (iI (B 0)), .int (iI (B 1)), .int (iI (B 2)), .int (iI (B 3)), .int (iI (B 4))])) := kw02.at ho h1c (by decide) (nW h1c nbo)
    have hl3 := hl2.kw kw02 c1 ho
    have sz3 : f_J2_size N b g U2 al = some (iI nT, U2) := l_size hl3.1
    obtain ⟨A, Bn⟩ := c_hasA (N := N) (b := b) (g := g) (σ := σ) (j1 := 16) (j2 := 17) (ga := ta) (nm := tn) h13c hl3.1 (fun d hd => by
      obtain ⟨g1, g2⟩ := ht d hd
      obtain ⟨-, g5, e, o, c, g4, -⟩ := g2.kw kw02 c1 ho
      exact ⟨g1, ⟨_, _, _, g4⟩, g5.g⟩) vs.g (fun k hk => (hf k hk).1) m8 (by omega) (by omega) N 0 (by omega) (by omega)
    have A : (∃ r, r < nT ∧ 0 ≤ r ∧ nmM σ 16 17 m r) → f_X4_hasAttempt N b g U2 bo (some wa) = some (1, U2) := A
    have Bn : (∀ e, 0 ≤ e → e < nT → ¬ nmM σ 16 17 m e) → f_X4_hasAttempt N b g U2 bo (some wa) = some (0, U2) := Bn
    have fnd := m_find3 (N := N) (σ := σ) (j1 := 16) (j2 := 17) (cnt := nT) h8 m8 (by rw [show mLen 16 = 64 from rfl]; omega) (by rw [show mLen 16 = 64 from rfl]; omega) (by rw [show mLen 17 = 8 from rfl]; omega) (by rw [show mLen 17 = 8 from rfl]; omega) (fun d hd => by
      obtain ⟨-, ⟨-, mq, fq, -, -, z2, z3, -⟩, -⟩ := (ht d hd).2
      exact ⟨mq, z3, z2⟩) (by omega) N 0 (by omega) (by omega) (fun e he => by omega)
    have eF : f_find N 16 17 σ (iI nT) = f_find_3 N 16 17 N σ (iI nT) (iI ((0 : Nat) : Int)) := rfl
    have kE : ∀ y, y < lo → U2.2.2 y = U.2.2 y := kw02.1
    unfold f_X4_readAttempt_4
    rw [if_pos (v_is h13c), h23, eF]
    rcases fnd with ⟨r, r1, r2, r3, r4⟩ | ⟨r3, r4⟩
    · obtain ⟨U', f1, f2⟩ := c_fault (N := N) (k := 3) hc2
      left
      refine ⟨U2.1, U', mEr σ 3 (σ.1 4), ?_, ?_, (f2.x.mono sS sR (Nat.le_refl _) (Nat.le_refl _)).aft mSm.refl kE (by omega) (by omega) (by omega) (by omega)⟩
      · unfold f_X4_readAttempt_18
        rw [A ⟨r, r1, Nat.zero_le _, r2⟩, q_uc, if_neg n10, p_bs, if_pos (v_is c3), f1, q_uc, p_bs]
      · rw [r4, q_mc, if_neg (show ¬ iI (r : Int) < 0 by
          rw [j0, j_lt (by omega) (by omega) (by omega) (by omega)]
          omega), p_let, m_wrong h13, q_mc]
        unfold f_tryLine_47 f_tryLine_73
        rw [p_let, if_neg (n13e (show (mEr σ 3 (σ.1 4)).1 13 = 1 from rfl)), p_let, if_neg (n13e (show (mEr σ 3 (σ.1 4)).1 13 = 1 from rfl))]
    · rw [Bn (fun e _ he => r3 e he), q_uc, if_pos rfl, v_gr h13c (k := 1) rfl, p_bs, p_bs, if_pos (v_is hl3.1.1), sz3, q_uc, r4, q_mc, if_pos (show (-1 : Int32) < 0 by decide)]
      unfold f_tryLine_47
      rw [p_let, if_pos h13, p_let, h23]
      by_cases c8 : nT = 6
      · obtain ⟨U', f1, f2⟩ := c_fault (N := N) (k := 5) hc2
        left
        refine ⟨U2.1, U', mEr σ 5 (σ.1 4), ?_, ?_, (f2.x.mono sS sR (Nat.le_refl _) (Nat.le_refl _)).aft mSm.refl kE (by omega) (by omega) (by omega) (by omega)⟩
        · unfold f_X4_readAttempt_36
          rw [show (6 : Int32) = iI 6 from rfl, p_eq (by omega) (by omega) (by omega) (by omega) (by omega), p_bs, if_pos (v_is c3), f1, q_uc, p_bs]
        · unfold f_tryLine_73
          rw [show (6 : Int32) = iI 6 from rfl, p_eq (by omega) (by omega) (by omega) (by omega) (by omega), p_let, m_wrong h13, q_mc, p_let, if_neg (n13e (show (mEr σ 5 (σ.1 4)).1 13 = 1 from rfl))]
      · obtain ⟨r', w1, w2⟩ := m_tl83 (N := N) (σ := σ) h8 m8 h23 (by omega) m 0 (N - m) (σ.2.1 16) (by omega)
        rw [Nat.sub_add_cancel (by omega), mRow_id] at w2
        have w2 : f_tryLine_83 N N σ 0 = f_tryLine_83 N (N - m) (mRow σ 16 r') (iI m) := w2
        obtain ⟨q1, hq1⟩ : ∃ q1, N - m = q1 + 1 := ⟨N - m - 1, by omega⟩
        obtain ⟨tG1, tG2⟩ := t_ix (a := (nT : Int)) (n := 6) (k := nT) rfl (by omega) (by omega)
        obtain ⟨tG0, -⟩ := t_ix (a := (nT : Int)) (n := 8) (k := nT) rfl (by omega) (by omega)
        obtain ⟨σa, hσa⟩ : ∃ sa : MS, sa = mArr (mRow σ 16 r') 17 nT (iI m) := ⟨_, rfl⟩
        have fa : σa.1 = σ.1 := by rw [hσa]; rfl
        have ra : ∀ j, j ≠ 16 → j ≠ 17 → σa.2.1 j = σ.2.1 j := fun j j14 j15 => by
          rw [hσa, mArr_n j15]
          exact if_neg j14
        have ra16 : σa.2.1 16 = r' := by
          rw [hσa, mArr_n (by decide)]
          show (if 16 = 16 then r' else σ.2.1 16) = r'
          exact if_pos rfl
        have ra17 : σa.2.1 17 = upd (σ.2.1 17) nT (iI m) := by
          rw [hσa, mArr_s]
          rfl
        have sa0 : mSm bS bR σ σa := ⟨fun k _ => by rw [fa], fun j hj => ra j (fun z => hj (by rw [z]; exact Or.inr (Or.inl (by decide)))) (fun z => hj (by rw [z]; exact Or.inr (Or.inl (by decide)))), by rw [hσa]; rfl, fun j _ i hi => by
          by_cases j14 : j = 16
          · subst j14
            rw [ra16, w1 i, if_neg (by rw [show mLen 16 = 64 from rfl] at hi; omega)]
          · by_cases j15 : j = 17
            · subst j15
              rw [ra17, upd_n (by rw [show mLen 17 = 8 from rfl] at hi; omega)]
            · rw [ra j j14 j15]⟩
        have hca : rCx b g lo rd tp n T U2 σa at' := hc2.sg (fun k _ => by rw [fa]) (ra 1 (by decide) (by decide)) (ra 11 (by decide) (by decide))
        have k6 : σa.1 6 = 2 := by
          rw [fa]
          exact hn.1
        obtain ⟨U4, σ4, at4, v1, v2, v3⟩ := k_go (N := N) hca (by rw [k6]; decide) hN
        have M0 : f_tryLine_73 N σ = mcallv (f_next N σa) (fun σ9 => mcall (f_must N (pTx 49) σ9) fun r14 σ12 => mlet (σ12.1 23) fun y16 => mcall (f_signed N σ12 (-4) 4) fun r20 σ18 => if mIn y16 (mLen 30) = true then mlet (mArr σ18 30 y16.toNatClampNeg r20) fun σ22 => mcall (f_must N (pTx 50) σ22) fun r26 σ24 => mlet (σ24.1 23) fun y28 => mcall (f_signed N σ24 (-4) 4) fun r32 σ30 => if mIn y28 (mLen 31) = true then mlet (mArr σ30 31 y28.toNatClampNeg r32) fun σ34 => mcall (f_must N (pTx 51) σ34) fun r38 σ36 => mlet (σ36.1 23) fun y40 => mcall (f_number N σ36 1 99) fun r44 σ42 => if mIn y40 (mLen 32) = true then mlet (mArr σ42 32 y40.toNatClampNeg r44) fun σ46 => mlet (σ46.1 13) fun y47 => if y47 = 0 then mlet (σ46.1 23) fun y49 => mlet (mSet σ46 23 ((y49 + 1))) fun σ50 => f_tryLine_223 N σ50 else f_tryLine_223 N σ46 else none else none else none) := by
          unfold f_tryLine_73
          rw [p_let, if_pos h13, w2, hq1, f_tryLine_83, p_let, show (mRow σ 16 r').1 8 = iI m from h8, p_le (by omega) (by omega) (by omega) (by omega) (by omega), p_let, show (mRow σ 16 r').1 23 = iI nT from h23, p_let, if_pos (show mIn (iI (nT : Int)) (mLen 17) = true from tG0), p_let, tG2, ← hσa]
        rw [show (6 : Int32) = iI 6 from rfl, n_eq (by omega) (by omega) (by omega) (by omega) (by omega), n_eq (by omega) (by omega) (by omega) (by omega) (by omega), M0, v2, q_mv, p_bs, if_pos (v_is c3), v1, p_bs]
        unfold f_X4_readAttempt_41 f_X4_readAttempt_47 f_X4_readAttempt_52 f_X4_readAttempt_59 f_X4_readAttempt_64 f_X4_readAttempt_72 f_X4_readAttempt_79 f_X4_readAttempt_91 f_X4_readAttempt_97
        have hc4 := v3.1
        have al4 := hc4.le
        obtain ⟨-, -, v3c, v3d, v3e, -⟩ := id v3
        obtain ⟨kr4, st4, va4, wv4, sg4, c4, -⟩ := k_kind hc4
        have kw04 : rKw lo (oW rd U.1) U U4 := kw02.trans (v3.kw.mono (fun x _ z => Or.inl (Or.inl z)))
        have sa4 : mSm bS bR σ σ4 := sa0.trans (v3.b.mono sS sR)
        have n4 : σ4.1 23 = iI nT := by
          rw [v3.f (by decide), fa]
          exact h23
        have tG30 : mIn (iI (nT : Int)) (mLen 30) = true := tG1
        have tG31 : mIn (iI (nT : Int)) (mLen 31) = true := tG1
        have tG32 : mIn (iI (nT : Int)) (mLen 32) = true := tG1
        have l30 : nT < mLen 30 := by
          rw [show mLen 30 = 6 from rfl]
          omega
        have eb0 : ∀ {s : MS} {x : Int32}, mSm bS bR s (mArr s 30 nT x) := mSm.arr (Or.inr (Or.inr (by decide))) l30
        have eb1 : ∀ {s : MS} {x : Int32}, mSm bS bR s (mArr s 31 nT x) := mSm.arr (Or.inr (Or.inr (by decide))) l30
        have eb2 : ∀ {s : MS} {x : Int32}, mSm bS bR s (mArr s 32 nT x) := mSm.arr (Or.inr (Or.inr (by decide))) l30
        -- the model behind a fault
        have T3 : ∀ {s : MS}, s.1 13 = 1 → s.1 23 = iI nT → (mlet (s.1 23) fun y40 => mcall (f_number N s 1 99) fun r44 σ42 => if mIn y40 (mLen 32) = true then mlet (mArr σ42 32 y40.toNatClampNeg r44) fun σ46 => mlet (σ46.1 13) fun y47 => if y47 = 0 then mlet (σ46.1 23) fun y49 => mlet (mSet σ46 23 ((y49 + 1))) fun σ50 => f_tryLine_223 N σ50 else f_tryLine_223 N σ46 else none) = some (mArr s 32 nT 1) := fun {s} e13 e23 => by
          rw [p_let, e23, m_numE e13, q_mc, if_pos tG32, p_let, tG2, p_let, if_neg (n13e (show (mArr s 32 nT 1).1 13 = 1 from e13))]
          rfl
        have T2 : ∀ {s : MS}, s.1 13 = 1 → s.1 23 = iI nT → (mlet (s.1 23) fun y28 => mcall (f_signed N s (-4) 4) fun r32 σ30 => if mIn y28 (mLen 31) = true then mlet (mArr σ30 31 y28.toNatClampNeg r32) fun σ34 => mcall (f_must N (pTx 51) σ34) fun r38 σ36 => mlet (σ36.1 23) fun y40 => mcall (f_number N σ36 1 99) fun r44 σ42 => if mIn y40 (mLen 32) = true then mlet (mArr σ42 32 y40.toNatClampNeg r44) fun σ46 => mlet (σ46.1 13) fun y47 => if y47 = 0 then mlet (σ46.1 23) fun y49 => mlet (mSet σ46 23 ((y49 + 1))) fun σ50 => f_tryLine_223 N σ50 else f_tryLine_223 N σ46 else none else none) = some (mArr (mArr s 31 nT 0) 32 nT 1) := fun {s} e13 e23 => by
          rw [p_let, e23, m_sgnE e13, q_mc, if_pos tG31, p_let, tG2, m_mustE (show (mArr s 31 nT 0).1 13 = 1 from e13), q_mc, T3 (show (mArr s 31 nT 0).1 13 = 1 from e13) e23]
        have fin : ∀ {c s' : Nat} {u : UH} {s0 s1 s2 : MS} {x : Nat} {U' : UH}, rEx lo bS bR c s' u s0 x U' s1 → mSm bS bR σ s0 → rKw lo (oW rd U.1) U u → mSm bS bR s1 s2 → s2.1 = s1.1 → u.1 + c ≤ U.1 + (4 * (n - at') + 9) → u.2.1 + s' ≤ U.2.1 + (32 * (n - at') + 60) → rEx lo bS bR (4 * (n - at') + 9) (32 * (n - at') + 60) U σ x U' s2 := fun e1 e2 e3 e4 e5 e6 e7 => (e1.aft e2 e3.1 e3.2.2.2.2.1 e6 e3.2.2.2.2.2 e7).er (by rw [e5]) (by rw [e5]) (by rw [e5]) e4
        rw [p_bs, if_pos (v_is c4)]
        rcases k_must (N := N) (j := 22) (j' := 49) hc4 (by decide) (by decide +kernel) (by decide +kernel) hN with ⟨U5, σ5, at5, y1, y2, y3⟩ | ⟨x, U5, σ5, y1, y2, y3⟩
        · have hc5 := y3.1
          have al5 := hc5.le
          obtain ⟨-, -, y3c, y3d, y3e, -⟩ := id y3
          obtain ⟨kr5, st5, va5, wv5, sg5, c5, -⟩ := k_kind hc5
          have kw05 : rKw lo (oW rd U.1) U U5 := kw04.trans (y3.kw.mono (fun x _ z => Or.inl (Or.inl z)))
          have sa5 : mSm bS bR σ σ5 := sa4.trans (y3.b.mono sS sR)
          have n5 : σ5.1 23 = iI nT := (y3.f (by decide)).trans n4
          rw [y1, q_xv2, p_bs, if_pos (v_is c5), y2, q_mc]
          rcases k_signed (N := N) hc5 hN with ⟨e, U6, σ6, at6, b0, b0', b1, b2, b3⟩ | ⟨x, U6, σ6, b1, b2, b3⟩
          · have al6 := b3.1.le
            obtain ⟨-, -, b3c, b3d, b3e, -⟩ := id b3
            have kw06 : rKw lo (oW rd U.1) U U6 := kw05.trans (b3.kw.mono (fun x _ z => Or.inl (Or.inl z)))
            have n6 : σ6.1 23 = iI nT := (b3.f (by decide)).trans n5
            obtain ⟨σ7, hσ7⟩ : ∃ s7 : MS, s7 = mArr σ6 30 nT (iI e) := ⟨_, rfl⟩
            have r7 : ∀ j, j ≠ 30 → σ7.2.1 j = σ6.2.1 j := fun j hj => by rw [hσ7, mArr_n hj]
            have f7 : σ7.1 = σ6.1 := by rw [hσ7]; rfl
            have hc7 : rCx b g lo rd tp n T U6 σ7 at6 := b3.1.sg (fun k _ => by rw [f7]) (r7 1 (by decide)) (r7 11 (by decide))
            have n7 : σ7.1 23 = iI nT := by rw [f7]; exact n6
            have sa7 : mSm bS bR σ σ7 := by
              rw [hσ7]
              exact (sa5.trans (b3.b.mono sS sR)).trans eb0
            obtain ⟨kr7, st7, va7, wv7, sg7, c7, -⟩ := k_kind hc7
            rw [b1, q_ux2, p_bs, if_pos (v_is c7), p_let, n5, b2, q_mc, if_pos tG30, p_let, tG2, ← hσ7]
            rcases k_must (N := N) (j := 24) (j' := 50) hc7 (by decide) (by decide +kernel) (by decide +kernel) hN with ⟨U8, σ8, at8, a1, a2, a3⟩ | ⟨x, U8, σ8, a1, a2, a3⟩
            · have hc8 := a3.1
              have al8 := hc8.le
              obtain ⟨-, -, a3c, a3d, a3e, -⟩ := id a3
              obtain ⟨kr8, st8, va8, wv8, sg8, c8', -⟩ := k_kind hc8
              have kw08 : rKw lo (oW rd U.1) U U8 := kw06.trans (a3.kw.mono (fun x _ z => Or.inl (Or.inl z)))
              have n8 : σ8.1 23 = iI nT := (a3.f (by decide)).trans n7
              have sa8 : mSm bS bR σ σ8 := sa7.trans (a3.b.mono sS sR)
              rw [a1, q_xv2, p_bs, if_pos (v_is c8'), a2, q_mc]
              rcases k_signed (N := N) hc8 hN with ⟨o, U9, σ9, at9, g0, g0', g1, g2, g3⟩ | ⟨x, U9, σ9, g1, g2, g3⟩
              · have al9 := g3.1.le
                obtain ⟨-, -, g3c, g3d, g3e, -⟩ := id g3
                have kw09 : rKw lo (oW rd U.1) U U9 := kw08.trans (g3.kw.mono (fun x _ z => Or.inl (Or.inl z)))
                have n9 : σ9.1 23 = iI nT := (g3.f (by decide)).trans n8
                obtain ⟨σ10, hσ10⟩ : ∃ s10 : MS, s10 = mArr σ9 31 nT (iI o) := ⟨_, rfl⟩
                have r10 : ∀ j, j ≠ 31 → σ10.2.1 j = σ9.2.1 j := fun j hj => by rw [hσ10, mArr_n hj]
                have f10 : σ10.1 = σ9.1 := by rw [hσ10]; rfl
                have hc10 : rCx b g lo rd tp n T U9 σ10 at9 := g3.1.sg (fun k _ => by rw [f10]) (r10 1 (by decide)) (r10 11 (by decide))
                have n10' : σ10.1 23 = iI nT := by rw [f10]; exact n9
                have sa10 : mSm bS bR σ σ10 := by
                  rw [hσ10]
                  exact (sa8.trans (g3.b.mono sS sR)).trans eb1
                obtain ⟨kr10, st10, va10, wv10, sg10, c10, -⟩ := k_kind hc10
                rw [g1, q_ux2, p_bs, if_pos (v_is c10), p_let, n8, g2, q_mc, if_pos tG31, p_let, tG2, ← hσ10]
                rcases k_must (N := N) (j := 25) (j' := 51) hc10 (by decide) (by decide +kernel) (by decide +kernel) hN with ⟨U11, σ11, at11, u1, u2, u3⟩ | ⟨x, U11, σ11, u1, u2, u3⟩
                · have hc11 := u3.1
                  have al11 := hc11.le
                  obtain ⟨-, -, u3c, u3d, u3e, -⟩ := id u3
                  have kw0b : rKw lo (oW rd U.1) U U11 := kw09.trans (u3.kw.mono (fun x _ z => Or.inl (Or.inl z)))
                  have n11 : σ11.1 23 = iI nT := (u3.f (by decide)).trans n10'
                  have sa11 : mSm bS bR σ σ11 := sa10.trans (u3.b.mono sS sR)
                  have o11 : uOld U11 := hc11.2.2.2.2.2.1
                  have lr11 : rd < U11.1 := by
                    obtain ⟨kq, sq, vq, wq, gq, cq, -⟩ := k_kind hc11
                    exact o11 _ _ cq
                  have hb11 := kw0b.at ho h1c (by decide) (nW h1c nbo)
                  obtain ⟨uN, nd, nc, nk, no, ns, nz⟩ := w_new (u := U11) (n := 4) (e := .inr (8, uDefs tyX10 4)) o11
                  rw [u_df10] at nc
                  have lU11 := kw0b.2.2.2.2.1
                  have lZ11 := kw0b.2.2.2.2.2
                  have kwN : rKw lo (fun _ => False) U11 uN := rKw.nw nk (by omega) o11 no (by omega) (by omega)
                  have hcN : rCx b g lo rd tp n T uN σ11 at11 := hc11.kw kwN (fun z => z)
                  obtain ⟨krN, stN, vaN, wvN, sgN, cN, -⟩ := k_kind hcN
                  have kw0N : rKw lo (oW rd U.1) U uN := kw0b.trans (kwN.mono (fun x _ z => z.elim))
                  rw [u1, q_xv2, v_gr hb11 (k := 1) rfl, p_bs, p_let, p_let, nd, p_bs, if_pos (v_is cN), u2, q_mc]
                  rcases k_number (N := N) (a := 1) (c := 99) hcN (by omega) (by omega) hN with ⟨c, U12, σ12, at12, x0, x0', x1, x2, x3⟩ | ⟨x, U12, σ12, x1, x2, x3⟩
                  · have x1 : f_X5_whole N b g uN rd 1 99 = some (.inr (iI c, U12)) := x1
                    have x2 : f_number N σ11 1 99 = some (iI c, σ12) := x2
                    have al12 := x3.1.le
                    obtain ⟨-, -, x3c, x3d, x3e, -⟩ := id x3
                    have o12 : uOld U12 := x3.1.2.2.2.2.2.1
                    have tc : U12.2.2 U11.1 = some (.inr (8, [.null, .int 0, .int 0, .int 0])) := x3.kw.at no nc (by decide) (by omega)
                    obtain ⟨p1, e1, e2, e3, e4, e5, e6⟩ := w_put (b := b) (k := 0) (v := va_rf (some wa)) tc (by omega) (Nat.le_of_ble_eq_true rfl) o12
                    obtain ⟨p2, e7, e8, e9, e10, e11, e12⟩ := w_put (b := b) (k := 1) (v := .int (iI e)) e2 (by omega) (Nat.le_of_ble_eq_true rfl) e4
                    obtain ⟨p3, e13, e14, e15, e16, e17, e18⟩ := w_put (b := b) (k := 2) (v := .int (iI o)) e8 (by omega) (Nat.le_of_ble_eq_true rfl) e10
                    obtain ⟨p4, e19, e20, e21, e22, e23, e24⟩ := w_put (b := b) (k := 3) (v := .int (iI c)) e14 (by omega) (Nat.le_of_ble_eq_true rfl) e16
                    have e20 : p4.2.2 U11.1 = some (.inr (8, [.ref wa, .int (iI e), .int (iI o), .int (iI c)])) := e20
                    have kp4 : ∀ y, y ≠ U11.1 → p4.2.2 y = U12.2.2 y := fun y hy => by
                      rw [e21 y hy, e15 y hy, e9 y hy, e3 y hy]
                    have kwP : rKw lo (fun x => x = U11.1) U12 p4 := rKw.wr kp4 rfl (by omega) tc (Or.inl ⟨_, _, rfl, by decide⟩) e22 (by omega) (by omega)
                    have kw0P : rKw lo (oW rd U.1) U p4 := (kw0N.trans (x3.kw.mono (fun x _ z => Or.inl (Or.inl z)))).trans (kwP.mono (fun x _ z => Or.inr (by omega)))
                    have lp4 := kw0P.2.2.2.2.1
                    have lz4 := kw0P.2.2.2.2.2
                    have lU12 := x3.kw.2.2.2.2.1
                    have lZ12 := x3.kw.2.2.2.2.2
                    have hl9 := hl.kw kw0P c1 ho
                    have hl29 := hl2.kw kw0P c1 ho
                    have h19c := kw0P.at ho h1c (by decide) (nW h1c nbo)
                    obtain ⟨mi, hmi⟩ := h20
                    obtain ⟨U14, arr', m', xs', j1', j2, j3, j4, j5, j6, j7, j8'⟩ := l_add (N := N) (b := b) (g := g) (v := U11.1) hl29.1 e22 (by have := hl2.2.1; omega) (by omega) (fun z => by
                      have := hl2.2.2.2 (by omega)
                      omega) (fun z => (hl2.2.2.1 z).1) hmi (fun i hi => by
                      rw [(ht i hi).1]
                      obtain ⟨-, -, z1, z2, z3, z4, -⟩ := (ht i hi).2.kw kw0P c1 ho
                      exact u_obj z4) (by omega) (u_obj e20)
                    obtain ⟨hv1, hv2, hv3, hv4⟩ := id hl29.1
                    have lgl : gl < U.1 := ho _ _ hl.1.1
                    have larr : arr < U.1 := ho _ _ hl.1.2.1
                    have lal : al < U.1 := ho _ _ hl2.1.1
                    have larr2 : arr2 < U.1 := ho _ _ hl2.1.2.1
                    have szs : p4.1 ≤ U14.1 ∧ U14.1 ≤ p4.1 + 1 ∧ p4.2.1 ≤ U14.2.1 ∧ U14.2.1 ≤ p4.2.1 + 10 := by
                      rcases j8' with ⟨-, -, -, z1, z2⟩ | ⟨z0, -, -, z1, z2⟩
                      · omega
                      · have : lGr m2 ≤ 10 := by
                          unfold lGr
                          split
                          · omega
                          · split <;> omega
                        omega
                    have kwA : rKw lo (fun x => x = al ∨ x = arr2) p4 U14 := rKw.ad (P := nT < m2) j5 ⟨Or.inl rfl, Or.inr rfl⟩ hl2.2.1 (fun z => hl2.2.2.2 (by omega)) hv1 hv2 (by decide) e22 j6 (by omega) szs.1 szs.2.2.1
                    have nal : al ≠ rd := u_nrr hl2.1.1 c1 (by decide)
                    have narr : arr2 ≠ rd := u_nlr hl2.1.2.1 c1
                    obtain ⟨σ14, hσ14⟩ : ∃ s14 : MS, s14 = mSet (mArr σ12 32 nT (iI c)) 23 (iI ((nT + 1 : Nat) : Int)) := ⟨_, rfl⟩
                    have r14 : ∀ j, j ≠ 32 → σ14.2.1 j = σ12.2.1 j := fun j hj => by
                      rw [hσ14]
                      exact mArr_n hj
                    have f14 : ∀ k, k ≠ 23 → σ14.1 k = σ12.1 k := fun k hk => by
                      rw [hσ14]
                      exact upd_n hk
                    have hcP : rCx b g lo rd tp n T p4 σ12 at12 := x3.1.kw kwP (by omega)
                    have hc14 : rCx b g lo rd tp n T U14 σ14 at12 := (hcP.sg (fun k hk => f14 k (by omega)) (r14 1 (by decide)) (r14 11 (by decide))).kw kwA (by
                      intro z
                      rcases z with z | z
                      · exact nal z.symm
                      · exact narr z.symm)
                    have n12 : σ12.1 23 = iI nT := (x3.f (by decide)).trans n11
                    have e13' : σ12.1 13 = 0 := x3.1.2.2.2.2.2.2.2.2.2.1
                    have en : iI (nT : Int) + 1 = iI ((nT + 1 : Nat) : Int) := by
                      rw [j1, i_add]
                      rfl
                    have sa14 : mSm bS bR σ σ14 := by
                      rw [hσ14]
                      exact ((sa11.trans (x3.b.mono sS sR)).trans eb2).trans (mSm.set (Or.inr (by decide)))
                    right
                    have a5a : ∀ j, j ≠ 11 → σ6.2.1 j = σa.2.1 j := fun j hj => (b3.r hj).trans ((y3.r hj).trans (v3.r hj))
                    have a9a : ∀ j, j ≠ 11 → j ≠ 30 → σ9.2.1 j = σa.2.1 j := fun j hj h30 => (g3.r hj).trans ((a3.r hj).trans ((r7 j h30).trans (a5a j hj)))
                    have a12a : ∀ j, j ≠ 11 → j ≠ 30 → j ≠ 31 → σ12.2.1 j = σa.2.1 j := fun j hj h30 h31 => (x3.r hj).trans ((u3.r hj).trans ((r10 j h31).trans (a9a j hj h30)))
                    have a14a : ∀ j, j ≠ 11 → j ≠ 30 → j ≠ 31 → j ≠ 32 → σ14.2.1 j = σa.2.1 j := fun j hj h30 h31 h32 => (r14 j h32).trans (a12a j hj h30 h31)
                    have q16 : σ14.2.1 16 = r' := (a14a 16 (by decide) (by decide) (by decide) (by decide)).trans ra16
                    have q17 : σ14.2.1 17 = upd (σ.2.1 17) nT (iI m) := (a14a 17 (by decide) (by decide) (by decide) (by decide)).trans ra17
                    have q30 : σ14.2.1 30 = upd (σ.2.1 30) nT (iI e) := by
                      rw [r14 30 (by decide), x3.r (by decide), u3.r (by decide), r10 30 (by decide), g3.r (by decide), a3.r (by decide), hσ7, mArr_s, a5a 30 (by decide), ra 30 (by decide) (by decide)]
                    have q31 : σ14.2.1 31 = upd (σ.2.1 31) nT (iI o) := by
                      rw [r14 31 (by decide), x3.r (by decide), u3.r (by decide), hσ10, mArr_s, a9a 31 (by decide) (by decide), ra 31 (by decide) (by decide)]
                    have q32 : σ14.2.1 32 = upd (σ.2.1 32) nT (iI c) := by
                      rw [hσ14]
                      show (mArr σ12 32 nT (iI c)).2.1 32 = _
                      rw [mArr_s, a12a 32 (by decide) (by decide) (by decide), ra 32 (by decide) (by decide)]
                    have qo : ∀ j, j = 14 ∨ j = 15 ∨ j = 18 ∨ j = 19 ∨ j = 20 ∨ j = 21 → σ14.2.1 j = σ.2.1 j := fun j hj => (a14a j (by omega) (by omega) (by omega) (by omega)).trans (ra j (by omega) (by omega))
                    have fo : ∀ k, 22 ≤ k → k ≤ 29 → k ≠ 23 → σ14.1 k = σ.1 k := fun k k1 k2 k3 => by
                      rw [f14 k k3, x3.f (by omega), u3.f (by omega), f10, g3.f (by omega), a3.f (by omega), f7, b3.f (by omega), y3.f (by omega), v3.f (by omega), fa]
                    have kw0A : rKw lo (fun x => oW rd U.1 x ∨ x = al ∨ x = arr2) U U14 := (kw0P.mono (fun x _ z => Or.inl z)).trans (kwA.mono (fun x _ z => Or.inl (Or.inr z)))
                    have ks : ∀ {y c : Nat} {fs : List Value}, p4.2.2 y = some (.inr (c, fs)) → c ≠ 20 → c ≠ 18 → U14.2.2 y = some (.inr (c, fs)) := fun hy h1' h2' => kwA.at e22 hy h1' (fun z => by
                      rcases z with z | z
                      · exact (u_nrr hy hv1 h2') z
                      · exact (u_nlr hv2 hy) z.symm)
                    have ki : ∀ {y k : Nat} {z : uVs}, p4.2.2 y = some (.inl (0, k, z)) → U14.2.2 y = some (.inl (0, k, z)) := fun hy => kwA.ar e22 hy (fun z => by
                      rcases z with z | z
                      · exact (u_nlr hy hv1) z
                      · exact (u_nll hy hv2 (Or.inl (by decide))) z)
                    have kli : ∀ {a nn : Nat} {at_ v : Nat → Int}, vLi p4 b lo p4.1 a nn at_ v → vLi U14 b lo U14.1 a nn at_ v := fun z => by
                      obtain ⟨z1, z2, z3, z4, i0, i1, i2, z5, z6, z7, z8⟩ := z
                      exact ⟨z1, z2, z3, z4, i0.up szs.1, i1.up szs.1, i2.up szs.1, ks z5 (by decide) (by decide), ki z6, ki z7, z8⟩
                    have kgr : ∀ {a nm : Nat} {s q : bLn}, vGr p4 b lo p4.1 a nm s q → vGr U14 b lo U14.1 a nm s q := fun z => by
                      obtain ⟨z1, z2, i0, z3, z4, z5⟩ := z
                      exact ⟨z1, z2, i0.up szs.1, ks z3 (by decide) (by decide), kli z4, kli z5⟩
                    have newT : bTr lo U14 σ14 nT U11.1 wa := by
                      refine ⟨by omega, ⟨lwa, m, f, ?_, m1', m8, ?_, fun k hk => ⟨?_, (hf k hk).2⟩⟩, e, o, c, ks e20 (by decide) (by decide), ?_, ?_, ?_, ⟨b0, b0'⟩, ⟨g0, g0'⟩, x0, x0'⟩
                      · have := v3.kw.2.2.1 _ _ _ vs
                        have := y3.kw.2.2.1 _ _ _ this
                        have := b3.kw.2.2.1 _ _ _ this
                        have := a3.kw.2.2.1 _ _ _ this
                        have := g3.kw.2.2.1 _ _ _ this
                        have := u3.kw.2.2.1 _ _ _ this
                        have := kwN.2.2.1 _ _ _ this
                        have := x3.kw.2.2.1 _ _ _ this
                        have := kwP.2.2.1 _ _ _ this
                        exact kwA.2.2.1 _ _ _ this
                      · rw [q17, upd_s]
                      · rw [(hf k hk).1, q16, w1 (8 * nT + k), if_pos (by omega), Nat.add_sub_cancel_left]
                      · rw [q30, upd_s]
                      · rw [q31, upd_s]
                      · rw [q32, upd_s]
                    have oldT : ∀ t, t < nT → bTr lo U14 σ14 t (ta t) (tn t) := fun t ht' => by
                      obtain ⟨y1', y2', e', o', c', y3', y4'⟩ := (ht t ht').2.kw kw0P c1 ho
                      have z' : bTr lo U14 σ t (ta t) (tn t) := ⟨y1', y2'.kw kwA, e', o', c', ks y3' (by decide) (by decide), y4'⟩
                      exact z'.sg (by rw [q17, upd_n (by omega)]) (fun i hi => by
                        rw [q16, w1 (8 * t + i), if_neg (by omega)]) (by rw [q30, upd_n (by omega)]) (by rw [q31, upd_n (by omega)]) (by rw [q32, upd_n (by omega)])
                    have oldG : ∀ d, d < nG → xs d = some (ga d) ∧ bGd b lo U14 σ14 d (ga d) (gn d) (s d) (q d) := fun d hd => by
                      have z := (hg d hd).2.kw kw0P c1 ho
                      have z' : bGd b lo U14 σ d (ga d) (gn d) (s d) (q d) := ⟨kgr z.1, z.2.1, z.2.2.1.kw kwA, z.2.2.2⟩
                      exact ⟨(hg d hd).1, z'.sg (by rw [qo 15 (by omega)]) (fun i hi => by rw [qo 14 (by omega)]) (by rw [qo 18 (by omega)]) (by rw [qo 19 (by omega)]) (fun i hi => by rw [qo 20 (by omega)]) (fun i hi => by rw [qo 21 (by omega)])⟩
                    have arrn : nT < m2 → arr ≠ arr2 := fun z e => by
                      by_cases z2 : m1 = 0
                      · have := (hl.2.2.1 z2).2
                        have := hl2.2.2.2 (by omega)
                        omega
                      · exact hna z2 (by omega) e
                    have l1A : bLs b lo g U14 gl arr nG m1 mc xs := by
                      obtain ⟨⟨z1, z2, z3⟩, z4⟩ := hl9
                      refine ⟨⟨(j5 gl hne (fun _ => Ne.symm (u_nlr hv2 z1)) (by omega)).trans z1, (j5 arr (u_nlr z2 hv1) (fun p => arrn p) (by omega)).trans z2, z3⟩, z4⟩
                    have m'0 : m' ≠ 0 := by
                      have := j2.2.2.1
                      omega
                    have larr' : lo ≤ arr' := by
                      rcases j8' with ⟨z0, z1, -⟩ | ⟨z0, z1, -⟩
                      · rw [z1]
                        exact hl2.2.2.2 (by omega)
                      · omega
                    have bPn : bP b lo g U14 σ14 bo := by
                      refine ⟨gl, al, arr, arr', nG, nT + 1, m1, m', mc, mc2 + 1, xs, xs', ga, gn, fun t => if t = nT then U11.1 else ta t, fun t => if t = nT then wa else tn t, s, q, B, rv, ⟨ks h19c (by decide) (by decide), hbo, hrv, (fo 29 (by omega) (by omega) (by omega)).trans h29⟩, ⟨(fo 24 (by omega) (by omega) (by omega)).trans hB5.1, (fo 25 (by omega) (by omega) (by omega)).trans hB5.2.1, (fo 26 (by omega) (by omega) (by omega)).trans hB5.2.2.1, (fo 27 (by omega) (by omega) (by omega)).trans hB5.2.2.2.1, (fo 28 (by omega) (by omega) (by omega)).trans hB5.2.2.2.2⟩, hBd, ⟨l1A, hn8, (fo 22 (by omega) (by omega) (by omega)).trans h22, oldG⟩, ⟨⟨j2, hl2.2.1, fun z => absurd z m'0, fun _ => larr'⟩, by omega, by rw [hσ14]; rfl, fun t ht' => ?_⟩, hne, fun z2 _ => ?_⟩
                      · by_cases z : t = nT
                        · simp only [if_pos z]
                          rw [z]
                          exact ⟨j4, newT⟩
                        · simp only [if_neg z]
                          rw [j3 t (by omega)]
                          exact ⟨(ht t (by omega)).1, oldT t (by omega)⟩
                      · rcases j8' with ⟨z0, z1, -⟩ | ⟨z0, z1, -⟩
                        · rw [z1]
                          exact hna z2 (by omega)
                        · omega
                    refine ⟨U14, σ14, at12, ?_, ?_, hc14, bPn, by omega, by omega, by omega, by omega, by omega, kw0A.1, sa14, fun c z => ?_⟩
                    · unfold f_X10_init f_J17_init
                      rw [x1, q_ux2, p_bs, p_bs, e1, p_bs, e7, p_bs, e13, p_bs, e19, p_bs, p_bs, p_bs, if_pos (v_is hv1), j1', q_uc]
                    · rw [p_let, n11, x2, q_mc, if_pos tG32, p_let, tG2, p_let, show (mArr σ12 32 nT (iI c)).1 13 = 0 from e13', if_pos rfl, p_let, show (mArr σ12 32 nT (iI c)).1 23 = iI nT from n12, en, p_let, ← hσ14]
                      rfl
                    · obtain ⟨a1, a2, a3, e1, e2, e3, e4, e5, e6, e7⟩ := z
                      have e : iI (a2 : Int) = iI (nT : Int) := e2.symm.trans h23
                      rw [j_eq (by omega) (by omega) (by omega) (by omega)] at e
                      exact ⟨a1, nT + 1, a3, (fo 22 (by omega) (by omega) (by omega)).trans e1, by rw [hσ14]; rfl, (fo 29 (by omega) (by omega) (by omega)).trans e3, e4, by omega, e6, by omega⟩
                  · left
                    have x1 : f_X5_whole N b g uN rd 1 99 = some (.inl (x, U12)) := x1
                    have x2 : f_number N σ11 1 99 = some (1, σ12) := x2
                    refine ⟨x, U12, mArr σ12 32 nT 1, ?_, ?_, fin (x3.x.mono sS sR (Nat.le_refl _) (Nat.le_refl _)) sa11 kw0N eb2 rfl (by omega) (by omega)⟩
                    · rw [x1, q_ux1]
                    · rw [p_let, n11, x2, q_mc, if_pos tG32, p_let, tG2, p_let, if_neg (n13e (show (mArr σ12 32 nT 1).1 13 = 1 from x3.f.1))]
                      rfl
                · left
                  refine ⟨x, U11, mArr σ11 32 nT 1, ?_, ?_, fin (u3.x.mono sS sR (Nat.le_refl _) (Nat.le_refl _)) sa10 kw09 eb2 rfl (by omega) (by omega)⟩
                  · rw [u1, q_xv1]
                  · rw [u2, q_mc]
                    exact T3 u3.f.1 ((u3.f.2 23 (by decide) (by decide)).trans n10')
              · left
                refine ⟨x, U9, mArr (mArr σ9 31 nT 0) 32 nT 1, ?_, ?_, fin (g3.x.mono sS sR (Nat.le_refl _) (Nat.le_refl _)) sa8 kw08 (eb1.trans eb2) rfl (by omega) (by omega)⟩
                · rw [g1, q_ux1]
                · rw [p_let, n8, g2, q_mc, if_pos tG31, p_let, tG2, m_mustE (show (mArr σ9 31 nT 0).1 13 = 1 from g3.f.1), q_mc]
                  exact T3 g3.f.1 ((g3.f.2 23 (by decide) (by decide)).trans n8)
            · left
              refine ⟨x, U8, mArr (mArr σ8 31 nT 0) 32 nT 1, ?_, ?_, fin (a3.x.mono sS sR (Nat.le_refl _) (Nat.le_refl _)) sa7 kw06 (eb1.trans eb2) rfl (by omega) (by omega)⟩
              · rw [a1, q_xv1]
              · rw [a2, q_mc]
                exact T2 a3.f.1 ((a3.f.2 23 (by decide) (by decide)).trans n7)
          · left
            refine ⟨x, U6, mArr (mArr (mArr σ6 30 nT 0) 31 nT 0) 32 nT 1, ?_, ?_, fin (b3.x.mono sS sR (Nat.le_refl _) (Nat.le_refl _)) sa5 kw05 ((eb0.trans eb1).trans eb2) rfl (by omega) (by omega)⟩
            · rw [b1, q_ux1]
            · rw [p_let, n5, b2, q_mc, if_pos tG30, p_let, tG2, m_mustE (show (mArr σ6 30 nT 0).1 13 = 1 from b3.f.1), q_mc]
              exact T2 (show (mArr σ6 30 nT 0).1 13 = 1 from b3.f.1) ((b3.f.2 23 (by decide) (by decide)).trans n5)
        · left
          have n5 : σ5.1 23 = iI nT := (y3.f.2 23 (by decide) (by decide)).trans n4
          refine ⟨x, U5, mArr (mArr (mArr σ5 30 nT 0) 31 nT 0) 32 nT 1, ?_, ?_, fin (y3.x.mono sS sR (Nat.le_refl _) (Nat.le_refl _)) sa4 kw04 ((eb0.trans eb1).trans eb2) rfl (by omega) (by omega)⟩
          · rw [y1, q_xv1]
          · rw [y2, q_mc, p_let, n5, m_sgnE y3.f.1, q_mc, if_pos tG30, p_let, tG2, m_mustE (show (mArr σ5 30 nT 0).1 13 = 1 from y3.f.1), q_mc]
            exact T2 (show (mArr σ5 30 nT 0).1 13 = 1 from y3.f.1) n5
  · left
    refine ⟨x, U', mEr σ 1 (σ.1 4), ?_, ?_, y2.x.mono sS sR (by omega) (by omega)⟩
    · rw [y1, q_ux1]
    · rw [i2 hn, q_mc, if_pos rfl, p_let, m_wrong h13, q_mc]
end J7s
