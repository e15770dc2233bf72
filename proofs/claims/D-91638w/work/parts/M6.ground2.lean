/-! PLAIN: a line that says a ground, of both -/
theorem rKw.ad {lo a arr t k : Nat} {P : Prop} {W : Nat → Prop} {U U' : UH} {fs : List Value} {z : uVs} (h : ∀ x, x ≠ a → (P → x ≠ arr) → x < U.1 → U'.2.2 x = U.2.2 x) (hW : W a ∧ W arr) (hl : lo ≤ a) (hl2 : P → lo ≤ arr) (he : U.2.2 a = some (.inr (18, fs))) (he2 : U.2.2 arr = some (.inl (t, k, z))) (ht : t ≠ 1) (ho : uOld U) (ho' : uOld U') (hlU : lo ≤ U.1) (h1 : U.1 ≤ U'.1) (h2 : U.2.1 ≤ U'.2.1) : rKw lo W U U' := by
  refine ⟨fun x hx => h x (by omega) (fun p => by have := hl2 p; omega) (by omega), fun x x1 x2 _ => h x (fun y => x2 (by rw [y]; exact hW.1)) (fun _ y => x2 (by rw [y]; exact hW.2)) x1, fun a' m f q => ?_, ho', h1, h2⟩
  obtain ⟨v, hh, y, e1, e2, e3⟩ := q
  exact ⟨v, hh, y, (h a' (u_nrr e1 he (by decide)) (fun _ => Ne.symm (u_nlr he2 e1)) (ho _ _ e1)).trans e1, (h v (u_nlr e2 he) (fun _ => u_nll e2 he2 (Or.inl (Ne.symm ht))) (ho _ _ e2)).trans e2, e3⟩
theorem m_gl83 {N nG m : Nat} {σ : MS} (h8 : σ.1 8 = iI m) (hm : m ≤ 8) (h22 : σ.1 22 = iI nG) (hG : nG < 8) : ∀ (d k q : Nat) (r : Nat → Int32), k + d = m → ∃ r' : Nat → Int32, (∀ i, r' i = if 8 * nG + k ≤ i ∧ i < 8 * nG + m then σ.2.1 11 (i - 8 * nG) else r i) ∧ f_groundLine_83 N (q + d) (mRow σ 14 r) (iI k) = f_groundLine_83 N q (mRow σ 14 r') (iI m) := by
  intro d
  induction d with
  | zero =>
    intro k q r hk
    refine ⟨r, fun i => (if_neg (by omega)).symm, ?_⟩
    rw [show k = m by omega]
    rfl
  | succ d ih =>
    intro k q r hk
    have ek : iI (k : Int) + 1 = iI ((k + 1 : Nat) : Int) := by
      rw [j1, i_add]
      rfl
    have ei : (8 : Int32) * iI (nG : Int) + iI (k : Int) = iI ((8 * nG + k : Nat) : Int) := by
      rw [j8, i_mul, i_add]
      rfl
    obtain ⟨t1, t2⟩ := t_ix (a := ((8 * nG + k : Nat) : Int)) (n := mLen 14) (k := 8 * nG + k) rfl (by rw [show mLen 14 = 64 from rfl]; omega) (by rw [show mLen 14 = 64 from rfl]; omega)
    obtain ⟨t3, t4⟩ := t_ix (a := (k : Int)) (n := mLen 11) (k := k) rfl (by rw [show mLen 11 = 8 from rfl]; omega) (by rw [show mLen 11 = 8 from rfl]; omega)
    obtain ⟨r', w1, w2⟩ := ih (k + 1) q (upd r (8 * nG + k) (σ.2.1 11 k)) (by omega)
    refine ⟨r', fun i => ?_, ?_⟩
    · rw [w1 i]
      by_cases c : i = 8 * nG + k
      · subst c
        rw [if_neg (by omega), upd_s, if_pos (by omega), Nat.add_sub_cancel_left]
      · rw [upd_n c]
        by_cases c2 : 8 * nG + k ≤ i ∧ i < 8 * nG + m
        · rw [if_pos c2, if_pos (by omega)]
        · rw [if_neg c2, if_neg (by omega)]
    · rw [show q + (d + 1) = (q + d) + 1 by omega, f_groundLine_83, p_let, show (mRow σ 14 r).1 8 = iI m from h8, n_le (by omega) (by omega) (by omega) (by omega) (by omega), p_let, show (mRow σ 14 r).1 22 = iI nG from h22, if_pos t3, p_let, t4, ei, if_pos t1, p_let, t2, mRow_a, ek, p_let]
      exact w2
theorem rEx.er {lo cc ss : Nat} {S R : Nat → Prop} {U U' : UH} {σ σ1 σ' : MS} {x : Nat} (h : rEx lo S R cc ss U σ x U' σ1) (h13 : σ'.1 13 = σ1.1 13) (h9 : σ'.1 9 = σ1.1 9) (h10 : σ'.1 10 = σ1.1 10) (hm : mSm S R σ1 σ') : rEx lo S R cc ss U σ x U' σ' := by
  obtain ⟨k, p, a1, a2, a3, a4, a5, a6, a7⟩ := h
  exact ⟨k, p, a1, h13.trans a2, h9.trans a3, h10.trans a4, a5.trans hm, a6, a7⟩
section J6s
variable {N b : Nat} {g : uEnv} {lo rd tp n bo : Nat} {T : Nat → Nat} {U : UH} {σ : MS} {at' : Nat}
theorem k_gLine (h : rCx b g lo rd tp n T U σ at') (hP : bP b lo g U σ bo) (h20 : ∃ mi, g.1 20 = some mi) (hN : 2000 ≤ N) : (∃ (x : Nat) (U' : UH) (σ' : MS), f_X4_readGround N b g U bo (some rd) = some (.inl (x, U')) ∧ f_groundLine N σ = some σ' ∧ rEx lo bS bR (4 * (n - at') + 9) (32 * (n - at') + 60) U σ x U' σ') ∨ (∃ (U' : UH) (σ' : MS) (at2 : Nat), f_X4_readGround N b g U bo (some rd) = some (.inr U') ∧ f_groundLine N σ = some σ' ∧ rCx b g lo rd tp n T U' σ' at2 ∧ bP b lo g U' σ' bo ∧ at' ≤ at2 ∧ U.1 ≤ U'.1 ∧ U'.1 ≤ U.1 + 4 * (at2 - at') + 8 ∧ U.2.1 ≤ U'.2.1 ∧ U'.2.1 ≤ U.2.1 + 32 * (at2 - at') + 40 ∧ (∀ y, y < lo → U'.2.2 y = U.2.2 y) ∧ mSm bS bR σ σ' ∧ ∀ c, bCn σ c → bCn σ' (c + 1)) := by
  have h13 : σ.1 13 = 0 := h.2.2.2.2.2.2.2.2.2.1
  have ho : uOld U := h.2.2.2.2.2.1
  have hlo : b ≤ lo := h.2.2.2.2.2.2.1
  have hlU : lo ≤ U.1 := h.2.2.2.2.2.2.2.2.1
  have hal := h.le
  have sS : ∀ k, tS k → bS k := fun k z => Or.inl z
  have sR : ∀ k, tR k → bR k := fun k z => Or.inl z
  have n13e : ∀ {s : MS}, s.1 13 = 1 → ¬ s.1 13 = 0 := fun e z => by
    rw [e] at z
    exact absurd z (by decide)
  obtain ⟨kr, st, va, wv, sg, c1, -⟩ := k_kind h
  have lrd := ho _ _ c1
  obtain ⟨gl, al, arr, arr2, nG, nT, m1, m2, mc, mc2, xs, xs2, ga, gn, ta, tn, s, q, B, rv, ⟨h1, hbo, hrv, h29⟩, hB5, hBd, ⟨hl, hn8, h22, hg⟩, ⟨hl2, hn6, h23, ht⟩, hne, hna⟩ := id hP
  obtain ⟨u1, d1, e1, k1, o1, s1, z1⟩ := w_new (u := U) (n := 3) (e := .inr (5, uDefs tyX6 3)) ho
  rw [u_df6] at e1
  have kw01 : rKw lo (fun _ => False) U u1 := rKw.nw k1 hlU ho o1 (by omega) (by omega)
  have hc1 : rCx b g lo rd tp n T u1 σ at' := h.kw kw01 (fun z => z)
  obtain ⟨kr1, st1, va1, wv1, sg1, c11, -⟩ := k_kind hc1
  obtain ⟨i1, i2⟩ := m_isName (N := N) h hN
  unfold f_X4_readGround f_X4_readGround_3 f_groundLine
  rw [p_let, p_let, d1, p_bs, if_pos (v_is c11)]
  rcases k_name (N := N) hc1 hN with ⟨hn, U2, wa, m, f, y1, hc2, kp, t1, t2, lwa, h8, m1', m8, vs, hf⟩ | ⟨hn, x, U', y1, y2⟩
  · rw [y1, q_ux2, i1 hn, q_mc, if_neg n10, p_let]
    have kw12 : rKw lo (fun x => x = rd) u1 U2 := kp.w rfl
    have gU : U2.2.2 U.1 = some (.inr (5, [.null, .null, .null])) := kw12.at o1 e1 (by decide) (by omega)
    have o2 : uOld U2 := hc2.2.2.2.2.2.1
    obtain ⟨U3, x1, x2, x3, x4, x5, x6, x7, x8, x9, x10, x11, x12⟩ := c_x6i (N := N) (b := b) (g := g) (wa := wa) gU (by omega) (by omega) o2
    have kw23 : rKw lo (fun x => x = U.1) U2 U3 := rKw.wn x9 rfl hlU gU (by decide) o2 x10 (by omega) (by omega) (by omega)
    have hc3 : rCx b g lo rd tp n T U3 σ at' := hc2.kw kw23 (by omega)
    have kw03 : rKw lo (oW rd U.1) U U3 := ((kw01.mono (fun x _ z => z.elim)).trans (kw12.mono (fun x _ z => Or.inl (Or.inl z)))).trans (kw23.mono (fun x _ z => Or.inr (by omega)))
    have vs3 : vSt lo U3 wa m f := kw23.2.2.1 _ _ _ vs
    obtain ⟨kr3, st3, va3, wv3, sg3, c3, -⟩ := k_kind hc3
    have h1c : U.2.2 bo = some (.inr (3, [.ref gl, .ref al, .int (iI rv), .int (iI (B 0)), .int (iI (B 1)), .int (iI (B 2)), .int (iI (B 3)), .int (iI (B 4))])) := h1
    have lbo := ho _ _ h1
    have nW : ∀ {y : Nat} {e : uE}, U.2.2 y = some e → y ≠ rd → ¬ oW rd U.1 y := fun hy hn z => by
      have := ho _ _ hy
      unfold oW at z
      omega
    have nbo : bo ≠ rd := u_nrr h1c c1 (by decide)
    have h13c : U3.2.2 bo = some (.inr (3, [.ref gl, .ref al, .int (iI rv), .int (iI (B 0)), .int (iI (B 1)), .int (iI (B 2)), .int (iI (B 3)), .int (iI (B 4))])) := kw03.at ho h1c (by decide) (nW h1c nbo)
    have hl3 := hl.kw kw03 c1 ho
    have sz3 : f_J2_size N b g U3 gl = some (iI nG, U3) := l_size hl3.1
    obtain ⟨A, Bn⟩ := c_grOf (N := N) (b := b) (g := g) (σ := σ) (j1 := 14) (j2 := 15) (al := al) (ga := ga) (nm := gn) h13c hl3.1 (fun d hd => by
      obtain ⟨g1, g2⟩ := hg d hd
      have g3 := g2.kw kw03 c1 ho
      obtain ⟨⟨p, q', i0, g4, -⟩, -, g5, -⟩ := g3
      exact ⟨g1, ⟨_, _, g4⟩, g5.g⟩) vs3.g (fun k hk => (hf k hk).1) m8 (by omega) (by omega) N 0 (by omega) (by omega)
    have A : ∀ r, r < nG → 0 ≤ r → nmM σ 14 15 m r → (∀ e, 0 ≤ e → e < r → ¬ nmM σ 14 15 m e) → f_X4_groundOf N b g U3 bo (some wa) = some (iI r, U3) := A
    have Bn : (∀ e, 0 ≤ e → e < nG → ¬ nmM σ 14 15 m e) → f_X4_groundOf N b g U3 bo (some wa) = some (-1, U3) := Bn
    have fnd := m_find3 (N := N) (σ := σ) (j1 := 14) (j2 := 15) (cnt := nG) h8 m8 (by rw [show mLen 14 = 64 from rfl]; omega) (by rw [show mLen 14 = 64 from rfl]; omega) (by rw [show mLen 15 = 8 from rfl]; omega) (by rw [show mLen 15 = 8 from rfl]; omega) (fun d hd => by
      obtain ⟨-, -, ⟨-, mq, fq, -, -, z2, z3, -⟩, -⟩ := (hg d hd).2
      exact ⟨mq, z3, z2⟩) (by omega) N 0 (by omega) (by omega) (fun e he => by omega)
    have eF : f_find N 14 15 σ (iI nG) = f_find_3 N 14 15 N σ (iI nG) (iI ((0 : Nat) : Int)) := rfl
    have gc3 : uGR U3 U.1 5 0 = some (some wa) := v_gr x2 rfl
    have kE : ∀ y, y < lo → U3.2.2 y = U.2.2 y := kw03.1
    unfold f_X4_readGround_8 f_X4_readGround_11
    rw [p_bs, x1, p_bs, p_bs, gc3, p_bs, if_pos (v_is h13c), h22, eF]
    rcases fnd with ⟨r, r1, r2, r3, r4⟩ | ⟨r3, r4⟩
    · obtain ⟨U', f1, f2⟩ := c_fault (N := N) (k := 3) hc3
      left
      refine ⟨U3.1, U', mEr σ 3 (σ.1 4), ?_, ?_, (f2.x.mono sS sR (Nat.le_refl _) (Nat.le_refl _)).aft mSm.refl kE (by omega) (by omega) (by omega) (by omega)⟩
      · unfold f_X4_readGround_29
        rw [A r r1 (Nat.zero_le _) r2 (fun e _ he => r3 e he), q_uc, if_neg (show ¬ iI (r : Int) = -1 by
          rw [j_m1, j_eq (by omega) (by omega) (by omega) (by omega)]
          omega), p_bs, if_pos (v_is c3), f1, q_uc, p_bs]
      · rw [r4, q_mc, if_neg (show ¬ iI (r : Int) < 0 by
          rw [j0, j_lt (by omega) (by omega) (by omega) (by omega)]
          omega), p_let, m_wrong h13, q_mc]
        unfold f_groundLine_47 f_groundLine_73
        rw [p_let, if_neg (n13e (show (mEr σ 3 (σ.1 4)).1 13 = 1 from rfl)), p_let, if_neg (n13e (show (mEr σ 3 (σ.1 4)).1 13 = 1 from rfl))]
    · rw [Bn (fun e _ he => r3 e he), q_uc, if_pos rfl, v_gr h13c (k := 0) rfl, p_bs, p_bs, if_pos (v_is hl3.1.1), sz3, q_uc, r4, q_mc, if_pos (show (-1 : Int32) < 0 by decide)]
      unfold f_groundLine_47
      rw [p_let, if_pos h13, p_let, h22]
      by_cases c8 : nG = 8
      · obtain ⟨U', f1, f2⟩ := c_fault (N := N) (k := 5) hc3
        left
        refine ⟨U3.1, U', mEr σ 5 (σ.1 4), ?_, ?_, (f2.x.mono sS sR (Nat.le_refl _) (Nat.le_refl _)).aft mSm.refl kE (by omega) (by omega) (by omega) (by omega)⟩
        · unfold f_X4_readGround_47
          rw [j8, p_eq (by omega) (by omega) (by omega) (by omega) (by omega), p_bs, if_pos (v_is c3), f1, q_uc, p_bs]
        · unfold f_groundLine_73
          rw [j8, p_eq (by omega) (by omega) (by omega) (by omega) (by omega), p_let, m_wrong h13, q_mc, p_let, if_neg (n13e (show (mEr σ 5 (σ.1 4)).1 13 = 1 from rfl))]
      · obtain ⟨r', w1, w2⟩ := m_gl83 (N := N) (σ := σ) h8 m8 h22 (by omega) m 0 (N - m) (σ.2.1 14) (by omega)
        rw [Nat.sub_add_cancel (by omega), mRow_id] at w2
        have w2 : f_groundLine_83 N N σ 0 = f_groundLine_83 N (N - m) (mRow σ 14 r') (iI m) := w2
        obtain ⟨q1, hq1⟩ : ∃ q1, N - m = q1 + 1 := ⟨N - m - 1, by omega⟩
        obtain ⟨tG1, tG2⟩ := t_ix (a := (nG : Int)) (n := 8) (k := nG) rfl (by omega) (by omega)
        obtain ⟨σa, hσa⟩ : ∃ sa : MS, sa = mArr (mRow σ 14 r') 15 nG (iI m) := ⟨_, rfl⟩
        have fa : σa.1 = σ.1 := by rw [hσa]; rfl
        have ra : ∀ j, j ≠ 14 → j ≠ 15 → σa.2.1 j = σ.2.1 j := fun j j14 j15 => by
          rw [hσa, mArr_n j15]
          exact if_neg j14
        have ra14 : σa.2.1 14 = r' := by
          rw [hσa, mArr_n (by decide)]
          show (if 14 = 14 then r' else σ.2.1 14) = r'
          exact if_pos rfl
        have ra15 : σa.2.1 15 = upd (σ.2.1 15) nG (iI m) := by
          rw [hσa, mArr_s]
          rfl
        have sa0 : mSm bS bR σ σa := ⟨fun k _ => by rw [fa], fun j hj => ra j (fun z => hj (by rw [z]; exact Or.inr (Or.inl (by decide)))) (fun z => hj (by rw [z]; exact Or.inr (Or.inl (by decide)))), by rw [hσa]; rfl, fun j _ i hi => by
          by_cases j14 : j = 14
          · subst j14
            rw [ra14, w1 i, if_neg (by rw [show mLen 14 = 64 from rfl] at hi; omega)]
          · by_cases j15 : j = 15
            · subst j15
              rw [ra15, upd_n (by rw [show mLen 15 = 8 from rfl] at hi; omega)]
            · rw [ra j j14 j15]⟩
        have hca : rCx b g lo rd tp n T U3 σa at' := hc3.sg (fun k _ => by rw [fa]) (ra 1 (by decide) (by decide)) (ra 11 (by decide) (by decide))
        have k6 : σa.1 6 = 2 := by
          rw [fa]
          exact hn.1
        obtain ⟨U4, σ4, at4, v1, v2, v3⟩ := k_go (N := N) hca (by rw [k6]; decide) hN
        have M0 : f_groundLine_73 N σ = mcallv (f_next N σa) (fun σ9 => mcall (f_must N (pTx 42) σ9) fun r14 σ12 => mlet (σ12.1 22) fun y16 => mcall (f_pairs N 20 σ12 1) fun r21 σ19 => if mIn y16 (mLen 18) = true then mlet (mArr σ19 18 y16.toNatClampNeg r21) fun σ23 => mcall (f_must N (pTx 43) σ23) fun r27 σ25 => mlet (σ25.1 22) fun y29 => mcall (f_pairs N 21 σ25 0) fun r34 σ32 => if mIn y29 (mLen 19) = true then mlet (mArr σ32 19 y29.toNatClampNeg r34) fun σ36 => mlet (σ36.1 13) fun y37 => if y37 = 0 then mlet (σ36.1 22) fun y39 => mlet (mSet σ36 22 ((y39 + 1))) fun σ40 => f_groundLine_203 N σ40 else f_groundLine_203 N σ36 else none else none) := by
          unfold f_groundLine_73
          rw [p_let, if_pos h13, w2, hq1, f_groundLine_83, p_let, show (mRow σ 14 r').1 8 = iI m from h8, p_le (by omega) (by omega) (by omega) (by omega) (by omega), p_let, show (mRow σ 14 r').1 22 = iI nG from h22, p_let, if_pos (show mIn (iI (nG : Int)) (mLen 15) = true from tG1), p_let, tG2, ← hσa]
        rw [j8, n_eq (by omega) (by omega) (by omega) (by omega) (by omega), n_eq (by omega) (by omega) (by omega) (by omega) (by omega), M0, v2, q_mv, p_bs, if_pos (v_is c3), v1, p_bs]
        unfold f_X4_readGround_52 f_X4_readGround_58 f_X4_readGround_73 f_X4_readGround_79 f_X4_readGround_93 f_X4_readGround_101
        have hc4 := v3.1
        have al4 := hc4.le
        obtain ⟨v3a, v3b, v3c, v3d, v3e, -⟩ := id v3
        obtain ⟨kr4, st4, va4, wv4, sg4, c4, -⟩ := k_kind hc4
        have kw34 : rKw lo (fun x => x = rd) U3 U4 := v3b.w rfl
        have kw04 : rKw lo (oW rd U.1) U U4 := kw03.trans (kw34.mono (fun x _ z => Or.inl (Or.inl z)))
        have s22 : ∀ {s : MS}, mSm tS tR σa s → s.1 22 = iI nG := fun z => by
          rw [z.1 22 (fun y => by unfold tS at y; omega), fa]
          exact h22
        have sa4 : mSm bS bR σ σ4 := sa0.trans (v3.b.mono sS sR)
        have tG3 : mIn (iI (nG : Int)) (mLen 18) = true := tG1
        have tG4 : mIn (iI (nG : Int)) (mLen 19) = true := tG1
        have eb : ∀ {s : MS} {x : Int32}, mSm bS bR s (mArr s 18 nG x) := mSm.arr (Or.inr (Or.inl (by decide))) (by rw [show mLen 18 = 8 from rfl]; omega)
        have eb2 : ∀ {s : MS} {x : Int32}, mSm bS bR s (mArr s 19 nG x) := mSm.arr (Or.inr (Or.inl (by decide))) (by rw [show mLen 19 = 8 from rfl]; omega)
        rw [p_bs, if_pos (v_is c4)]
        rcases k_must (N := N) (j := 12) (j' := 42) hc4 (by decide) (by decide +kernel) (by decide +kernel) hN with ⟨U5, σ5, at5, y1, y2, y3⟩ | ⟨x, U5, σ5, y1, y2, y3⟩
        · have hc5 := y3.1
          have al5 := hc5.le
          obtain ⟨y3a, y3b, y3c, y3d, y3e, -⟩ := id y3
          obtain ⟨kr5, st5, va5, wv5, sg5, c5, -⟩ := k_kind hc5
          have kw45 : rKw lo (fun x => x = rd) U4 U5 := y3b.w rfl
          have kw35 : rKw lo (fun x => x = rd) U3 U5 := kw34.trans (kw45.mono (fun x _ z => Or.inl z))
          have kw05 : rKw lo (oW rd U.1) U U5 := kw04.trans (kw45.mono (fun x _ z => Or.inl (Or.inl z)))
          have sa5 : mSm bS bR σ σ5 := sa4.trans (y3.b.mono sS sR)
          have n5 : σ5.1 22 = iI nG := s22 (v3.b.trans y3.b)
          have o3 : uOld U3 := x10
          have gc5 := kw35.at o3 x2 (by decide) (by omega)
          have li5 := kw35.at o3 x3 (by decide) (by omega)
          have p15 := kw35.ar o3 x4 (by omega)
          have p25 := kw35.ar o3 x5 (by omega)
          have l25 := kw35.at o3 x6 (by decide) (by omega)
          have p35 := kw35.ar o3 x7 (by omega)
          have p45 := kw35.ar o3 x8 (by omega)
          rw [y1, q_xv2, p_bs, v_gr gc5 (k := 1) rfl, p_bs, p_bs, if_pos (v_is li5), y2, q_mc, p_let, n5]
          rcases k_line (N := N) (b := b) (g := g) (rz := 1) (hA := 999) (hV := 300) (j1 := 20) (nG := nG) (Or.inr ⟨rfl, rfl, rfl⟩) ⟨rfl, Or.inl rfl⟩ (by omega) hN (li := U2.1) (p1 := U2.1 + 1) (p2 := U2.1 + 2) (by omega) (by omega) (by omega) (by omega) hc5 n5 li5 p15 p25 with ⟨x, U6, σ6, r6, b1, b2, b3, b4⟩ | ⟨n1, at1, v1', f1', f2', U6, σ6, at6, b1, b2, b3, b4, b5, b6, b7, b8, b9, b10, b11, b12, b13, b14⟩
          · left
            have b1 : f_X9_read N b g U5 U2.1 (some rd) 999 300 1 = some (.inl (x, U6)) := b1
            have b2 : f_pairs N 20 σ5 1 = some (r6, σ6) := b2
            obtain ⟨k, p, -, b3s, -⟩ := id b3
            refine ⟨x, U6, mArr (mArr σ6 18 nG r6) 19 nG 0, ?_, ?_, (((b3.mono sS (fun j z => by rcases z with z | z; exact Or.inl z; exact Or.inr (Or.inl (by omega))) (Nat.le_refl _) (Nat.le_refl _)).aft (cc := 4 * (n - at') + 9) (ss := 32 * (n - at') + 60) sa5 kw05.1 kw05.2.2.2.2.1 (by omega) kw05.2.2.2.2.2 (by omega)).er rfl rfl rfl (eb.trans eb2))⟩
            · rw [b1, q_xv1]
            · have e6 : σ6.1 22 = iI nG := by
                obtain ⟨k, p, -, -, -, -, z, -⟩ := b3
                rw [z.1 22 (fun y => by unfold tS at y; omega)]
                exact n5
              rw [b2, q_mc, if_pos tG3, p_let, tG2, m_mustE (show (mArr σ6 18 nG r6).1 13 = 1 from b3s), q_mc, p_let, show (mArr σ6 18 nG r6).1 22 = iI nG from e6, m_prsE (show (mArr σ6 18 nG r6).1 13 = 1 from b3s) (by omega), q_mc, if_pos tG4, p_let, tG2, p_let, if_neg (n13e (show (mArr (mArr σ6 18 nG r6) 19 nG 0).1 13 = 1 from b3s))]
              rfl
          · have b1 : f_X9_read N b g U5 U2.1 (some rd) 999 300 1 = some (.inr U6) := b1
            have b2 : f_pairs N 20 σ5 1 = some (iI n1, σ6) := b2
            have o5 : uOld U5 := hc5.2.2.2.2.2.1
            have o6 : uOld U6 := b4.2.2.2.2.2.1
            have kw06 : rKw lo (oW rd U.1) U U6 := kw05.trans (b9.mono (fun x _ z => by unfold pW at z; unfold oW; omega))
            have gc6 := b9.at o5 gc5 (by decide) (by unfold pW; omega)
            have l26 := b9.at o5 l25 (by decide) (by unfold pW; omega)
            have p36 := b9.ar o5 p35 (by unfold pW; omega)
            have p46 := b9.ar o5 p45 (by unfold pW; omega)
            obtain ⟨σ7, hσ7⟩ : ∃ s7 : MS, s7 = mArr σ6 18 nG (iI n1) := ⟨_, rfl⟩
            have r7 : ∀ j, j ≠ 18 → σ7.2.1 j = σ6.2.1 j := fun j hj => by rw [hσ7, mArr_n hj]
            have f7 : σ7.1 = σ6.1 := by rw [hσ7]; rfl
            have hc7 : rCx b g lo rd tp n T U6 σ7 at6 := b4.sg (fun k _ => by rw [f7]) (r7 1 (by decide)) (r7 11 (by decide))
            have n6 : σ6.1 22 = iI nG := by
              rw [b13.1 22 (fun y => by unfold tS at y; omega)]
              exact n5
            have n7 : σ7.1 22 = iI nG := by
              rw [f7]
              exact n6
            have sa7 : mSm bS bR σ σ7 := by
              rw [hσ7]
              exact (sa5.trans (b13.mono sS (fun j z => by rcases z with z | z; exact Or.inl z; exact Or.inr (Or.inl (by omega))))).trans eb
            obtain ⟨kr7, st7, va7, wv7, sg7, c7, -⟩ := k_kind hc7
            have al7 := hc7.le
            rw [b1, q_xv2, p_bs, if_pos (v_is c7), b2, q_mc, if_pos tG3, p_let, tG2, ← hσ7]
            rcases k_must (N := N) (j := 14) (j' := 43) hc7 (by decide) (by decide +kernel) (by decide +kernel) hN with ⟨U8, σ8, at8, a1, a2, a3⟩ | ⟨x, U8, σ8, a1, a2, a3⟩
            · have hc8 := a3.1
              have al8 := hc8.le
              obtain ⟨a3a, a3b, a3c, a3d, a3e, -⟩ := id a3
              have kw68 : rKw lo (fun x => x = rd) U6 U8 := a3b.w rfl
              have kw08 : rKw lo (oW rd U.1) U U8 := kw06.trans (kw68.mono (fun x _ z => Or.inl (Or.inl z)))
              have gc8 := kw68.at o6 gc6 (by decide) (by omega)
              have l28 := kw68.at o6 l26 (by decide) (by omega)
              have p38 := kw68.ar o6 p36 (by omega)
              have p48 := kw68.ar o6 p46 (by omega)
              have l18 := kw68.at o6 b5 (by decide) (by omega)
              have p18 := kw68.ar o6 b6 (by omega)
              have p28 := kw68.ar o6 b7 (by omega)
              have n8 : σ8.1 22 = iI nG := by
                rw [a3.b.1 22 (fun y => by unfold tS at y; omega)]
                exact n7
              have sa8 : mSm bS bR σ σ8 := sa7.trans (a3.b.mono sS sR)
              rw [a1, q_xv2, p_bs, v_gr gc8 (k := 2) rfl, p_bs, p_bs, if_pos (v_is l28), a2, q_mc, p_let, n8]
              rcases k_line (N := N) (b := b) (g := g) (rz := 0) (hA := 90) (hV := 150) (j1 := 21) (nG := nG) (Or.inl ⟨rfl, rfl, rfl⟩) ⟨rfl, Or.inr rfl⟩ (by omega) hN (li := U2.1 + 3) (p1 := U2.1 + 4) (p2 := U2.1 + 5) (by omega) (by omega) (by omega) (by omega) hc8 n8 l28 p38 p48 with ⟨x, U9, σ9, r9, g1, g2, g3, g4⟩ | ⟨n2, at2', v2', f3', f4', U9, σ9, at9, g1, g2, g3, g4, g5, g6, g7, g8, g9, g10, g11, g12, g13, g14⟩
              · left
                have g1 : f_X9_read N b g U8 (U2.1 + 3) (some rd) 90 150 0 = some (.inl (x, U9)) := g1
                have g2 : f_pairs N 21 σ8 0 = some (r9, σ9) := g2
                obtain ⟨k, p, -, g3s, -⟩ := id g3
                refine ⟨x, U9, mArr σ9 19 nG r9, ?_, ?_, (((g3.mono sS (fun j z => by rcases z with z | z; exact Or.inl z; exact Or.inr (Or.inl (by omega))) (Nat.le_refl _) (Nat.le_refl _)).aft (cc := 4 * (n - at') + 9) (ss := 32 * (n - at') + 60) sa8 kw08.1 kw08.2.2.2.2.1 (by omega) kw08.2.2.2.2.2 (by omega)).er rfl rfl rfl eb2)⟩
                · rw [g1, q_xv1]
                · rw [g2, q_mc, if_pos tG4, p_let, tG2, p_let, if_neg (n13e (show (mArr σ9 19 nG r9).1 13 = 1 from g3s))]
                  rfl
              · have g1 : f_X9_read N b g U8 (U2.1 + 3) (some rd) 90 150 0 = some (.inr U9) := g1
                have g2 : f_pairs N 21 σ8 0 = some (iI n2, σ9) := g2
                have o8 : uOld U8 := hc8.2.2.2.2.2.1
                have o9 : uOld U9 := g4.2.2.2.2.2.1
                have kw09 : rKw lo (oW rd U.1) U U9 := kw08.trans (g9.mono (fun x _ z => by unfold pW at z; unfold oW; omega))
                have gc9 := g9.at o8 gc8 (by decide) (by unfold pW; omega)
                have l19 := g9.at o8 l18 (by decide) (by unfold pW; omega)
                have p19 := g9.ar o8 p18 (by unfold pW; omega)
                have p29 := g9.ar o8 p28 (by unfold pW; omega)
                have hl9 := hl.kw kw09 c1 ho
                have hl29 := hl2.kw kw09 c1 ho
                have h19c := kw09.at ho h1c (by decide) (nW h1c nbo)
                obtain ⟨mi, hmi⟩ := h20
                have lU9 := kw09.2.2.2.2.1
                have lZ9 := kw09.2.2.2.2.2
                obtain ⟨U10, arr', m', xs', j1', j2, j3, j4, j5, j6, j7, j8'⟩ := l_add (N := N) (b := b) (g := g) (v := U.1) hl9.1 o9 (by have := hl.2.1; omega) (by omega) (fun z => by
                  have := hl.2.2.2 (by omega)
                  omega) (fun z => (hl.2.2.1 z).1) hmi (fun i hi => by
                  rw [(hg i hi).1]
                  obtain ⟨⟨p, q', i0, z4, -⟩, -⟩ := (hg i hi).2.kw kw09 c1 ho
                  exact u_obj z4) (by omega) (u_obj gc9)
                obtain ⟨hv1, hv2, hv3, hv4⟩ := id hl9.1
                have lgl : gl < U.1 := ho _ _ hl.1.1
                have larr : arr < U.1 := ho _ _ hl.1.2.1
                have lal : al < U.1 := ho _ _ hl2.1.1
                have larr2 : arr2 < U.1 := ho _ _ hl2.1.2.1
                have szs : U9.1 ≤ U10.1 ∧ U10.1 ≤ U9.1 + 1 ∧ U9.2.1 ≤ U10.2.1 ∧ U10.2.1 ≤ U9.2.1 + 10 := by
                  rcases j8' with ⟨-, -, -, z1, z2⟩ | ⟨z0, -, -, z1, z2⟩
                  · omega
                  · have : lGr m1 ≤ 10 := by
                      unfold lGr
                      split
                      · omega
                      · split <;> omega
                    omega
                have kwA : rKw lo (fun x => x = gl ∨ x = arr) U9 U10 := rKw.ad (P := nG < m1) j5 ⟨Or.inl rfl, Or.inr rfl⟩ hl.2.1 (fun z => hl.2.2.2 (by omega)) hv1 hv2 (by decide) o9 j6 (by omega) szs.1 szs.2.2.1
                obtain ⟨kr9, st9, va9, wv9, sg9, c9, -⟩ := k_kind g4
                have ngl : gl ≠ rd := u_nrr hl.1.1 c1 (by decide)
                have narr : arr ≠ rd := u_nlr hl.1.2.1 c1
                obtain ⟨σ10, hσ10⟩ : ∃ s10 : MS, s10 = mSet (mArr σ9 19 nG (iI n2)) 22 (iI ((nG + 1 : Nat) : Int)) := ⟨_, rfl⟩
                have r10 : ∀ j, j ≠ 19 → σ10.2.1 j = σ9.2.1 j := fun j hj => by
                  rw [hσ10]
                  exact mArr_n hj
                have f10 : ∀ k, k ≠ 22 → σ10.1 k = σ9.1 k := fun k hk => by
                  rw [hσ10]
                  exact upd_n hk
                have hc10 : rCx b g lo rd tp n T U10 σ10 at9 := (g4.sg (fun k hk => f10 k (by omega)) (r10 1 (by decide)) (r10 11 (by decide))).kw kwA (by
                  intro z
                  rcases z with z | z
                  · exact ngl z.symm
                  · exact narr z.symm)
                have n9 : σ9.1 22 = iI nG := by
                  rw [g13.1 22 (fun y => by unfold tS at y; omega)]
                  exact n8
                have e13 : σ9.1 13 = 0 := g4.2.2.2.2.2.2.2.2.2.1
                have en : iI (nG : Int) + 1 = iI ((nG + 1 : Nat) : Int) := by
                  rw [j1, i_add]
                  rfl
                have sa9 : mSm bS bR σ σ9 := sa8.trans (g13.mono sS (fun j z => by rcases z with z | z; exact Or.inl z; exact Or.inr (Or.inl (by omega))))
                have sa10 : mSm bS bR σ σ10 := by
                  rw [hσ10]
                  exact (sa9.trans eb2).trans (mSm.set (Or.inr (by decide)))
                right
                -- rows
                have a48 : ∀ j, j ≠ 11 → σ4.2.1 j = σa.2.1 j := fun j hj => v3.b.2.1 j hj
                have a5a : ∀ j, j ≠ 11 → σ5.2.1 j = σa.2.1 j := fun j hj => (y3.b.2.1 j hj).trans (a48 j hj)
                have a6a : ∀ j, j ≠ 11 → j ≠ 20 → σ6.2.1 j = σa.2.1 j := fun j hj h20' => (b13.2.1 j (fun z => by rcases z with z | z; exact hj z; exact h20' z)).trans (a5a j hj)
                have a8a : ∀ j, j ≠ 11 → j ≠ 20 → j ≠ 18 → σ8.2.1 j = σa.2.1 j := fun j hj h20' h18 => (a3.b.2.1 j hj).trans ((r7 j h18).trans (a6a j hj h20'))
                have a10a : ∀ j, j ≠ 11 → j ≠ 20 → j ≠ 18 → j ≠ 21 → j ≠ 19 → σ10.2.1 j = σa.2.1 j := fun j hj h20' h18 h21 h19 => (r10 j h19).trans ((g13.2.1 j (fun z => by rcases z with z | z; exact hj z; exact h21 z)).trans (a8a j hj h20' h18))
                have q14 : σ10.2.1 14 = r' := (a10a 14 (by decide) (by decide) (by decide) (by decide) (by decide)).trans ra14
                have q15 : σ10.2.1 15 = upd (σ.2.1 15) nG (iI m) := (a10a 15 (by decide) (by decide) (by decide) (by decide) (by decide)).trans ra15
                have q18 : σ10.2.1 18 = upd (σ.2.1 18) nG (iI n1) := by
                  rw [r10 18 (by decide), g13.2.1 18 (by decide), a3.b.2.1 18 (show ¬ 18 = 11 by decide), hσ7, mArr_s, a6a 18 (by decide) (by decide), ra 18 (by decide) (by decide)]
                have q19 : σ10.2.1 19 = upd (σ.2.1 19) nG (iI n2) := by
                  rw [hσ10]
                  show (mArr σ9 19 nG (iI n2)).2.1 19 = _
                  rw [mArr_s, g13.2.1 19 (by decide), a8a 19 (by decide) (by decide) (by decide), ra 19 (by decide) (by decide)]
                have q20 : σ10.2.1 20 = σ6.2.1 20 := by
                  rw [r10 20 (by decide), g13.2.1 20 (by decide), a3.b.2.1 20 (show ¬ 20 = 11 by decide), r7 20 (by decide)]
                have q20o : ∀ i, i < 8 * nG ∨ 8 * nG + 8 ≤ i → σ10.2.1 20 i = σ.2.1 20 i := fun i hi => by
                  rw [q20, b14 i hi, a5a 20 (by decide), ra 20 (by decide) (by decide)]
                have q21 : σ10.2.1 21 = σ9.2.1 21 := r10 21 (by decide)
                have q21o : ∀ i, i < 8 * nG ∨ 8 * nG + 8 ≤ i → σ10.2.1 21 i = σ.2.1 21 i := fun i hi => by
                  rw [q21, g14 i hi, a8a 21 (by decide) (by decide) (by decide), ra 21 (by decide) (by decide)]
                have qo : ∀ j, j = 16 ∨ j = 17 ∨ j = 30 ∨ j = 31 ∨ j = 32 → σ10.2.1 j = σ.2.1 j := fun j hj => (a10a j (by omega) (by omega) (by omega) (by omega) (by omega)).trans (ra j (by omega) (by omega))
                have fo : ∀ k, 23 ≤ k → k ≤ 29 → σ10.1 k = σ.1 k := fun k k1 k2 => by
                  rw [f10 k (by omega), g13.1 k (fun y => by unfold tS at y; omega), a3.b.1 k (fun y => by unfold tS at y; omega), f7, b13.1 k (fun y => by unfold tS at y; omega), y3.b.1 k (fun y => by unfold tS at y; omega), v3.b.1 k (fun y => by unfold tS at y; omega), fa]
                -- cells
                have kw0A : rKw lo (fun x => oW rd U.1 x ∨ x = gl ∨ x = arr) U U10 := (kw09.mono (fun x _ z => Or.inl z)).trans (kwA.mono (fun x _ z => Or.inl (Or.inr z)))
                have ks : ∀ {y c : Nat} {fs : List Value}, U9.2.2 y = some (.inr (c, fs)) → c ≠ 20 → c ≠ 18 → U10.2.2 y = some (.inr (c, fs)) := fun hy h1' h2' => kwA.at o9 hy h1' (fun z => by
                  rcases z with z | z
                  · exact (u_nrr hy hv1 h2') z
                  · exact (u_nlr hv2 hy) z.symm)
                have ki : ∀ {y k : Nat} {z : uVs}, U9.2.2 y = some (.inl (0, k, z)) → U10.2.2 y = some (.inl (0, k, z)) := fun hy => kwA.ar o9 hy (fun z => by
                  rcases z with z | z
                  · exact (u_nlr hy hv1) z
                  · exact (u_nll hy hv2 (Or.inl (by decide))) z)
                have kli : ∀ {a nn : Nat} {at_ v : Nat → Int}, vLi U9 b lo U9.1 a nn at_ v → vLi U10 b lo U10.1 a nn at_ v := fun z => by
                  obtain ⟨z1, z2, z3, z4, i0, i1, i2, z5, z6, z7, z8⟩ := z
                  exact ⟨z1, z2, z3, z4, i0.up szs.1, i1.up szs.1, i2.up szs.1, ks z5 (by decide) (by decide), ki z6, ki z7, z8⟩
                have kgr : ∀ {a nm : Nat} {s q : bLn}, vGr U9 b lo U9.1 a nm s q → vGr U10 b lo U10.1 a nm s q := fun z => by
                  obtain ⟨z1, z2, i0, z3, z4, z5⟩ := z
                  exact ⟨z1, z2, i0.up szs.1, ks z3 (by decide) (by decide), kli z4, kli z5⟩
                have vi : ∀ {y : Nat}, lo ≤ y → y < U9.1 → vIn b lo U9.1 y := fun h1 h2 => Or.inr ⟨h1, h2⟩
                have lt9 : U2.1 + 6 ≤ U9.1 := by
                  have := (kw34.trans (kw45.mono (fun x _ z => Or.inl z))).2.2.2.2.1
                  have := b9.2.2.2.2.1
                  have := kw68.2.2.2.2.1
                  have := g9.2.2.2.2.1
                  omega
                have newG : bGd b lo U10 σ10 nG U.1 wa (n1, at1, v1') (n2, at2', v2') := by
                  refine ⟨kgr ⟨U2.1, U2.1 + 3, vi (by omega) (by omega), gc9, ⟨U2.1 + 1, U2.1 + 2, f1', f2', vi (by omega) (by omega), vi (by omega) (by omega), vi (by omega) (by omega), l19, p19, p29, fun k hk => ⟨(b8 k hk).1, (b8 k hk).2.1⟩⟩, ⟨U2.1 + 4, U2.1 + 5, f3', f4', vi (by omega) (by omega), vi (by omega) (by omega), vi (by omega) (by omega), g5, g6, g7, fun k hk => ⟨(g8 k hk).1, (g8 k hk).2.1⟩⟩⟩, hlU, ⟨lwa, m, f, ?_, m1', m8, ?_, fun k hk => ⟨?_, (hf k hk).2⟩⟩, ⟨b3, ?_, rfl, by omega, fun k hk => ?_⟩, g3, ?_, rfl, by omega, fun k hk => ?_⟩
                  · have := kw23.2.2.1 _ _ _ vs
                    have := kw34.2.2.1 _ _ _ this
                    have := kw45.2.2.1 _ _ _ this
                    have := b9.2.2.1 _ _ _ this
                    have := kw68.2.2.1 _ _ _ this
                    have := g9.2.2.1 _ _ _ this
                    exact kwA.2.2.1 _ _ _ this
                  · rw [q15, upd_s]
                  · rw [(hf k hk).1, q14, w1 (8 * nG + k), if_pos (by omega), Nat.add_sub_cancel_left]
                  · rw [q18, upd_s]
                  · rw [q20]
                    exact ⟨(b8 k hk).2.2.1, (b8 k hk).2.2.2⟩
                  · rw [q19, upd_s]
                  · rw [q21]
                    exact ⟨(g8 k hk).2.2.1, (g8 k hk).2.2.2⟩
                have oldG : ∀ d, d < nG → bGd b lo U10 σ10 d (ga d) (gn d) (s d) (q d) := fun d hd => by
                  have z := (hg d hd).2.kw kw09 c1 ho
                  have z' : bGd b lo U10 σ d (ga d) (gn d) (s d) (q d) := ⟨kgr z.1, z.2.1, z.2.2.1.kw kwA, z.2.2.2⟩
                  exact z'.sg (by rw [q15, upd_n (by omega)]) (fun i hi => by
                    rw [q14, w1 (8 * d + i), if_neg (by omega)]) (by rw [q18, upd_n (by omega)]) (by rw [q19, upd_n (by omega)]) (fun i hi => q20o _ (by omega)) (fun i hi => q21o _ (by omega))
                have aN : m1 ≠ 0 → m2 ≠ 0 → arr ≠ arr2 := hna
                have arr2n : ∀ {y : Nat}, nG < m1 → arr2 ≠ arr := fun z e => by
                  by_cases z2 : m2 = 0
                  · have := (hl2.2.2.1 z2).2
                    have := hl.2.2.2 (by omega)
                    omega
                  · exact hna (by omega) z2 e.symm
                have l2A : bLs b lo g U10 al arr2 nT m2 mc2 xs2 := by
                  obtain ⟨⟨z1, z2, z3⟩, z4⟩ := hl29
                  refine ⟨⟨(j5 al (Ne.symm hne) (fun _ => Ne.symm (u_nlr hv2 z1)) (by omega)).trans z1, (j5 arr2 (u_nlr z2 hv1) (fun p => arr2n (y := 0) p) (by omega)).trans z2, z3⟩, z4⟩
                have tA : ∀ t, t < nT → xs2 t = some (ta t) ∧ bTr lo U10 σ10 t (ta t) (tn t) := fun t ht' => by
                  obtain ⟨z1, z2⟩ := ht t ht'
                  obtain ⟨y1', y2', e, o, c, y3', y4'⟩ := z2.kw kw09 c1 ho
                  have z' : bTr lo U10 σ t (ta t) (tn t) := ⟨y1', y2'.kw kwA, e, o, c, ks y3' (by decide) (by decide), y4'⟩
                  exact ⟨z1, z'.sg (by rw [qo 17 (by omega)]) (fun i hi => by rw [qo 16 (by omega)]) (by rw [qo 30 (by omega)]) (by rw [qo 31 (by omega)]) (by rw [qo 32 (by omega)])⟩
                have m'0 : m' ≠ 0 := by
                  have := j2.2.2.1
                  omega
                have larr' : lo ≤ arr' := by
                  rcases j8' with ⟨z0, z1, -⟩ | ⟨z0, z1, -⟩
                  · rw [z1]
                    exact hl.2.2.2 (by omega)
                  · omega
                have bPn : bP b lo g U10 σ10 bo := by
                  refine ⟨gl, al, arr', arr2, nG + 1, nT, m', m2, mc + 1, mc2, xs', xs2, fun d => if d = nG then U.1 else ga d, fun d => if d = nG then wa else gn d, ta, tn, fun d => if d = nG then (n1, at1, v1') else s d, fun d => if d = nG then (n2, at2', v2') else q d, B, rv, ⟨ks h19c (by decide) (by decide), hbo, hrv, (fo 29 (by omega) (by omega)).trans h29⟩, ⟨(fo 24 (by omega) (by omega)).trans hB5.1, (fo 25 (by omega) (by omega)).trans hB5.2.1, (fo 26 (by omega) (by omega)).trans hB5.2.2.1, (fo 27 (by omega) (by omega)).trans hB5.2.2.2.1, (fo 28 (by omega) (by omega)).trans hB5.2.2.2.2⟩, hBd, ⟨⟨j2, hl.2.1, fun z => absurd z m'0, fun _ => larr'⟩, by omega, by rw [hσ10]; rfl, fun d hd => ?_⟩, ⟨l2A, hn6, (fo 23 (by omega) (by omega)).trans h23, tA⟩, hne, fun _ z2 => ?_⟩
                  · by_cases z : d = nG
                    · simp only [if_pos z]
                      rw [z]
                      exact ⟨j4, newG⟩
                    · simp only [if_neg z]
                      rw [j3 d (by omega)]
                      exact ⟨(hg d (by omega)).1, oldG d (by omega)⟩
                  · rcases j8' with ⟨z0, z1, -⟩ | ⟨z0, z1, -⟩
                    · rw [z1]
                      exact hna (by omega) z2
                    · omega
                refine ⟨U10, σ10, at9, ?_, ?_, hc10, bPn, by omega, by omega, by omega, by omega, by omega, kw0A.1, sa10, fun c z => ?_⟩
                · rw [g1, q_xv2, v_gr h19c (k := 0) rfl, p_bs, p_bs, if_pos (v_is hv1), j1', q_uc]
                · rw [g2, q_mc, if_pos tG4, p_let, tG2, p_let, show (mArr σ9 19 nG (iI n2)).1 13 = 0 from e13, if_pos rfl, p_let, show (mArr σ9 19 nG (iI n2)).1 22 = iI nG from n9, en, p_let, ← hσ10]
                  rfl
                · obtain ⟨a1, a2, a3, e1, e2, e3, e4, e5, e6, e7⟩ := z
                  have e : iI (a1 : Int) = iI (nG : Int) := e1.symm.trans h22
                  rw [j_eq (by omega) (by omega) (by omega) (by omega)] at e
                  exact ⟨nG + 1, a2, a3, by rw [hσ10]; rfl, (fo 23 (by omega) (by omega)).trans e2, (fo 29 (by omega) (by omega)).trans e3, by omega, e5, e6, by omega⟩
            · left
              obtain ⟨k, p, -, a3s, -⟩ := id a3
              have n8 : σ8.1 22 = iI nG := by
                obtain ⟨k, p, -, -, -, -, z, -⟩ := a3
                rw [z.1 22 (by decide) (by decide)]
                exact n7
              refine ⟨x, U8, mArr σ8 19 nG 0, ?_, ?_, (((a3.x.mono sS sR (Nat.le_refl _) (Nat.le_refl _)).aft (cc := 4 * (n - at') + 9) (ss := 32 * (n - at') + 60) sa7 kw06.1 kw06.2.2.2.2.1 (by omega) kw06.2.2.2.2.2 (by omega)).er rfl rfl rfl eb2)⟩
              · rw [a1, q_xv1]
              · rw [a2, q_mc, p_let, n8, m_prsE a3s (by omega), q_mc, if_pos tG4, p_let, tG2, p_let, if_neg (n13e (show (mArr σ8 19 nG 0).1 13 = 1 from a3s))]
                rfl
        · left
          obtain ⟨k, p, -, y3s, -⟩ := id y3
          have n5 : σ5.1 22 = iI nG := by
            obtain ⟨k, p, -, -, -, -, z, -⟩ := y3
            rw [z.1 22 (by decide) (by decide)]
            exact s22 v3.b
          refine ⟨x, U5, mArr (mArr σ5 18 nG 0) 19 nG 0, ?_, ?_, (((y3.x.mono sS sR (Nat.le_refl _) (Nat.le_refl _)).aft (cc := 4 * (n - at') + 9) (ss := 32 * (n - at') + 60) sa4 kw04.1 kw04.2.2.2.2.1 (by omega) kw04.2.2.2.2.2 (by omega)).er rfl rfl rfl (eb.trans eb2))⟩
          · rw [y1, q_xv1]
          · rw [y2, q_mc, p_let, n5, m_prsE y3s (by omega), q_mc, if_pos tG3, p_let, tG2, m_mustE (show (mArr σ5 18 nG 0).1 13 = 1 from y3s), q_mc, p_let, show (mArr σ5 18 nG 0).1 22 = iI nG from n5, m_prsE (show (mArr σ5 18 nG 0).1 13 = 1 from y3s) (by omega), q_mc, if_pos tG4, p_let, tG2, p_let, if_neg (n13e (show (mArr (mArr σ5 18 nG 0) 19 nG 0).1 13 = 1 from y3s))]
            rfl
  · left
    refine ⟨x, U', mEr σ 1 (σ.1 4), ?_, ?_, (y2.x.mono sS sR (Nat.le_refl _) (Nat.le_refl _)).aft mSm.refl kw01.1 (by omega) (by omega) (by omega) (by omega)⟩
    · rw [y1, q_ux1]
    · rw [i2 hn, q_mc, if_pos rfl, p_let, m_wrong h13, q_mc]
end J6s
