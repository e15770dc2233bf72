/-! PLAIN: all lines of a book, of both -/
section K1s
variable {N b : Nat} {g : uEnv} {lo rd tp n bo : Nat} {T : Nat → Nat}
theorem k_ln {U : UH} {σ : MS} {at' m : Nat} (h : rCx b g lo rd tp n T U σ at') (hP : bP b lo g U σ bo) (h20 : ∃ mi, g.1 20 = some mi) (hN : 2000 ≤ N) : (∃ (x : Nat) (U' : UH) (σ' : MS), f_X4_read_0 N b g bo (m + 1) U (some rd) = some (.inl (x, U')) ∧ f_line N σ = some σ' ∧ rEx lo bS bR (4 * (n - at') + 9) (32 * (n - at') + 60) U σ x U' σ') ∨ (∃ (U' : UH) (σ' : MS) (at2 : Nat), f_X4_read_0 N b g bo (m + 1) U (some rd) = f_X4_read_57 N b g bo (f_X4_read_0 N b g bo m) U' (some rd) ∧ f_line N σ = some σ' ∧ rCx b g lo rd tp n T U' σ' at2 ∧ bP b lo g U' σ' bo ∧ at' ≤ at2 ∧ U.1 ≤ U'.1 ∧ U'.1 ≤ U.1 + 4 * (at2 - at') + 8 ∧ U.2.1 ≤ U'.2.1 ∧ U'.2.1 ≤ U.2.1 + 32 * (at2 - at') + 40 ∧ (∀ y, y < lo → U'.2.2 y = U.2.2 y) ∧ mSm bS bR σ σ' ∧ ∀ c, bCn σ c → bCn σ' (c + 1)) := by
  have h13 : σ.1 13 = 0 := h.2.2.2.2.2.2.2.2.2.1
  have ho : uOld U := h.2.2.2.2.2.1
  have hal := h.le
  have sS : ∀ k, tS k → bS k := fun k z => Or.inl z
  have sR : ∀ k, tR k → bR k := fun k z => Or.inl z
  have pl : ∀ j, j < 52 → (pTx j).length ≤ 100 := by decide +kernel
  obtain ⟨kr, st, va, wv, sg, c1, -⟩ := k_kind h
  obtain ⟨rv, gl, al, B, hrv, h29, hgi, hlb, hb0⟩ := hP.rvx
  have w32 := k_word (N := N) (tx := pTx 32) h (pl 32 (by decide)) (by omega)
  have w33 := k_word (N := N) (tx := pTx 33) h (pl 33 (by decide)) (by omega)
  have w34 := k_word (N := N) (tx := pTx 34) h (pl 34 (by decide)) (by omega)
  have p32 : pTx 32 = pTx 1 := by decide +kernel
  have p33 : pTx 33 = pTx 15 := by decide +kernel
  have p34 : pTx 34 = pTx 21 := by decide +kernel
  rw [p32] at w32
  rw [p33] at w33
  rw [p34] at w34
  obtain ⟨s1, s2⟩ := k_skW (N := N) (j := 1) h (by decide) (by decide +kernel) hN
  obtain ⟨s3, s4⟩ := c_is (N := N) (j := 15) h (by decide) (by omega)
  obtain ⟨s5, s6⟩ := k_skW (N := N) (j := 21) h (by decide) (by decide +kernel) hN
  have el : f_line N σ = mcall (f_word N (pTx 1) σ) (fun r4 σ2 => if r4 = 0 then mcall (f_word N (pTx 15) σ2) (fun r9 σ7 => if r9 = 0 then mcall (f_word N (pTx 21) σ7) (fun r14 σ12 => if r14 = 0 then mlet (σ12.1 4) fun y16 => mcall (f_wrong N σ12 1 y16) fun r20 σ18 => f_line_187 N σ18 else mcallv (f_next N σ12) fun σ22 => mcallv (f_tryLine N σ22) fun σ25 => f_line_187 N σ25) else mlet (σ7.1 29) fun y27 => if y27 = 0 then mcallv (f_next N σ7) (fun σ30 => mRv N (mSet σ30 29 1)) else mlet (σ7.1 4) fun y78 => mcall (f_wrong N σ7 3 y78) fun r82 σ80 => some σ80) else mcallv (f_next N σ2) fun σ84 => mcallv (f_groundLine N σ84) fun σ87 => f_line_187 N σ87) := by
    unfold f_line
    rw [p32, p33, p34]
    rfl
  rw [el, f_X4_read_0, p_bs, if_pos (v_is c1)]
  by_cases q1 : isW σ (pTx 1)
  · obtain ⟨U1, σ1, at1, y1, y2, y3⟩ := s1 q1
    have al1 := y3.1.le
    obtain ⟨-, -, y3c, y3d, y3e, -⟩ := id y3
    have k1 := y3.kw
    have hP1 := hP.st (N := N) h y3
    obtain ⟨rv1, gl1, al1', B1, -, -, -, -, hb1⟩ := hP1.rvx
    have l1 := k1.2.2.2.2.1
    have l2 := k1.2.2.2.2.2
    unfold f_X4_read_6 f_X4_read_14
    rw [y1, q_uc, if_neg n10, if_pos (v_is hb1), w32.1 q1, q_mc, if_neg n10, y2, q_mv]
    rcases k_gLine (N := N) y3.1 hP1 h20 hN with ⟨x, U', σ', e1, e2, e3⟩ | ⟨U', σ', at2, e1, e2, e3, e4, e5, e6, e7, e8, e9, e10, e11, e12⟩
    · left
      refine ⟨x, U', σ', ?_, ?_, e3.aft (y3.b.mono sS sR) k1.1 l1 (by omega) l2 (by omega)⟩
      · rw [e1, q_xv1]
      · rw [e2, q_mv]
        rfl
    · right
      refine ⟨U', σ', at2, ?_, ?_, e3, e4, by omega, by omega, by omega, by omega, by omega, fun y hy => (e10 y hy).trans (k1.1 y hy), (y3.b.mono sS sR).trans e11, fun c z => e12 c ?_⟩
      · rw [e1, q_xv2]
      · rw [e2, q_mv]
        rfl
      · obtain ⟨a1, a2, a3, z1, z2, z3, z4⟩ := z
        exact ⟨a1, a2, a3, (y3.f (by decide)).trans z1, (y3.f (by decide)).trans z2, (y3.f (by decide)).trans z3, z4⟩
  · unfold f_X4_read_6
    rw [s2 q1, q_uc, if_pos rfl, p_bs, if_pos (v_is c1), w32.2 q1, q_mc, if_pos rfl]
    by_cases q2 : isW σ (pTx 15)
    · unfold f_X4_read_31
      rw [s3 q2, q_uc, if_neg n10, if_pos (v_is hb0), w33.1 q2, q_mc, if_neg n10, p_let]
      by_cases z29 : σ.1 29 = 0
      · obtain ⟨σ1, v1, v2⟩ := k_rov (N := N) h hP z29 (by rw [q2.1]; decide) hN
        rw [if_pos z29, v1, q_mv]
        rcases v2 with ⟨x, U', σ', e1, e2, e3⟩ | ⟨U', σ', at2, e1, e2, e3⟩
        · left
          refine ⟨x, U', σ', ?_, e2, e3⟩
          rw [e1, q_xv1]
        · right
          refine ⟨U', σ', at2, ?_, e2, e3⟩
          rw [e1, q_xv2]
      · have rv1 : ¬ iI (rv : Int) = 0 := by
          rw [← h29]
          exact z29
        obtain ⟨U', f1, f2⟩ := c_fault (N := N) (k := 3) h
        left
        refine ⟨U.1, U', mEr σ 3 (σ.1 4), ?_, ?_, f2.x.mono sS sR (by omega) (by omega)⟩
        · unfold f_X4_readRover f_X4_readRover_12
          rw [hgi, p_bs, if_neg rv1, p_bs, if_pos (v_is c1), f1, q_uc, p_bs, q_xv1]
        · rw [if_neg z29, p_let, m_wrong h13, q_mc]
    · rw [s4 q2, q_uc, if_pos rfl, if_pos (v_is c1), w33.2 q2, q_mc, if_pos rfl]
      by_cases q3 : isW σ (pTx 21)
      · obtain ⟨U1, σ1, at1, y1, y2, y3⟩ := s5 q3
        have al1 := y3.1.le
        obtain ⟨-, -, y3c, y3d, y3e, -⟩ := id y3
        have k1 := y3.kw
        have hP1 := hP.st (N := N) h y3
        obtain ⟨rv1, gl1, al1', B1, -, -, -, -, hb1⟩ := hP1.rvx
        have l1 := k1.2.2.2.2.1
        have l2 := k1.2.2.2.2.2
        unfold f_X4_read_40 f_X4_read_48
        rw [y1, q_uc, if_neg n10, if_pos (v_is hb1), w34.1 q3, q_mc, if_neg n10, y2, q_mv]
        rcases k_tLine (N := N) y3.1 hP1 h20 hN with ⟨x, U', σ', e1, e2, e3⟩ | ⟨U', σ', at2, e1, e2, e3, e4, e5, e6, e7, e8, e9, e10, e11, e12⟩
        · left
          refine ⟨x, U', σ', ?_, ?_, e3.aft (y3.b.mono sS sR) k1.1 l1 (by omega) l2 (by omega)⟩
          · rw [e1, q_xv1]
          · rw [e2, q_mv]
            rfl
        · right
          refine ⟨U', σ', at2, ?_, ?_, e3, e4, by omega, by omega, by omega, by omega, by omega, fun y hy => (e10 y hy).trans (k1.1 y hy), (y3.b.mono sS sR).trans e11, fun c z => e12 c ?_⟩
          · rw [e1, q_xv2]
          · rw [e2, q_mv]
            rfl
          · obtain ⟨a1, a2, a3, z1, z2, z3, z4⟩ := z
            exact ⟨a1, a2, a3, (y3.f (by decide)).trans z1, (y3.f (by decide)).trans z2, (y3.f (by decide)).trans z3, z4⟩
      · obtain ⟨U', f1, f2⟩ := c_fault (N := N) (k := 1) h
        left
        refine ⟨U.1, U', mEr σ 1 (σ.1 4), ?_, ?_, f2.x.mono sS sR (by omega) (by omega)⟩
        · unfold f_X4_read_40 f_X4_read_56
          rw [s6 q3, q_uc, if_pos rfl, p_bs, if_pos (v_is c1), f1, q_uc, p_bs]
        · rw [w34.2 q3, q_mc, if_pos rfl, p_let, m_wrong h13, q_mc]
          rfl
theorem k_rd (h20 : ∃ mi, g.1 20 = some mi) (hN : 2000 ≤ N) : ∀ (d c m m' : Nat) (U : UH) (σ : MS) (at' : Nat), bCn σ c → c + d = 15 → d + 1 ≤ m → d + 2 ≤ m' → rCx b g lo rd tp n T U σ at' → bP b lo g U σ bo → (∃ (x : Nat) (U' : UH) (σ' : MS), f_X4_read_0 N b g bo m U (some rd) = some (.inl (x, U')) ∧ mcallv (f_line N σ) (f_book_89 N m') = f_book_140 N σ' ∧ rEx lo bS bR (4 * (n - at') + 8 * d + 9) (32 * (n - at') + 40 * d + 60) U σ x U' σ') ∨ (∃ (U' : UH) (σ' : MS) (at2 : Nat), f_X4_read_0 N b g bo m U (some rd) = some (.inr (some bo, U')) ∧ mcallv (f_line N σ) (f_book_89 N m') = f_book_140 N σ' ∧ rCx b g lo rd tp n T U' σ' at2 ∧ bP b lo g U' σ' bo ∧ at' ≤ at2 ∧ U.1 ≤ U'.1 ∧ U'.1 ≤ U.1 + 4 * (at2 - at') + 8 * d ∧ U.2.1 ≤ U'.2.1 ∧ U'.2.1 ≤ U.2.1 + 32 * (at2 - at') + 40 * d ∧ (∀ y, y < lo → U'.2.2 y = U.2.2 y) ∧ mSm bS bR σ σ') := by
  have sS : ∀ k, tS k → bS k := fun k z => Or.inl z
  have sR : ∀ k, tR k → bR k := fun k z => Or.inl z
  have n13e : ∀ {s : MS}, s.1 13 = 1 → ¬ s.1 13 = 0 := fun e z => by
    rw [e] at z
    exact absurd z (by decide)
  have mE : ∀ (m' : Nat) {s : MS}, s.1 13 = 1 → f_book_89 N (m' + 1) s = f_book_140 N s := fun m' {s} e => by
    rw [f_book_89, p_let, if_neg (n13e e)]
    unfold f_book_116
    rw [p_let, if_neg (n13e e)]
  intro d
  induction d with
  | zero =>
    intro c m m' U σ at' hc hd hm hm' h hP
    obtain ⟨m, rfl⟩ : ∃ q, m = q + 1 := ⟨m - 1, by omega⟩
    obtain ⟨m', rfl⟩ : ∃ q, m' = q + 1 := ⟨m' - 1, by omega⟩
    rcases k_ln (N := N) (m := m) h hP h20 hN with ⟨x, U', σ', e1, e2, e3⟩ | ⟨U', σ', at2, e1, e2, e3, e4, e5, e6, e7, e8, e9, e10, e11, e12⟩
    · left
      obtain ⟨k, p, -, z, -⟩ := id e3
      refine ⟨x, U', σ', e1, ?_, e3.mono (fun _ z => z) (fun _ z => z) (by omega) (by omega)⟩
      rw [e2, q_mv, mE m' z]
    · exfalso
      obtain ⟨a1, a2, a3, -, -, -, z4, z5, z6, z7⟩ := e12 c hc
      omega
  | succ d ih =>
    intro c m m' U σ at' hc hd hm hm' h hP
    obtain ⟨m, rfl⟩ : ∃ q, m = q + 1 := ⟨m - 1, by omega⟩
    obtain ⟨m', rfl⟩ : ∃ q, m' = q + 1 := ⟨m' - 1, by omega⟩
    have hal := h.le
    rcases k_ln (N := N) (m := m) h hP h20 hN with ⟨x, U', σ', e1, e2, e3⟩ | ⟨U', σ', at2, e1, e2, e3, e4, e5, e6, e7, e8, e9, e10, e11, e12⟩
    · left
      obtain ⟨k, p, -, z, -⟩ := id e3
      refine ⟨x, U', σ', e1, ?_, e3.mono (fun _ z => z) (fun _ z => z) (by omega) (by omega)⟩
      rw [e2, q_mv, mE m' z]
    · have g13 : σ'.1 13 = 0 := e3.2.2.2.2.2.2.2.2.2.1
      have al2 := e3.le
      obtain ⟨kr, st, va, wv, sg, c1, -⟩ := k_kind e3
      obtain ⟨s1, s2⟩ := k_skS (N := N) (j := 26) (c := 59) e3 (by decide) (by decide +kernel) (by unfold sgn; decide) hN
      rw [e1, e2, q_mv, f_book_89, p_let, if_pos g13, p_let]
      unfold f_X4_read_57 f_X4_read_63 f_X4_read_70
      rw [p_bs, if_pos (v_is c1)]
      by_cases q : σ'.1 6 = 59
      · obtain ⟨U2, σ2, at3, y1, y2, y3⟩ := s1 q
        have al3 := y3.1.le
        obtain ⟨-, -, y3c, y3d, y3e, -⟩ := id y3
        have k1 := y3.kw
        have l1 := k1.2.2.2.2.1
        have l2 := k1.2.2.2.2.2
        have hc2 : bCn σ2 (c + 1) := by
          obtain ⟨a1, a2, a3, z1, z2, z3, z4⟩ := e12 c hc
          exact ⟨a1, a2, a3, (y3.f (by decide)).trans z1, (y3.f (by decide)).trans z2, (y3.f (by decide)).trans z3, z4⟩
        rw [y1, q_uc, if_neg n10, if_pos q, y2, q_mv]
        have eb : (mcallv (f_line N σ2) fun σ9 => f_book_89 N m' σ9) = mcallv (f_line N σ2) (f_book_89 N m') := rfl
        rw [eb]
        have sm2 : mSm bS bR σ σ2 := e11.trans (y3.b.mono sS sR)
        rcases ih (c + 1) m m' U2 σ2 at3 hc2 (by omega) (by omega) (by omega) y3.1 (e4.st (N := N) e3 y3) with ⟨x, U3, σ3, v1, v2, v3⟩ | ⟨U3, σ3, at4, v1, v2, v3, v4, v5, v6, v7, v8, v9, v10, v11⟩
        · left
          exact ⟨x, U3, σ3, v1, v2, v3.aft sm2 (fun y hy => (k1.1 y hy).trans (e10 y hy)) (by omega) (by omega) (by omega) (by omega)⟩
        · right
          exact ⟨U3, σ3, at4, v1, v2, v3, v4, by omega, by omega, by omega, by omega, by omega, fun y hy => (v10 y hy).trans ((k1.1 y hy).trans (e10 y hy)), sm2.trans v11⟩
      · rw [s2 q, q_uc, if_pos rfl, p_bs, if_pos (v_is c1), if_neg q]
        unfold f_book_116
        rw [p_let, if_pos g13, p_let]
        obtain ⟨w1, w2⟩ := k_eot (N := N) e3
        by_cases q0 : σ'.1 6 = 0
        · right
          refine ⟨U', σ', at2, ?_, ?_, e3, e4, e5, by omega, by omega, by omega, by omega, e10, e11⟩
          · rw [w1 q0, q_xv2]
          · rw [if_pos q0]
        · obtain ⟨x, U2, y1, y2⟩ := w2 q0
          left
          refine ⟨x, U2, mEr σ' 1 (σ'.1 4), ?_, ?_, (y2.x.mono sS sR (Nat.le_refl _) (Nat.le_refl _)).aft e11 e10 (by omega) (by omega) (by omega) (by omega)⟩
          · rw [y1, q_xv1]
          · rw [if_neg q0, p_let, m_wrong g13, q_mc]
end K1s
