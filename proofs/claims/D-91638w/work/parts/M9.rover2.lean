/-! PLAIN: the rover's line, whole -/
def mSg (N : Nat) (tx : List Int32) (a c : Int32) (k : Nat) (rest : MS → Option MS) (σ : MS) : Option MS := mcall (f_must N tx σ) fun _ σ1 => mcall (f_number N σ1 a c) fun r σ2 => mlet (mSet σ2 k r) fun σ3 => rest σ3
def mRv (N : Nat) (σ : MS) : Option MS := mSg N (pTx 44) 2 6 24 (mSg N (pTx 45) 1 999 25 (mSg N (pTx 46) 1 300 26 (mSg N (pTx 47) 0 300 27 (mSg N (pTx 48) 0 99 28 (fun s => some s))))) σ
theorem m_sgE {N k : Nat} {tx : List Int32} {a c : Int32} {rest : MS → Option MS} {σ : MS} (h : σ.1 13 = 1) : mSg N tx a c k rest σ = rest (mSet σ k a) := by
  unfold mSg
  rw [m_mustE h, q_mc, m_numE h, q_mc, p_let]
theorem mSet_13 {σ : MS} {k : Nat} {a : Int32} (h : σ.1 13 = 1) (hk : k ≠ 13) : (mSet σ k a).1 13 = 1 := by
  show upd σ.1 k a 13 = 1
  rw [upd_n (Ne.symm hk)]
  exact h
section K0s
variable {N b : Nat} {g : uEnv} {lo rd tp n bo : Nat} {T : Nat → Nat} {U : UH} {σ : MS} {at' : Nat}
theorem k_rov (h : rCx b g lo rd tp n T U σ at') (hP : bP b lo g U σ bo) (h29 : σ.1 29 = 0) (h6 : σ.1 6 ≠ 0 ∧ σ.1 6 ≠ 1) (hN : 2000 ≤ N) : ∃ σ1, f_next N σ = some σ1 ∧ ((∃ (x : Nat) (U' : UH) (σ' : MS), f_X4_readRover N b g U bo (some rd) = some (.inl (x, U')) ∧ mRv N (mSet σ1 29 1) = some σ' ∧ rEx lo bS bR (4 * (n - at') + 9) (32 * (n - at') + 60) U σ x U' σ') ∨ (∃ (U' : UH) (σ' : MS) (at2 : Nat), f_X4_readRover N b g U bo (some rd) = some (.inr U') ∧ mRv N (mSet σ1 29 1) = some σ' ∧ rCx b g lo rd tp n T U' σ' at2 ∧ bP b lo g U' σ' bo ∧ at' ≤ at2 ∧ U.1 ≤ U'.1 ∧ U'.1 ≤ U.1 + 4 * (at2 - at') + 8 ∧ U.2.1 ≤ U'.2.1 ∧ U'.2.1 ≤ U.2.1 + 32 * (at2 - at') + 40 ∧ (∀ y, y < lo → U'.2.2 y = U.2.2 y) ∧ mSm bS bR σ σ' ∧ ∀ c, bCn σ c → bCn σ' (c + 1))) := by
  have ho : uOld U := h.2.2.2.2.2.1
  have hlo : b ≤ lo := h.2.2.2.2.2.2.1
  have hal := h.le
  have sS : ∀ k, tS k → bS k := fun k z => Or.inl z
  have sR : ∀ k, tR k → bR k := fun k z => Or.inl z
  obtain ⟨kr, st, va, wv, sg, c1, -⟩ := k_kind h
  obtain ⟨rv, gl, al, B, -, -, -, -, hb0⟩ := hP.rvx
  obtain ⟨r0, U0, p1, p2, p3, p4, p5, p6⟩ := hP.rov ho hlo h29
  have hc0 : rCx b g lo rd tp n T U0 σ at' := h.kw p3 (u_nrr c1 hb0 (by decide))
  obtain ⟨kr0, st0, va0, wv0, sg0, c0, -⟩ := k_kind hc0
  obtain ⟨U1, σ1, at1, v1, v2, v3⟩ := k_go (N := N) hc0 h6 hN
  have al1 := v3.1.le
  obtain ⟨-, -, v3c, v3d, v3e, -⟩ := id v3
  have hc1 : rCx b g lo rd tp n T U1 (mSet σ1 29 1) at1 := v3.1.sg (fun k hk => upd_n (by omega)) rfl rfl
  have hP1 : bP b lo g U1 (mSet σ1 29 1) bo := (p2.kw (v3.kw.mono (W' := oW rd U0.1) (fun x _ z => Or.inl z)) c0 p4).sg (fun k k1 k2 => by
    by_cases e : k = 29
    · subst e
      rfl
    · show upd σ1.1 29 1 k = upd σ.1 29 1 k
      rw [upd_n e, upd_n e, v3.f (by omega)]) (fun j _ hj => v3.r hj)
  have k01 : ∀ y, y < lo → U1.2.2 y = U.2.2 y := fun y hy => (v3.kw.1 y hy).trans (p3.1 y hy)
  have l01 := v3.kw.2.2.2.2.1
  have z01 := v3.kw.2.2.2.2.2
  have s01 : mSm bS bR σ (mSet σ1 29 1) := (v3.b.mono sS sR).trans (mSm.set (Or.inr (by decide)))
  refine ⟨σ1, v2, ?_⟩
  have C0 : f_X4_readRover N b g U bo (some rd) = f_X4_readRover_22 N b g bo U1 (some rd) := by
    unfold f_X4_readRover
    rw [r0, p_bs, if_pos rfl, p1, p_bs, p_bs, if_pos (v_is c0), v1, p_bs]
  have fin : ∀ {u : UH} {s0 s1 s2 : MS} {x at3 : Nat} {U' : UH}, rEx lo bS bR (4 * (n - at3) + 1) (32 * (n - at3) + 8) u s0 x U' s1 → mSm bS bR σ s0 → (∀ y, y < lo → u.2.2 y = U.2.2 y) → U.1 ≤ u.1 → u.1 ≤ U.1 + 4 * (at3 - at') → U.2.1 ≤ u.2.1 → u.2.1 ≤ U.2.1 + 32 * (at3 - at') → at' ≤ at3 → at3 ≤ n → mSm bS bR s1 s2 → s2.1 13 = s1.1 13 → s2.1 9 = s1.1 9 → s2.1 10 = s1.1 10 → rEx lo bS bR (4 * (n - at') + 9) (32 * (n - at') + 60) U σ x U' s2 := fun e1 e2 e3 e4 e5 e6 e7 e8 e8' e9 q1 q2 q3 => (e1.aft e2 e3 e4 (by omega) e6 (by omega)).er q1 q2 q3 e9
  have es : ∀ {s : MS} {k : Nat} {x : Int32}, 24 ≤ k → k ≤ 28 → mSm bS bR s (mSet s k x) := fun h1 h2 => mSm.set (Or.inr (by omega))
  have eu : ∀ {s : MS} {k i : Nat} {x : Int32}, 24 ≤ k → i ≤ 13 → (mSet s k x).1 i = s.1 i := fun h1 h2 => upd_n (by omega)
  rw [C0]
  unfold mRv f_X4_readRover_22 f_X4_readRover_28
  obtain ⟨kr1, st1, va1, wv1, sg1, c11, -⟩ := k_kind hc1
  rw [p_bs, if_pos (v_is c11)]
  have ct0 : ∀ k, k = 22 ∨ k = 23 → (mSet σ1 29 1).1 k = σ.1 k := fun k hk => (upd_n (by omega)).trans (v3.f (by omega))
  rcases k_rv1 (N := N) (j := 16) (j' := 44) (i := 0) (a := 2) (c := 6) hc1 hP1 (by decide) (by decide +kernel) (by decide +kernel) (by decide) (by decide) (by decide) (fun q B q1 q2 z => ⟨⟨q1, q2⟩, z.2⟩) hN with ⟨x, U', t1, t2, r, r2, e1, e2, e3, e4⟩ | ⟨B0, C0, D0, p0s, q0s, a0s, q0, e1, e1', e2, e3, e4, e5, h0c, h0P, b1, b2, b3, b4, b5, b6, b7, b8⟩
  · left
    have t13 : (mSet t2 24 r2).1 13 = 1 := by
      obtain ⟨k, p, -, z, -⟩ := e4
      exact z
    have e3 : f_number N t1 2 6 = some (r2, t2) := e3
    refine ⟨x, U', (mSet (mSet (mSet (mSet (mSet t2 24 r2) 25 1) 26 1) 27 0) 28 0), ?_, ?_, fin (at3 := at1) e4 s01 k01 (by omega) (by omega) (by omega) (by omega) (by omega) al1 ((((es (k := 25) (x := 1) (by decide) (by decide)).trans (es (k := 26) (x := 1) (by decide) (by decide))).trans (es (k := 27) (x := 0) (by decide) (by decide))).trans (es (k := 28) (x := 0) (by decide) (by decide))) rfl rfl rfl⟩
    · rcases e1 with e1 | ⟨W1, e1, e1', e5⟩
      · rw [e1, q_xv1]
      · have e5 : f_X5_whole N b g W1 rd 2 6 = some (.inl (x, U')) := e5
        rw [e1, q_xv2, p_bs, if_pos e1', e5, q_ux1]
    · unfold mSg
      rw [e2, q_mc, e3, q_mc, p_let, m_mustE (show (mSet t2 24 r2).1 13 = 1 from t13), q_mc, m_numE (show (mSet t2 24 r2).1 13 = 1 from t13), q_mc, p_let, m_mustE (show (mSet (mSet t2 24 r2) 25 1).1 13 = 1 from t13), q_mc, m_numE (show (mSet (mSet t2 24 r2) 25 1).1 13 = 1 from t13), q_mc, p_let, m_mustE (show (mSet (mSet (mSet t2 24 r2) 25 1) 26 1).1 13 = 1 from t13), q_mc, m_numE (show (mSet (mSet (mSet t2 24 r2) 25 1) 26 1).1 13 = 1 from t13), q_mc, p_let, m_mustE (show (mSet (mSet (mSet (mSet t2 24 r2) 25 1) 26 1) 27 0).1 13 = 1 from t13), q_mc, m_numE (show (mSet (mSet (mSet (mSet t2 24 r2) 25 1) 26 1) 27 0).1 13 = 1 from t13), q_mc, p_let]
  · have e2 : f_X5_whole N b g B0 rd 2 6 = some (.inr (iI q0, C0)) := e2
    have e5 : f_number N p0s 2 6 = some (iI q0, q0s) := e5
    have e3 : uPut b C0 bo 3 3 (.int (iI q0)) = some D0 := e3
    obtain ⟨s0, hs0⟩ : ∃ s' : MS, s' = mSet q0s 24 (iI q0) := ⟨_, rfl⟩
    have h0c : rCx b g lo rd tp n T D0 s0 a0s := by rw [hs0]; exact h0c
    have h0P : bP b lo g D0 s0 bo := by rw [hs0]; exact h0P
    have m0s : mSm bS bR σ s0 := by rw [hs0]; exact s01.trans b7
    have k0s : ∀ y, y < lo → D0.2.2 y = U.2.2 y := fun y hy => (b6 y hy).trans (k01 y hy)
    have n0s := h0c.le
    have f0s : ∀ k, k = 22 ∨ k = 23 ∨ k = 29 → s0.1 k = (mSet σ1 29 1).1 k := fun k hk => by rw [hs0]; exact b8 k hk
    obtain ⟨kr0', st0', va0', wv0', sg0', c0x, -⟩ := k_kind h0c
    have u1 : U.1 ≤ D0.1 ∧ D0.1 ≤ U.1 + 4 * (a0s - at') ∧ U.2.1 ≤ D0.2.1 ∧ D0.2.1 ≤ U.2.1 + 32 * (a0s - at') ∧ at' ≤ a0s := by omega
    unfold f_X4_readRover_36 f_X4_readRover_45
    rw [e1, q_xv2, p_bs, if_pos e1', e2, q_ux2, p_bs, e3, p_bs, p_bs, if_pos (v_is c0x)]
    have M0 : mSg N (pTx 44) 2 6 24 (mSg N (pTx 45) 1 999 25 (mSg N (pTx 46) 1 300 26 (mSg N (pTx 47) 0 300 27 (mSg N (pTx 48) 0 99 28 (fun s => some s))))) (mSet σ1 29 1) = mSg N (pTx 45) 1 999 25 (mSg N (pTx 46) 1 300 26 (mSg N (pTx 47) 0 300 27 (mSg N (pTx 48) 0 99 28 (fun s => some s)))) s0 := by
      conv => lhs; unfold mSg
      rw [e4, q_mc, e5, q_mc, p_let, ← hs0]
      rfl
    rw [M0]
    rcases k_rv1 (N := N) (j := 17) (j' := 45) (i := 1) (a := 1) (c := 999) h0c h0P (by decide) (by decide +kernel) (by decide +kernel) (by decide) (by decide) (by decide) (fun q B q1 q2 z => ⟨z.1, ⟨q1, q2⟩, z.2.2⟩) hN with ⟨x, U', t1, t2, r, r2, e1, e2, e3, e4⟩ | ⟨B1, C1, D1, p1s, q1s, a1s, q1, e1, e1', e2, e3, e4, e5, h1c, h1P, b1, b2, b3, b4, b5, b6, b7, b8⟩
    · left
      have t13 : (mSet t2 25 r2).1 13 = 1 := by
        obtain ⟨k, p, -, z, -⟩ := e4
        exact z
      have e3 : f_number N t1 1 999 = some (r2, t2) := e3
      refine ⟨x, U', (mSet (mSet (mSet (mSet t2 25 r2) 26 1) 27 0) 28 0), ?_, ?_, fin (at3 := a0s) e4 m0s k0s (by omega) (by omega) (by omega) (by omega) (by omega) n0s (((es (k := 26) (x := 1) (by decide) (by decide)).trans (es (k := 27) (x := 0) (by decide) (by decide))).trans (es (k := 28) (x := 0) (by decide) (by decide))) rfl rfl rfl⟩
      · rcases e1 with e1 | ⟨W1, e1, e1', e5⟩
        · rw [e1, q_xv1]
        · have e5 : f_X5_whole N b g W1 rd 1 999 = some (.inl (x, U')) := e5
          rw [e1, q_xv2, p_bs, if_pos e1', e5, q_ux1]
      · unfold mSg
        rw [e2, q_mc, e3, q_mc, p_let, m_mustE (show (mSet t2 25 r2).1 13 = 1 from t13), q_mc, m_numE (show (mSet t2 25 r2).1 13 = 1 from t13), q_mc, p_let, m_mustE (show (mSet (mSet t2 25 r2) 26 1).1 13 = 1 from t13), q_mc, m_numE (show (mSet (mSet t2 25 r2) 26 1).1 13 = 1 from t13), q_mc, p_let, m_mustE (show (mSet (mSet (mSet t2 25 r2) 26 1) 27 0).1 13 = 1 from t13), q_mc, m_numE (show (mSet (mSet (mSet t2 25 r2) 26 1) 27 0).1 13 = 1 from t13), q_mc, p_let]
    · have e2 : f_X5_whole N b g B1 rd 1 999 = some (.inr (iI q1, C1)) := e2
      have e5 : f_number N p1s 1 999 = some (iI q1, q1s) := e5
      have e3 : uPut b C1 bo 3 4 (.int (iI q1)) = some D1 := e3
      obtain ⟨s1, hs1⟩ : ∃ s' : MS, s' = mSet q1s 25 (iI q1) := ⟨_, rfl⟩
      have h1c : rCx b g lo rd tp n T D1 s1 a1s := by rw [hs1]; exact h1c
      have h1P : bP b lo g D1 s1 bo := by rw [hs1]; exact h1P
      have m1s : mSm bS bR σ s1 := by rw [hs1]; exact m0s.trans b7
      have k1s : ∀ y, y < lo → D1.2.2 y = U.2.2 y := fun y hy => (b6 y hy).trans (k0s y hy)
      have n1s := h1c.le
      have f1s : ∀ k, k = 22 ∨ k = 23 ∨ k = 29 → s1.1 k = (mSet σ1 29 1).1 k := fun k hk => by rw [hs1]; exact (b8 k hk).trans (f0s k hk)
      obtain ⟨kr1', st1', va1', wv1', sg1', c1x, -⟩ := k_kind h1c
      have u1 : U.1 ≤ D1.1 ∧ D1.1 ≤ U.1 + 4 * (a1s - at') ∧ U.2.1 ≤ D1.2.1 ∧ D1.2.1 ≤ U.2.1 + 32 * (a1s - at') ∧ at' ≤ a1s := by omega
      unfold f_X4_readRover_54 f_X4_readRover_63
      rw [e1, q_xv2, p_bs, if_pos e1', e2, q_ux2, p_bs, e3, p_bs, p_bs, if_pos (v_is c1x)]
      have M1 : mSg N (pTx 45) 1 999 25 (mSg N (pTx 46) 1 300 26 (mSg N (pTx 47) 0 300 27 (mSg N (pTx 48) 0 99 28 (fun s => some s)))) s0 = mSg N (pTx 46) 1 300 26 (mSg N (pTx 47) 0 300 27 (mSg N (pTx 48) 0 99 28 (fun s => some s))) s1 := by
        conv => lhs; unfold mSg
        rw [e4, q_mc, e5, q_mc, p_let, ← hs1]
        rfl
      rw [M1]
      rcases k_rv1 (N := N) (j := 18) (j' := 46) (i := 2) (a := 1) (c := 300) h1c h1P (by decide) (by decide +kernel) (by decide +kernel) (by decide) (by decide) (by decide) (fun q B q1 q2 z => ⟨z.1, z.2.1, ⟨q1, q2⟩, z.2.2.2⟩) hN with ⟨x, U', t1, t2, r, r2, e1, e2, e3, e4⟩ | ⟨B2, C2, D2, p2s, q2s, a2s, q2, e1, e1', e2, e3, e4, e5, h2c, h2P, b1, b2, b3, b4, b5, b6, b7, b8⟩
      · left
        have t13 : (mSet t2 26 r2).1 13 = 1 := by
          obtain ⟨k, p, -, z, -⟩ := e4
          exact z
        have e3 : f_number N t1 1 300 = some (r2, t2) := e3
        refine ⟨x, U', (mSet (mSet (mSet t2 26 r2) 27 0) 28 0), ?_, ?_, fin (at3 := a1s) e4 m1s k1s (by omega) (by omega) (by omega) (by omega) (by omega) n1s ((es (k := 27) (x := 0) (by decide) (by decide)).trans (es (k := 28) (x := 0) (by decide) (by decide))) rfl rfl rfl⟩
        · rcases e1 with e1 | ⟨W1, e1, e1', e5⟩
          · rw [e1, q_xv1]
          · have e5 : f_X5_whole N b g W1 rd 1 300 = some (.inl (x, U')) := e5
            rw [e1, q_xv2, p_bs, if_pos e1', e5, q_ux1]
        · unfold mSg
          rw [e2, q_mc, e3, q_mc, p_let, m_mustE (show (mSet t2 26 r2).1 13 = 1 from t13), q_mc, m_numE (show (mSet t2 26 r2).1 13 = 1 from t13), q_mc, p_let, m_mustE (show (mSet (mSet t2 26 r2) 27 0).1 13 = 1 from t13), q_mc, m_numE (show (mSet (mSet t2 26 r2) 27 0).1 13 = 1 from t13), q_mc, p_let]
      · have e2 : f_X5_whole N b g B2 rd 1 300 = some (.inr (iI q2, C2)) := e2
        have e5 : f_number N p2s 1 300 = some (iI q2, q2s) := e5
        have e3 : uPut b C2 bo 3 5 (.int (iI q2)) = some D2 := e3
        obtain ⟨s2, hs2⟩ : ∃ s' : MS, s' = mSet q2s 26 (iI q2) := ⟨_, rfl⟩
        have h2c : rCx b g lo rd tp n T D2 s2 a2s := by rw [hs2]; exact h2c
        have h2P : bP b lo g D2 s2 bo := by rw [hs2]; exact h2P
        have m2s : mSm bS bR σ s2 := by rw [hs2]; exact m1s.trans b7
        have k2s : ∀ y, y < lo → D2.2.2 y = U.2.2 y := fun y hy => (b6 y hy).trans (k1s y hy)
        have n2s := h2c.le
        have f2s : ∀ k, k = 22 ∨ k = 23 ∨ k = 29 → s2.1 k = (mSet σ1 29 1).1 k := fun k hk => by rw [hs2]; exact (b8 k hk).trans (f1s k hk)
        obtain ⟨kr2', st2', va2', wv2', sg2', c2x, -⟩ := k_kind h2c
        have u1 : U.1 ≤ D2.1 ∧ D2.1 ≤ U.1 + 4 * (a2s - at') ∧ U.2.1 ≤ D2.2.1 ∧ D2.2.1 ≤ U.2.1 + 32 * (a2s - at') ∧ at' ≤ a2s := by omega
        unfold f_X4_readRover_72 f_X4_readRover_81
        rw [e1, q_xv2, p_bs, if_pos e1', e2, q_ux2, p_bs, e3, p_bs, p_bs, if_pos (v_is c2x)]
        have M2 : mSg N (pTx 46) 1 300 26 (mSg N (pTx 47) 0 300 27 (mSg N (pTx 48) 0 99 28 (fun s => some s))) s1 = mSg N (pTx 47) 0 300 27 (mSg N (pTx 48) 0 99 28 (fun s => some s)) s2 := by
          conv => lhs; unfold mSg
          rw [e4, q_mc, e5, q_mc, p_let, ← hs2]
          rfl
        rw [M2]
        rcases k_rv1 (N := N) (j := 19) (j' := 47) (i := 3) (a := 0) (c := 300) h2c h2P (by decide) (by decide +kernel) (by decide +kernel) (by decide) (by decide) (by decide) (fun q B q1 q2 z => ⟨z.1, z.2.1, z.2.2.1, ⟨q1, q2⟩, z.2.2.2.2⟩) hN with ⟨x, U', t1, t2, r, r2, e1, e2, e3, e4⟩ | ⟨B3, C3, D3, p3s, q3s, a3s, q3, e1, e1', e2, e3, e4, e5, h3c, h3P, b1, b2, b3, b4, b5, b6, b7, b8⟩
        · left
          have t13 : (mSet t2 27 r2).1 13 = 1 := by
            obtain ⟨k, p, -, z, -⟩ := e4
            exact z
          have e3 : f_number N t1 0 300 = some (r2, t2) := e3
          refine ⟨x, U', (mSet (mSet t2 27 r2) 28 0), ?_, ?_, fin (at3 := a2s) e4 m2s k2s (by omega) (by omega) (by omega) (by omega) (by omega) n2s (es (k := 28) (x := 0) (by decide) (by decide)) rfl rfl rfl⟩
          · rcases e1 with e1 | ⟨W1, e1, e1', e5⟩
            · rw [e1, q_xv1]
            · have e5 : f_X5_whole N b g W1 rd 0 300 = some (.inl (x, U')) := e5
              rw [e1, q_xv2, p_bs, if_pos e1', e5, q_ux1]
          · unfold mSg
            rw [e2, q_mc, e3, q_mc, p_let, m_mustE (show (mSet t2 27 r2).1 13 = 1 from t13), q_mc, m_numE (show (mSet t2 27 r2).1 13 = 1 from t13), q_mc, p_let]
        · have e2 : f_X5_whole N b g B3 rd 0 300 = some (.inr (iI q3, C3)) := e2
          have e5 : f_number N p3s 0 300 = some (iI q3, q3s) := e5
          have e3 : uPut b C3 bo 3 6 (.int (iI q3)) = some D3 := e3
          obtain ⟨s3, hs3⟩ : ∃ s' : MS, s' = mSet q3s 27 (iI q3) := ⟨_, rfl⟩
          have h3c : rCx b g lo rd tp n T D3 s3 a3s := by rw [hs3]; exact h3c
          have h3P : bP b lo g D3 s3 bo := by rw [hs3]; exact h3P
          have m3s : mSm bS bR σ s3 := by rw [hs3]; exact m2s.trans b7
          have k3s : ∀ y, y < lo → D3.2.2 y = U.2.2 y := fun y hy => (b6 y hy).trans (k2s y hy)
          have n3s := h3c.le
          have f3s : ∀ k, k = 22 ∨ k = 23 ∨ k = 29 → s3.1 k = (mSet σ1 29 1).1 k := fun k hk => by rw [hs3]; exact (b8 k hk).trans (f2s k hk)
          obtain ⟨kr3', st3', va3', wv3', sg3', c3x, -⟩ := k_kind h3c
          have u1 : U.1 ≤ D3.1 ∧ D3.1 ≤ U.1 + 4 * (a3s - at') ∧ U.2.1 ≤ D3.2.1 ∧ D3.2.1 ≤ U.2.1 + 32 * (a3s - at') ∧ at' ≤ a3s := by omega
          unfold f_X4_readRover_90 f_X4_readRover_99
          rw [e1, q_xv2, p_bs, if_pos e1', e2, q_ux2, p_bs, e3, p_bs, p_bs, if_pos (v_is c3x)]
          have M3 : mSg N (pTx 47) 0 300 27 (mSg N (pTx 48) 0 99 28 (fun s => some s)) s2 = mSg N (pTx 48) 0 99 28 (fun s => some s) s3 := by
            conv => lhs; unfold mSg
            rw [e4, q_mc, e5, q_mc, p_let, ← hs3]
            rfl
          rw [M3]
          rcases k_rv1 (N := N) (j := 20) (j' := 48) (i := 4) (a := 0) (c := 99) h3c h3P (by decide) (by decide +kernel) (by decide +kernel) (by decide) (by decide) (by decide) (fun q B q1 q2 z => ⟨z.1, z.2.1, z.2.2.1, z.2.2.2.1, ⟨q1, q2⟩⟩) hN with ⟨x, U', t1, t2, r, r2, e1, e2, e3, e4⟩ | ⟨B4, C4, D4, p4s, q4s, a4s, q4, e1, e1', e2, e3, e4, e5, h4c, h4P, b1, b2, b3, b4, b5, b6, b7, b8⟩
          · left
            have t13 : (mSet t2 28 r2).1 13 = 1 := by
              obtain ⟨k, p, -, z, -⟩ := e4
              exact z
            have e3 : f_number N t1 0 99 = some (r2, t2) := e3
            refine ⟨x, U', (mSet t2 28 r2), ?_, ?_, fin (at3 := a3s) e4 m3s k3s (by omega) (by omega) (by omega) (by omega) (by omega) n3s mSm.refl rfl rfl rfl⟩
            · rcases e1 with e1 | ⟨W1, e1, e1', e5⟩
              · rw [e1, q_xv1]
              · have e5 : f_X5_whole N b g W1 rd 0 99 = some (.inl (x, U')) := e5
                rw [e1, q_xv2, p_bs, if_pos e1', e5, q_ux1]
            · unfold mSg
              rw [e2, q_mc, e3, q_mc, p_let]
          · have e2 : f_X5_whole N b g B4 rd 0 99 = some (.inr (iI q4, C4)) := e2
            have e5 : f_number N p4s 0 99 = some (iI q4, q4s) := e5
            have e3 : uPut b C4 bo 3 7 (.int (iI q4)) = some D4 := e3
            obtain ⟨s4, hs4⟩ : ∃ s' : MS, s' = mSet q4s 28 (iI q4) := ⟨_, rfl⟩
            have h4c : rCx b g lo rd tp n T D4 s4 a4s := by rw [hs4]; exact h4c
            have h4P : bP b lo g D4 s4 bo := by rw [hs4]; exact h4P
            have m4s : mSm bS bR σ s4 := by rw [hs4]; exact m3s.trans b7
            have k4s : ∀ y, y < lo → D4.2.2 y = U.2.2 y := fun y hy => (b6 y hy).trans (k3s y hy)
            have n4s := h4c.le
            have f4s : ∀ k, k = 22 ∨ k = 23 ∨ k = 29 → s4.1 k = (mSet σ1 29 1).1 k := fun k hk => by rw [hs4]; exact (b8 k hk).trans (f3s k hk)
            obtain ⟨kr4', st4', va4', wv4', sg4', c4x, -⟩ := k_kind h4c
            have u1 : U.1 ≤ D4.1 ∧ D4.1 ≤ U.1 + 4 * (a4s - at') ∧ U.2.1 ≤ D4.2.1 ∧ D4.2.1 ≤ U.2.1 + 32 * (a4s - at') ∧ at' ≤ a4s := by omega
            unfold f_X4_readRover_107
            rw [e1, q_xv2, p_bs, if_pos e1', e2, q_ux2, p_bs, e3, p_bs]
            right
            refine ⟨D4, s4, a4s, rfl, ?_, h4c, h4P, by omega, by omega, by omega, by omega, by omega, k4s, m4s, fun c z => ?_⟩
            · unfold mSg
              rw [e4, q_mc, e5, q_mc, p_let, ← hs4]
            · obtain ⟨y1, y2, y3, z1, z2, z3, z4, z5, z6, z7⟩ := z
              have z3' : iI (y3 : Int) = iI 0 := z3.symm.trans h29
              rw [j_eq (by omega) (by omega) (by omega) (by omega)] at z3'
              exact ⟨y1, y2, 1, ((f4s 22 (by omega)).trans (ct0 22 (by omega))).trans z1, ((f4s 23 (by omega)).trans (ct0 23 (by omega))).trans z2, (f4s 29 (by omega)).trans rfl, z4, z5, by omega, by omega⟩
end K0s
