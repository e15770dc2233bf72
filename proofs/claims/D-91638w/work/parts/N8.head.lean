/-! PLAIN: a step of a plan: the head of a choice -/
/-- what a stretch of reading a plan keeps; orders below k and rows below d stay -/
def pTo (lo rd pl np k d c s : Nat) (U : UH) (σ : MS) (at' : Nat) (U' : UH) (σ' : MS) (at2 : Nat) : Prop := rKw lo (pWr rd pl U.1) U U' ∧ at' ≤ at2 ∧ U'.1 ≤ U.1 + 4 * (at2 - at') + c ∧ U'.2.1 ≤ U.2.1 + 32 * (at2 - at') + s ∧ mSm pS pRw σ σ' ∧ (∀ i, i < 512 * np + 4 * k → σ'.2.1 56 i = σ.2.1 56 i) ∧ ∀ i, i < d → σ'.2.1 60 i = σ.2.1 60 i ∧ σ'.2.1 61 i = σ.2.1 61 i ∧ σ'.2.1 62 i = σ.2.1 62 i
section K7s
variable {N b : Nat} {g : uEnv} {lo rd tp n pl bo mp nD nG np : Nat} {T : Nat → Nat} {rp rs ri : roT} {U U' U'' : UH} {σ σ' σ'' : MS} {at' at2 at3 k cs d k2 d2 c s c2 s2 : Nat}
theorem pTo.refl (ho : uOld U) : pTo lo rd pl np k d 0 0 U σ at' U σ at' := ⟨rKw.refl ho, Nat.le_refl _, by omega, by omega, mSm.refl, fun _ _ => rfl, fun _ _ => ⟨rfl, rfl, rfl⟩⟩
theorem pTo.trans (h : pTo lo rd pl np k d c s U σ at' U' σ' at2) (h' : pTo lo rd pl np k2 d2 c2 s2 U' σ' at2 U'' σ'' at3) (hk : k ≤ k2) (hd : d ≤ d2) : pTo lo rd pl np k d (c + c2) (s + s2) U σ at' U'' σ'' at3 := by
  obtain ⟨a1, a2, a3, a4, a5, a6, a7⟩ := h
  obtain ⟨b1, b2, b3, b4, b5, b6, b7⟩ := h'
  have l1 := a1.2.2.2.2.1
  refine ⟨a1.trans (b1.mono (fun x _ z => ?_)), by omega, by omega, by omega, a5.trans b5, fun i hi => (b6 i (by omega)).trans (a6 i hi), fun i hi => ?_⟩
  · rcases z with z | z | z
    · exact Or.inl (Or.inl z)
    · exact Or.inl (Or.inr (Or.inl z))
    · exact Or.inr (by omega)
  · obtain ⟨x1, x2, x3⟩ := a7 i hi
    obtain ⟨y1, y2, y3⟩ := b7 i (by omega)
    exact ⟨y1.trans x1, y2.trans x2, y3.trans x3⟩
theorem pTo.mono (h : pTo lo rd pl np k2 d2 c s U σ at' U' σ' at2) (hk : k ≤ k2) (hd : d ≤ d2) (hc : c ≤ c2) (hs : s ≤ s2) : pTo lo rd pl np k d c2 s2 U σ at' U' σ' at2 := by
  obtain ⟨a1, a2, a3, a4, a5, a6, a7⟩ := h
  exact ⟨a1, a2, by omega, by omega, a5, fun i hi => a6 i (by omega), fun i hi => a7 i (by omega)⟩
theorem pTo.st (h : rSt b g lo rd tp n T U σ at' U' σ' at2) : pTo lo rd pl np k d 0 0 U σ at' U' σ' at2 := by
  obtain ⟨-, -, v3, v4, v5, -⟩ := id h
  refine ⟨h.kw.mono (fun x _ z => Or.inl z), v3, by omega, by omega, h.b.mono (fun k z => Or.inl z) (fun j z => Or.inl z), fun i _ => ?_, fun i _ => ⟨?_, ?_, ?_⟩⟩
  · rw [h.r (by decide)]
  · rw [h.r (by decide)]
  · rw [h.r (by decide)]
  · rw [h.r (by decide)]
theorem pTo.ex {x c3 s3 : Nat} (h : pTo lo rd pl np k d c s U σ at' U' σ' at2) (hx : rEp lo np (4 * (n - at2) + c2) (32 * (n - at2) + s2) U' σ' x U'' σ'') (hl : at2 ≤ n) (hc : c + c2 ≤ c3) (hs : s + s2 ≤ s3) : rEp lo np (4 * (n - at') + c3) (32 * (n - at') + s3) U σ x U'' σ'' := by
  obtain ⟨a1, a2, a3, a4, a5, a6⟩ := h
  exact ⟨hx.1.aft a5 a1.1 a1.2.2.2.2.1 (by omega) a1.2.2.2.2.2 (by omega), fun i hi => (hx.2 i hi).trans (a6.1 i (by omega))⟩
theorem rEr.pp {x : Nat} (h : rEr lo rd n U σ at' x U' σ') : rEp lo np (4 * (n - at') + 1) (32 * (n - at') + 8) U σ x U' σ' := h.ep (Nat.le_refl _) (Nat.le_refl _)
theorem pP.kw (h : pP b g lo rd tp n T pl bo mp nD nG np U σ at' k cs d) {W : Nat → Prop} (hk : rKw lo W U U') (h1 : ¬ W rd) (h2 : ¬ W pl) : pP b g lo rd tp n T pl bo mp nD nG np U' σ at' k cs d := by
  obtain ⟨hr, hpl, hlp, a1, a2, a3, hO⟩ := h
  exact ⟨hr.kw hk h1, hk.at hr.2.2.2.2.2.1 hpl (by decide) h2, hlp, a1, a2, a3, hO.keep hk.1 rfl rfl rfl rfl⟩
theorem pP.ne (h : pP b g lo rd tp n T pl bo mp nD nG np U σ at' k cs d) : rd ≠ pl := by
  obtain ⟨hr, hpl, -⟩ := h
  obtain ⟨kr, st, va, wv, sg, c1, -⟩ := k_kind hr
  exact u_nrr c1 hpl (by decide)
theorem pP.st (h : pP b g lo rd tp n T pl bo mp nD nG np U σ at' k cs d) (z : rSt b g lo rd tp n T U σ at' U' σ' at2) : pP b g lo rd tp n T pl bo mp nD nG np U' σ' at2 k cs d := by
  have hn := h.ne
  obtain ⟨hr, hpl, hlp, ⟨a1, a1'⟩, ⟨a2, a2'⟩, ⟨a3, a3'⟩, hO⟩ := h
  exact ⟨z.1, z.kw.at hr.2.2.2.2.2.1 hpl (by decide) (Ne.symm hn), hlp, ⟨(z.f (by decide)).trans a1, a1'⟩, ⟨(z.f (by decide)).trans a2, a2'⟩, ⟨(z.f (by decide)).trans a3, a3'⟩, hO.keep z.kw.1 (z.f (by decide)) (z.f (by decide)) (z.r (by decide)) (z.r (by decide))⟩
theorem pP.kp (h : pP b g lo rd tp n T pl bo mp nD nG np U σ at' k cs d) (hr' : rCx b g lo rd tp n T U' σ at') (z : rKp lo rd U U') : pP b g lo rd tp n T pl bo mp nD nG np U' σ at' k cs d := by
  have hn := h.ne
  obtain ⟨hr, hpl, hlp, a1, a2, a3, hO⟩ := h
  have kw : rKw lo (fun x => x = rd) U U' := z.w rfl
  exact ⟨hr', kw.at hr.2.2.2.2.2.1 hpl (by decide) (Ne.symm hn), hlp, a1, a2, a3, hO.keep kw.1 rfl rfl rfl rfl⟩
/-- behind the ground's name -/
def g_opn (N : Nat) (σ37 : MS) (x1 y11 r34 : Int32) : Option (Int32 × MS) :=
    mlet (σ37.1 6) fun y39 =>
    if y39 = 40 then
    if x1 = 6 then
    mlet (σ37.1 4) fun y55 =>
    mcall (f_wrong N σ37 5 y55) fun r59 σ57 =>
    if mBit r59 = true then
    some (r59, σ57)
    else
    none
    else
    mcallv (f_next N σ37) fun σ43 =>
    mcall (f_order N σ43 1 y11 r34 0) fun r49 σ47 =>
    if mIn x1 (mLen 60) = true then mlet (mArr σ47 60 x1.toNatClampNeg r49) fun σ51 =>
    if mIn x1 8 = true then mlet (mArr σ51 62 x1.toNatClampNeg (vp_nar .boolean 0)) fun σ54 =>
    some (1, σ54)
    else none
    else none
    else
    mlet (σ37.1 4) fun y61 =>
    mcall (f_wrong N σ37 1 y61) fun r65 σ63 =>
    if mBit r65 = true then
    some (r65, σ63)
    else
    none
theorem k_grd (h : pP b g lo rd tp n T pl bo mp nD nG np U σ at' k cs d) {wa m : Nat} {f : Nat → Int32} (h8 : σ.1 8 = iI m) (m8 : m ≤ 8) (vs : vSt lo U wa m f) (hf : ∀ k, k < m → f k = σ.2.1 11 k) (hN : 2000 ≤ N) : σ.1 22 = iI nG ∧ uIs U bo 3 = true ∧ ((∃ r, r < nG ∧ r < 8 ∧ f_X4_groundOf N b g U bo (some wa) = some (iI r, U) ∧ f_find N 14 15 σ (iI nG) = some (iI r, σ)) ∨ (f_X4_groundOf N b g U bo (some wa) = some (-1, U) ∧ f_find N 14 15 σ (iI nG) = some (-1, σ))) := by
  obtain ⟨hr, hpl, hlp, a1, a2, a3, ⟨gl, arr, m', mc, xs, ga, nm, fs, q1, q2, q3, q4, q5, q6, q7, q8⟩, -⟩ := h
  obtain ⟨A, Bn⟩ := c_grOf (N := N) (b := b) (g := g) (σ := σ) (j1 := 14) (j2 := 15) (al := 0) (ga := ga) (nm := nm) q4 q5 (fun d hd => by
    obtain ⟨e1, e2, e3, e4, v, q, hh, z, f, e5, e6, e7, e8, e9, e10⟩ := q8 d hd
    exact ⟨e1, e3, q, f, ⟨v, hh, z, e6, e7⟩, e8, e9, e10⟩) vs.g hf m8 (by omega) (by omega) N 0 (by omega) (by omega)
  have A : ∀ r, r < nG → 0 ≤ r → nmM σ 14 15 m r → (∀ e, 0 ≤ e → e < r → ¬ nmM σ 14 15 m e) → f_X4_groundOf N b g U bo (some wa) = some (iI r, U) := A
  have Bn : (∀ e, 0 ≤ e → e < nG → ¬ nmM σ 14 15 m e) → f_X4_groundOf N b g U bo (some wa) = some (-1, U) := Bn
  have fnd := m_find3 (N := N) (σ := σ) (j1 := 14) (j2 := 15) (cnt := nG) h8 m8 (by rw [show mLen 14 = 64 from rfl]; omega) (by rw [show mLen 14 = 64 from rfl]; omega) (by rw [show mLen 15 = 8 from rfl]; omega) (by rw [show mLen 15 = 8 from rfl]; omega) (fun d hd => by
    obtain ⟨e1, e2, e3, e4, v, q, hh, z, f, e5, e6, e7, e8, e9, e10⟩ := q8 d hd
    exact ⟨q, e9, e8⟩) (by omega) N 0 (by omega) (by omega) (fun e he => by omega)
  have eF : f_find N 14 15 σ (iI nG) = f_find_3 N 14 15 N σ (iI nG) (iI ((0 : Nat) : Int)) := rfl
  refine ⟨q7, v_is q4, ?_⟩
  rw [eF]
  rcases fnd with ⟨r, r1, r2, r3, r4⟩ | ⟨r3, r4⟩
  · exact Or.inl ⟨r, r1, by omega, A r r1 (Nat.zero_le _) r2 (fun e _ he => r3 e he), r4⟩
  · exact Or.inr ⟨Bn (fun e _ he => r3 e he), r4⟩
theorem k_stI {y : Int32} (h : pP b g lo rd tp n T pl bo mp nD nG np U σ at' k cs d) (h6 : σ.1 6 = 2) (hN : 2000 ≤ N) : (∃ (x : Nat) (U' : UH) (σ' : MS) (r : Int32), f_X11_step_53 N b g rp rs ri pl U none = some (.inl (x, U')) ∧ f_opens_30 N σ (iI d) y 1 = some (r, σ') ∧ rEp lo np (4 * (n - at') + 2) (32 * (n - at') + 10) U σ x U' σ') ∨ (∃ (U' : UH) (σ' : MS) (at2 dq gr : Nat), f_X11_step_53 N b g rp rs ri pl U none = f_X11_step_233 N b g rp rs ri pl U' (iI dq) (iI gr) ∧ f_opens_30 N σ (iI d) y 1 = g_opn N σ' (iI d) (iI dq) (iI gr) ∧ pP b g lo rd tp n T pl bo mp nD nG np U' σ' at2 k (cs + 1) d ∧ dq < nD ∧ gr < nG ∧ pTo lo rd pl np k d 0 0 U σ at' U' σ' at2) := by
  have hh := h
  obtain ⟨hr, hpl, hlp, ⟨h59, h59'⟩, ⟨h58, h58'⟩, ⟨h40, h40'⟩, hO⟩ := hh
  have h13 : σ.1 13 = 0 := hr.2.2.2.2.2.2.2.2.2.1
  have hal := hr.le
  obtain ⟨kr, st, va, wv, sg, c1, -⟩ := k_kind hr
  have sS : ∀ k, tS k → pS k := fun k z => Or.inl z
  have sR : ∀ k, tR k → pRw k := fun k z => Or.inl z
  unfold f_X11_step_53 f_opens_30
  rw [v_gi hpl (k := 3) rfl, p_bs, p_let, h59]
  by_cases c40 : cs = 40
  · obtain ⟨U', f1, f2⟩ := c_fault (N := N) (k := 5) hr
    left
    refine ⟨U.1, U', mEr σ 5 (σ.1 4), 0, ?_, ?_, f2.ep (by omega) (by omega)⟩
    · unfold f_X11_step_70
      rw [show (40 : Int32) = iI 40 from rfl, p_eq (by omega) (by omega) (by omega) (by omega) (by omega), v_gr hpl (k := 0) rfl, p_bs, p_bs, if_pos (v_is c1), f1, q_uc, p_bs]
    · rw [show (40 : Int32) = iI 40 from rfl, p_eq (by omega) (by omega) (by omega) (by omega) (by omega), p_let, m_wrong h13, q_mc]
      rfl
  obtain ⟨U2, U3, σ3, at3, e1, e2, e3, e4, e5, e6, e7, e8, e9, e10, e11, e12⟩ := k_cnt (N := N) h h6 (by omega) hN
  have ec : iI (cs : Int) + 1 = iI ((cs + 1 : Nat) : Int) := by
    rw [j1, i_add]
    rfl
  obtain ⟨hr3, hpl3, -, ⟨g59, g59'⟩, ⟨g58, g58'⟩, ⟨g40, g40'⟩, hO3⟩ := id e6
  have al3 := hr3.le
  have s13 : σ3.1 13 = 0 := hr3.2.2.2.2.2.2.2.2.2.1
  have t3 : pTo lo rd pl np k d 0 0 U σ at' U3 σ3 at3 := ⟨e7, e8, by omega, by omega, e11, fun i _ => by rw [e12 56 (by decide)], fun i _ => ⟨by rw [e12 60 (by decide)], by rw [e12 61 (by decide)], by rw [e12 62 (by decide)]⟩⟩
  obtain ⟨kr3, st3, va3, wv3, sg3, c3, -, -, -, k3, -, -, vn, -⟩ := k_kind hr3
  rw [show (40 : Int32) = iI 40 from rfl, n_eq (by omega) (by omega) (by omega) (by omega) (by omega), n_eq (by omega) (by omega) (by omega) (by omega) (by omega), p_bs, ec, e1, p_bs, e2, p_bs, p_bs, if_pos e3, e4, p_bs, p_let, ec, p_let, e5, q_mv, if_neg n10, p_let]
  unfold f_X11_step_88
  rw [q_cn, v_gr hpl3 (k := 0) rfl, p_bs, p_bs, v_gr c3 (k := 5) rfl, p_bs, p_let]
  by_cases h3 : σ3.1 6 = 3
  · obtain ⟨q, v1, v2, v3⟩ := vn h3
    subst v1
    obtain ⟨-, dl, darr, dm, dmc, dxs, w0, w1, w2, w3, w4, w5, fs', b1, b2, b3, b4, b5, b8, b9⟩ := hO3
    rw [if_pos (k3.mp h3), if_pos h3, p_bs, p_bs, v_gi c3 (k := 4) rfl, p_bs, v_gr hpl3 (k := 2) rfl, p_bs, p_bs, v_gr b4 (k := 6) rfl, p_bs, p_bs, if_pos (v_is b5.1), l_size b5, q_uc, p_let, p_let, v2, b9]
    by_cases cq : q < nD
    · obtain ⟨U4, σ4, at4, f1, f2, f3⟩ := k_go (N := N) hr3 (by
        rw [h3]
        decide) hN
      have p4 := e6.st f3
      have t4 : pTo lo rd pl np k d 0 0 U σ at' U4 σ4 at4 := t3.trans (pTo.st f3) (Nat.le_refl _) (Nat.le_refl _)
      obtain ⟨hr4, hpl4, -⟩ := id p4
      obtain ⟨kr4, st4, va4, wv4, sg4, c4, -⟩ := k_kind hr4
      have al4 := hr4.le
      rw [p_lt (by omega) (by omega) (by omega) (by omega) (by omega), p_lt (by omega) (by omega) (by omega) (by omega) (by omega), v_gr hpl3 (k := 0) rfl, p_bs, p_bs, if_pos (v_is c3), f1, p_bs, f2, q_mv]
      unfold f_X11_step_188
      rw [v_gr hpl4 (k := 0) rfl, p_bs, p_bs, if_pos (v_is c4)]
      rcases k_must (N := N) (j := 28) (j' := 36) hr4 (by decide) (by decide +kernel) (by decide +kernel) hN with ⟨U5, σ5, at5, x1, x2, x3⟩ | ⟨x, U5, σ5, x1, x2, x3⟩
      · have p5 := p4.st x3
        have t5 : pTo lo rd pl np k d 0 0 U σ at' U5 σ5 at5 := t4.trans (pTo.st x3) (Nat.le_refl _) (Nat.le_refl _)
        obtain ⟨hr5, hpl5, -⟩ := id p5
        obtain ⟨kr5, st5, va5, wv5, sg5, c5, -⟩ := k_kind hr5
        have al5 := hr5.le
        have f13 : σ5.1 13 = 0 := hr5.2.2.2.2.2.2.2.2.2.1
        obtain ⟨i1, i2⟩ := m_isName (N := N) hr5 hN
        rw [x1, q_xv2, x2, q_mc, p_let, if_pos f13]
        unfold f_X11_step_197
        rw [v_gr hpl5 (k := 1) rfl, p_bs, v_gr hpl5 (k := 0) rfl, p_bs, p_bs, if_pos (v_is c5)]
        rcases k_name (N := N) hr5 hN with ⟨hn, U6, wa, m, f, y1, hc6, kp, t1, t2, lwa, h8, m1', m8, vs, hf⟩ | ⟨hn, x, U6, y1, y2⟩
        · have p6 := p5.kp hc6 kp
          have t6 : pTo lo rd pl np k d 0 0 U σ at' U6 σ5 at5 := t5.trans (c2 := 0) (s2 := 0) ⟨(kp.w (W := fun x => x = rd) rfl).mono (fun x _ z => Or.inl z), Nat.le_refl _, by omega, by omega, mSm.refl, fun _ _ => rfl, fun _ _ => ⟨rfl, rfl, rfl⟩⟩ (Nat.le_refl k) (Nat.le_refl d)
          obtain ⟨hr6, hpl6, -⟩ := id p6
          obtain ⟨kr6, st6, va6, wv6, sg6, c6, -⟩ := k_kind hr6
          obtain ⟨z1, z2, z3⟩ := k_grd (N := N) p6 h8 m8 vs (fun k hk => (hf k hk).1) hN
          rw [y1, q_ux2, i1 hn, q_mc, if_neg n10, p_let, z1]
          unfold f_X11_step_208
          rw [p_bs, if_pos z2]
          rcases z3 with ⟨r, r1, r8, r2, r3⟩ | ⟨r2, r3⟩
          · obtain ⟨U7, σ7, at7, l1, l2, l3⟩ := k_go (N := N) hr6 (by
              rw [hn.1]
              decide) hN
            right
            refine ⟨U7, σ7, at7, q, r, ?_, ?_, p6.st l3, cq, r1, t6.trans (pTo.st l3) (Nat.le_refl _) (Nat.le_refl _)⟩
            · rw [r2, q_uc, if_neg (show ¬ iI (r : Int) = -1 by
                rw [j_m1, j_eq (by omega) (by omega) (by omega) (by omega)]
                omega), v_gr hpl6 (k := 0) rfl, p_bs, p_bs, if_pos (v_is c6), l1, p_bs]
            · rw [r3, q_mc, if_pos (show 0 ≤ iI (r : Int) by
                rw [j0, j_le (by omega) (by omega) (by omega) (by omega)]
                omega), l2, q_mv]
              rfl
          · obtain ⟨U7, l1, l2⟩ := c_fault (N := N) (k := 2) hr6
            left
            refine ⟨U6.1, U7, mEr σ5 2 (σ5.1 4), 0, ?_, ?_, t6.ex l2.pp al5 (by omega) (by omega)⟩
            · unfold f_X11_step_225
              rw [r2, q_uc, if_pos rfl, v_gr hpl6 (k := 0) rfl, p_bs, p_bs, if_pos (v_is c6), l1, q_uc, p_bs]
            · rw [r3, q_mc, if_neg (by decide), p_let, m_wrong f13, q_mc]
              rfl
        · left
          refine ⟨x, U6, mEr σ5 1 (σ5.1 4), 0, ?_, ?_, t5.ex y2.pp al5 (by omega) (by omega)⟩
          · rw [y1, q_ux1]
          · rw [i2 hn, q_mc, if_pos rfl, p_let, m_wrong f13, q_mc]
            rfl
      · left
        refine ⟨x, U5, σ5, 0, ?_, ?_, t4.ex x3.pp al4 (by omega) (by omega)⟩
        · rw [x1, q_xv1]
        · rw [x2, q_mc, p_let, if_neg (by rw [x3.f.1]; exact n10)]
    · obtain ⟨U', f1, f2⟩ := c_fault (N := N) (k := 2) hr3
      left
      refine ⟨U3.1, U', mEr σ3 2 (σ3.1 4), 0, ?_, ?_, t3.ex f2.pp al3 (by omega) (by omega)⟩
      · unfold f_X11_step_180
        rw [n_lt (by omega) (by omega) (by omega) (by omega) (by omega), v_gr hpl3 (k := 0) rfl, p_bs, p_bs, if_pos (v_is c3), f1, q_uc, p_bs]
      · rw [n_lt (by omega) (by omega) (by omega) (by omega) (by omega), p_let, m_wrong s13, q_mc]
        rfl
  · obtain ⟨U', f1, f2⟩ := c_fault (N := N) (k := 1) hr3
    left
    refine ⟨U3.1, U', mEr σ3 1 (σ3.1 4), 0, ?_, ?_, t3.ex f2.pp al3 (by omega) (by omega)⟩
    · unfold f_X11_step_149
      rw [if_neg (fun q => h3 (k3.mpr q)), p_bs, p_bs, if_pos (v_is c3), f1, q_uc, p_bs]
    · rw [if_neg h3, p_let, m_wrong s13, q_mc]
      rfl
end K7s
