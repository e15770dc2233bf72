/-! PLAIN: a step of a plan: a choice, whole -/
def g_rd (N m : Nat) (x1 : Int32) (X : Option (Int32 × MS)) : Option MS :=
    mcall X fun r8 σ6 =>
    mlet (σ6.1 13) fun y9 =>
    if y9 = 0 then
    if r8 = 0 then
    f_reads_35 N (f_reads_4 N m) N σ6 x1 1 1
    else
    mlet (x1 + 1) fun y12 =>
    f_reads_4 N m σ6 y12 1
    else
    some σ6
section L1s
variable {N b : Nat} {g : uEnv} {lo rd tp n pl bo mp nD nG np : Nat} {T : Nat → Nat} {rp rs ri rp' rs' ri' : roT} {U : UH} {σ : MS} {at' k cs d : Nat}
theorem g_rdE {m : Nat} {x1 r : Int32} {s : MS} (h : s.1 13 = 1) : g_rd N m x1 (some (r, s)) = some s := by
  unfold g_rd
  rw [q_mc, p_let, if_neg (by rw [h]; exact n10)]
theorem rEx.e13 {lo cc ss : Nat} {S R : Nat → Prop} {U U' : UH} {σ σ' : MS} {x : Nat} (h : rEx lo S R cc ss U σ x U' σ') : σ'.1 13 = 1 := by
  obtain ⟨k, p, -, h, -⟩ := h
  exact h
theorem pTo.dn {lo rd pl np k d c s at' at2 : Nat} {U U' : UH} {σ σ' : MS} (h : pTo lo rd pl np k (d + 1) c s U σ at' U' σ' at2) : pTo lo rd pl np k d c s U σ at' U' σ' at2 := h.mono (Nat.le_refl _) (Nat.le_succ d) (Nat.le_refl _) (Nat.le_refl _)
/-- the choice, its ground read -/
theorem k_ifT {dq gr m : Nat} (hri : ∀ U a, ri U a = fo_X11_inner N b g rp' rs' ri' U a) (hP : d < 6 → plOk N b g lo rd tp n T pl bo mp nD nG np rp' (d + 1)) (h : pP b g lo rd tp n T pl bo mp nD nG np U σ at' k cs d) (hd : d ≤ 6) (hk : k + 2 ≤ 2 * cs) (hm : 42 ≤ m + cs) (hdq : dq < nD) (hgr : gr < nG) (hN : 2000 ≤ N) : (∃ (x : Nat) (U' : UH) (σ' : MS), f_X11_step_233 N b g rp rs ri pl U (iI dq) (iI gr) = some (.inl (x, U')) ∧ g_rd N m (iI d) (g_opn N σ (iI d) (iI dq) (iI gr)) = some σ' ∧ rEp lo np (4 * (n - at') + (4 * (40 - cs) + 5)) (32 * (n - at') + (80 * (40 - cs) + 20)) U σ x U' σ') ∨ (∃ (ea : Nat) (U' : UH) (σ' : MS) (at2 k' cs' m' n' th ot : Nat), f_X11_step_233 N b g rp rs ri pl U (iI dq) (iI gr) = some (.inr (some ea, U')) ∧ g_rd N m (iI d) (g_opn N σ (iI d) (iI dq) (iI gr)) = f_reads_35 N (f_reads_4 N m') n' σ' (iI d) 1 1 ∧ pP b g lo rd tp n T pl bo mp nD nG np U' σ' at2 k' cs' d ∧ (m' + cs' = m + cs ∧ N + d ≤ n' + 6 ∧ cs ≤ cs' ∧ k < k' ∧ k' + 2 * cs ≤ k + 2 + 2 * cs') ∧ U.1 ≤ ea ∧ U'.2.2 ea = some (.inr (11, [.int (iI dq), .int (iI gr), .ref th, .ref ot])) ∧ pTo lo rd pl np k d (4 * (cs' - cs) + 2) (80 * (cs' - cs) + 7) U σ at' U' σ' at2 ∧ (np < 8 → vEl b (pF U U') g U' (fun i => σ'.2.1 56 (512 * np + i)) nD nG (6 - d) ea k k')) := by
  obtain ⟨hr, hpl, hlp, -, -, -, -⟩ := id h
  have hal := hr.le
  have h13 : σ.1 13 = 0 := hr.2.2.2.2.2.2.2.2.2.1
  obtain ⟨i1, i2, i3⟩ := k_inn (N := N) (rp := rp') (rs := rs') (ri := ri') (k2 := k) (d2 := d) h hd hN
  have ec : iI (d : Int) + 1 = iI ((d + 1 : Nat) : Int) := by
    rw [j1, i_add]
    rfl
  unfold f_X11_step_233
  rw [if_pos (v_is hpl), hri]
  by_cases h6 : σ.1 6 = 40
  rotate_left
  · obtain ⟨x, U', e1, e2⟩ := i1 h6
    left
    refine ⟨x, U', mEr σ 1 (σ.1 4), ?_, ?_, e2.mo (by omega) (by omega)⟩
    · rw [e1, q_ux1]
    · unfold g_opn
      rw [p_let, if_neg h6, p_let, m_wrong h13, q_mc]
      exact g_rdE rfl
  by_cases d6 : d = 6
  · obtain ⟨x, U', e1, e2⟩ := i2 h6 d6
    left
    refine ⟨x, U', mEr σ 5 (σ.1 4), ?_, ?_, e2.mo (by omega) (by omega)⟩
    · rw [e1, q_ux1]
    · unfold g_opn
      rw [p_let, if_pos h6, show (6 : Int32) = iI 6 from rfl, p_eq (by omega) (by omega) (by omega) (by omega) (by omega), p_let, m_wrong h13, q_mc]
      exact g_rdE rfl
  have hd6 : d < 6 := by omega
  obtain ⟨U1, σ1, at1, b1, b2, b3, b4, b5⟩ := i3 h6 hd6
  obtain ⟨σ2, c1, c2, c3, c4, c5, c6⟩ := m_thn (N := N) (dq := dq) (gr := gr) b3 hd6 (by omega) h6 b2
  have t12 : pTo lo rd pl np k d 0 0 U σ at' U1 σ2 at1 := b4.trans c3 (Nat.le_refl _) (Nat.le_refl _)
  have s13 : σ2.1 13 = 0 := c2.1.2.2.2.2.2.2.2.2.2.1
  have eM : g_rd N m (iI d) (g_opn N σ (iI d) (iI dq) (iI gr)) = f_reads_4 N m σ2 (iI ((d + 1 : Nat) : Int)) 1 := by
    unfold g_rd
    rw [c1, q_mc, p_let, if_pos s13, if_neg n10, p_let, ec]
  rw [b1, eM]
  unfold f_X11_inner_56
  rw [if_pos (v_is b3.2.1)]
  have al1 := b3.1.le
  rcases hP hd6 U1 σ2 at1 (k + 1) cs m c2 hm with ⟨x, U', σ', e1, e2, e3⟩ | ⟨a, U2, σ3, at2, k2, cs2, m2, n2, e1, e2, e3, e4, ⟨f1, f2, f3, f4, f5⟩, e6, e7, e8⟩
  · left
    refine ⟨x, U', σ', ?_, e2, t12.ex e3 al1 (by omega) (by omega)⟩
    rw [e1, q_ux1, q_ux1]
  rw [e1, q_ux2, e2]
  have csb : cs2 ≤ 40 := e3.2.2.2.1.2
  have al2 := e3.1.le
  obtain ⟨m2', hm2⟩ : ∃ q, m2 = q + 1 := ⟨m2 - 1, by omega⟩
  obtain ⟨n2', hn2⟩ : ∃ q, n2 = q + 2 := ⟨n2 - 2, by omega⟩
  subst hm2 hn2
  have t2 : pTo lo rd pl np k d (4 * (cs2 - cs)) (80 * (cs2 - cs)) U σ at' U2 σ3 at2 := (t12.trans e7 (by omega) (by omega)).mono (Nat.le_refl _) (Nat.le_refl _) (by omega) (by omega)
  rcases k_clo (N := N) (rp := rp') (rs := rs') (ri := ri') (k2 := k) (d2 := d + 1) (m := m2') (n' := n2' + 1) (a := a) e3 hd6 e4 hN with ⟨x, U', σ', g1, g2, g3⟩ | ⟨U3, σ4, at3, g1, g2, g3, g4, g5⟩
  · left
    refine ⟨x, U', σ', ?_, g2, t2.ex g3 al2 (by omega) (by omega)⟩
    rw [g1, q_ux1]
  rw [g1, q_ux2, g2]
  have al3 := g3.1.le
  obtain ⟨hr3, hpl3, -⟩ := id g3
  have o3 : uOld U3 := hr3.2.2.2.2.2.1
  have hlU3 : lo ≤ U3.1 := hr3.2.2.2.2.2.2.2.2.1
  have hlo : b ≤ lo := hr3.2.2.2.2.2.2.1
  have r62 : σ4.2.1 62 d = 0 := by
    rw [g5 62 (by decide), (e7.2.2.2.2.2.2 d (by omega)).2.2]
    exact c5
  have r60 : σ4.2.1 60 d = iI k := by
    rw [g5 60 (by decide), (e7.2.2.2.2.2.2 d (by omega)).1]
    exact c4
  have od4 : ∀ i, i < 512 * np + 4 * (k + 1) → σ4.2.1 56 i = σ2.2.1 56 i := fun i hi => by
    rw [g5 56 (by decide), e7.2.2.2.2.2.1 i hi]
  obtain ⟨U4, w1, w2, w3, w4, w5, w6⟩ := w_new (u := U3) (n := 4) (e := .inr (11, uDefs tyX13 4)) o3
  rw [u_df13] at w2
  obtain ⟨t34, p4⟩ := pTo.nw (k2 := k) (d2 := d + 1) g3 w3 w4 w5 w6
  have t24 : pTo lo rd pl np k (d + 1) 1 4 U2 σ3 at2 U4 σ4 at3 := (g4.trans t34 (Nat.le_refl _) (Nat.le_refl _)).mono (Nat.le_refl _) (Nat.le_refl _) (by omega) (by omega)
  obtain ⟨hr4, hpl4, -⟩ := id p4
  obtain ⟨kr4, st4, va4, wv4, sg4, cr4, -⟩ := k_kind hr4
  obtain ⟨ks1, ks2⟩ := k_skW (N := N) (j := 30) hr4 (by decide) (by decide +kernel) hN
  have e30 : pTx 37 = pTx 30 := by decide +kernel
  obtain ⟨kw1, kw2⟩ := k_word (N := N) (tx := pTx 37) hr4 (by decide +kernel) (by omega)
  obtain ⟨tx1, tx2⟩ := t_ix (a := (d : Int)) (n := 8) (k := d) rfl (by omega) (by omega)
  have l23 : U2.1 ≤ U3.1 := g4.1.2.2.2.2.1
  have l02 : U.1 ≤ U2.1 := t2.1.2.2.2.2.1
  unfold f_X11_step_237 f_X11_step_242
  rw [p_let, p_let, w1, v_gr hpl4 (k := 0) rfl, p_bs, p_bs, if_pos (v_is cr4)]
  unfold g_aft
  rw [if_pos tx1, p_let, tx2, if_pos r62]
  by_cases cE : isW σ4 (pTx 30)
  rotate_left
  · -- no other side
    rw [ks2 cE, q_uc, kw2 (by rw [e30]; exact cE), q_mc, if_pos rfl]
    unfold f_X11_step_256 f_X11_step_269 f_X11_step_273
    obtain ⟨v, f, v1, v2, v3⟩ := hr4.2.2.2.2.1.ls0
    obtain ⟨U5, x1, x2, x3, x4, x5, x6⟩ := l_new (N := N) (b := b) v1 v3 w4 (by omega)
    obtain ⟨t45, p5⟩ := pTo.nw (k2 := k) (d2 := d + 1) p4 x3 x4 x5 x6
    obtain ⟨U6, y1, y2, y3, y4, y5, y6⟩ := c_x13i (N := N) (b := b) (g := g) (x1 := iI dq) (x2 := iI gr) (x3 := a) (x4 := U4.1) ((x3 _ (by omega)).trans w2) (by omega) x4
    have kw6 : rKw lo (fun x => x = U3.1) U5 U6 := rKw.wr y3 rfl hlU3 ((x3 _ (by omega)).trans w2) (Or.inl ⟨_, _, rfl, by decide⟩) y4 y5 y6
    obtain ⟨kq, sq, vq, wq, gq, cq, -⟩ := k_kind hr3
    have nrd : rd ≠ U3.1 := by
      have := o3 _ _ cq
      omega
    have npl : pl ≠ U3.1 := by
      have := o3 _ _ hpl3
      omega
    have p6 := p5.kw kw6 nrd npl
    obtain ⟨σ5, z1, z2, z3, z4, z5⟩ := m_lnd (N := N) (s := k) (k4 := f_reads_4 N (m2' + 1)) (k35 := f_reads_35 N (f_reads_4 N (m2' + 1)) (n2' + 1)) p6 hd6 (by omega) (Or.inl ⟨r62, r60⟩)
    have t26 : pTo lo rd pl np k d (1 + 1) (4 + 3) U2 σ3 at2 U6 σ5 at3 := ((((t24.trans t45 (Nat.le_refl _) (Nat.le_refl _)).wr (c2 := 0) (s2 := 0) kw6 (fun x q => by omega) y5 y6).dn.trans z3 (Nat.le_refl _) (Nat.le_refl _))).mono (Nat.le_refl _) (Nat.le_refl _) (by omega) (by omega)
    right
    refine ⟨U3.1, U6, σ5, at3, k2, cs2, m2' + 1, n2' + 1, a, U4.1, ?_, z1, z2, ⟨by omega, by omega, by omega, by omega, by omega⟩, by omega, y2, (t2.trans t26 (Nat.le_refl _) (Nat.le_refl _)).mono (Nat.le_refl _) (Nat.le_refl _) (by omega) (by omega), fun hp => ?_⟩
    · rw [if_pos rfl, p_let, p_let, p_bs, x1, p_bs, p_bs, y1, p_bs]
    · obtain ⟨q0, q1, q2⟩ := c6 hp
      have pk : kF b (pF U1 U2) U2 U6 := t26.pk e3
      have l26 : U2.1 ≤ U6.1 := t26.1.2.2.2.2.1
      have l01 : U.1 ≤ U1.1 := t12.1.2.2.2.2.1
      have oo : ∀ i, i ≠ 4 * k + 3 → i < 4 * k2 → σ5.2.1 56 (512 * np + i) = σ3.2.1 56 (512 * np + i) := fun i j1 j2 => by
        rw [z5 _ (by omega), g5 56 (by decide)]
      have o2 : ∀ i, i < 4 * k + 3 → σ5.2.1 56 (512 * np + i) = σ2.2.1 56 (512 * np + i) := fun i j1 => by
        rw [z5 _ (by omega), od4 _ (by omega)]
      have vq := vPf.od (od' := fun i => σ5.2.1 56 (512 * np + i)) _ _ _ _ (vPf.p2 (F' := pF U U6) pk (fun x q => ⟨by have := q.1; omega, by have := q.2; omega⟩) _ _ _ _ (e8 hp)) (fun i i1 i2 => oo i (by omega) i2)
      rw [show 7 - (d + 1) = 6 - d by omega] at vq
      refine Or.inr ⟨dq, gr, a, U4.1, k2, y2, hdq, hgr, (o2 _ (by omega)).trans q0, (o2 _ (by omega)).trans q1, (o2 _ (by omega)).trans q2, ⟨by omega, Nat.le_refl _⟩, vq, Or.inl ⟨z4 hp, rfl, v, 0, 0, f, ?_, ⟨by omega, by omega⟩, fun _ => ⟨v1, v2⟩, fun q => absurd rfl q⟩⟩
      obtain ⟨l1, l2, l3⟩ := x2
      have lU4 : U4.1 ≠ U3.1 := by omega
      exact ⟨(y3 _ lU4).trans l1, (y3 _ (by omega)).trans l2, l3⟩
  · -- the other side
    obtain ⟨U5, σ5, at5, x1, x2, x3⟩ := ks1 cE
    rw [x1, q_uc, kw1 (by rw [e30]; exact cE), q_mc, if_neg n10]
    unfold f_X11_step_256
    have p5 := p4.st x3
    have t25 : pTo lo rd pl np k (d + 1) 1 4 U2 σ3 at2 U5 σ5 at5 := (t24.trans (pTo.st x3) (Nat.le_refl _) (Nat.le_refl _)).mono (Nat.le_refl _) (Nat.le_refl _) (by omega) (by omega)
    have al5 := p5.1.le
    have f13 : σ5.1 13 = 0 := p5.1.2.2.2.2.2.2.2.2.2.1
    obtain ⟨u1, -, u3⟩ := k_inn (N := N) (rp := rp') (rs := rs') (ri := ri') (k2 := k2) (d2 := d + 1) p5 hd hN
    rw [if_neg n10, if_pos (v_is p5.2.1), hri]
    have tU5 : pTo lo rd pl np k d (4 * (cs2 - cs) + 1) (80 * (cs2 - cs) + 4) U σ at' U5 σ5 at5 := (t2.trans t25 (Nat.le_refl _) (by omega)).mono (Nat.le_refl _) (Nat.le_refl _) (by omega) (by omega)
    by_cases h40 : σ5.1 6 = 40
    rotate_left
    · obtain ⟨x, U', y1, y2⟩ := u1 h40
      left
      refine ⟨x, U', mEr σ5 1 (σ5.1 4), ?_, ?_, tU5.ex y2 al5 (by omega) (by omega)⟩
      · rw [y1, q_ux1]
      · unfold f_reads_83
        rw [if_neg n10, x2, q_mv, p_let, if_neg h40, p_let, m_wrong f13, q_mc]
    obtain ⟨U6, σ6, at6, y1, y2, y3, y4, y5⟩ := u3 h40 hd6
    have r60' : σ6.2.1 60 d = iI k := by
      rw [y5 60 (by decide), x3.r (by decide)]
      exact r60
    obtain ⟨σ7, z1, z2, z3, z4, z5, z6, z7⟩ := m_els (N := N) (m := m2' + 1) (n' := n2') (s := k) y3 hd6 (by omega) (by omega) x2 h40 y2 r60'
    have t27 : pTo lo rd pl np k d 1 4 U2 σ3 at2 U6 σ7 at6 := ((t25.trans y4 (by omega) (Nat.le_refl _)).dn.trans z3 (Nat.le_refl _) (Nat.le_refl _)).mono (Nat.le_refl _) (Nat.le_refl _) (by omega) (by omega)
    have tU7 : pTo lo rd pl np k d (4 * (cs2 - cs) + 1) (80 * (cs2 - cs) + 4) U σ at' U6 σ7 at6 := (t2.trans t27 (Nat.le_refl _) (Nat.le_refl _)).mono (Nat.le_refl _) (Nat.le_refl _) (by omega) (by omega)
    have al6 := z2.1.le
    rw [y1, z1]
    unfold f_X11_inner_56
    rw [if_pos (v_is y3.2.1)]
    rcases hP hd6 U6 σ7 at6 (k2 + 1) cs2 (m2' + 1) z2 (by omega) with ⟨x, U', σ', l1, l2, l3⟩ | ⟨a', U7, σ8, at7, k3, cs3, m3, n3, l1, l2, l3, l4, ⟨j1', j2', j3', j4', j5'⟩, l6, l7, l8⟩
    · left
      refine ⟨x, U', σ', ?_, l2, tU7.ex l3 al6 (by omega) (by omega)⟩
      rw [l1, q_ux1, q_ux1]
    rw [l1, q_ux2, l2]
    have csb3 : cs3 ≤ 40 := l3.2.2.2.1.2
    have al7 := l3.1.le
    obtain ⟨m3', hm3⟩ : ∃ q, m3 = q + 1 := ⟨m3 - 1, by omega⟩
    obtain ⟨n3', hn3⟩ : ∃ q, n3 = q + 1 := ⟨n3 - 1, by omega⟩
    subst hm3 hn3
    have tU8 : pTo lo rd pl np k d (4 * (cs3 - cs) + 1) (80 * (cs3 - cs) + 4) U σ at' U7 σ8 at7 := (tU7.trans l7 (by omega) (by omega)).mono (Nat.le_refl _) (Nat.le_refl _) (by omega) (by omega)
    have t28 : pTo lo rd pl np k d (1 + 4 * (cs3 - cs2)) (4 + 80 * (cs3 - cs2)) U2 σ3 at2 U7 σ8 at7 := t27.trans l7 (by omega) (by omega)
    rcases k_clo (N := N) (rp := rp') (rs := rs') (ri := ri') (k2 := k3) (d2 := d + 1) (m := m3') (n' := n3') (a := a') l3 hd6 l4 hN with ⟨x, U', σ', q1, q2, q3⟩ | ⟨U8, σ9, at8, q1, q2, q3, q4, q5⟩
    · left
      refine ⟨x, U', σ', ?_, q2, tU8.ex q3 al7 (by omega) (by omega)⟩
      rw [q1, q_ux1]
    rw [q1, q_ux2, q2]
    have r62' : σ9.2.1 62 d = 1 := by
      rw [q5 62 (by decide), (l7.2.2.2.2.2.2 d (by omega)).2.2]
      exact z5
    have r61' : σ9.2.1 61 d = iI k2 := by
      rw [q5 61 (by decide), (l7.2.2.2.2.2.2 d (by omega)).2.1]
      exact z4
    unfold f_X11_step_263 f_X11_step_273 g_aft
    rw [if_pos tx1, p_let, tx2, if_neg (show ¬ σ9.2.1 62 d = 0 by rw [r62']; exact n10)]
    -- the cell of the choice is still empty
    have nrd4 : U3.1 ≠ rd := by
      have := o3 _ _ (k_kind hr3).choose_spec.choose_spec.choose_spec.choose_spec.choose_spec.1
      omega
    have npl4 : U3.1 ≠ pl := by
      have := o3 _ _ hpl3
      omega
    have o4' : uOld U4 := w4
    have t48 : pTo lo rd pl np k2 (d + 1) 0 0 U4 σ4 at3 U6 σ6 at6 := ((pTo.st x3).trans y4 (Nat.le_refl _) (Nat.le_refl _))
    have l46 : U4.1 ≤ U6.1 := t48.1.2.2.2.2.1
    have l67 : U6.1 ≤ U7.1 := l7.1.2.2.2.2.1
    have nW : ∀ {V : UH}, U3.1 < V.1 → ¬ pWr rd pl V.1 U3.1 := fun {V} hV q => by
      rcases q with q | q | q
      · exact nrd4 q
      · exact npl4 q
      · omega
    have e6' : U6.2.2 U3.1 = some (.inr (11, [.int 0, .int 0, .null, .null])) := t48.1.at w4 w2 (by decide) (nW (by omega))
    have e7' : U7.2.2 U3.1 = some (.inr (11, [.int 0, .int 0, .null, .null])) := l7.1.at y3.1.2.2.2.2.2.1 e6' (by decide) (nW (by omega))
    have e8' : U8.2.2 U3.1 = some (.inr (11, [.int 0, .int 0, .null, .null])) := q4.1.at l3.1.2.2.2.2.2.1 e7' (by decide) (nW (by omega))
    have o8 : uOld U8 := q3.1.2.2.2.2.2.1
    obtain ⟨U9, a1, a2, a3, a4, a5, a6⟩ := c_x13i (N := N) (b := b) (g := g) (x1 := iI dq) (x2 := iI gr) (x3 := a) (x4 := a') e8' (by omega) o8
    have kw9 : rKw lo (fun x => x = U3.1) U8 U9 := rKw.wr a3 rfl hlU3 e8' (Or.inl ⟨_, _, rfl, by decide⟩) a4 a5 a6
    have p9 := q3.kw kw9 (Ne.symm nrd4) (Ne.symm npl4)
    obtain ⟨σ10, b1', b2', b3', b4', b5'⟩ := m_lnd (N := N) (s := k2) (k4 := f_reads_4 N (m3' + 1)) (k35 := f_reads_35 N (f_reads_4 N (m3' + 1)) n3') p9 hd6 (by omega) (Or.inr ⟨r62', r61'⟩)
    have t2f : pTo lo rd pl np k d (1 + 4 * (cs3 - cs2)) (4 + 80 * (cs3 - cs2)) U2 σ3 at2 U9 σ10 at8 := (((t28.trans q4 (by omega) (by omega)).wr (c2 := 0) (s2 := 0) kw9 (fun x q => by omega) a5 a6).trans b3' (by omega) (Nat.le_refl _)).mono (Nat.le_refl _) (Nat.le_refl _) (by omega) (by omega)
    right
    refine ⟨U3.1, U9, σ10, at8, k3, cs3, m3' + 1, n3', a, a', ?_, b1', b2', ⟨by omega, by omega, by omega, by omega, by omega⟩, by omega, a2, (t2.trans t2f (Nat.le_refl _) (Nat.le_refl _)).mono (Nat.le_refl _) (Nat.le_refl _) (by omega) (by omega), fun hp => ?_⟩
    · rw [p_bs, a1, p_bs]
    · obtain ⟨q0, q1', q2'⟩ := c6 hp
      obtain ⟨s0, s1⟩ := z6 hp
      have pk2 : kF b (pF U1 U2) U2 U9 := t2f.pk e3
      have l29 : U2.1 ≤ U9.1 := t2f.1.2.2.2.2.1
      have l01 : U.1 ≤ U1.1 := t12.1.2.2.2.2.1
      have l78 : U7.1 ≤ U8.1 := q4.1.2.2.2.2.1
      have pk78 : kF b (pF U6 U7) U7 U8 := q4.pk l3
      have pk89 : kF b (pF U6 U7) U8 U9 := ⟨fun x c fs hF hx hc => (a3 x (by have := hF.1; omega)).trans hx, fun x q z hF hx => (a3 x (u_nlr hx e8')).trans hx⟩
      have o9 : ∀ i, i ≠ 4 * k2 + 3 → σ10.2.1 56 (512 * np + i) = σ8.2.1 56 (512 * np + i) := fun i j1 => by
        rw [b5' _ (by omega), q5 56 (by decide)]
      have o7 : ∀ i, i < 4 * (k2 + 1) → σ8.2.1 56 (512 * np + i) = σ7.2.1 56 (512 * np + i) := fun i j1 => l7.2.2.2.2.2.1 _ (by omega)
      have o6 : ∀ i, i ≠ 4 * k + 3 → i < 4 * k2 → σ7.2.1 56 (512 * np + i) = σ3.2.1 56 (512 * np + i) := fun i j1 j2 => by
        rw [z7 _ (by omega) (by omega), y5 56 (by decide), x3.r (by decide), g5 56 (by decide)]
      have o10 : ∀ i, i ≠ 4 * k + 3 → i < 4 * k2 → σ10.2.1 56 (512 * np + i) = σ3.2.1 56 (512 * np + i) := fun i j1 j2 => by
        rw [o9 i (by omega), o7 i (by omega), o6 i j1 j2]
      have o2 : ∀ i, i < 4 * k + 3 → σ10.2.1 56 (512 * np + i) = σ2.2.1 56 (512 * np + i) := fun i j1 => by
        rw [o10 i (by omega) (by omega), e7.2.2.2.2.2.1 _ (by omega)]
      have vq := vPf.od (od' := fun i => σ10.2.1 56 (512 * np + i)) _ _ _ _ (vPf.p2 (F' := pF U U9) pk2 (fun x q => ⟨by have := q.1; omega, by have := q.2; omega⟩) _ _ _ _ (e8 hp)) (fun i i1 i2 => o10 i (by omega) i2)
      have vq2 := vPf.od (od' := fun i => σ10.2.1 56 (512 * np + i)) _ _ _ _ (vPf.p2 (F' := pF U U9) (pk78.trans pk89) (fun x q => ⟨by have := q.1; omega, by have := q.2; omega⟩) _ _ _ _ (l8 hp)) (fun i i1 i2 => o9 i (by omega))
      rw [show 7 - (d + 1) = 6 - d by omega] at vq vq2
      refine Or.inr ⟨dq, gr, a, a', k2, a2, hdq, hgr, (o2 _ (by omega)).trans q0, (o2 _ (by omega)).trans q1', (o2 _ (by omega)).trans q2', ⟨by omega, by omega⟩, vq, Or.inr ⟨?_, ?_, b4' hp, by omega, vq2⟩⟩
      · show σ10.2.1 56 (512 * np + (4 * k + 3)) = _
        rw [o9 _ (by omega), o7 _ (by omega)]
        exact s1
      · show σ10.2.1 56 (512 * np + 4 * k2) = _
        rw [o9 _ (by omega), o7 _ (by omega)]
        exact s0
end L1s
