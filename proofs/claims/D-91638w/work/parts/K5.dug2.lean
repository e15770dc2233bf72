/-! PLAIN: both dig -/
section H8s
variable {N b : Nat} {g : uEnv} {A : pA} {ad sa : Nat → Nat} {U : UH} {lab : Nat → Nat} {σ : MS} {ou : Nat} {u0 : UH}
theorem k_dug {mpv ptv : Value} {a : Nat} (hx : U.2.2 (ad 0) = some (xO ad σ (.ref a) mpv ptv)) (hI : xSi b g A ad sa (qA g (ad 4) b u0 ou) U lab σ (.ref a) mpv ptv) (hN : 40000000000000 ≤ N) : ∃ (U' : UH) (lab' : Nat → Nat) (r' : Nat → Int32) (p li oa w nT : Nat) (ta : Nat → Nat) (fo : Nat → Int64) (D : Nat → Nat) (dc ds : Nat), f_X1_pit N b g U (ad 0) = some (some p, U') ∧ f_digs N (mT σ 0) = some (mRow (mSet (mT σ 0) 69 1) 68 r') ∧ U'.2.2 (ad 0) = some (xO ad σ (.ref a) mpv (.ref p)) ∧ xSi b g A ad sa (qA g (ad 4) b u0 ou) U' lab' (mRow (mSet (mT σ 0) 69 1) 68 r') (.ref a) mpv (.ref p) ∧ cPx U' p a li oa w nT ta (eT σ 30) (eT σ 31) (eT σ 32) ∧ U'.2.2 oa = some (.inl (3, 5 ^ w, .inr (.inl fo))) ∧ (∀ s, s < 5 ^ w → fo s = iL ((D s : Nat) : Int)) ∧ mTr σ w nT (eT σ 30) (eT σ 31) (eT σ 32) ∧ (∀ s, s < 5 ^ w → r' s = iI (pMo (D s))) ∧ gJ (5 ^ w) pInf nT w (nxP (eT σ 30) (eT σ 31) w) (ctC (eT σ 32)) D ∧ gF (5 ^ w) pInf nT w (nxP (eT σ 30) (eT σ 31) w) (ctC (eT σ 32)) D ∧ (∀ s, s < 5 ^ w → D s = pInf ∨ D s ≤ 2500000000) ∧ (∀ x, lab x = 10 → U'.2.2 x = U.2.2 x) ∧ U'.1 = U.1 + dc ∧ U'.2.1 = U.2.1 + ds ∧ dc ≤ 2 ∧ ds ≤ 15627 ∧ lab (ad 0) = 1 ∧ b ≤ ad 0 := by
  have hI' := hI
  obtain ⟨oU, hb, ⟨hl, hfr⟩, hE, hA, ⟨l0, h1, hS3, h2, h3⟩, hbm, hq1, hq2, hq3, hq4, hq5, hq6⟩ := hI'
  have ba0 : b ≤ ad 0 := lab_ge hl (by omega)
  have lt0 := oU _ _ hx
  have hbm' := hbm
  rcases hbm with ⟨e1, -⟩ | ⟨lo, hi, a', al, rv, nm, B, dead, q1, q2, q3, q4, q5, q6, q7, q8, q9, q10⟩
  · cases e1
  · injection q1 with q1
    subst q1
    obtain ⟨gl, arr, mm, mc, ga, xs, a1, a2, a3, v1, v2, v3⟩ := q3
    obtain ⟨l7, -, arr2, nT, m2, mc2, ta, xs2, y1, y2, y3, y4⟩ := hq1.at v1
    have hw := q4.1
    obtain ⟨w, hww⟩ : ∃ w : Nat, B.1 0 = (w : Int) := ⟨(B.1 0).toNat, by omega⟩
    rw [hww] at v1 hw
    have k24 : σ.1 24 = iI (w : Int) := by
      rw [← hww]
      exact q5.1.1
    have p6 := (p5_le (k := w) (by omega)).2
    have tr : ∀ t, t < nT → (∃ nv : Value, U.2.2 (ta t) = some (.inr (8, [nv, .int (iI (eT σ 30 t)), .int (iI (eT σ 31 t)), .int (iI (eT σ 32 t))]))) ∧ (-4 ≤ eT σ 30 t ∧ eT σ 30 t ≤ 4) ∧ (-4 ≤ eT σ 31 t ∧ eT σ 31 t ≤ 4) ∧ 1 ≤ eT σ 32 t ∧ eT σ 32 t ≤ 99 := fun t ht => by
      obtain ⟨-, z2, nv, e, o, c, z3, z4, z5, z6, z7, z8, z9⟩ := y4 t ht
      have e1 : eT σ 30 t = e := by
        unfold eT
        rw [z4]
        exact i_toInt ⟨by omega, by omega⟩
      have e2 : eT σ 31 t = o := by
        unfold eT
        rw [z5]
        exact i_toInt ⟨by omega, by omega⟩
      have e3 : eT σ 32 t = c := by
        unfold eT
        rw [z6]
        exact i_toInt ⟨by omega, by omega⟩
      rw [e1, e2, e3]
      exact ⟨⟨nv, z3⟩, z7, z8, z9⟩
    have hT : mTr σ w nT (eT σ 30) (eT σ 31) (eT σ 32) := ⟨k24, ⟨by omega, by omega⟩, y2, y3, fun t ht => ⟨i_of _, i_of _, i_of _, (tr t ht).2⟩⟩
    obtain ⟨D, hD, hF, hB⟩ := p_D (nT := nT) (w := w) (ev := eT σ 30) (ov := eT σ 31) (pv := eT σ 32) ⟨by omega, by omega⟩ (fun t ht => (tr t ht).2.2.2)
    have sg : pSg σ D := ⟨w, nT, k24, by omega, by omega, y2, y3, pSol_g hD hF, hB⟩
    obtain ⟨hc4, hm4⟩ := hq4
    have mod : ∃ r' : Nat → Int32, (∀ s, s < 5 ^ w → r' s = iI (pMo (D s))) ∧ f_digs N (mT σ 0) = some (mRow (mSet (mT σ 0) 69 1) 68 r') := by
      rcases hm4 with q | ⟨q, D', w', d1, d2, d3, d4⟩
      · have hT0 : mTr (mT σ 0) w nT (eT σ 30) (eT σ 31) (eT σ 32) := hT
        exact m_digs hT0 hN q hD hF hB
      · refine ⟨σ.2.1 68, fun s hs => ?_, ?_⟩
        · have ew : iI (w' : Int) = iI (w : Int) := d2.symm.trans k24
          rw [j_eq (by omega) (by omega) (by omega) (by omega)] at ew
          have ew' : w' = w := by omega
          subst ew'
          rw [d4 s hs, pSg_one d1 sg k24 (by omega) s hs]
        · have q' : (mT σ 0).1 69 = 1 := q
          rw [mSet_id q', show mRow (mT σ 0) 68 (σ.2.1 68) = mT σ 0 from mRow_id]
          unfold f_digs
          rw [q', if_neg n10]
    have kp9 : ∀ {x c : Nat} {fs : List Value}, U.2.2 x = some (.inr (c, fs)) → c ≠ 0 → x ≠ ad 0 := fun h hc => u_nrr h hx hc
    have cls : ∃ (U' : UH) (lab' : Nat → Nat) (p oa : Nat) (fo : Nat → Int64) (dc ds : Nat), f_X1_pit N b g U (ad 0) = some (some p, U') ∧ U'.2.2 (ad 0) = some (xO ad σ (.ref a) mpv (.ref p)) ∧ uOld U' ∧ (∀ x, x < U.1 → lab' x = lab x) ∧ (∀ x, U'.1 ≤ x → lab' x = 11) ∧ (∀ x, x < U.1 → x ≠ ad 0 → U'.2.2 x = U.2.2 x) ∧ lab' p = 9 ∧ lab' oa = 9 ∧ U'.2.2 p = some (.inr (17, [.ref a, .ref oa])) ∧ U'.2.2 oa = some (.inl (3, 5 ^ w, .inr (.inl fo))) ∧ (∀ s, s < 5 ^ w → fo s = iL ((D s : Nat) : Int)) ∧ U'.1 = U.1 + dc ∧ U'.2.1 = U.2.1 + ds ∧ dc ≤ 2 ∧ ds ≤ 15627 := by
      obtain ⟨u', fo, i1, i2, i3, i4, i5, i6, i7, i8⟩ := c_pinit (N := N) (b := b) (g := g) (w := w) (nT := nT) (D := D) ⟨by omega, by omega, y3⟩ v1 y1.1 (fun t ht => (y4 t ht).1) tr oU hb (by omega) hD hF
      have hx' : u'.2.2 (ad 0) = some (xO ad σ (.ref a) mpv ptv) := (i5 _ lt0).trans hx
      obtain ⟨u2, j1', j2, j3, j4, j5, j6⟩ := w_put (b := b) (k := 15) (v := va_rf (some U.1)) hx' ba0 (Nat.le_of_ble_eq_true rfl) i6
      have j2' : u2.2.2 (ad 0) = some (xO ad σ (.ref a) mpv (.ref U.1)) := j2
      have hxn : (uNew U 2 (.inr (17, uDefs tyX19 2))).2.2 (ad 0) = some (xO ad σ (.ref a) mpv ptv) := (u_nx (by omega)).trans hx
      have nw : f_X1_pit_21 N b g (ad 0) U = some (some U.1, u2) := by
        unfold f_X1_pit_21 f_X1_pit_25 f_X1_pit_33 f_X1_pit_36
        rw [p_let, p_let, x_bk hxn, p_bs, p_bs, i1, p_bs, p_bs, j1', p_bs, v_gr j2' (k := 15) rfl, p_bs]
      have res : f_X1_pit N b g U (ad 0) = some (some U.1, u2) → ∃ (U' : UH) (lab' : Nat → Nat) (p oa : Nat) (fo : Nat → Int64) (dc ds : Nat), f_X1_pit N b g U (ad 0) = some (some p, U') ∧ U'.2.2 (ad 0) = some (xO ad σ (.ref a) mpv (.ref p)) ∧ uOld U' ∧ (∀ x, x < U.1 → lab' x = lab x) ∧ (∀ x, U'.1 ≤ x → lab' x = 11) ∧ (∀ x, x < U.1 → x ≠ ad 0 → U'.2.2 x = U.2.2 x) ∧ lab' p = 9 ∧ lab' oa = 9 ∧ U'.2.2 p = some (.inr (17, [.ref a, .ref oa])) ∧ U'.2.2 oa = some (.inl (3, 5 ^ w, .inr (.inl fo))) ∧ (∀ s, s < 5 ^ w → fo s = iL ((D s : Nat) : Int)) ∧ U'.1 = U.1 + dc ∧ U'.2.1 = U.2.1 + ds ∧ dc ≤ 2 ∧ ds ≤ 15627 := fun hr => by
        refine ⟨u2, fun x => if x = U.1 ∨ x = U.1 + 1 then 9 else lab x, U.1, U.1 + 1, fo, 2, 2 + 5 ^ w, hr, j2', j4, fun x q => if_neg (by omega), fun x q => ?_, fun x q1 q2 => (j3 x q2).trans (i5 x q1), if_pos (Or.inl rfl), if_pos (Or.inr rfl), (j3 _ (by omega)).trans i2, (j3 _ (by omega)).trans i3, i4, by omega, by omega, by omega, by omega⟩
        show (if x = U.1 ∨ x = U.1 + 1 then 9 else lab x) = 11
        rw [if_neg (by omega)]
        exact hfr x (by omega)
      rcases hc4 with q | ⟨p, bo, oa, fs, c1, c2, c3, c4, c5, c6, c7⟩
      · subst q
        refine res ?_
        unfold f_X1_pit
        rw [v_gn hx (k := 15) rfl, p_bs, q_cn]
        exact nw
      · subst c1
        have e1 : f_X1_pit N b g U (ad 0) = if some bo = some a then f_X1_pit_36 N b g (ad 0) U else f_X1_pit_21 N b g (ad 0) U := by
          unfold f_X1_pit
          rw [v_gr hx (k := 15) rfl, p_bs, q_cs, p_bs, p_bs, v_gr c6 (k := 0) rfl, p_bs, x_bk hx, p_bs]
        by_cases eb : bo = a
        · subst eb
          obtain ⟨D', w', fo', d1, d2, d3, d4, d5⟩ := c7 rfl
          have ew : iI (w' : Int) = iI (w : Int) := d2.symm.trans k24
          rw [j_eq (by omega) (by omega) (by omega) (by omega)] at ew
          have ew' : w' = w := by omega
          subst ew'
          refine ⟨U, lab, p, oa, fo', 0, 0, ?_, hx, oU, fun _ _ => rfl, hfr, fun _ _ _ => rfl, c2, c3, c6, d4, fun s hs => ?_, rfl, rfl, by omega, by omega⟩
          · rw [e1, if_pos rfl]
            unfold f_X1_pit_36
            rw [v_gr hx (k := 15) rfl, p_bs]
          · rw [d5 s hs, pSg_one d1 sg k24 (by omega) s hs]
        · refine res ?_
          rw [e1, if_neg (fun z => eb (by injection z))]
          exact nw
    obtain ⟨r', m1, m3⟩ := mod
    obtain ⟨U', lab', p, oa, fo, dc, ds, g1, g2, g3, g4, g5, g6, g7, g8, g9, g10, g11, g12, g13, g14, g15⟩ := cls
    have keep : ∀ x, x < U.1 → lab x ≠ 1 → U'.2.2 x = U.2.2 x := fun x q1 q2 => g6 x q1 (fun z => q2 (by rw [z]; exact l0))
    have ns : ∀ {pr : Nat → Prop}, ¬ pr 1 → ¬ pr 11 → uLb lab lab' U U' pr := fun p1 p11 => hI.lb g4 (fun x hx hp => keep x hx (fun z => p1 (by rw [← z]; exact hp))) p11
    have hs : qSm (fun k => k ≠ 1 ∧ k ≠ 11) lab lab' U U' := ns (pr := fun k => k ≠ 1 ∧ k ≠ 11) (by decide) (by decide)
    have ca : U'.2.2 a = some (.inr (3, _)) := (g6 a (oU _ _ v1) (kp9 v1 (by decide))).trans v1
    have la : lab' a = 7 := (g4 a (oU _ _ v1)).trans l7
    have b1 : qBk g U' lab' σ (.ref a) := hq1.hp hs (by decide) (by decide) mQ_r
    have b3 : qPl g U' lab' σ (ad 4) := hq3.hp hs (by decide) (by decide) (by decide) mQ_r
    have bt : qPt U' lab' (mRow (mSet (mT σ 0) 69 1) 68 r') (.ref a) (.ref p) := ⟨Or.inr ⟨p, a, oa, _, rfl, g7, g8, la, ca, g9, fun _ => ⟨D, w, fo, sg, k24, by omega, g10, g11⟩⟩, Or.inr ⟨rfl, D, w, sg, k24, by omega, m1⟩⟩
    have sg' : xSi b g A ad sa (qA g (ad 4) b u0 ou) U' lab' (mRow (mSet (mT σ 0) 69 1) 68 r') (.ref a) mpv (.ref p) := hI.gen g3 (by omega) g4 g5 (fun x hx => keep x (by omega) (by rw [hl x hx]; decide)) (h1.hp (ns (by decide) (by decide))) (hS3.hp (ns (by decide) (by decide))) (h2.hp hl (ns (by decide) (by decide))) (h3.hp (ns (by decide) (by decide))) (hbm'.hp hl (by omega) (ns (by decide) (by decide))) ⟨b1, hq2, b3, bt, hq5.hp hs (by decide), hq6.hp hs (by decide)⟩
    have k2 : ∀ {x : Nat} {e : uE}, U.2.2 x = some e → x ≠ ad 0 → U'.2.2 x = some e := fun h hn => (g6 _ (oU _ _ h) hn).trans h
    refine ⟨U', lab', r', p, al, oa, w, nT, ta, fo, D, dc, ds, g1, m3, g2, sg', ⟨⟨by omega, by omega, y3⟩, g9, ⟨_, _, _, ca⟩, ⟨arr2, m2, mc2, xs2, ⟨k2 y1.1.1 (kp9 y1.1.1 (by decide)), k2 y1.1.2.1 (u_nlr y1.1.2.1 hx), y1.1.2.2⟩, fun t ht => (y4 t ht).1⟩, fun t ht => ?_⟩, g10, g11, hT, m1, hD, hF, hB, fun x q => keep x (hI.lt q (by decide)) (by omega), g12, g13, g14, g15, l0, ba0⟩
    obtain ⟨⟨nv, z1⟩, z2⟩ := tr t ht
    exact ⟨⟨nv, k2 z1 (kp9 z1 (by decide))⟩, z2⟩
theorem k_out (h : xSt b g A ad sa (qA g (ad 4) b u0 ou) U lab σ) (hN : 40000000000000 ≤ N) : ∃ r U' σ' dc ds, f_X1_out N b g U (ad 0) = some (r, U') ∧ f_out N σ = some (r, σ') ∧ xStep b g A ad sa (qA g (ad 4) b u0 ou) U lab U' σ' dc ds ∧ dc ≤ 2 ∧ ds ≤ 15627 := by
  have hQ : qOk (qA g (ad 4) b u0 ou) := qA_ok
  have pI : pInf = 1152921504606846976 := rfl
  obtain ⟨U1, n1, n2⟩ := k_ref (N := N) (t := 1) (by decide) hQ h
  have hi0 := k_is h
  obtain ⟨bkv, mpv, ptv, hx, hI⟩ := h
  have hI' := hI
  obtain ⟨oU, hb, ⟨hl, hfr⟩, hE, hA, ⟨l0, h1, hS3, h2, h3⟩, hbm, hq⟩ := hI'
  unfold f_X1_out f_out f_out_52
  rw [m_good, q_mv]
  rcases hbm with ⟨e1, e2, e3, e4, e5⟩ | ⟨lo, hi, a, al, rv, nm, B, dead, q1, q2, -⟩
  · subst e1
    refine ⟨-1, U1, mT σ 1, 0, 0, ?_, ?_, n2, by omega, by omega⟩
    · rw [x_bkn hx, p_bs, q_cn, if_pos hi0, n1, q_uc]
    · rw [if_pos (show (mT σ 0).1 12 = 0 from e3), m_no, q_mc]
  · subst q1
    have k12 : ¬ (mT σ 0).1 12 = 0 := by
      show ¬ σ.1 12 = 0
      rw [q2]
      decide
    obtain ⟨U', lab', r', p, li, oa, w, nT, ta, fo, D, dc, ds, g1, g2, hx', sg, hP, ho, hfo, hT, hr, hD, hF, hB, hmo, s1, s2, s3, s4, -, ba0⟩ := k_dug hx hI hN
    obtain ⟨hw, hp, ⟨r0, r2, fs, hbo⟩, -⟩ := id hP
    have p6 := (p5_le (k := w) (by omega)).2
    obtain ⟨-, -, -, -, -, ⟨-, -, -, -, ⟨l6, f, vI, w1, w2⟩⟩, -⟩ := id sg
    obtain ⟨v, hv⟩ : ∃ v : Nat → Nat, v = fun k => (vI k).toNat := ⟨_, rfl⟩
    have hvk : ∀ k, k < 6 → f k = iI (v k) ∧ (mRow (mSet (mT σ 0) 69 1) 68 r').2.1 47 k = iI (v k) ∧ v k ≤ 4 := fun k hk => by
      obtain ⟨p1, p2, p3, p4⟩ := w2 k hk
      have ev : ((v k : Nat) : Int) = vI k := by
        rw [hv]
        show (((vI k).toNat : Nat) : Int) = _
        omega
      rw [ev]
      exact ⟨p1, p2, by omega⟩
    have cs := c_state (N := N) (b := b) (g := g) (w := w) (v := v) hx' hbo w1 (by omega) (fun k hk => ⟨(hvk k hk).1, (hvk k hk).2.2⟩) (by omega)
    have ms := m_state (N := N) (σ := mRow (mSet (mT σ 0) 69 1) 68 r') (w := w) (v := v) hT.1 (by omega) (fun k hk => (hvk k hk).2) (by omega)
    have sl : pSt v w < 5 ^ w := pSt_lt w (fun k hk => (hvk k (by omega)).2.2)
    obtain ⟨s, hs⟩ : ∃ s : Nat, s = pSt v w := ⟨_, rfl⟩
    rw [← hs] at cs ms sl
    obtain ⟨t1, t2⟩ := t_ix (a := (s : Int)) (n := mLen 68) (k := s) rfl (by rw [show mLen 68 = 15625 from rfl]; omega) (by rw [show mLen 68 = 15625 from rfl]; omega)
    have Ld : uLdL U' oa 3 (iI (s : Int)) = some (fo s) := u_ldL ho (by omega) (by omega) (by omega)
    have cl : f_X1_out N b g U (ad 0) = if lg_cmp (iL ((D s : Nat) : Int)) (iL 1152921504606846976) = 0 then ucall (f_X1_refused N b g U' (ad 0) 6) (fun r17 u15 => some (r17, u15)) else ucall (f_X1_done N b g U' (ad 0) ((iL ((D s : Nat) : Int) >>> ((20 : Int32).toInt64 &&& 63)).toInt32)) (fun r13 u11 => some (r13, u11)) := by
      unfold f_X1_out f_X1_out_17 f_X1_out_52
      rw [x_bk hx, p_bs, q_cs, if_pos hi0, g1, q_uc, p_bs, v_gr hp (k := 1) rfl, p_bs, if_pos (x_is hx'), cs, q_uc, p_bs, Ld, p_bs, hfo s sl, if_pos (x_is hx'), if_pos (x_is hx')]
      rfl
    have md : f_digs N (mT σ 0) = some (mRow (mSet (mT σ 0) 69 1) 68 r') := g2
    unfold f_X1_out at cl
    rw [cl, if_neg k12, md, q_mv, ms, q_mc, if_pos t1, p_let, t2, show (mRow (mSet (mT σ 0) 69 1) 68 r').2.1 68 s = r' s from rfl, hr s sl]
    rcases hB s sl with c | c
    · have e1 : iI (pMo (D s)) = 2000000000 := by
        unfold pMo
        rw [if_pos c]
        rfl
      rw [p_c0 (by omega) (by omega) (by omega) (by omega) (by omega), x_ref (by decide) hx' ba0, q_uc, if_pos e1, m_no2, q_mc]
      exact ⟨-1, _, _, dc, ds, rfl, rfl, k_fins (σ1 := mRow (mSet (mT σ 6) 69 1) 68 r') hQ sg hx' l0 hmo s1 s2 rfl ⟨rfl, rfl, rfl, rfl, rfl, rfl, rfl⟩, s3, s4⟩
    · have nc := p_nc hD hF (fun t ht => (hT.2.2.2.2 t ht).2.2.2.2.2) (fun s hs h => by
        rcases hB s hs with q | q
        · omega
        · exact q) (D s) s (Nat.le_refl _) sl (by omega)
      have ep : pMo (D s) = ((10000 * (D s / 1048576) + D s % 1048576 : Nat) : Int) := if_neg (by omega)
      have e1 : ¬ iI (pMo (D s)) = 2000000000 := by
        rw [ep, show (2000000000 : Int32) = iI 2000000000 from rfl, j_eq (by omega) (by omega) (by omega) (by omega)]
        omega
      have e2 : iI (pMo (D s)) / 10000 = iI ((D s / 1048576 : Nat) : Int) := by
        rw [ep, show (10000 : Int32) = iI 10000 from rfl, i_div ⟨by omega, by omega⟩ ⟨by decide, by decide⟩ (Or.inl (by decide))]
        congr 1
        rw [Int.tdiv_eq_ediv_of_nonneg (by omega)]
        omega
      rw [n_c0 (by omega) (by omega) (by omega) (by omega) (by omega), t_sr20 c, x_don hx' ba0, q_uc, if_neg e1, e2]
      exact ⟨_, _, _, dc, ds, rfl, rfl, k_fins hQ sg hx' l0 hmo s1 s2 rfl ⟨rfl, rfl, rfl, rfl, rfl, rfl, rfl⟩, s3, s4⟩
end H8s
