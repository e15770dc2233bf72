/-! PLAIN: the calls dead, height, ground, told, forget -/
section D9
variable {N b : Nat} {g : uEnv} {A : pA} {ad sa : Nat → Nat} {Q : qT} {U : UH} {lab : Nat → Nat} {σ : MS}
theorem k_dead (hQ : qOk Q) (h : xSt b g A ad sa Q U lab σ) (x : Int32) : ∃ r U' σ', f_X1_dead N b g U (ad 0) x = some (r, U') ∧ f_dead N σ x = some (r, σ') ∧ xStep b g A ad sa Q U lab U' σ' 0 0 := by
  obtain ⟨U1, n1, n2⟩ := k_den (N := N) (t := 1) (by decide) hQ h
  obtain ⟨U2, n3, n4⟩ := k_den (N := N) (t := 2) (by decide) hQ h
  unfold f_X1_dead f_dead
  rw [m_good, q_mv]
  have hi0 := k_is h
  obtain ⟨bkv, mpv, ptv, hx, hI⟩ := h
  have hI' := hI
  obtain ⟨oU, hb, ⟨hl, hfr⟩, hE, hA, ⟨l0, h1, hS3, h2, h3⟩, hbm, hq⟩ := hI'
  have ba0 : b ≤ ad 0 := lab_ge hl (by omega)
  rcases hbm with ⟨e1, e2, e3, e4, e5⟩ | ⟨lo, hi, a, al, rv, nm, B, dead, q1, q2, q3, q4, q5, q6, q7, q8, q9, q10⟩
  · subst e1
    refine ⟨0, U1, mT σ 1, ?_, ?_, n2⟩
    · rw [x_bkn hx, p_bs, q_cn, if_pos hi0, n1, q_uc, if_pos uF0]
    · rw [if_pos (show (mT σ 0).1 12 = 0 from e3), m_not, q_mc, if_pos mB0]
  · subst q1
    obtain ⟨gl, arr, mm, mc, ga, xs, a1, a2, a3, v1, v2, v3⟩ := q3
    have hw := q4.1
    have ew : iI (B.1 0) - 1 = iI (B.1 0 - 1) := by rw [j1, i_sub]
    have k24 : (mT σ 0).1 24 = iI (B.1 0) := q5.1.1
    rw [x_bk hx, p_bs, q_cs, p_bs, p_bs, v_gi v1 (k := 3) rfl, p_bs, ew, if_neg (show ¬ (mT σ 0).1 12 = 0 by
      show ¬ σ.1 12 = 0
      rw [q2]
      decide), k24, ew]
    rcases k_in (N := N) (b := b) (g := g) (lo := 0) (hi := B.1 0 - 1) ⟨by decide, by decide⟩ ⟨by omega, by omega⟩ x U (mT σ 0) with ⟨f1, f2⟩ | ⟨f1, f2, i, f3, f4, f5⟩
    · have f1' : f_X1_in N b g U x 0 (iI (B.1 0 - 1)) = some (0, U) := f1
      have f2' : f_within N (mT σ 0) x 0 (iI (B.1 0 - 1)) = some (0, mT σ 0) := f2
      refine ⟨0, U2, mT σ 2, ?_, ?_, n4⟩
      · rw [f1', q_uc, if_pos rfl, if_pos hi0, n3, q_uc, if_pos uF0]
      · rw [f2', q_mc, if_pos rfl, m_not, q_mc, if_pos mB0]
    · have f1' : f_X1_in N b g U x 0 (iI (B.1 0 - 1)) = some (1, U) := f1
      have f2' : f_within N (mT σ 0) x 0 (iI (B.1 0 - 1)) = some (1, mT σ 0) := f2
      have sg : xSi b g A ad sa Q U lab (mSet (mSet (mT σ 0) 38 x) 51 0) (.ref a) mpv ptv := by
        refine ⟨oU, hb, ⟨hl, hfr⟩, hE, hA, ⟨l0, h1, hS3, h2, h3⟩, Or.inr ⟨lo, hi, a, al, rv, nm, B, i, rfl, q2, ⟨gl, arr, mm, mc, ga, xs, a1, a2, a3, v1, v2, v3⟩, q4, q5, f3, ⟨by omega, by omega⟩, q8, q9, ?_⟩, hQ U U lab lab σ _ _ ptv (fun x _ => ⟨rfl, rfl⟩) ⟨fun k hk => by rcases hk with rfl | rfl | rfl | rfl | rfl | rfl | rfl <;> rfl, fun j _ => rfl, Or.inl rfl⟩ hq⟩
        rcases q10 with q | ⟨z1, la, da, wa, v8, v9, v10, w, h, n, nd, hts, fl, dO, kn, dc, wg, z2, z3, z4, z5, z6, z7⟩
        · exact Or.inl q
        · obtain ⟨⟨y1, y2, y3, y4, y5⟩, y6⟩ := z4
          exact Or.inr ⟨z1, la, da, wa, v8, v9, v10, w, h, n, nd, hts, fl, dO, kn, dc, wg, z2, z3, ⟨⟨y1, y2, f3, ⟨by omega, by omega⟩, y5⟩, y6⟩, fun z => absurd rfl z, z6, z7⟩
      refine ⟨1, uSet (uSet U (ad 0) (xO ad (mSet σ 38 x) (.ref a) mpv ptv)) (ad 0) (xO ad (mT (mSet σ 38 x) 0) (.ref a) mpv ptv), mSet (mSet (mT σ 0) 38 x) 51 0, ?_, ?_, ?_⟩
      · have gr := x_gra (N := N) (b := b) (g := g) (u := uSet U (ad 0) (xO ad (mSet σ 38 x) (.ref a) mpv ptv)) (σ := mSet σ 38 x) (ad := ad) (bk := .ref a) (mp := mpv) (pt := ptv) u_ss ba0
        have pw : uPut b U (ad 0) 0 3 (.int x) = some (uSet U (ad 0) (xO ad (mSet σ 38 x) (.ref a) mpv ptv)) := u_pw hx ba0 (Nat.le_of_ble_eq_true rfl)
        rw [f1', q_uc, if_neg n10, pw, p_bs, if_pos (x_is (σ := mSet σ 38 x) (bk := .ref a) (mp := mpv) (pt := ptv) u_ss), gr, q_uc, if_pos uF1]
      · rw [f2', q_mc, if_neg n10, p_let, p_let]
      · rw [u_s2]
        exact sg.fin hQ hx l0 (fun _ _ => rfl) rfl rfl
/-- where the map's cell a is written: what follows of it -/
theorem k_height (hQ : qOk Q) (h : xSt b g A ad sa Q U lab σ) (x y : Int32) : ∃ r U' σ', f_X1_height N b g U (ad 0) x y = some (r, U') ∧ f_height N σ x y = some (r, σ') ∧ xStep b g A ad sa Q U lab U' σ' 0 0 := by
  obtain ⟨U1, n1, n2⟩ := k_den (N := N) (t := 1) (by decide) hQ h
  obtain ⟨U2, n3, n4⟩ := k_den (N := N) (t := 2) (by decide) hQ h
  have hi0 := k_is h
  unfold f_X1_height f_height
  rw [if_pos hi0, m_good, q_mv]
  rcases k_map (N := N) h with hno | ⟨bkv, ptv, lo, hi, a, al, rv, nm, B, dead, la, da, wa, v8, v9, v10, w, h', n, nd, hts, fl, dO, kn, dc, wg, hx, hI, hbk, vB, h7, h12, h34, hL, hM, hSo, hG, hLl, hce⟩
  · refine ⟨0, U1, mT σ 1, ?_, ?_, n2⟩
    · rw [(hno x).1, q_uc, if_pos rfl, if_pos hi0, n1, q_uc, if_pos uF0]
    · rw [(hno x).2, q_mc, if_pos rfl, m_not, q_mc, if_pos mB0]
  · rcases hce x with q | ⟨c1, c2, c, c3, c4⟩
    · refine ⟨0, U1, mT σ 1, ?_, ?_, n2⟩
      · rw [q.1, q_uc, if_pos rfl, if_pos hi0, n1, q_uc, if_pos uF0]
      · rw [q.2, q_mc, if_pos rfl, m_not, q_mc, if_pos mB0]
    · have hn := hL.2.2.2.1
      have m4 : w * h' ≤ 10 * 10 := Nat.mul_le_mul hL.2.1.2 hL.2.2.1.2
      rw [c1, c2, q_uc, q_mc, if_neg n10, if_neg n10]
      rcases k_in (N := N) (b := b) (g := g) (lo := 0) (hi := 999) ⟨by decide, by decide⟩ ⟨by decide, by decide⟩ y U (mT σ 0) with ⟨f1, f2⟩ | ⟨f1, f2, i, f3, f4, f5⟩
      · have f1' : f_X1_in N b g U y 0 999 = some (0, U) := f1
        have f2' : f_within N (mT σ 0) y 0 999 = some (0, mT σ 0) := f2
        refine ⟨0, U2, mT σ 2, ?_, ?_, n4⟩
        · rw [f1', q_uc, if_pos rfl, if_pos hi0, n3, q_uc, if_pos uF0]
        · rw [f2', q_mc, if_pos rfl, m_not, q_mc, if_pos mB0]
      · have f1' : f_X1_in N b g U y 0 999 = some (1, U) := f1
        have f2' : f_within N (mT σ 0) y 0 999 = some (1, mT σ 0) := f2
        obtain ⟨hf, a1, a2⟩ := hL.hgt hLl.2.2.1 (fun e he => (hLl.2.1 e he).2.2.1)
        have l1 := hLl.1.2.1
        have l0 := hI.2.2.2.2.2.1.1
        have hl := hI.2.2.1.1
        have ba0 : b ≤ ad 0 := lab_ge hl (by omega)
        obtain ⟨t1, t2⟩ := t_ix (a := (c : Int)) (n := mLen 41) (k := c) rfl (by rw [mL41]; omega) (by rw [mL41]; omega)
        have st : uStI b U (la 1) 0 (iI (c : Int)) (iI i) = some (uSet U (la 1) (.inl (0, n, .inl (upd hf c (iI i))))) := u_stI a1 (lab_ge hl (by omega)) (by omega) (by omega) (by omega)
        have nx0 : ad 0 ≠ la 1 := fun z => by rw [z] at l0; omega
        have hx1 : (uSet U (la 1) (.inl (0, n, .inl (upd hf c (iI i))))).2.2 (ad 0) = some (xO ad σ bkv (.ref (la 0)) ptv) := (u_sn nx0).trans hx
        have hM1 : mLand (mSet (mArr (mT σ 0) 41 c (iI i)) 51 0) B dead w h' n nd (zU hts c i) fl dO kn dc wg := by
          obtain ⟨⟨y1, y2, y3, y4, y5, y6, y7, y8, y9⟩, yy⟩ := hM
          refine ⟨⟨y1, y2, y3, y4, y5, y6, y7, y8, fun k hk => ?_⟩, yy⟩
          show upd (σ.2.1 41) c (iI i) k = _ ∧ _
          by_cases q : k = c
          · subst q
            rw [zU_s, upd_s]
            exact ⟨rfl, by omega, by omega⟩
          · rw [zU_n q, upd_n q]
            exact y9 k hk
        have hL5 : ∀ m z, (uSet U (la 1) (.inl (0, n, .inl (upd hf c (iI i))))).2.2 (la 5) = some (.inl (4, m, z)) → (m = 0 → g.1 10 = some (la 5) ∧ la 5 < b) ∧ (m ≠ 0 → lab (la 5) = 8) := fun m z q => by
          by_cases e : la 5 = la 1
          · rw [e, u_ss] at q
            cases q
          · rw [u_sn e] at q
            exact hLl.2.2.2 m z q
        have sg := k_mut (σ1 := mSet (mArr (mT σ 0) 41 c (iI i)) 51 0) (U' := uSet U (la 1) (.inl (0, n, .inl (upd hf c (iI i))))) (lab' := lab) hQ hI hbk vB h7 h12 (fun x => Or.inl rfl) hI.2.2.1.2 (hI.1.set a1) (Nat.le_refl _) (k_set8 l1) h34 (a2 c i c4 f4 f5) hM1 (fun z => absurd rfl z) hG ⟨hLl.1, hLl.2.1, hLl.2.2.1, hL5⟩ (fun k q0 _ _ q39 q51 => (upd_n q51).trans ((upd_n q39).trans (upd_n q0))) (Or.inl rfl) (fun j q41 _ _ _ _ _ => if_neg q41)
        refine ⟨1, uSet (uSet U (la 1) (.inl (0, n, .inl (upd hf c (iI i))))) (ad 0) (xO ad (mT σ 0) bkv (.ref (la 0)) ptv), mSet (mArr (mT σ 0) 41 c (iI i)) 51 0, ?_, ?_, k_fins hQ sg hx1 l0 (fun x q => u_sn (fun z => by rw [z, l1] at q; omega)) rfl rfl rfl ⟨rfl, rfl, rfl, rfl, rfl, rfl, rfl⟩⟩
        · rw [f1', q_uc, if_neg n10, x_mp hx, p_bs, p_bs, v_gr hL.1 (k := 3) rfl, p_bs, p_bs, c3, f3, st, p_bs, if_pos (v_is hx1), x_gra hx1 ba0, q_uc, if_pos uF1]
        · rw [f2', q_mc, if_neg n10, c3, f3, if_pos t1, p_let, t2, p_let]
theorem k_ground (hQ : qOk Q) (h : xSt b g A ad sa Q U lab σ) (x y : Int32) : ∃ r U' σ', f_X1_ground N b g U (ad 0) x y = some (r, U') ∧ f_ground N σ x y = some (r, σ') ∧ xStep b g A ad sa Q U lab U' σ' 0 0 := by
  obtain ⟨U1, n1, n2⟩ := k_den (N := N) (t := 1) (by decide) hQ h
  obtain ⟨U5, n5, n6⟩ := k_den (N := N) (t := 5) (by decide) hQ h
  have hi0 := k_is h
  unfold f_X1_ground f_ground f_X1_ground_16 f_ground_20
  rw [if_pos hi0, m_good, q_mv]
  rcases k_map (N := N) h with hno | ⟨bkv, ptv, lo, hi, a, al, rv, nm, B, dead, la, da, wa, v8, v9, v10, w, h', n, nd, hts, fl, dO, kn, dc, wg, hx, hI, hbk, vB, h7, h12, h34, hL, hM, hSo, hG, hLl, hce⟩
  · refine ⟨0, U1, mT σ 1, ?_, ?_, n2⟩
    · rw [(hno x).1, q_uc, if_pos rfl, if_pos hi0, n1, q_uc, if_pos uF0]
    · rw [(hno x).2, q_mc, if_pos rfl, m_not, q_mc, if_pos mB0]
  · rcases hce x with q | ⟨c1, c2, c, c3, c4⟩
    · refine ⟨0, U1, mT σ 1, ?_, ?_, n2⟩
      · rw [q.1, q_uc, if_pos rfl, if_pos hi0, n1, q_uc, if_pos uF0]
      · rw [q.2, q_mc, if_pos rfl, m_not, q_mc, if_pos mB0]
    · have hn := hL.2.2.2.1
      have hnd := hL.2.2.2.2.1
      have m4 : w * h' ≤ 10 * 10 := Nat.mul_le_mul hL.2.1.2 hL.2.2.1.2
      rw [c1, c2, q_uc, q_mc, if_neg n10, if_neg n10, if_pos hi0]
      rcases k_gd (N := N) h y with ⟨g1, g2⟩ | ⟨g1, g2, k, lo', hi', a', al', rv', nm', B', mpv', ptv', e1, e2, e3, e4, e5, e6⟩
      · refine ⟨0, U1, mT σ 1, ?_, ?_, n2⟩
        · rw [g1, q_uc, if_pos rfl, if_pos hi0, n1, q_uc, if_pos uF0]
        · rw [g2, q_mc, if_pos rfl, m_not, q_mc, if_pos mB0]
      · have kB : k < B.2.1 := by
          have z1 := hM.1.2.1.1.2.2.2.2.2
          have z2 := e6.1.2.2.2.2.2
          have b1 := hM.1.1.2.2.2.2.2.1
          have b2 := e5.2.2.2.2.2.1
          have z3 : iI (B.2.1 : Int) = iI (B'.2.1 : Int) := z1.symm.trans z2
          rw [j_eq (by omega) (by omega) (by omega) (by omega)] at z3
          omega
        obtain ⟨df, f1, f2⟩ := hL.2.2.2.2.2.2.2.1
        obtain ⟨o1, o2, o3, o4⟩ := f2 c c4
        obtain ⟨t1, t2⟩ := t_ix (a := (c : Int)) (n := mLen 43) (k := c) rfl (by rw [mL43]; omega) (by rw [mL43]; omega)
        have Ld : uLdR U (la 3) 6 (iI (c : Int)) = some (df c) := u_ldR f1 (by omega) (by omega) (by omega)
        have k43 : (mT σ 0).2.1 43 c = iI (dO c) := (hM.2.2.2.2.1 c c4).2.2.1
        rw [g1, g2, q_uc, q_mc, if_neg n10, if_neg n10, x_mp hx, p_bs, p_bs, v_gr hL.1 (k := 5) rfl, p_bs, p_bs, c3, Ld, p_bs, if_pos t1, p_let, t2, k43]
        by_cases hd : dO c = -1
        · obtain ⟨gf, a1, a1', a2⟩ := hL.gnd hLl.2.2.1 (fun e he => (hLl.2.1 e he).2.2.2.1)
          have l2 := hLl.1.2.2.1
          have l0 := hI.2.2.2.2.2.1.1
          have hl := hI.2.2.1.1
          have ba0 : b ≤ ad 0 := lab_ge hl (by omega)
          obtain ⟨t3, -⟩ := t_ix (a := (c : Int)) (n := mLen 42) (k := c) rfl (by rw [mL42]; omega) (by rw [mL42]; omega)
          have st : uStI b U (la 2) 0 (iI (c : Int)) (iI k) = some (uSet U (la 2) (.inl (0, n, .inl (upd gf c (iI k))))) := u_stI a1 (lab_ge hl (by omega)) (by omega) (by omega) (by omega)
          have nx0 : ad 0 ≠ la 2 := fun z => by rw [z] at l0; omega
          have hx1 : (uSet U (la 2) (.inl (0, n, .inl (upd gf c (iI k))))).2.2 (ad 0) = some (xO ad σ bkv (.ref (la 0)) ptv) := (u_sn nx0).trans hx
          have hM1 : mLand (mSet (mArr (mT σ 0) 42 c (iI k)) 51 0) B dead w h' n nd hts (zU fl c k) dO kn dc wg := by
            obtain ⟨y0, y1, y2, y3, y4, y5, y6⟩ := hM
            refine ⟨y0, y1, y2, y3, fun q hq => ?_, y5, y6⟩
            obtain ⟨w1, w2, w3⟩ := y4 q hq
            refine ⟨?_, ?_, w3⟩
            · show upd (σ.2.1 42) c (iI k) q = _
              by_cases qq : q = c
              · subst qq
                rw [zU_s, upd_s]
              · rw [zU_n qq, upd_n qq]
                exact w1
            · by_cases qq : q = c
              · subst qq
                rw [zU_s]
                exact kB
              · rw [zU_n qq]
                exact w2
          have hL5 : ∀ m z, (uSet U (la 2) (.inl (0, n, .inl (upd gf c (iI k))))).2.2 (la 5) = some (.inl (4, m, z)) → (m = 0 → g.1 10 = some (la 5) ∧ la 5 < b) ∧ (m ≠ 0 → lab (la 5) = 8) := fun m z q => by
            by_cases e : la 5 = la 2
            · rw [e, u_ss] at q
              cases q
            · rw [u_sn e] at q
              exact hLl.2.2.2 m z q
          have sg := k_mut (σ1 := mSet (mArr (mT σ 0) 42 c (iI k)) 51 0) (U' := uSet U (la 2) (.inl (0, n, .inl (upd gf c (iI k))))) (lab' := lab) hQ hI hbk vB h7 h12 (fun x => Or.inl rfl) hI.2.2.1.2 (hI.1.set a1) (Nat.le_refl _) (k_set8 l2) h34 (a2 c k c4) hM1 (fun z => absurd rfl z) hG ⟨hLl.1, hLl.2.1, hLl.2.2.1, hL5⟩ (fun k q0 _ _ q39 q51 => (upd_n q51).trans ((upd_n q39).trans (upd_n q0))) (Or.inl rfl) (fun j _ q42 _ _ _ _ => if_neg q42)
          refine ⟨1, uSet (uSet U (la 2) (.inl (0, n, .inl (upd gf c (iI k))))) (ad 0) (xO ad (mT σ 0) bkv (.ref (la 0)) ptv), mSet (mArr (mT σ 0) 42 c (iI k)) 51 0, ?_, ?_, k_fins hQ sg hx1 l0 (fun x q => u_sn (fun z => by rw [z, l2] at q; omega)) rfl rfl rfl ⟨rfl, rfl, rfl, rfl, rfl, rfl, rfl⟩⟩
          · rw [o3 hd, q_cn, p_bs, p_bs, v_gr hL.1 (k := 4) rfl, p_bs, p_bs, e1, st, p_bs, if_pos (v_is hx1), x_gra hx1 ba0, q_uc, if_pos uF1]
          · rw [if_pos (show iI (dO c) = -1 by rw [hd]; rfl), if_pos t3, p_let, e1, p_let]
        · refine ⟨0, U5, mT σ 5, ?_, ?_, n6⟩
          · rw [o4 hd, q_cs, if_pos hi0, n5, q_uc, if_pos uF0]
          · rw [if_neg (show ¬ iI (dO c) = -1 by rw [j_m1, j_eq (by omega) (by omega) (by omega) (by omega)]; exact hd), m_not, q_mc, if_pos mB0]
end D9
