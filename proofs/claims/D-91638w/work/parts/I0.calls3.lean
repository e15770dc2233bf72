/-! PLAIN: the calls told, forget, of -/
section E0s
variable {N b : Nat} {g : uEnv} {A : pA} {ad sa : Nat → Nat} {Q : qT} {U : UH} {lab : Nat → Nat} {σ : MS}
/-- isDoubt of both, a map or none -/
theorem k_dbt (h : xSt b g A ad sa Q U lab σ) (x : Int32) : (f_X1_isDoubt N b g U (ad 0) x = some (0, U) ∧ f_isDoubt N (mT σ 0) x = some (0, mT σ 0)) ∨ (f_X1_isDoubt N b g U (ad 0) x = some (1, U) ∧ f_isDoubt N (mT σ 0) x = some (1, mT σ 0) ∧ ∃ (e : Nat) (bkv ptv : Value) (lo hi a al : Nat) (rv : Int32) (nm : Nat → Nat) (B : bBk) (dead : Int) (la da wa : Nat → Nat) (v8 v9 v10 : Value) (w h n nd : Nat) (hts : Nat → Int) (fl : Nat → Nat) (dO kn : Nat → Int) (dc : Nat → Nat) (wg : Nat → Nat → Nat), x = iI e ∧ e < nd ∧ U.2.2 (ad 0) = some (xO ad σ bkv (.ref (la 0)) ptv) ∧ xSi b g A ad sa Q U lab σ bkv (.ref (la 0)) ptv ∧ bkv = .ref a ∧ vBk U b lo hi a al rv nm B ∧ (hi ≤ U.1 ∧ ∀ x, lo ≤ x → x < hi → lab x = 7) ∧ σ.1 12 = 1 ∧ σ.1 34 = 1 ∧ vLd U g la da wa a v8 v9 v10 w h n nd hts fl dO kn wg ∧ mLand σ B dead w h n nd hts fl dO kn dc wg ∧ xGe n nd dO kn dc wg ∧ xLl b g U lab la da wa nd) := by
  rcases k_mp h with ⟨bkv, ptv, hx, hI, h34⟩ | ⟨bkv, ptv, lo, hi, a, al, rv, nm, B, dead, la, da, wa, v8, v9, v10, w, h', n, nd, hts, fl, dO, kn, dc, wg, hx, hI, hbk, vB, h7, h12, h34, hL, hM, hSo, hG, hLl⟩
  · left
    constructor
    · unfold f_X1_isDoubt f_X1_isDoubt_31 f_X1_isDoubt_32
      rw [x_mpn hx, p_bs, q_cn, if_pos uF0]
    · unfold f_isDoubt f_isDoubt_25 f_isDoubt_26
      rw [if_pos (show (mT σ 0).1 34 = 0 from h34), if_pos mB0]
  · rcases k_db (N := N) (b := b) (σ1 := mT σ 0) hx hL h34 hM.2.2.1 x with q | ⟨c1, c2, e, c3, c4⟩
    · exact Or.inl q
    · exact Or.inr ⟨c1, c2, e, bkv, ptv, lo, hi, a, al, rv, nm, B, dead, la, da, wa, v8, v9, v10, w, h', n, nd, hts, fl, dO, kn, dc, wg, c3, c4, hx, hI, hbk, vB, h7, h12, h34, hL, hM, hG, hLl⟩
theorem bk_same {B B' : bBk} (h1 : mBk σ B) (h2 : mBk σ B') (b1 : bOk B) (b2 : bOk B') : B.2.1 = B'.2.1 := by
  have z1 := h1.1.2.2.2.2.2
  have z2 := h2.1.2.2.2.2.2
  have c1 := b1.2.2.2.2.2.1
  have c2 := b2.2.2.2.2.2.1
  have z3 : iI (B.2.1 : Int) = iI (B'.2.1 : Int) := z1.symm.trans z2
  rw [j_eq (by omega) (by omega) (by omega) (by omega)] at z3
  omega
/-- what is known of a doubt is changed: v -/
theorem k_kn {bkv ptv : Value} {lo hi a al e : Nat} {rv : Int32} {nm : Nat → Nat} {B : bBk} {dead : Int} {la da wa : Nat → Nat} {v8 v9 v10 : Value} {w h n nd : Nat} {hts : Nat → Int} {fl : Nat → Nat} {dO kn : Nat → Int} {dc : Nat → Nat} {wg : Nat → Nat → Nat} {v : Int} (hQ : qOk Q) (hx : U.2.2 (ad 0) = some (xO ad σ bkv (.ref (la 0)) ptv)) (hI : xSi b g A ad sa Q U lab σ bkv (.ref (la 0)) ptv) (hbk : bkv = .ref a) (vB : vBk U b lo hi a al rv nm B) (h7 : hi ≤ U.1 ∧ ∀ x, lo ≤ x → x < hi → lab x = 7) (h12 : σ.1 12 = 1) (h34 : σ.1 34 = 1) (hL : vLd U g la da wa a v8 v9 v10 w h n nd hts fl dO kn wg) (hM : mLand σ B dead w h n nd hts fl dO kn dc wg) (hG : xGe n nd dO kn dc wg) (hLl : xLl b g U lab la da wa nd) (he : e < nd) (hv : v = -1 ∨ (0 ≤ v ∧ v < B.2.1 ∧ wg e v.toNat ≠ 0)) : uPut b U (da e) 13 2 (.int (iI v)) = some (uSet U (da e) (.inr (13, [.int (iI e), .ref (wa e), .int (iI v)]))) ∧ (uSet U (da e) (.inr (13, [.int (iI e), .ref (wa e), .int (iI v)]))).2.2 (ad 0) = some (xO ad σ bkv (.ref (la 0)) ptv) ∧ b ≤ ad 0 ∧ xStep b g A ad sa Q U lab (uSet (uSet U (da e) (.inr (13, [.int (iI e), .ref (wa e), .int (iI v)]))) (ad 0) (xO ad (mT σ 0) bkv (.ref (la 0)) ptv)) (mSet (mArr (mT σ 0) 45 e (iI v)) 51 0) 0 0 := by
  have hl := hI.2.2.1.1
  have l0 := hI.2.2.2.2.2.1.1
  have hdd := hL.2.2.2.2.2.2.2.2.2.2 e he
  have de := hdd.1.1
  have ld := (hLl.2.1 e he).1
  have nx0 : ad 0 ≠ da e := fun z => by rw [z] at l0; omega
  have hx1 : (uSet U (da e) (.inr (13, [.int (iI e), .ref (wa e), .int (iI v)]))).2.2 (ad 0) = some (xO ad σ bkv (.ref (la 0)) ptv) := (u_sn nx0).trans hx
  have hM1 : mLand (mSet (mArr (mT σ 0) 45 e (iI v)) 51 0) B dead w h n nd hts fl dO (zU kn e v) dc wg := by
    obtain ⟨y0, y1, y2, y3, y4, y5, y6⟩ := hM
    refine ⟨y0, y1, y2, y3, y4, fun q hq => ?_, y6⟩
    obtain ⟨w1, w2, w3, w4, w5⟩ := y5 q hq
    refine ⟨w1, w2, ?_, ?_, ?_⟩
    · show upd (σ.2.1 45) e (iI v) q = _
      by_cases qq : q = e
      · subst qq
        rw [zU_s, upd_s]
      · rw [zU_n qq, upd_n qq]
        exact w3
    · by_cases qq : q = e
      · subst qq
        rw [zU_s]
        omega
      · rw [zU_n qq]
        exact w4
    · by_cases qq : q = e
      · subst qq
        rw [zU_s]
        omega
      · rw [zU_n qq]
        exact w5
  have hG1 : xGe n nd dO (zU kn e v) dc wg := ⟨hG.1, hG.2.1, fun q hq => by
    by_cases qq : q = e
    · subst qq
      rw [zU_s]
      intro z
      rcases hv with q | q
      · exact absurd q z
      · exact q.2.2
    · rw [zU_n qq]
      exact hG.2.2 q hq⟩
  have hL5 : ∀ m z, (uSet U (da e) (.inr (13, [.int (iI e), .ref (wa e), .int (iI v)]))).2.2 (la 5) = some (.inl (4, m, z)) → (m = 0 → g.1 10 = some (la 5) ∧ la 5 < b) ∧ (m ≠ 0 → lab (la 5) = 8) := fun m z q => by
    by_cases ee : la 5 = da e
    · rw [ee, u_ss] at q
      cases q
    · rw [u_sn ee] at q
      exact hLl.2.2.2 m z q
  have sg := k_mut (σ1 := mSet (mArr (mT σ 0) 45 e (iI v)) 51 0) (U' := uSet U (da e) (.inr (13, [.int (iI e), .ref (wa e), .int (iI v)]))) (lab' := lab) hQ hI hbk vB h7 h12 (fun x => Or.inl rfl) hI.2.2.1.2 (hI.1.set de) (Nat.le_refl _) (k_set8 ld) h34 (hL.knw he v) hM1 (fun z => absurd rfl z) hG1 ⟨hLl.1, hLl.2.1, hLl.2.2.1, hL5⟩ (fun k q0 _ _ q39 q51 => (upd_n q51).trans ((upd_n q39).trans (upd_n q0))) (Or.inl rfl) (fun j _ _ _ _ q45 _ => if_neg q45)
  exact ⟨u_pw de (lab_ge hl (by omega)) (Nat.le_of_ble_eq_true rfl), hx1, lab_ge hl (by omega), k_fins hQ sg hx1 l0 (fun x q => u_sn (fun z => by rw [z, ld] at q; omega)) rfl rfl rfl ⟨rfl, rfl, rfl, rfl, rfl, rfl, rfl⟩⟩
theorem k_told (hQ : qOk Q) (h : xSt b g A ad sa Q U lab σ) (x y : Int32) : ∃ r U' σ', f_X1_told N b g U (ad 0) x y = some (r, U') ∧ f_told N σ x y = some (r, σ') ∧ xStep b g A ad sa Q U lab U' σ' 0 0 := by
  obtain ⟨U1, n1, n2⟩ := k_den (N := N) (t := 1) (by decide) hQ h
  obtain ⟨U5, n5, n6⟩ := k_den (N := N) (t := 5) (by decide) hQ h
  have hi0 := k_is h
  unfold f_X1_told f_told f_X1_told_16 f_told_20
  rw [if_pos hi0, m_good, q_mv]
  rcases k_dbt (N := N) h x with ⟨c1, c2⟩ | ⟨c1, c2, e, bkv, ptv, lo, hi, a, al, rv, nm, B, dead, la, da, wa, v8, v9, v10, w, h', n, nd, hts, fl, dO, kn, dc, wg, c3, c4, hx, hI, hbk, vB, h7, h12, h34, hL, hM, hG, hLl⟩
  · refine ⟨0, U1, mT σ 1, ?_, ?_, n2⟩
    · rw [c1, q_uc, if_pos rfl, if_pos hi0, n1, q_uc, if_pos uF0]
    · rw [c2, q_mc, if_pos rfl, m_not, q_mc, if_pos mB0]
  · rw [c1, c2, q_uc, q_mc, if_neg n10, if_neg n10, if_pos hi0]
    rcases k_gd (N := N) h y with ⟨g1, g2⟩ | ⟨g1, g2, k, lo', hi', a', al', rv', nm', B', mpv', ptv', e1, e2, e3, e4, e5, e6⟩
    · refine ⟨0, U1, mT σ 1, ?_, ?_, n2⟩
      · rw [g1, q_uc, if_pos rfl, if_pos hi0, n1, q_uc, if_pos uF0]
      · rw [g2, q_mc, if_pos rfl, m_not, q_mc, if_pos mB0]
    · have hnd := hL.2.2.2.2.1
      have kB : k < B.2.1 := by
        rw [bk_same hM.1.2.1 e6 hM.1.1 e5]
        exact e2
      have b8 := e5.2.2.2.2.2.1
      have sz := c_siz (N := N) (b := b) hL
      have gt := c_get (N := N) (b := b) (e := e) hL c4
      obtain ⟨⟨d1, wf, d2, d3⟩, d4⟩ := hL.2.2.2.2.2.2.2.2.2.2 e c4
      obtain ⟨w1, w2⟩ := d3 k (by omega)
      have Lw : uLdI U (wa e) 0 (iI (k : Int)) = some (iI (wg e k)) := by
        rw [u_ldI d2 (by omega) (by omega) (by omega)]
        exact congrArg some w1
      obtain ⟨t1, t2⟩ := t_ix (a := 8 * (e : Int) + (k : Int)) (n := mLen 46) (k := 8 * e + k) (by omega) (by rw [mL46]; omega) (by rw [mL46]; omega)
      obtain ⟨t3, t4⟩ := t_ix (a := (e : Int)) (n := mLen 45) (k := e) rfl (by rw [mL45]; omega) (by rw [mL45]; omega)
      have k46 : (mT σ 0).2.1 46 (8 * e + k) = iI (wg e k) := ((hM.2.2.2.2.2.2 e c4).1 k (by omega)).1
      rw [g1, g2, q_uc, q_mc, if_neg n10, if_neg n10, x_mp hx, p_bs, p_bs, v_gr hL.1 (k := 6) rfl, p_bs, p_bs, if_pos sz.2, c3, gt, q_uc, p_bs, if_pos (v_is d1), v_gr d1 (k := 1) rfl, p_bs, p_bs, e1, Lw, p_bs, j8, i_mul, i_add, if_pos t1, p_let, t2, k46]
      by_cases hz : wg e k = 0
      · refine ⟨0, U5, mT σ 5, ?_, ?_, n6⟩
        · rw [if_pos (show iI (wg e k : Int) = 0 by rw [hz]; rfl), if_pos hi0, n5, q_uc, if_pos uF0]
        · rw [if_pos (show iI (wg e k : Int) = 0 by rw [hz]; rfl), m_not, q_mc, if_pos mB0]
      · obtain ⟨r1, r2, r3, r4⟩ := k_kn (v := (k : Int)) hQ hx hI hbk vB h7 h12 h34 hL hM hG hLl c4 (Or.inr ⟨by omega, by omega, hz⟩)
        have nz : ¬ iI (wg e k : Int) = 0 := by
          rw [j0, j_eq (by omega) (by omega) (by omega) (by omega)]
          omega
        refine ⟨1, _, _, ?_, ?_, r4⟩
        · rw [if_neg nz, r1, p_bs, if_pos (v_is r2), x_gra r2 r3, q_uc, if_pos uF1]
        · rw [if_neg nz, if_pos t3, p_let, t4, p_let]
theorem k_forget (hQ : qOk Q) (h : xSt b g A ad sa Q U lab σ) (x : Int32) : ∃ r U' σ', f_X1_forget N b g U (ad 0) x = some (r, U') ∧ f_forget N σ x = some (r, σ') ∧ xStep b g A ad sa Q U lab U' σ' 0 0 := by
  obtain ⟨U1, n1, n2⟩ := k_den (N := N) (t := 1) (by decide) hQ h
  obtain ⟨U5, n5, n6⟩ := k_den (N := N) (t := 5) (by decide) hQ h
  have hi0 := k_is h
  unfold f_X1_forget f_forget
  rw [if_pos hi0, m_good, q_mv]
  rcases k_dbt (N := N) h x with ⟨c1, c2⟩ | ⟨c1, c2, e, bkv, ptv, lo, hi, a, al, rv, nm, B, dead, la, da, wa, v8, v9, v10, w, h', n, nd, hts, fl, dO, kn, dc, wg, c3, c4, hx, hI, hbk, vB, h7, h12, h34, hL, hM, hG, hLl⟩
  · refine ⟨0, U1, mT σ 1, ?_, ?_, n2⟩
    · rw [c1, q_uc, if_pos rfl, if_pos hi0, n1, q_uc, if_pos uF0]
    · rw [c2, q_mc, if_pos rfl, m_not, q_mc, if_pos mB0]
  · have hnd := hL.2.2.2.2.1
    have sz := c_siz (N := N) (b := b) hL
    have gt := c_get (N := N) (b := b) (e := e) hL c4
    obtain ⟨⟨d1, wf, d2, d3⟩, d4⟩ := hL.2.2.2.2.2.2.2.2.2.2 e c4
    obtain ⟨t3, t4⟩ := t_ix (a := (e : Int)) (n := mLen 45) (k := e) rfl (by rw [mL45]; omega) (by rw [mL45]; omega)
    have k45 : (mT σ 0).2.1 45 e = iI (kn e) := (hM.2.2.2.2.2.1 e c4).2.2.1
    have kb := (hM.2.2.2.2.2.1 e c4).2.2.2
    have b8 := hM.1.1.2.2.2.2.2.1
    rw [c1, c2, q_uc, q_mc, if_neg n10, if_neg n10, x_mp hx, p_bs, p_bs, v_gr hL.1 (k := 6) rfl, p_bs, p_bs, if_pos sz.2, c3, gt, q_uc, p_bs, if_pos (v_is d1), v_gi d1 (k := 2) rfl, p_bs, if_pos t3, p_let, t4, k45]
    by_cases hz : kn e = -1
    · refine ⟨0, U5, mT σ 5, ?_, ?_, n6⟩
      · rw [if_pos (show iI (kn e) = -1 by rw [hz]; rfl), if_pos hi0, n5, q_uc, if_pos uF0]
      · rw [if_pos (show iI (kn e) = -1 by rw [hz]; rfl), m_not, q_mc, if_pos mB0]
    · obtain ⟨r1, r2, r3, r4⟩ := k_kn (v := -1) hQ hx hI hbk vB h7 h12 h34 hL hM hG hLl c4 (Or.inl rfl)
      have nz : ¬ iI (kn e) = -1 := by
        rw [j_m1, j_eq (by omega) (by omega) (by omega) (by omega)]
        exact hz
      have r1' : uPut b U (da e) 13 2 (.int (-1)) = _ := r1
      refine ⟨1, _, _, ?_, ?_, r4⟩
      · rw [if_neg nz, r1', p_bs, if_pos (v_is r2), x_gra r2 r3, q_uc, if_pos uF1]
      · rw [if_neg nz, if_pos t3, p_let, p_let]
        rfl
theorem k_of (hQ : qOk Q) (h : xSt b g A ad sa Q U lab σ) (x y : Int32) : ∃ r U' σ', f_X1_of N b g U (ad 0) x y = some (r, U') ∧ f_of N σ x y = some (r, σ') ∧ xStep b g A ad sa Q U lab U' σ' 0 0 := by
  have hi0 := k_is h
  have hth := h.th hQ
  unfold f_X1_of f_of f_X1_of_91 f_X1_of_105 f_of_94 f_of_73
  rw [if_pos hi0, p_let]
  rcases k_mp h with ⟨bkv, ptv, hx, hI, h34⟩ | ⟨bkv, ptv, lo, hi, a, al, rv, nm, B, dead, la, da, wa, v8, v9, v10, w, h', n, nd, hts, fl, dO, kn, dc, wg, hx, hI, hbk, vB, h7, h12, h34, hL, hM, hSo, hG, hLl⟩
  · refine ⟨-1, U, mSet σ 0 0, ?_, ?_, hth⟩
    · rw [x_ceN hx, q_uc, if_pos rfl]
    · rw [m_ceN (σ := mSet σ 0 0) h34, q_mc, if_pos rfl]
  · have hL' := hL
    obtain ⟨l0, hw, hh, hn, hnd, ⟨hf, a1, a2⟩, ⟨gf, g1, g2⟩, ⟨df, f1, f2⟩, -, -, hdd⟩ := hL'
    have m4 : w * h' ≤ 10 * 10 := Nat.mul_le_mul hw.2 hh.2
    have c := x_ce (N := N) (b := b) (g := g) hx l0 rfl rfl hw hh (i_S x)
    have d := m_ce (N := N) (σ := mSet σ 0 0) (x := x.toInt) (show ¬ (mSet σ 0 0).1 34 = 0 by
      show ¬ σ.1 34 = 0
      rw [h34]
      decide) hM.1.2.2.2.2.1 hM.1.2.2.2.2.2.1 hw hh (i_S x)
    rw [← i_of x] at c d
    by_cases q : 0 ≤ x.toInt ∧ x.toInt ≤ (w : Int) * (h' : Int) - 1
    · rw [iB_1 q] at c d
      have en : (w : Int) * (h' : Int) = (n : Int) := by
        rw [hn]
        exact (Int.natCast_mul w h').symm
      obtain ⟨k, hk⟩ : ∃ k : Nat, x.toInt = (k : Int) := ⟨x.toInt.toNat, by omega⟩
      have hxk : x = iI (k : Int) := by
        conv => lhs; rw [i_of x]
        rw [hk]
      have kn' : k < n := by omega
      obtain ⟨o1, o2, o3, o4⟩ := f2 k kn'
      have Ld : uLdR U (la 3) 6 (iI (k : Int)) = some (df k) := u_ldR f1 (by omega) (by omega) (by omega)
      have Lh : uLdI U (la 1) 0 (iI (k : Int)) = some (iI (hts k)) := by
        rw [u_ldI a1 (by omega) (by omega) (by omega)]
        exact congrArg some (a2 k kn').1
      have Lg : uLdI U (la 2) 0 (iI (k : Int)) = some (iI (fl k)) := by
        rw [u_ldI g1 (by omega) (by omega) (by omega)]
        exact congrArg some (g2 k kn')
      obtain ⟨t1, t2⟩ := t_ix (a := (k : Int)) (n := mLen 43) (k := k) rfl (by rw [mL43]; omega) (by rw [mL43]; omega)
      obtain ⟨t3, -⟩ := t_ix (a := (k : Int)) (n := mLen 41) (k := k) rfl (by rw [mL41]; omega) (by rw [mL41]; omega)
      obtain ⟨t5, -⟩ := t_ix (a := (k : Int)) (n := mLen 42) (k := k) rfl (by rw [mL42]; omega) (by rw [mL42]; omega)
      have k43 : (mSet σ 0 0).2.1 43 k = iI (dO k) := (hM.2.2.2.2.1 k kn').2.2.1
      have k41 : (mSet σ 0 0).2.1 41 k = iI (hts k) := (hM.1.2.2.2.2.2.2.2.2 k (by omega)).1
      have k42 : (mSet σ 0 0).2.1 42 k = iI (fl k) := (hM.2.2.2.2.1 k kn').1
      rw [c, d, q_uc, q_mc, if_neg n10, if_neg n10, x_mp hx, p_bs, p_bs, v_gr l0 (k := 5) rfl, p_bs, p_bs, hxk, Ld, p_bs, if_pos t1, p_let, t2, k43]
      by_cases y0 : y = 0
      · refine ⟨iI (hts k), U, mSet σ 0 0, ?_, ?_, hth⟩
        · rw [if_pos y0, p_bs, p_bs, v_gr l0 (k := 3) rfl, p_bs, p_bs, Lh, p_bs]
        · rw [if_pos y0, if_pos t3, p_let, k41]
      · by_cases y1 : y = 1
        · by_cases hd : dO k = -1
          · refine ⟨iI (fl k), U, mSet σ 0 0, ?_, ?_, hth⟩
            · rw [if_neg y0, if_pos y1, o3 hd, q_cn, p_bs, p_bs, v_gr l0 (k := 4) rfl, p_bs, p_bs, Lg, p_bs]
            · rw [if_neg y0, if_pos y1, if_pos (show iI (dO k) = -1 by rw [hd]; rfl), if_pos t5, p_let, k42]
          · obtain ⟨e, he⟩ : ∃ e : Nat, dO k = (e : Int) := ⟨(dO k).toNat, by omega⟩
            have hen : e < nd := by omega
            obtain ⟨⟨d1, wf, d2, d3⟩, d4⟩ := hdd e hen
            have o5 := o4 hd
            rw [he, show ((e : Int)).toNat = e from rfl] at o5
            obtain ⟨t7, t8⟩ := t_ix (a := (e : Int)) (n := mLen 45) (k := e) rfl (by rw [mL45]; omega) (by rw [mL45]; omega)
            have k45 : (mSet σ 0 0).2.1 45 e = iI (kn e) := (hM.2.2.2.2.2.1 e hen).2.2.1
            have kb := (hM.2.2.2.2.2.1 e hen).2.2.2
            have b8 := hM.1.1.2.2.2.2.2.1
            rw [he]
            by_cases hk1 : kn e = -1
            · refine ⟨-2, U, mSet σ 0 0, ?_, ?_, hth⟩
              · rw [if_neg y0, if_pos y1, o5, q_cs, v_gi d1 (k := 2) rfl, p_bs, if_pos (show iI (kn e) = -1 by rw [hk1]; rfl)]
              · rw [if_neg y0, if_pos y1, if_neg (show ¬ iI (e : Int) = -1 by rw [j_m1, j_eq (by omega) (by omega) (by omega) (by omega)]; omega), if_pos t7, p_let, t8, k45, if_pos (show iI (kn e) = -1 by rw [hk1]; rfl)]
            · refine ⟨iI (kn e), U, mSet σ 0 0, ?_, ?_, hth⟩
              · rw [if_neg y0, if_pos y1, o5, q_cs, v_gi d1 (k := 2) rfl, p_bs, if_neg (show ¬ iI (kn e) = -1 by rw [j_m1, j_eq (by omega) (by omega) (by omega) (by omega)]; exact hk1), p_bs]
              · rw [if_neg y0, if_pos y1, if_neg (show ¬ iI (e : Int) = -1 by rw [j_m1, j_eq (by omega) (by omega) (by omega) (by omega)]; omega), if_pos t7, p_let, t8, k45, if_neg (show ¬ iI (kn e) = -1 by rw [j_m1, j_eq (by omega) (by omega) (by omega) (by omega)]; exact hk1), if_pos t7, p_let]
        · by_cases y2 : y = 2
          · by_cases hd : dO k = -1
            · refine ⟨-2, U, mSet σ 0 0, ?_, ?_, hth⟩
              · rw [if_neg y0, if_neg y1, if_pos y2, o3 hd, q_cn]
              · rw [if_neg y0, if_neg y1, if_pos y2, if_pos (show iI (dO k) = -1 by rw [hd]; rfl)]
            · obtain ⟨e, he⟩ : ∃ e : Nat, dO k = (e : Int) := ⟨(dO k).toNat, by omega⟩
              have hen : e < nd := by omega
              obtain ⟨⟨d1, wf, d2, d3⟩, d4⟩ := hdd e hen
              have o5 := o4 hd
              rw [he, show ((e : Int)).toNat = e from rfl] at o5
              rw [he]
              refine ⟨iI e, U, mSet σ 0 0, ?_, ?_, hth⟩
              · rw [if_neg y0, if_neg y1, if_pos y2, o5, q_cs, v_gi d1 (k := 0) rfl, p_bs]
              · rw [if_neg y0, if_neg y1, if_pos y2, if_neg (show ¬ iI (e : Int) = -1 by rw [j_m1, j_eq (by omega) (by omega) (by omega) (by omega)]; omega)]
          · refine ⟨-1, U, mSet σ 0 0, ?_, ?_, hth⟩
            · rw [if_neg y0, if_neg y1, if_neg y2]
            · rw [if_neg y0, if_neg y1, if_neg y2]
    · rw [iB_0 q] at c d
      refine ⟨-1, U, mSet σ 0 0, ?_, ?_, hth⟩
      · rw [c, q_uc, if_pos rfl]
      · rw [d, q_mc, if_pos rfl]
end E0s
