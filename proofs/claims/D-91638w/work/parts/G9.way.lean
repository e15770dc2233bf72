/-! PLAIN: the call way -/
theorem zBa_0 {nd e : Nat} {kn : Nat → Int} {wg : Nat → Nat → Nat} (h3 : ∀ e, e < nd → zCn (wg e) 8 ≤ 3) (hkn : ∀ e, e < nd → -1 ≤ kn e ∧ kn e < 8 ∧ (kn e ≠ -1 → wg e (kn e).toNat ≠ 0)) (he : e < nd) : zD (zBa kn wg nd) e = 0 ↔ kn e = -1 := by
  obtain ⟨-, b2, -⟩ := zBa_d (kn := kn) (wg := wg) nd (fun e he => (zBd1_lt (h3 e he) (hkn e he)).1)
  rw [b2 e he]
  unfold zBd1
  by_cases c : kn e = -1
  · rw [if_pos c]
    exact ⟨fun _ => c, fun _ => rfl⟩
  · rw [if_neg c]
    exact ⟨fun z => by omega, fun z => absurd z c⟩
theorem c_op4 {N b : Nat} {g : uEnv} {u : UH} {la da wa : Nat → Nat} {bk : Nat} {v8 v9 v10 : Value} {w h n nd cd : Nat} {hts : Nat → Int} {fl : Nat → Nat} {dO kn : Nat → Int} {wg : Nat → Nat → Nat} (hL : vLd u g la da wa bk v8 v9 v10 w h n nd hts fl dO kn wg) (hkn : ∀ e, e < nd → -1 ≤ kn e ∧ kn e < 8) (hb : ∀ e, e < nd → (zD cd e = 0 ↔ kn e = -1)) : ∀ (m d : Nat), d ≤ nd → nd < d + m → f_X14_open_4 N b g (la 0) m u (iI (zUb cd d)) (iI d) = some (iI (zUb cd nd), u) := by
  have sz := c_siz (N := N) (b := b) hL
  have hnd := hL.2.2.2.2.1
  intro m
  induction m with
  | zero => intro d h1 h2; omega
  | succ m ih =>
    intro d h1 h2
    rw [f_X14_open_4]
    unfold f_X14_open_41
    rw [v_gr hL.1 (k := 6) rfl, p_bs, p_bs, if_pos sz.2, sz.1, q_uc]
    by_cases hd : nd ≤ d
    · have : d = nd := by omega
      subst this
      rw [p_le (by omega) (by omega) (by omega) (by omega) (by omega)]
    · have gt := c_get (N := N) (b := b) (e := d) hL (by omega)
      obtain ⟨d1, d2, d3⟩ := hL.2.2.2.2.2.2.2.2.2.2 d (by omega)
      have hk := hkn d (by omega)
      have ed : iI (d : Int) + 1 = iI ((d + 1 : Nat) : Int) := by
        rw [j1, i_add]
        rfl
      have ul : zUb cd d < 32 := Nat.lt_of_lt_of_le (zUb_lt d) (Nat.pow_le_pow_right (by decide) (show d ≤ 5 by omega))
      have pl : 2 ^ d < 32 := Nat.lt_of_le_of_lt (Nat.pow_le_pow_right (by decide) (by omega : d ≤ 4)) (by decide)
      have ihh := ih (d + 1) (by omega) (by omega)
      rw [zUb] at ihh
      rw [n_le (by omega) (by omega) (by omega) (by omega) (by omega), v_gr hL.1 (k := 6) rfl, p_bs, p_bs, if_pos sz.2, gt, q_uc, p_bs, if_pos (v_is d1.1), v_gi d1.1 (k := 2) rfl, p_bs]
      by_cases hn1 : kn d = -1
      · rw [if_pos ((hb d (by omega)).mpr hn1)] at ihh
        rw [if_pos (show iI (kn d) = -1 by rw [hn1]; rfl), t_sh (by omega), t_or ul pl, p_let, p_let, ed]
        exact ihh
      · rw [if_neg (fun z => hn1 ((hb d (by omega)).mp z))] at ihh
        rw [if_neg (show ¬ iI (kn d) = -1 by rw [j_m1, j_eq (by omega) (by omega) (by omega) (by omega)]; exact hn1), show (0 : Int32) = iI ((0 : Nat) : Int) from rfl, t_or ul (by decide), p_let, p_let, ed]
        exact ihh
theorem m_way29 {N : Nat} {σ : MS} {B : bBk} {dead : Int} {w h n nd c : Nat} {hts : Nat → Int} {fl : Nat → Nat} {dO kn : Nat → Int} {dc : Nat → Nat} {wg : Nat → Nat → Nat} {x2 x3 : Int32} (hL : mLand σ B dead w h n nd hts fl dO kn dc wg) (hc : c < n) (hN : 9 ≤ N) : ∀ (m d : Nat), d ≤ nd → nd < d + m → ((∃ e, d ≤ e ∧ e < nd ∧ kn e = -1 ∧ zNe w h (dc e) c = true) → f_way_29 N m σ (iI c) x2 x3 (iI d) = some (-1, mSet σ 39 5)) ∧ ((¬ ∃ e, d ≤ e ∧ e < nd ∧ kn e = -1 ∧ zNe w h (dc e) c = true) → f_way_29 N m σ (iI c) x2 x3 (iI d) = mcall (f_from N σ (iI c) x2 x3) fun r4 σ2 => if 0 ≤ (lg_cmp r4 0) then mcall (f_base N σ2) fun r8 σ6 => mcall (f_stepOf N σ6 (iI c) r8) fun r11 σ9 => some (r11, σ9) else mcall (f_no N σ2 6) fun r14 σ12 => some (r14, σ12)) := by
  obtain ⟨⟨hB, -, -, -, e1, e2, hw, hh, -⟩, hn, e3, hnd, -, h5, -⟩ := hL
  have b8 := hB.2.2.2.2.2.1
  intro m
  induction m with
  | zero => intro d h1 h2; omega
  | succ m ih =>
    intro d h1 h2
    rw [f_way_29]
    unfold f_way_65
    rw [e3]
    by_cases hd : nd ≤ d
    · refine ⟨fun ⟨e, q1, q2, _⟩ => by omega, fun _ => ?_⟩
      rw [p_le (by omega) (by omega) (by omega) (by omega) (by omega)]
    · obtain ⟨i1, i2, i3⟩ := h5 d (by omega)
      have ed : iI (d : Int) + 1 = iI ((d + 1 : Nat) : Int) := by
        rw [j1, i_add]
        rfl
      have b5 : kn d < 2147483647 := by
        have := i3.2.2
        omega
      obtain ⟨t1, t2⟩ := t_ix (a := (d : Int)) (n := mLen 45) (k := d) rfl (by rw [mL45]; omega) (by rw [mL45]; omega)
      obtain ⟨ih1, ih2⟩ := ih (d + 1) (by omega) (by omega)
      have nr := m_near (N := N) (σ := σ) (c := c) (e := d) e1 e2 hw hh hn hc (by omega) i1 i2 (by omega)
      rw [n_le (by omega) (by omega) (by omega) (by omega) (by omega), if_pos t1, p_let, t2, i3.1]
      by_cases hk : kn d = -1
      · rw [if_pos (show iI (kn d) = -1 by rw [hk]; rfl), nr, q_mc]
        by_cases hz : zNe w h (dc d) c = true
        · refine ⟨fun _ => ?_, fun q => absurd ⟨d, Nat.le_refl _, by omega, hk, hz⟩ q⟩
          rw [if_pos hz, if_neg n10, m_no2, q_mc]
        · rw [if_neg hz, if_pos rfl, p_let, ed]
          refine ⟨fun ⟨e, q1, q2, q3, q4⟩ => ih1 ⟨e, ?_, q2, q3, q4⟩, fun q => ih2 (fun ⟨e, q1, q2, q3, q4⟩ => q ⟨e, by omega, q2, q3, q4⟩)⟩
          by_cases ee : e = d
          · rw [ee] at q4
            exact absurd q4 hz
          · omega
      · rw [if_neg (show ¬ iI (kn d) = -1 by rw [j_m1, j_eq (by omega) (by omega) (by omega) (by omega)]; exact hk), p_let, ed]
        refine ⟨fun ⟨e, q1, q2, q3, q4⟩ => ih1 ⟨e, ?_, q2, q3, q4⟩, fun q => ih2 (fun ⟨e, q1, q2, q3, q4⟩ => q ⟨e, by omega, q2, q3, q4⟩)⟩
        by_cases ee : e = d
        · rw [ee] at q3
          exact absurd q3 hk
        · omega
section C9
variable {N b : Nat} {g : uEnv} {A : pA} {ad sa : Nat → Nat} {Q : qT} {U : UH} {lab : Nat → Nat} {σ : MS}
theorem k_way (hQ : qOk Q) (h : xSt b g A ad sa Q U lab σ) (hN : 200000000000000000 ≤ N) (x y : Int32) (mean : Nat) (hm : mean = 0 ∨ mean = 1) : ∃ r U' σ' dc, f_X1_way N b g U (ad 0) x y (iI mean) = some (r, U') ∧ f_way N σ x y (iI mean) = some (r, σ') ∧ dc ≤ 1 ∧ xStep b g A ad sa Q U lab U' σ' dc 0 := by
  obtain ⟨ar0, ar1, ar2⟩ := k_are (N := N) (b := b) (g := g) (ad := ad) (x := x) (y := y) (k_is h)
  unfold f_X1_way f_way f_way_20
  rw [if_pos (k_is h), m_good, q_mv]
  obtain ⟨U0, n1, n2⟩ := k_ref (N := N) (t := 1) (by decide) hQ h
  rcases k_map (N := N) h with hno | ⟨bkv, ptv, lo, hi, a, al, rv, nm, B, dead, la, da, wa, v8, v9, v10, w, h', n, nd, hts, fl, dO, kn, dc, wg, hx, hI, hbk, vB, h7, h12, h34, hL, hM, hSo, hG, hLl, hce⟩
  · refine ⟨-1, U0, mT σ 1, 0, ?_, ?_, by omega, n2⟩
    · rw [ar0 (hno x).1, q_uc, if_pos rfl, if_pos (k_is h), n1, q_uc]
    · rw [(hno x).2, q_mc, if_pos rfl, m_no, q_mc]
  · rcases hce x with q | ⟨c1, c2, fr, c3, c4⟩
    · refine ⟨-1, U0, mT σ 1, 0, ?_, ?_, by omega, n2⟩
      · rw [ar0 q.1, q_uc, if_pos rfl, if_pos (k_is h), n1, q_uc]
      · rw [q.2, q_mc, if_pos rfl, m_no, q_mc]
    · rcases hce y with q | ⟨d1, d2, go, d3, d4⟩
      · refine ⟨-1, U0, mT σ 1, 0, ?_, ?_, by omega, n2⟩
        · rw [ar1 c1 q.1, q_uc, if_pos rfl, if_pos (k_is h), n1, q_uc]
        · rw [c2, q_mc, if_neg n10, q.2, q_mc, if_pos rfl, m_no, q_mc]
      · have hnd := hL.2.2.2.2.1
        have hn := hL.2.2.2.1
        have m4 : w * h' ≤ 10 * 10 := Nat.mul_le_mul hL.2.1.2 hL.2.2.1.2
        have hkn := k_knO (U := U) (g := g) (la := la) (da := da) (wa := wa) (a := a) (v8 := v8) (v9 := v9) (v10 := v10) hM hG
        have h3 : ∀ e, e < nd → zCn (wg e) 8 ≤ 3 := fun e he => (hL.2.2.2.2.2.2.2.2.2.2 e he).2.2
        have ba := yCan_base hnd h3 hkn
        have se := c_sees (N := N) (b := b) (c := fr) (dc := dc) hL c4 hG.1 hG.2.1 (by omega)
        have op : f_X14_open N b g U (la 0) = some (iI (zUb (zBa kn wg nd) nd), U) := c_op4 (N := N) (cd := zBa kn wg nd) hL (fun e he => ⟨(hkn e he).1, (hkn e he).2.1⟩) (fun e he => zBa_0 h3 hkn he) N 0 (by omega) (by omega)
        have nl : zNb w h' dc fr nd < 32 := Nat.lt_of_lt_of_le (zNb_lt nd) (Nat.pow_le_pow_right (by decide) hnd)
        have ul : zUb (zBa kn wg nd) nd < 32 := Nat.lt_of_lt_of_le (zUb_lt nd) (Nat.pow_le_pow_right (by decide) hnd)
        have hM0 : mLand (mT σ 0) B dead w h' n nd hts fl dO kn dc wg := hM
        obtain ⟨w1, w2⟩ := m_way29 (N := N) (x2 := iI go) (x3 := iI mean) hM0 c4 (by omega) N 0 (by omega) (by omega)
        have tb : ∀ e, e < nd → ((zNb w h' dc fr nd / 2 ^ e % 2 = 1) ↔ zNe w h' (dc e) fr = true) := fun e he => by
          have t := zNb_t (w := w) (h := h') (dc := dc) (c := fr) nd e
          rw [Nat.testBit_eq_decide_div_mod_eq, show decide (e < nd) = true from decide_eq_true he, Bool.true_and] at t
          rw [← t]
          exact ⟨fun q => decide_eq_true q, fun q => of_decide_eq_true q⟩
        have eqv : zNb w h' dc fr nd &&& zUb (zBa kn wg nd) nd = 0 ↔ ¬ ∃ e, 0 ≤ e ∧ e < nd ∧ kn e = -1 ∧ zNe w h' (dc e) fr = true := by
          rw [z_free, zNw_0 _ _ (by omega)]
          constructor
          · intro q ⟨e, q1, q2, q3, q4⟩
            exact q e q1 q2 ⟨(zBa_0 h3 hkn q2).mpr q3, (tb e q2).mpr q4⟩
          · intro q e q1 q2 z
            exact q ⟨e, q1, q2, (zBa_0 h3 hkn q2).mp z.1, (tb e q2).mp z.2⟩
        rw [ar2 c1 d1, q_uc, if_neg n10, x_mp hx, p_bs, p_bs, if_pos (v_is hL.1), c3, se, q_uc, x_mp hx, p_bs, p_bs, if_pos (v_is hL.1), op, q_uc, t_and nl ul, ← c3, c2, q_mc, if_neg n10, d2, q_mc, if_neg n10, c3, d3]
        by_cases hz : zNb w h' dc fr nd &&& zUb (zBa kn wg nd) nd = 0
        · rw [if_pos (show iI ((zNb w h' dc fr nd &&& zUb (zBa kn wg nd) nd : Nat) : Int) = 0 by rw [hz]; rfl)]
          have w2' : f_way_29 N N (mT σ 0) (iI fr) (iI go) (iI mean) 0 = _ := w2 (eqv.mp hz)
          rw [w2']
          obtain ⟨ub, u8, u9, u10, σ1, s1, s2, s3, s4, s5, s6, s7, s8, s9, s10, s11⟩ := k_ses (N := N) (mean := mean) hx hI vB h7 hL hM hSo hG hLl hm d4 c4 hN
          have kk := k_kOk hI
          have bas := m_base (N := N) (σ := σ1) s8.2.1 hG.2.2 (by omega)
          obtain ⟨R', st1, st2⟩ := m_stepOf (N := N) (V := σ1.2.2) (c := fr) (cd := zBa kn wg nd) (X := zY σ1.2.2 (zBa kn wg nd)) s8 s10 s11 hm d4 s7.1 s7.2 (s9 _ s7.1 s7.2) c4 (by omega)
          have hK2 : mKeep (mT σ 0) (σ1.1, zRow σ1.2.1 70 R', σ1.2.2) := ⟨s4.1, fun j j1 j2 j3 j4 j5 => (zRow_n j3).trans (s4.2 j j1 j2 j3 j4 j5)⟩
          have hS2 : mSol (σ1.1, zRow σ1.2.1 70 R', σ1.2.2) B dead w h' n nd hts fl dO kn dc wg := s5
          have yb := (s6 _ s7.1 s7.2).1 fr c4
          rw [s2, q_mc, show (0 : Int64) = iL 0 from rfl]
          by_cases hg : fr = go
          · -- at the goal
            have y0 : zY σ1.2.2 (zBa kn wg nd) fr = 0 := by
              rw [(s6 _ s7.1 s7.2).2.1 fr c4 (fun q => q.1 hg)]
              unfold zX0
              rw [if_pos hg]
            have l0 := hI.2.2.2.2.2.1.1
            have ba0 : b ≤ ad 0 := lab_ge hI.2.2.1.1 (by omega)
            have kw : ∀ k, k ≠ 0 → k ≠ 39 → k ≠ 49 → k ≠ 50 → k ≠ 51 → (σ1.1, zRow σ1.2.1 70 R', σ1.2.2).1 k = σ.1 k := fun k q0 q39 q49 q50 q51 => by
              show σ1.1 k = σ.1 k
              rw [s4.1 k q49 q50 q51]
              show upd (upd σ.1 0 0) 39 0 k = σ.1 k
              rw [upd_n q39, upd_n q0]
            have sg := k_sig (σ1 := (σ1.1, zRow σ1.2.1 70 R', σ1.2.2)) hQ hI hbk vB h7 h12 h34 hL hG hLl (hK2.land hM0) hS2 kw (fun j a b c d e => hK2.2 j a b c d e)
            refine ⟨4, uSet U (ad 0) (xO ad (mT σ 0) bkv (.ref (la 0)) ptv), (σ1.1, zRow σ1.2.1 70 R', σ1.2.2), 0, ?_, ?_, by omega, ?_⟩
            · rw [if_pos (show iI (fr : Int) = iI (go : Int) by rw [hg]), if_pos (k_is h), x_don hx ba0, q_uc]
            · rw [y0, show iW 0 = ((0 : Nat) : Int) from if_pos (by decide), p_cg (by omega) (by omega) (by omega) (by omega) (by omega), bas, q_mc, st1, q_mc, if_pos hg]
              rfl
            · rw [← xO_eq (σ := mT σ 0) (σ' := (σ1.1, zRow σ1.2.1 70 R', σ1.2.2)) ⟨s4.1 39 (by decide) (by decide) (by decide), s4.1 10 (by decide) (by decide) (by decide), s4.1 38 (by decide) (by decide) (by decide), s4.1 2 (by decide) (by decide) (by decide), s4.1 9 (by decide) (by decide) (by decide), s4.1 63 (by decide) (by decide) (by decide), s4.1 64 (by decide) (by decide) (by decide), s4.1 65 (by decide) (by decide) (by decide)⟩]
              exact sg.fin hQ hx l0 (fun _ _ => rfl) rfl rfl
          · have hgn : ¬ iI (fr : Int) = iI (go : Int) := by
              rw [j_eq (by omega) (by omega) (by omega) (by omega)]
              omega
            have s3' := s3
            obtain ⟨hXb, ⟨V, D, P, kid, hIv⟩, hf, ho, t1, t2⟩ := s3'
            have hXb' := hXb
            obtain ⟨hO, hLb, hib, -⟩ := hXb'
            have hfr : zFr nd (fun c => zNb w h' dc c nd) (zBa kn wg nd) go fr := ⟨hg, z_free.mp hz⟩
            obtain ⟨V1, D1, P1, fo, b1, b2, b3, b4⟩ := c_best (N := N) (b := b) (V := V) (D := D) (P := P) hXb kk d4 hm s6 (by omega) s7.1 s7.2 c4 hfr hIv
            rw [kid] at b1
            have s3b : sS g la da wa sa (ad 2) U.1 a u8 u9 u10 w h' n nd B.2.1 go mean hts fl (fun c => zNb w h' dc c nd) dO kn wg (zBG B dead hts w h') (zY σ1.2.2) U (kH ub sa V1 D1 P1) 1 0 := by
              refine ⟨hXb.kH kk, ⟨V1, D1, P1, kH_id kH_4 (kH_5 kk) (kH_6 kk), b2⟩, fun x q1 q2 => ?_, ho.kH hib, t1, t2⟩
              obtain ⟨n4, n5, n6⟩ := kFp_n q1
              rw [kH_n n4 n5 n6]
              exact hf x q1 q2
            rw [if_neg hgn, if_pos (k_is h), s1, q_uc]
            unfold f_X1_way_57 f_X1_way_95
            rw [p_bs, if_pos (v_is hO), c_known hO hLb hkn (by omega), q_uc, if_pos (v_is hO), b1, q_uc]
            by_cases hfi : zY σ1.2.2 (zBa kn wg nd) fr < 1000000000000000
            · obtain ⟨r, yy, q1, q2, q3, q4⟩ := b3 hfi
              have q4' : zWy (zY σ1.2.2 (zBa kn wg nd)) (zY σ1.2.2 (zBa kn wg nd) fr) (zEd w h' (zSc mean nd (fun e => zCn (wg e) 8) (fun e k => wg e (zKd (wg e) k)) (zBa kn wg nd)) (zKc w h' fl dO (fun e k => zKd (wg e) k) (zBG B dead hts w h') (zBa kn wg nd)) fr) 4 0 = yy := q4.symm
              obtain ⟨e1, e2, e3⟩ := k_end (N := N) hQ hx hI hbk vB h7 h12 h34 hL hM hG hLl s3b hK2 hS2
              obtain ⟨U', r1, r2⟩ := e2 (iI yy)
              refine ⟨iI yy, U', _, 1, ?_, ?_, by omega, r2⟩
              · rw [q1, q_cs, c_ord q2 q3, q_uc, if_pos e1, r1, q_uc]
              · unfold iW
                rw [if_pos hfi, p_cg (by omega) (by omega) (by omega) (by omega) (by omega), bas, q_mc, st1, q_mc, if_neg hg, q4']
            · obtain ⟨e1, e2, e3⟩ := k_end (N := N) hQ hx hI hbk vB h7 h12 h34 hL hM hG hLl s3b s4 s5
              obtain ⟨U', r1, r2⟩ := e3 6 (by decide)
              refine ⟨-1, U', mSet σ1 39 6, 1, ?_, ?_, by omega, r2⟩
              · rw [b4 hfi, q_cn, if_pos e1, r1, q_uc]
              · unfold iW
                rw [if_neg hfi, n_cg (by omega) (by omega) (by omega) (by omega) (by omega), m_no2, q_mc]
        · have al : zNb w h' dc fr nd &&& zUb (zBa kn wg nd) nd < 32 := Nat.lt_of_le_of_lt Nat.and_le_right ul
          obtain ⟨U5, r1, r2⟩ := k_ref (N := N) (t := 5) (by decide) hQ h
          refine ⟨-1, U5, mT σ 5, 0, ?_, ?_, by omega, r2⟩
          · rw [if_neg (show ¬ iI ((zNb w h' dc fr nd &&& zUb (zBa kn wg nd) nd : Nat) : Int) = 0 by rw [j0, j_eq (by omega) (by omega) (by omega) (by omega)]; omega), if_pos (k_is h), r1, q_uc]
          · have e := w1 (Classical.byContradiction (fun q => hz (eqv.mpr q)))
            rw [mT_2] at e
            exact e
end C9
