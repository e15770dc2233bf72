/-! PLAIN: the call weigh -/
theorem zCn_U {f : Nat → Nat} {k v : Nat} : ∀ q, q ≤ k → zCn (zU f k v) q = zCn f q := by
  intro q
  induction q with
  | zero => intro _; rfl
  | succ q ih =>
    intro h
    rw [zCn_s, zCn_s, ih (by omega), zU_n (by omega)]
theorem m_we56 {N : Nat} {σ : MS} {e k v : Nat} {f : Nat → Nat} (he : e < 5) (hk : k < 8) (hf : ∀ g, g < 8 → σ.2.1 46 (8 * e + g) = iI (f g) ∧ f g ≤ 9) : ∀ (m q : Nat), q ≤ 8 → 8 < q + m → f_weigh_56 N m σ (iI e) (iI k) (iI v) (iI ((zCn (zU f k v) q + (if k < q then 0 else if v = 0 then 0 else 1) : Nat) : Int)) (iI q) = (if iI ((zCn (zU f k v) 8 : Nat) : Int) < 1 then f_weigh_126 N σ else if 3 < iI ((zCn (zU f k v) 8 : Nat) : Int) then f_weigh_126 N σ else if iI (v : Int) = 0 then if mIn (iI (e : Int)) (mLen 45) = true then mlet (σ.2.1 45 (iI (e : Int)).toNatClampNeg) fun y6 => if y6 = iI (k : Int) then f_weigh_126 N σ else f_weigh_132 N σ (iI e) (iI k) (iI v) else none else f_weigh_132 N σ (iI e) (iI k) (iI v)) := by
  intro m
  induction m with
  | zero => intro q h1 h2; omega
  | succ m ih =>
    intro q h1 h2
    rw [f_weigh_56]
    by_cases hq : q = 8
    · subst hq
      rw [j8, p_le (by omega) (by omega) (by omega) (by omega) (by omega), if_pos hk, Nat.add_zero]
    · unfold f_weigh_90 f_weigh_91
      have eq : iI (q : Int) + 1 = iI ((q + 1 : Nat) : Int) := by
        rw [j1, i_add]
        rfl
      obtain ⟨t1, t2⟩ := t_ix (a := 8 * (e : Int) + (q : Int)) (n := mLen 46) (k := 8 * e + q) (by omega) (by rw [mL46]; omega) (by rw [mL46]; omega)
      obtain ⟨f1, f2⟩ := hf q (by omega)
      have cb : zCn (zU f k v) q ≤ 8 := by
        have := zSum_b (X := zInd (zU f k v)) (M := 1) q (fun d _ => by unfold zInd; split <;> omega)
        have e2 : zCn (zU f k v) q ≤ 1 * q := by
          have q2 : zCn (zU f k v) q = zSum (zInd (zU f k v)) q := rfl
          omega
        omega
      have ihh := ih (q + 1) (by omega) (by omega)
      rw [zCn_s] at ihh
      have n8 : ¬ (8 : Int32) ≤ iI (q : Int) := by
        rw [j8, j_le (by omega) (by omega) (by omega) (by omega)]
        omega
      rw [if_neg n8]
      by_cases hqk : q = k
      · subst hqk
        rw [zU_s, if_pos (show q < q + 1 by omega)] at ihh
        rw [if_pos rfl, if_neg (show ¬ q < q by omega), p_let, p_let, eq, show (0 : Int32) = iI 0 from rfl, i_add]
        have e3 : ((zCn (zU f q v) q + (if v = 0 then 0 else 1) : Nat) : Int) + 0 = ((zCn (zU f q v) q + (if v = 0 then 0 else 1) + 0 : Nat) : Int) := by omega
        rw [e3]
        exact ihh
      · have nk : ¬ iI (q : Int) = iI (k : Int) := by
          rw [j_eq (by omega) (by omega) (by omega) (by omega)]
          omega
        have e4 : (if k < q + 1 then 0 else if v = 0 then 0 else 1) = (if k < q then 0 else if v = 0 then 0 else 1) := by
          by_cases c : k < q
          · rw [if_pos c, if_pos (by omega)]
          · rw [if_neg c, if_neg (by omega)]
        rw [zU_n hqk, e4] at ihh
        rw [if_neg nk, j8, i_mul, i_add, if_pos t1, p_let, t2, f1]
        by_cases hz : f q = 0
        · rw [if_pos hz, Nat.add_zero] at ihh
          rw [if_pos (show iI (f q : Int) ≤ 0 by rw [hz]; decide), p_let, p_let, eq, show (0 : Int32) = iI 0 from rfl, i_add, Int.add_zero]
          exact ihh
        · rw [if_neg hz] at ihh
          rw [if_neg (show ¬ iI (f q : Int) ≤ 0 by rw [j0, j_le (by omega) (by omega) (by omega) (by omega)]; omega), p_let, p_let, eq, j1, i_add]
          have e3 : ((zCn (zU f k v) q + (if k < q then 0 else if v = 0 then 0 else 1) : Nat) : Int) + 1 = ((zCn (zU f k v) q + 1 + (if k < q then 0 else if v = 0 then 0 else 1) : Nat) : Int) := by omega
          rw [e3]
          exact ihh
/-- weights -/
theorem vLd.wgt {u : UH} {g : uEnv} {la da wa : Nat → Nat} {bk : Nat} {v8 v9 v10 : Value} {w h n nd e k v : Nat} {hts : Nat → Int} {fl : Nat → Nat} {dO kn : Nat → Int} {wg : Nat → Nat → Nat} {wf : Nat → Int32} (hL : vLd u g la da wa bk v8 v9 v10 w h n nd hts fl dO kn wg) (he : e < nd) (hwf : u.2.2 (wa e) = some (.inl (0, 8, .inl wf))) (hne : wa e ≠ la 1 ∧ wa e ≠ la 2 ∧ ∀ e', e' < nd → e' ≠ e → wa e' ≠ wa e) (hv : v ≤ 9) (hc : 1 ≤ zCn (zU (wg e) k v) 8 ∧ zCn (zU (wg e) k v) 8 ≤ 3) : vLd (uSet u (wa e) (.inl (0, 8, .inl (upd wf k (iI v))))) g la da wa bk v8 v9 v10 w h n nd hts fl dO kn (zU wg e (zU (wg e) k v)) := by
  obtain ⟨l0, hw, hh, hn, hnd, ⟨hf, a1, a2⟩, ⟨gf, g1, g2⟩, ⟨df, f1, f2⟩, ⟨m, mc, xs, ⟨x1, x2, x3⟩, x4⟩, ⟨yf, wr, y1, y2⟩, hdd⟩ := hL
  have nr : ∀ {x cl : Nat} {fs : List Value}, u.2.2 x = some (.inr (cl, fs)) → (uSet u (wa e) (.inl (0, 8, .inl (upd wf k (iI v))))).2.2 x = some (.inr (cl, fs)) := fun q => (u_sn (Ne.symm (u_nlr hwf q))).trans q
  have nl : ∀ {x t m' : Nat} {z : uVs}, u.2.2 x = some (.inl (t, m', z)) → t ≠ 0 → (uSet u (wa e) (.inl (0, 8, .inl (upd wf k (iI v))))).2.2 x = some (.inl (t, m', z)) := fun q q' => (u_sn (u_nll q hwf (Or.inl q'))).trans q
  refine ⟨nr l0, hw, hh, hn, hnd, ⟨hf, (u_sn (Ne.symm hne.1)).trans a1, a2⟩, ⟨gf, (u_sn (Ne.symm hne.2.1)).trans g1, g2⟩, ⟨df, nl f1 (by decide), f2⟩, ⟨m, mc, xs, ⟨nr x1, nl x2 (by decide), x3⟩, x4⟩, ⟨yf, wr, nl y1 (by decide), y2⟩, fun e' he' => ?_⟩
  obtain ⟨⟨d1, wf', d2, d3⟩, d4⟩ := hdd e' he'
  by_cases q : e' = e
  · subst q
    rw [zU_s]
    have ww : wf' = wf := by
      rw [hwf] at d2
      injection d2 with d2
      injection d2 with d2
      injection d2 with _ d2
      injection d2 with _ d2
      injection d2 with d2
      exact d2.symm
    subst ww
    refine ⟨⟨nr d1, _, u_ss, fun g hg => ?_⟩, hc⟩
    by_cases qq : g = k
    · subst qq
      rw [zU_s, upd_s]
      exact ⟨rfl, hv⟩
    · rw [zU_n qq, upd_n qq]
      exact d3 g hg
  · rw [zU_n q]
    exact ⟨⟨nr d1, wf', (u_sn (hne.2.2 e' he' q)).trans d2, d3⟩, d4⟩
section E2s
variable {N b : Nat} {g : uEnv} {A : pA} {ad sa : Nat → Nat} {Q : qT} {U : UH} {lab : Nat → Nat} {σ : MS}
theorem k_weigh (hQ : qOk Q) (h : xSt b g A ad sa Q U lab σ) (hN : 20 ≤ N) (x y z : Int32) : ∃ r U' σ', f_X1_weigh N b g U (ad 0) x y z = some (r, U') ∧ f_weigh N σ x y z = some (r, σ') ∧ xStep b g A ad sa Q U lab U' σ' 0 0 := by
  obtain ⟨U1, n1, n2⟩ := k_den (N := N) (t := 1) (by decide) hQ h
  obtain ⟨U2, n3, n4⟩ := k_den (N := N) (t := 2) (by decide) hQ h
  obtain ⟨U5, n5, n6⟩ := k_den (N := N) (t := 5) (by decide) hQ h
  have hi0 := k_is h
  have w126 : f_weigh_126 N (mT σ 0) = some (0, mT σ 5) := by
    unfold f_weigh_126
    rw [m_not, q_mc, if_pos mB0]
  unfold f_X1_weigh f_weigh f_X1_weigh_16 f_weigh_20
  rw [if_pos hi0, m_good, q_mv]
  rcases k_dbt (N := N) h x with ⟨c1, c2⟩ | ⟨c1, c2, e, bkv, ptv, lo, hi, a, al, rv, nm, B, dead, la, da, wa, v8, v9, v10, w, h', n, nd, hts, fl, dO, kn, dc, wg, c3, c4, hx, hI, hbk, vB, h7, h12, h34, hL, hM, hG, hLl⟩
  · refine ⟨0, U1, mT σ 1, ?_, ?_, n2⟩
    · rw [c1, q_uc, if_pos rfl, if_pos hi0, n1, q_uc, if_pos uF0]
    · rw [c2, q_mc, if_pos rfl, m_not, q_mc, if_pos mB0]
  · rw [c1, c2, q_uc, q_mc, if_neg n10, if_neg n10, if_pos hi0]
    rcases k_gd (N := N) h y with ⟨g1, g2⟩ | ⟨g1, g2, k, lo', hi', a', al', rv', nm', B', mpv', ptv', e1, e2, e3, e4, e5, e6⟩
    · refine ⟨0, U1, mT σ 1, ?_, ?_, n2⟩
      · rw [g1, q_uc, if_pos rfl, if_pos hi0, n1, q_uc, if_pos uF0]
      · rw [g2, q_mc, if_pos rfl, m_not, q_mc, if_pos mB0]
    · rw [g1, g2, q_uc, q_mc, if_neg n10, if_neg n10]
      rcases k_in (N := N) (b := b) (g := g) (lo := 0) (hi := 9) ⟨by decide, by decide⟩ ⟨by decide, by decide⟩ z U (mT σ 0) with ⟨f1, f2⟩ | ⟨f1, f2, iz, f3, f4, f5⟩
      · have f1' : f_X1_in N b g U z 0 9 = some (0, U) := f1
        have f2' : f_within N (mT σ 0) z 0 9 = some (0, mT σ 0) := f2
        refine ⟨0, U2, mT σ 2, ?_, ?_, n4⟩
        · rw [f1', q_uc, if_pos rfl, if_pos hi0, n3, q_uc, if_pos uF0]
        · rw [f2', q_mc, if_pos rfl, m_not, q_mc, if_pos mB0]
      · have f1' : f_X1_in N b g U z 0 9 = some (1, U) := f1
        have f2' : f_within N (mT σ 0) z 0 9 = some (1, mT σ 0) := f2
        obtain ⟨v, rfl⟩ : ∃ v : Nat, iz = (v : Int) := ⟨iz.toNat, by omega⟩
        have hv9 : v ≤ 9 := by omega
        have hnd := hL.2.2.2.2.1
        have kB : k < B.2.1 := by
          rw [bk_same hM.1.2.1 e6 hM.1.1 e5]
          exact e2
        have b8 := hM.1.1.2.2.2.2.2.1
        have k8 : k < 8 := by omega
        have hl := hI.2.2.1.1
        have l0 := hI.2.2.2.2.2.1.1
        have ba0 : b ≤ ad 0 := lab_ge hl (by omega)
        have sz := c_siz (N := N) (b := b) hL
        have gt := c_get (N := N) (b := b) (e := e) hL c4
        obtain ⟨⟨d1, wf, d2, d3⟩, d4⟩ := hL.2.2.2.2.2.2.2.2.2.2 e c4
        obtain ⟨ll1, ll2, ll3⟩ := hLl.2.1 e c4
        have bw : b ≤ wa e := lab_ge hl (by omega)
        have Lw : uLdI U (wa e) 0 (iI (k : Int)) = some (wf k) := u_ldI d2 (by omega) (by omega) (by omega)
        have st : uStI b U (wa e) 0 (iI (k : Int)) (iI v) = some (uSet U (wa e) (.inl (0, 8, .inl (upd wf k (iI v))))) := u_stI d2 bw (by omega) (by omega) (by omega)
        have ndw : da e ≠ wa e := Ne.symm (u_nlr d2 d1)
        have d1' : (uSet U (wa e) (.inl (0, 8, .inl (upd wf k (iI v))))).2.2 (da e) = some (.inr (13, [.int (iI e), .ref (wa e), .int (iI (kn e))])) := (u_sn ndw).trans d1
        have vd : vDb (uSet U (wa e) (.inl (0, 8, .inl (upd wf k (iI v))))) (da e) (wa e) e (zU (wg e) k v) (kn e) := ⟨d1', _, u_ss, fun q hq => by
          by_cases qq : q = k
          · subst qq
            rw [zU_s, upd_s]
            exact ⟨rfl, hv9⟩
          · rw [zU_n qq, upd_n qq]
            exact d3 q hq⟩
        have kd := c_kds (N := N) (b := b) (g := g) vd (by omega)
        have cb : zCn (zU (wg e) k v) 8 ≤ 8 := by
          have := zSum_b (X := zInd (zU (wg e) k v)) (M := 1) 8 (fun d _ => by unfold zInd; split <;> omega)
          have q2 : zCn (zU (wg e) k v) 8 = zSum (zInd (zU (wg e) k v)) 8 := rfl
          omega
        have nxw : ad 0 ≠ wa e := fun z => by rw [z] at l0; omega
        have hx1 : (uSet U (wa e) (.inl (0, 8, .inl (upd wf k (iI v))))).2.2 (ad 0) = some (xO ad σ bkv (.ref (la 0)) ptv) := (u_sn nxw).trans hx
        have kb := (hM.2.2.2.2.2.1 e c4).2.2.2
        -- the model's count
        have mc := m_we56 (N := N) (σ := mT σ 0) (e := e) (k := k) (v := v) (f := wg e) (by omega) k8 (fun q hq => ⟨((hM.2.2.2.2.2.2 e c4).1 q hq).1, ((hM.2.2.2.2.2.2 e c4).1 q hq).2.1⟩) N 0 (by omega) (by omega)
        have m51 : (if iI (v : Int) ≤ 0 then f_weigh_51 N (mT σ 0) (iI e) (iI k) (iI v) 0 else f_weigh_51 N (mT σ 0) (iI e) (iI k) (iI v) 1) = f_weigh_56 N N (mT σ 0) (iI e) (iI k) (iI v) (iI ((zCn (zU (wg e) k v) 0 + (if k < 0 then 0 else if v = 0 then 0 else 1) : Nat) : Int)) (iI ((0 : Nat) : Int)) := by
          unfold f_weigh_51
          rw [if_neg (show ¬ k < 0 by omega)]
          by_cases v0 : v = 0
          · rw [if_pos (show iI (v : Int) ≤ 0 by rw [v0]; decide), if_pos v0]
            rfl
          · rw [if_neg (show ¬ iI (v : Int) ≤ 0 by rw [j0, j_le (by omega) (by omega) (by omega) (by omega)]; omega), if_neg v0]
            rfl
        obtain ⟨t3, t4⟩ := t_ix (a := (e : Int)) (n := mLen 45) (k := e) rfl (by rw [mL45]; omega) (by rw [mL45]; omega)
        obtain ⟨t5, t6⟩ := t_ix (a := 8 * (e : Int) + (k : Int)) (n := mLen 46) (k := 8 * e + k) (by omega) (by rw [mL46]; omega) (by rw [mL46]; omega)
        have k45 : (mT σ 0).2.1 45 e = iI (kn e) := (hM.2.2.2.2.2.1 e c4).2.2.1
        -- the way back
        have back : uStI b (uSet U (wa e) (.inl (0, 8, .inl (upd wf k (iI v))))) (wa e) 0 (iI (k : Int)) (wf k) = some U := by
          rw [u_stI u_ss bw (by omega) (by omega) (by omega), u_s2]
          have : upd (upd wf k (iI v)) ((k : Int)).toNat (wf k) = wf := by
            show upd (upd wf k (iI v)) k (wf k) = wf
            rw [upd_u]
            funext q
            by_cases qq : q = k
            · rw [qq, upd_s]
            · rw [upd_n qq]
          rw [this, u_se d2]
        have w97 : f_X1_weigh_97 N b g (ad 0) (uSet U (wa e) (.inl (0, 8, .inl (upd wf k (iI v))))) (iI k) (some (da e)) (wf k) = some (0, U5) := by
          unfold f_X1_weigh_97
          rw [p_bs, v_gr d1' (k := 1) rfl, p_bs, p_bs, back, p_bs, if_pos hi0, n5, q_uc, if_pos uF0]
        have inn := x_in (N := N) (b := b) (g := g) (u := uSet U (wa e) (.inl (0, 8, .inl (upd wf k (iI v))))) (x := (zCn (zU (wg e) k v) 8 : Int)) (l := 1) (h := 3) ⟨by omega, by omega⟩ ⟨by decide, by decide⟩ ⟨by decide, by decide⟩
        have inn' : f_X1_in N b g (uSet U (wa e) (.inl (0, 8, .inl (upd wf k (iI v))))) (iI (zCn (zU (wg e) k v) 8)) 1 3 = some (iB (1 ≤ (zCn (zU (wg e) k v) 8 : Int) ∧ (zCn (zU (wg e) k v) 8 : Int) ≤ 3), uSet U (wa e) (.inl (0, 8, .inl (upd wf k (iI v))))) := inn
        rw [f1', f2', q_uc, q_mc, if_neg n10, if_neg n10, x_mp hx, p_bs, p_bs, v_gr hL.1 (k := 6) rfl, p_bs, p_bs, if_pos sz.2, c3, gt, q_uc, p_bs, if_pos (v_is d1), v_gr d1 (k := 1) rfl, p_bs, p_bs, e1, f3, Lw, p_bs, p_bs, p_bs, st, p_bs, if_pos (v_is d1'), kd, q_uc, inn', q_uc, m51, mc]
        by_cases hcn : 1 ≤ zCn (zU (wg e) k v) 8 ∧ zCn (zU (wg e) k v) 8 ≤ 3
        · have i1 : iB (1 ≤ (zCn (zU (wg e) k v) 8 : Int) ∧ (zCn (zU (wg e) k v) 8 : Int) ≤ 3) = 1 := iB_1 (by omega)
          rw [i1, if_neg n10, j1, n_lt (by omega) (by omega) (by omega) (by omega) (by omega), show (3 : Int32) = iI 3 from rfl, n_lt (by omega) (by omega) (by omega) (by omega) (by omega)]
          -- it is granted
          have ok : (kn e = (k : Int) → v ≠ 0) → ∃ r U' σ', f_X1_weigh_112 N b g (ad 0) (uSet U (wa e) (.inl (0, 8, .inl (upd wf k (iI v))))) = some (r, U') ∧ f_weigh_132 N (mT σ 0) (iI e) (iI k) (iI v) = some (r, σ') ∧ xStep b g A ad sa Q U lab U' σ' 0 0 := fun hkv => by
            have hM1 : mLand (mSet (mArr (mT σ 0) 46 (8 * e + k) (iI v)) 51 0) B dead w h' n nd hts fl dO kn dc (zU wg e (zU (wg e) k v)) := by
              obtain ⟨y0, y1, y2, y3, y4, y5, y6⟩ := hM
              refine ⟨y0, y1, y2, y3, y4, y5, fun q hq => ?_⟩
              obtain ⟨w1, w2⟩ := y6 q hq
              by_cases qq : q = e
              · subst qq
                rw [zU_s]
                refine ⟨fun p hp => ?_, hcn⟩
                obtain ⟨x1, x2, x3⟩ := w1 p hp
                show upd (σ.2.1 46) (8 * q + k) (iI v) (8 * q + p) = _ ∧ _
                by_cases pp : p = k
                · subst pp
                  rw [zU_s, upd_s]
                  exact ⟨rfl, hv9, fun _ => kB⟩
                · rw [zU_n pp, upd_n (by omega)]
                  exact ⟨x1, x2, x3⟩
              · rw [zU_n qq]
                refine ⟨fun p hp => ?_, w2⟩
                obtain ⟨x1, x2, x3⟩ := w1 p hp
                refine ⟨?_, x2, x3⟩
                show upd (σ.2.1 46) (8 * e + k) (iI v) (8 * q + p) = _
                rw [upd_n (by omega)]
                exact x1
            have hG1 : xGe n nd dO kn dc (zU wg e (zU (wg e) k v)) := ⟨hG.1, hG.2.1, fun q hq hne => by
              by_cases qq : q = e
              · subst qq
                rw [zU_s]
                by_cases pp : (kn q).toNat = k
                · rw [pp, zU_s]
                  have kq := (hM.2.2.2.2.2.1 q hq).2.2.2.1
                  exact hkv (by omega)
                · rw [zU_n pp]
                  exact hG.2.2 q hq hne
              · rw [zU_n qq]
                exact hG.2.2 q hq hne⟩
            have hL5 : ∀ m z, (uSet U (wa e) (.inl (0, 8, .inl (upd wf k (iI v))))).2.2 (la 5) = some (.inl (4, m, z)) → (m = 0 → g.1 10 = some (la 5) ∧ la 5 < b) ∧ (m ≠ 0 → lab (la 5) = 8) := fun m z q => by
              by_cases ee : la 5 = wa e
              · rw [ee, u_ss] at q
                cases q
              · rw [u_sn ee] at q
                exact hLl.2.2.2 m z q
            have sg := k_mut (σ1 := mSet (mArr (mT σ 0) 46 (8 * e + k) (iI v)) 51 0) (U' := uSet U (wa e) (.inl (0, 8, .inl (upd wf k (iI v))))) (lab' := lab) hQ hI hbk vB h7 h12 (fun x => Or.inl rfl) hI.2.2.1.2 (hI.1.set d2) (Nat.le_refl _) (k_set8 ll2) h34 (hL.wgt c4 d2 ll3 hv9 hcn) hM1 (fun z => absurd rfl z) hG1 ⟨hLl.1, hLl.2.1, hLl.2.2.1, hL5⟩ (fun k q0 _ _ q39 q51 => (upd_n q51).trans ((upd_n q39).trans (upd_n q0))) (Or.inl rfl) (fun j _ _ _ _ _ q46 => if_neg q46)
            refine ⟨1, uSet (uSet U (wa e) (.inl (0, 8, .inl (upd wf k (iI v))))) (ad 0) (xO ad (mT σ 0) bkv (.ref (la 0)) ptv), mSet (mArr (mT σ 0) 46 (8 * e + k) (iI v)) 51 0, ?_, ?_, k_fins hQ sg hx1 l0 (fun x q => u_sn (fun z => by rw [z, ll2] at q; omega)) rfl rfl rfl ⟨rfl, rfl, rfl, rfl, rfl, rfl, rfl⟩⟩
            · unfold f_X1_weigh_112
              rw [if_pos (v_is hx1), x_gra hx1 ba0, q_uc, if_pos uF1]
            · unfold f_weigh_132
              rw [j8, i_mul, i_add, if_pos t5, p_let, t6, p_let]
          by_cases v0 : v = 0
          · have z0 : iI (v : Int) = 0 := by
              rw [v0]
              rfl
            rw [if_pos z0, if_pos z0, v_gi d1' (k := 2) rfl, p_bs, if_pos t3, p_let, t4, k45]
            by_cases hkk : kn e = (k : Int)
            · refine ⟨0, U5, mT σ 5, ?_, ?_, n6⟩
              · rw [hkk, if_pos rfl, w97]
              · rw [hkk, if_pos rfl, w126]
            · have nk : ¬ iI (kn e) = iI (k : Int) := by
                rw [j_eq (by omega) (by omega) (by omega) (by omega)]
                exact hkk
              rw [if_neg nk, if_neg nk]
              exact ok (fun q => absurd q hkk)
          · have z0 : ¬ iI (v : Int) = 0 := by
              rw [j0, j_eq (by omega) (by omega) (by omega) (by omega)]
              omega
            rw [if_neg z0, if_neg z0]
            exact ok (fun _ => v0)
        · have i0 : iB (1 ≤ (zCn (zU (wg e) k v) 8 : Int) ∧ (zCn (zU (wg e) k v) 8 : Int) ≤ 3) = 0 := iB_0 (by omega)
          refine ⟨0, U5, mT σ 5, ?_, ?_, n6⟩
          · rw [i0, if_pos rfl, w97]
          · by_cases q1 : zCn (zU (wg e) k v) 8 < 1
            · rw [j1, p_lt (by omega) (by omega) (by omega) (by omega) (by omega), w126]
            · rw [j1, n_lt (by omega) (by omega) (by omega) (by omega) (by omega), show (3 : Int32) = iI 3 from rfl, p_lt (by omega) (by omega) (by omega) (by omega) (by omega), w126]
end E2s
