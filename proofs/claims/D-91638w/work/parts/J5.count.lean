/-! PLAIN: the call count -/
def zOn (kn : Nat → Int) : Nat → Nat
  | 0 => 0
  | e + 1 => zOn kn e + (if kn e = -1 then 1 else 0)
theorem zOn_le {kn : Nat → Int} : ∀ e, zOn kn e ≤ e := by
  intro e
  induction e with
  | zero => exact Nat.le_refl _
  | succ e ih =>
    show zOn kn e + (if kn e = -1 then 1 else 0) ≤ e + 1
    split <;> omega
theorem c_openOnes {N b : Nat} {g : uEnv} {u : UH} {la da wa : Nat → Nat} {bk : Nat} {v8 v9 v10 : Value} {w h n nd : Nat} {hts : Nat → Int} {fl : Nat → Nat} {dO kn : Nat → Int} {wg : Nat → Nat → Nat} (hL : vLd u g la da wa bk v8 v9 v10 w h n nd hts fl dO kn wg) (hk : ∀ e, e < nd → -1 ≤ kn e ∧ kn e ≤ 8) (hN : 10 ≤ N) : f_X14_openOnes N b g u (la 0) = some (iI ((zOn kn nd : Nat) : Int), u) := by
  have hnd := hL.2.2.2.2.1
  have sz := c_siz (N := N) (b := b) hL
  have lp : ∀ (m e : Nat), e ≤ nd → nd < e + m → f_X14_openOnes_4 N b g (la 0) m u (iI ((zOn kn e : Nat) : Int)) (iI e) = some (iI ((zOn kn nd : Nat) : Int), u) := by
    intro m
    induction m with
    | zero => intro e h1 h2; omega
    | succ m ih =>
      intro e h1 h2
      rw [f_X14_openOnes_4, v_gr hL.1 (k := 6) rfl, p_bs, p_bs, if_pos sz.2, sz.1, q_uc]
      by_cases he : e = nd
      · subst he
        rw [p_le (by omega) (by omega) (by omega) (by omega) (by omega)]
      · have ek : iI (e : Int) + 1 = iI ((e + 1 : Nat) : Int) := by
          rw [j1, i_add]
          rfl
        have gt := c_get (N := N) (b := b) (e := e) hL (by omega)
        obtain ⟨⟨d1, wf, d2, d3⟩, d4⟩ := hL.2.2.2.2.2.2.2.2.2.2 e (by omega)
        obtain ⟨k1, k2⟩ := hk e (by omega)
        have ihh := ih (e + 1) (by omega) (by omega)
        have q : zOn kn (e + 1) = zOn kn e + (if kn e = -1 then 1 else 0) := rfl
        have zl := zOn_le (kn := kn) e
        unfold f_X14_openOnes_39
        rw [n_le (by omega) (by omega) (by omega) (by omega) (by omega), v_gr hL.1 (k := 6) rfl, p_bs, p_bs, if_pos sz.2, gt, q_uc, p_bs, if_pos (v_is d1), v_gi d1 (k := 2) rfl, p_bs]
        by_cases c : kn e = -1
        · rw [q, if_pos c] at ihh
          rw [if_pos (show iI (kn e) = -1 by rw [c]; rfl), j1, i_add, p_let, i_add, p_let]
          exact ihh
        · rw [q, if_neg c] at ihh
          rw [if_neg (show ¬ iI (kn e) = -1 by rw [j_m1, j_eq (by omega) (by omega) (by omega) (by omega)]; exact c), j0, i_add, p_let, ek, p_let, Int.add_zero]
          exact ihh
  exact lp N 0 (by omega) (by omega)
theorem m_count9 {N : Nat} {σ : MS} {nd : Nat} {kn : Nat → Int} {x : Int32} (h37 : σ.1 37 = iI nd) (hnd : nd ≤ 5) (h34 : ¬ σ.1 34 = 0) (hk : ∀ e, e < nd → σ.2.1 45 e = iI (kn e) ∧ -1 ≤ kn e ∧ kn e ≤ 8) (hN : 10 ≤ N) : f_count_9 N N σ x 0 0 = f_count_48 N σ x (iI ((zOn kn nd : Nat) : Int)) := by
  have lp : ∀ (m e : Nat), e ≤ nd → nd < e + m → f_count_9 N m σ x (iI ((zOn kn e : Nat) : Int)) (iI e) = f_count_48 N σ x (iI ((zOn kn nd : Nat) : Int)) := by
    intro m
    induction m with
    | zero => intro e h1 h2; omega
    | succ m ih =>
      intro e h1 h2
      rw [f_count_9, h37]
      by_cases he : e = nd
      · subst he
        rw [p_le (by omega) (by omega) (by omega) (by omega) (by omega)]
      · have ek : iI (e : Int) + 1 = iI ((e + 1 : Nat) : Int) := by
          rw [j1, i_add]
          rfl
        obtain ⟨k0, k1, k2⟩ := hk e (by omega)
        obtain ⟨t1, t2⟩ := t_ix (a := (e : Int)) (n := mLen 45) (k := e) rfl (by rw [mL45]; omega) (by rw [mL45]; omega)
        have ihh := ih (e + 1) (by omega) (by omega)
        have q : zOn kn (e + 1) = zOn kn e + (if kn e = -1 then 1 else 0) := rfl
        have zl := zOn_le (kn := kn) e
        unfold f_count_40
        rw [n_le (by omega) (by omega) (by omega) (by omega) (by omega), if_neg h34, if_pos t1, p_let, t2, k0]
        by_cases c : kn e = -1
        · rw [q, if_pos c] at ihh
          rw [if_pos (show iI (kn e) = -1 by rw [c]; rfl), j1, i_add, p_let, i_add, p_let]
          exact ihh
        · rw [q, if_neg c] at ihh
          rw [if_neg (show ¬ iI (kn e) = -1 by rw [j_m1, j_eq (by omega) (by omega) (by omega) (by omega)]; exact c), j0, i_add, p_let, ek, p_let, Int.add_zero]
          exact ihh
  exact lp N 0 (by omega) (by omega)
theorem m_count9n {N : Nat} {σ : MS} {x : Int32} (h34 : σ.1 34 = 0) (hN : 10 ≤ N) : f_count_9 N N σ x 0 0 = f_count_48 N σ x 0 := by
  obtain ⟨m, rfl⟩ : ∃ m, N = m + 1 := ⟨N - 1, by omega⟩
  rw [f_count_9, if_pos h34]
  split <;> rfl
/-- what is counted -/
def zCo (σ : MS) (op md : Int32) (x : Int32) : Int32 := if x = 0 then (if σ.1 12 = 0 then 0 else σ.1 22) else if x = 1 then (if σ.1 12 = 0 then 0 else σ.1 23) else if x = 2 then (if σ.1 12 = 0 then 0 else σ.1 24) else if x = 3 then (if σ.1 12 = 0 then 0 else σ.1 25) else if x = 4 then (if σ.1 12 = 0 then 0 else σ.1 26) else if x = 5 then (if σ.1 12 = 0 then 0 else σ.1 27) else if x = 6 then (if σ.1 12 = 0 then 0 else σ.1 28) else if x = 7 then σ.1 38 else if x = 8 then (if σ.1 34 = 0 then 0 else σ.1 35 * σ.1 36) else if x = 9 then (if σ.1 34 = 0 then 0 else σ.1 37) else if x = 10 then op else if x = 11 then σ.1 40 else if x = 12 then md else if x = 13 then σ.1 2 else -1
theorem m_count48 {N : Nat} {σ : MS} {op md x : Int32} (hm : f_mostDug N σ = some (md, σ)) : f_count_48 N σ x op = some (zCo σ op md x, σ) := by
  unfold f_count_48 f_count_135 f_count_151 f_count_167 f_count_183 f_count_199 f_count_215 f_count_231 f_count_257 f_count_273 zCo
  rw [hm, q_mc]
  by_cases h0 : x = 0
  · rw [if_pos h0, if_pos h0]
    split <;> rfl
  rw [if_neg h0, if_neg h0]
  by_cases h1 : x = 1
  · rw [if_pos h1, if_pos h1]
    split <;> rfl
  rw [if_neg h1, if_neg h1]
  by_cases h2 : x = 2
  · rw [if_pos h2, if_pos h2]
    split <;> rfl
  rw [if_neg h2, if_neg h2]
  by_cases h3 : x = 3
  · rw [if_pos h3, if_pos h3]
    split <;> rfl
  rw [if_neg h3, if_neg h3]
  by_cases h4 : x = 4
  · rw [if_pos h4, if_pos h4]
    split <;> rfl
  rw [if_neg h4, if_neg h4]
  by_cases h5 : x = 5
  · rw [if_pos h5, if_pos h5]
    split <;> rfl
  rw [if_neg h5, if_neg h5]
  by_cases h6 : x = 6
  · rw [if_pos h6, if_pos h6]
    split <;> rfl
  rw [if_neg h6, if_neg h6]
  by_cases h7 : x = 7
  · rw [if_pos h7, if_pos h7]
  rw [if_neg h7, if_neg h7]
  by_cases h8 : x = 8
  · rw [if_pos h8, if_pos h8]
    split <;> rfl
  rw [if_neg h8, if_neg h8]
  by_cases h9 : x = 9
  · rw [if_pos h9, if_pos h9]
    split <;> rfl
  rw [if_neg h9, if_neg h9]
  by_cases h10 : x = 10
  · rw [if_pos h10, if_pos h10]
  rw [if_neg h10, if_neg h10]
  by_cases h11 : x = 11
  · rw [if_pos h11, if_pos h11]
  rw [if_neg h11, if_neg h11]
  by_cases h12 : x = 12
  · rw [if_pos h12, if_pos h12]
  rw [if_neg h12, if_neg h12]
  by_cases h13 : x = 13
  · rw [if_pos h13, if_pos h13]
  rw [if_neg h13, if_neg h13]
section G6s
variable {N b : Nat} {g : uEnv} {A : pA} {ad sa : Nat → Nat} {U : UH} {lab : Nat → Nat} {σ : MS} {ou : Nat} {u0 : UH}
theorem k_count (h : xSt b g A ad sa (qA g (ad 4) b u0 ou) U lab σ) (hN : 10 ≤ N) (x : Int32) : ∃ r U' σ', f_X1_count N b g U (ad 0) x = some (r, U') ∧ f_count N σ x = some (r, σ') ∧ xStep b g A ad sa (qA g (ad 4) b u0 ou) U lab U' σ' 0 0 := by
  have hQ : qOk (qA g (ad 4) b u0 ou) := qA_ok
  have th := h.th hQ
  have hi0 := k_is h
  obtain ⟨bkv, mpv, ptv, hx, hI⟩ := h
  obtain ⟨oU, hb, ⟨hl, hfr⟩, hE, hA, ⟨l0, h1, hS3, h2, h3⟩, hbm, hq1, hq2, hq3, hq4, hq5⟩ := hI
  obtain ⟨l6, f, vI, w1, w2⟩ := h3
  obtain ⟨v, hv⟩ : ∃ v : Nat → Nat, v = fun k => (vI k).toNat := ⟨_, rfl⟩
  have hvk : ∀ k, k < 6 → f k = iI (v k) ∧ σ.2.1 47 k = iI (v k) ∧ v k ≤ 4 := fun k hk => by
    obtain ⟨p1, p2, p3, p4⟩ := w2 k hk
    have ev : ((v k : Nat) : Int) = vI k := by
      rw [hv]
      show (((vI k).toNat : Nat) : Int) = _
      omega
    rw [ev]
    exact ⟨p1, p2, by omega⟩
  have dp := c_deep (N := N) (b := b) (g := g) (v := v) hx w1 (fun k hk => ⟨(hvk k hk).1, (hvk k hk).2.2⟩) hN
  obtain ⟨parr, np, pm, pmc, pxs, pa, kl, pl1, pl2, -⟩ := hq3
  have psz : f_J2_size N b g U (ad 4) = some (iI np, U) := l_size pl1.1
  have hv0 : ∀ k, k < 6 → σ.2.1 47 k = 0 → v k = 0 := fun k hk z => by
    have zv := (hvk k hk).2.2
    rw [(hvk k hk).2.1, j0, j_eq (by omega) (by omega) (by omega) (by omega)] at z
    omega
  rcases hbm with ⟨e1, e2, e3, e4, e5⟩ | ⟨lo, hi, a, al, rv, nm, B, dead, q1, q2, q3, q4, q5, q6, q7, q8, q9, q10⟩
  · subst e1
    subst e2
    have d6 : dMx v 6 = 0 := by
      have := dMx_z (v := v) (w := 0) 6 (fun k _ hk => hv0 k (by omega) (hq2.1 e3 k (by omega)))
      exact this
    have e3' : (mSet σ 0 0).1 12 = 0 := e3
    have e4' : (mSet σ 0 0).1 34 = 0 := e4
    have mm := m_most0 (N := N) (σ := mSet σ 0 0) e3 hN
    refine ⟨zCo (mSet σ 0 0) 0 0 x, U, mSet σ 0 0, ?_, ?_, th⟩
    · unfold f_X1_count f_X1_count_93 f_X1_count_115 f_X1_count_134 f_X1_count_153 f_X1_count_172 f_X1_count_191 f_X1_count_210 f_X1_count_234 f_X1_count_256 f_X1_count_275 zCo
      by_cases h0 : x = 0
      · rw [if_pos h0, if_pos h0, x_bkn hx, p_bs, q_cn, if_pos e3']
        try rfl
      rw [if_neg h0, if_neg h0]
      by_cases h1 : x = 1
      · rw [if_pos h1, if_pos h1, x_bkn hx, p_bs, q_cn, if_pos e3']
        try rfl
      rw [if_neg h1, if_neg h1]
      by_cases h2 : x = 2
      · rw [if_pos h2, if_pos h2, x_bkn hx, p_bs, q_cn, if_pos e3']
        try rfl
      rw [if_neg h2, if_neg h2]
      by_cases h3 : x = 3
      · rw [if_pos h3, if_pos h3, x_bkn hx, p_bs, q_cn, if_pos e3']
        try rfl
      rw [if_neg h3, if_neg h3]
      by_cases h4 : x = 4
      · rw [if_pos h4, if_pos h4, x_bkn hx, p_bs, q_cn, if_pos e3']
        try rfl
      rw [if_neg h4, if_neg h4]
      by_cases h5 : x = 5
      · rw [if_pos h5, if_pos h5, x_bkn hx, p_bs, q_cn, if_pos e3']
        try rfl
      rw [if_neg h5, if_neg h5]
      by_cases h6 : x = 6
      · rw [if_pos h6, if_pos h6, x_bkn hx, p_bs, q_cn, if_pos e3']
        try rfl
      rw [if_neg h6, if_neg h6]
      by_cases h7 : x = 7
      · rw [if_pos h7, if_pos h7, v_gi hx (k := 3) rfl, p_bs]
        try rfl
      rw [if_neg h7, if_neg h7]
      by_cases h8 : x = 8
      · rw [if_pos h8, if_pos h8, x_mpn hx, p_bs, q_cn, if_pos e4']
        try rfl
      rw [if_neg h8, if_neg h8]
      by_cases h9 : x = 9
      · rw [if_pos h9, if_pos h9, x_mpn hx, p_bs, q_cn, if_pos e4']
        try rfl
      rw [if_neg h9, if_neg h9]
      by_cases h10 : x = 10
      · rw [if_pos h10, if_pos h10, x_mpn hx, p_bs, q_cn]
        try rfl
      rw [if_neg h10, if_neg h10]
      by_cases h11 : x = 11
      · rw [if_pos h11, if_pos h11, v_gr hx (k := 10) rfl, p_bs, p_bs, if_pos (v_is pl1.1.1), psz, q_uc, show (mSet σ 0 0).1 40 = iI np from pl2]
        try rfl
      rw [if_neg h11, if_neg h11]
      by_cases h12 : x = 12
      · rw [if_pos h12, if_pos h12, if_pos hi0, dp, q_uc, d6]
        try rfl
      rw [if_neg h12, if_neg h12]
      by_cases h13 : x = 13
      · rw [if_pos h13, if_pos h13, v_gi hx (k := 5) rfl, p_bs]
        try rfl
      rw [if_neg h13, if_neg h13]
    · unfold f_count
      rw [p_let, m_count9n (σ := mSet σ 0 0) e4 hN]
      exact m_count48 mm
  · subst q1
    obtain ⟨gl, arr, mm, mc, ga, xs, a1, a2, a3, v1, v2, v3⟩ := q3
    obtain ⟨-, -, arr2, nT, m2, mc2, ta, xs2, y1, y2, y3, y4⟩ := hq1.at v1
    have hw := q4.1
    obtain ⟨w, hww⟩ : ∃ w : Nat, B.1 0 = (w : Int) := ⟨(B.1 0).toNat, by omega⟩
    have k24 : σ.1 24 = iI (w : Int) := by
      rw [← hww]
      exact q5.1.1
    have d6 : dMx v 6 = dMx v w := by
      have := dMx_z (v := v) (w := w) (6 - w) (fun k q1 q2' => hv0 k (by omega) (hq2.2 w k24 (by omega) k (by omega) q1))
      rw [show w + (6 - w) = 6 by omega] at this
      exact this
    have k12 : ¬ (mSet σ 0 0).1 12 = 0 := by
      show ¬ σ.1 12 = 0
      rw [q2]
      decide
    have mo := m_most (N := N) (σ := mSet σ 0 0) (w := w) (v := v) k12 k24 (by omega) (fun k hk => (hvk k hk).2) hN
    have gsz : f_J2_size N b g U gl = some (iI B.2.1, U) := l_size v2
    have tsz : f_J2_size N b g U al = some (iI nT, U) := l_size y1.1
    rcases q10 with ⟨z1, z2⟩ | ⟨z1, la, da, wa, v8, v9, v10, ww, hh, n, nd, hts, fl, dO, kn, dc, wg, z2, z3, z4, z5, z6, z7⟩
    · subst z1
      have e4' : (mSet σ 0 0).1 34 = 0 := z2
      refine ⟨zCo (mSet σ 0 0) 0 (iI ((dMx v w : Nat) : Int)) x, U, mSet σ 0 0, ?_, ?_, th⟩
      · unfold f_X1_count f_X1_count_93 f_X1_count_115 f_X1_count_134 f_X1_count_153 f_X1_count_172 f_X1_count_191 f_X1_count_210 f_X1_count_234 f_X1_count_256 f_X1_count_275 zCo
        by_cases h0 : x = 0
        · rw [if_pos h0, if_pos h0, x_bk hx, p_bs, q_cs, p_bs, p_bs, v_gr v1 (k := 0) rfl, p_bs, p_bs, if_pos (v_is v2.1), gsz, q_uc, if_neg k12, show (mSet σ 0 0).1 22 = iI B.2.1 from q5.1.2.2.2.2.2]
          try rfl
        rw [if_neg h0, if_neg h0]
        by_cases h1 : x = 1
        · rw [if_pos h1, if_pos h1, x_bk hx, p_bs, q_cs, p_bs, p_bs, v_gr v1 (k := 1) rfl, p_bs, p_bs, if_pos (v_is y1.1.1), tsz, q_uc, if_neg k12, show (mSet σ 0 0).1 23 = iI nT from y2]
          try rfl
        rw [if_neg h1, if_neg h1]
        by_cases h2 : x = 2
        · rw [if_pos h2, if_pos h2, x_bk hx, p_bs, q_cs, p_bs, p_bs, v_gi v1 (k := 3) rfl, p_bs, if_neg k12, show (mSet σ 0 0).1 24 = iI (B.1 0) from q5.1.1]
          try rfl
        rw [if_neg h2, if_neg h2]
        by_cases h3 : x = 3
        · rw [if_pos h3, if_pos h3, x_bk hx, p_bs, q_cs, p_bs, p_bs, v_gi v1 (k := 4) rfl, p_bs, if_neg k12, show (mSet σ 0 0).1 25 = iI (B.1 1) from q5.1.2.1]
          try rfl
        rw [if_neg h3, if_neg h3]
        by_cases h4 : x = 4
        · rw [if_pos h4, if_pos h4, x_bk hx, p_bs, q_cs, p_bs, p_bs, v_gi v1 (k := 5) rfl, p_bs, if_neg k12, show (mSet σ 0 0).1 26 = iI (B.1 2) from q5.1.2.2.1]
          try rfl
        rw [if_neg h4, if_neg h4]
        by_cases h5 : x = 5
        · rw [if_pos h5, if_pos h5, x_bk hx, p_bs, q_cs, p_bs, p_bs, v_gi v1 (k := 6) rfl, p_bs, if_neg k12, show (mSet σ 0 0).1 27 = iI (B.1 3) from q5.1.2.2.2.1]
          try rfl
        rw [if_neg h5, if_neg h5]
        by_cases h6 : x = 6
        · rw [if_pos h6, if_pos h6, x_bk hx, p_bs, q_cs, p_bs, p_bs, v_gi v1 (k := 7) rfl, p_bs, if_neg k12, show (mSet σ 0 0).1 28 = iI (B.1 4) from q5.1.2.2.2.2.1]
          try rfl
        rw [if_neg h6, if_neg h6]
        by_cases h7 : x = 7
        · rw [if_pos h7, if_pos h7, v_gi hx (k := 3) rfl, p_bs]
          try rfl
        rw [if_neg h7, if_neg h7]
        by_cases h8 : x = 8
        · rw [if_pos h8, if_pos h8, x_mpn hx, p_bs, q_cn, if_pos e4']
          try rfl
        rw [if_neg h8, if_neg h8]
        by_cases h9 : x = 9
        · rw [if_pos h9, if_pos h9, x_mpn hx, p_bs, q_cn, if_pos e4']
          try rfl
        rw [if_neg h9, if_neg h9]
        by_cases h10 : x = 10
        · rw [if_pos h10, if_pos h10, x_mpn hx, p_bs, q_cn]
          try rfl
        rw [if_neg h10, if_neg h10]
        by_cases h11 : x = 11
        · rw [if_pos h11, if_pos h11, v_gr hx (k := 10) rfl, p_bs, p_bs, if_pos (v_is pl1.1.1), psz, q_uc, show (mSet σ 0 0).1 40 = iI np from pl2]
          try rfl
        rw [if_neg h11, if_neg h11]
        by_cases h12 : x = 12
        · rw [if_pos h12, if_pos h12, if_pos hi0, dp, q_uc, d6]
          try rfl
        rw [if_neg h12, if_neg h12]
        by_cases h13 : x = 13
        · rw [if_pos h13, if_pos h13, v_gi hx (k := 5) rfl, p_bs]
          try rfl
        rw [if_neg h13, if_neg h13]
      · unfold f_count
        rw [p_let, m_count9n (σ := mSet σ 0 0) z2 hN]
        exact m_count48 mo
    · subst z2
      have k34 : ¬ (mSet σ 0 0).1 34 = 0 := by
        show ¬ σ.1 34 = 0
        rw [z1]
        decide
      have B8 := q4.2.2.2.2.2.1
      have knb : ∀ e, e < nd → σ.2.1 45 e = iI (kn e) ∧ -1 ≤ kn e ∧ kn e ≤ 8 := fun e he => by
        obtain ⟨-, -, o3, o4, o5⟩ := z4.2.2.2.2.2.1 e he
        exact ⟨o3, o4, by omega⟩
      have oo := c_openOnes (N := N) (b := b) z3 (fun e he => (knb e he).2) hN
      have dsz := c_siz (N := N) (b := b) z3
      have h37 : σ.1 37 = iI nd := z4.2.2.1
      refine ⟨zCo (mSet σ 0 0) (iI ((zOn kn nd : Nat) : Int)) (iI ((dMx v w : Nat) : Int)) x, U, mSet σ 0 0, ?_, ?_, th⟩
      · unfold f_X1_count f_X1_count_93 f_X1_count_115 f_X1_count_134 f_X1_count_153 f_X1_count_172 f_X1_count_191 f_X1_count_210 f_X1_count_234 f_X1_count_256 f_X1_count_275 f_X14_cells zCo
        by_cases h0 : x = 0
        · rw [if_pos h0, if_pos h0, x_bk hx, p_bs, q_cs, p_bs, p_bs, v_gr v1 (k := 0) rfl, p_bs, p_bs, if_pos (v_is v2.1), gsz, q_uc, if_neg k12, show (mSet σ 0 0).1 22 = iI B.2.1 from q5.1.2.2.2.2.2]
          try rfl
        rw [if_neg h0, if_neg h0]
        by_cases h1 : x = 1
        · rw [if_pos h1, if_pos h1, x_bk hx, p_bs, q_cs, p_bs, p_bs, v_gr v1 (k := 1) rfl, p_bs, p_bs, if_pos (v_is y1.1.1), tsz, q_uc, if_neg k12, show (mSet σ 0 0).1 23 = iI nT from y2]
          try rfl
        rw [if_neg h1, if_neg h1]
        by_cases h2 : x = 2
        · rw [if_pos h2, if_pos h2, x_bk hx, p_bs, q_cs, p_bs, p_bs, v_gi v1 (k := 3) rfl, p_bs, if_neg k12, show (mSet σ 0 0).1 24 = iI (B.1 0) from q5.1.1]
          try rfl
        rw [if_neg h2, if_neg h2]
        by_cases h3 : x = 3
        · rw [if_pos h3, if_pos h3, x_bk hx, p_bs, q_cs, p_bs, p_bs, v_gi v1 (k := 4) rfl, p_bs, if_neg k12, show (mSet σ 0 0).1 25 = iI (B.1 1) from q5.1.2.1]
          try rfl
        rw [if_neg h3, if_neg h3]
        by_cases h4 : x = 4
        · rw [if_pos h4, if_pos h4, x_bk hx, p_bs, q_cs, p_bs, p_bs, v_gi v1 (k := 5) rfl, p_bs, if_neg k12, show (mSet σ 0 0).1 26 = iI (B.1 2) from q5.1.2.2.1]
          try rfl
        rw [if_neg h4, if_neg h4]
        by_cases h5 : x = 5
        · rw [if_pos h5, if_pos h5, x_bk hx, p_bs, q_cs, p_bs, p_bs, v_gi v1 (k := 6) rfl, p_bs, if_neg k12, show (mSet σ 0 0).1 27 = iI (B.1 3) from q5.1.2.2.2.1]
          try rfl
        rw [if_neg h5, if_neg h5]
        by_cases h6 : x = 6
        · rw [if_pos h6, if_pos h6, x_bk hx, p_bs, q_cs, p_bs, p_bs, v_gi v1 (k := 7) rfl, p_bs, if_neg k12, show (mSet σ 0 0).1 28 = iI (B.1 4) from q5.1.2.2.2.2.1]
          try rfl
        rw [if_neg h6, if_neg h6]
        by_cases h7 : x = 7
        · rw [if_pos h7, if_pos h7, v_gi hx (k := 3) rfl, p_bs]
          try rfl
        rw [if_neg h7, if_neg h7]
        by_cases h8 : x = 8
        · rw [if_pos h8, if_pos h8, x_mp hx, p_bs, q_cs, p_bs, p_bs, if_pos (v_is z3.1), v_gi z3.1 (k := 1) rfl, p_bs, v_gi z3.1 (k := 2) rfl, p_bs, q_uc, if_neg k34, show (mSet σ 0 0).1 35 = iI ww from z4.1.2.2.2.2.1, show (mSet σ 0 0).1 36 = iI hh from z4.1.2.2.2.2.2.1]
          try rfl
        rw [if_neg h8, if_neg h8]
        by_cases h9 : x = 9
        · rw [if_pos h9, if_pos h9, x_mp hx, p_bs, q_cs, p_bs, p_bs, v_gr z3.1 (k := 6) rfl, p_bs, p_bs, if_pos dsz.2, dsz.1, q_uc, if_neg k34, show (mSet σ 0 0).1 37 = iI nd from h37]
          try rfl
        rw [if_neg h9, if_neg h9]
        by_cases h10 : x = 10
        · rw [if_pos h10, if_pos h10, x_mp hx, p_bs, q_cs, p_bs, p_bs, if_pos (v_is z3.1), oo, q_uc]
          try rfl
        rw [if_neg h10, if_neg h10]
        by_cases h11 : x = 11
        · rw [if_pos h11, if_pos h11, v_gr hx (k := 10) rfl, p_bs, p_bs, if_pos (v_is pl1.1.1), psz, q_uc, show (mSet σ 0 0).1 40 = iI np from pl2]
          try rfl
        rw [if_neg h11, if_neg h11]
        by_cases h12 : x = 12
        · rw [if_pos h12, if_pos h12, if_pos hi0, dp, q_uc, d6]
          try rfl
        rw [if_neg h12, if_neg h12]
        by_cases h13 : x = 13
        · rw [if_pos h13, if_pos h13, v_gi hx (k := 5) rfl, p_bs]
          try rfl
        rw [if_neg h13, if_neg h13]
      · unfold f_count
        rw [p_let, m_count9 (σ := mSet σ 0 0) (kn := kn) h37 z4.2.2.2.1 k34 knb hN]
        exact m_count48 mo
end G6s
