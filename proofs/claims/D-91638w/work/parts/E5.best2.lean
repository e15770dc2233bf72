/-! PLAIN: the class's best way: the walk -/
theorem c_be31 {N b : Nat} {g : uEnv} {u : UH} {la da wa sa : Nat → Nat} {so ja bk : Nat} {v8 v9 v10 : Value} {w h n nd ng go mean cd c : Nat} {hts : Nat → Int} {fl nb : Nat → Nat} {dO kn : Nat → Int} {wg Y : Nat → Nat → Nat} {BG : Nat → Nat → Nat → Nat} {yf : Nat → Option Nat} {wr : Nat → Nat} (hX : cCx u g la da wa sa so ja bk v8 v9 v10 w h n nd ng go mean hts fl nb dO kn wg BG) (hk : kOk b sa) (hgo : go < n) (hm : mean = 0 ∨ mean = 1) (hS : xSol w h n nd go mean fl nb dO kn wg BG Y) (hN : 101 ≤ N) (hcd : cd < 1024) (hcan : yCan nd kn wg cd) (hc : c < n) (hfr : zFr nd nb cd go c) (hy1 : u.2.2 (la 6) = some (.inl (5, 4, .inr (.inr (.inr (.inr yf)))))) (hy2 : ∀ y, y < 4 → yf y = some (wr y) ∧ uWay g (wr y) = some y) : ∀ (m y : Nat) (V : Nat → Int64) (D P : Nat → Int32) (fo : Option Nat) (l : Int64), y ≤ 4 → 4 < y + m → cInv n Y V D → zBi (xEd w h nd mean fl dO wg BG cd c) (Y cd) wr y fo l → ∃ (V' : Nat → Int64) (D' P' : Nat → Int32) (fo' : Option Nat) (l' : Int64), f_X2_best_31 N b g so m (kH u sa V D P) (iI c) (iI cd) (iL (zPr (fun e => zSum (wg e) 8) cd nd)) fo l (some (la 6)) (iI 4) (iI y) = some (fo', kH u sa V' D' P') ∧ cInv n Y V' D' ∧ zBi (xEd w h nd mean fl dO wg BG cd c) (Y cd) wr 4 fo' l' := by
  have hX' := hX
  obtain ⟨hO, hL, hi, ⟨cf, c1, c2⟩, -, hng, hfl, hkd, hBG, hJ⟩ := hX
  have hL' := hL
  obtain ⟨l0, hw, hh, hn, hnd, -, -, ⟨df, df1, df2⟩, -, -, hdd⟩ := hL
  have m4 : w * h ≤ 10 * 10 := Nat.mul_le_mul hw.2 hh.2
  obtain ⟨y1, -, -, y4⟩ := hS cd hcd hcan
  have hmn : ∀ e, e < nd → 1 ≤ zCn (wg e) 8 ∧ zCn (wg e) 8 ≤ 3 := fun e he => (hdd e he).2
  have hwt : ∀ e k, e < nd → k < zCn (wg e) 8 → 1 ≤ wg e (zKd (wg e) k) ∧ wg e (zKd (wg e) k) ≤ 9 := fun e k he hk => by
    obtain ⟨⟨-, wf, -, q⟩, -⟩ := hdd e he
    obtain ⟨a, b⟩ := zKd_ok hk
    exact ⟨Nat.pos_of_ne_zero b, (q _ a).2⟩
  have scb : xSc mean nd wg cd ≤ 14348907 := (zSc_b (mean := mean) (cd := cd) hnd hmn hwt).2
  have bdb := zBd_b (mean := mean) (cd := cd) hnd hmn hwt
  have hal : (fun e => zSum (fun k => wg e (zKd (wg e) k)) (zCn (wg e) 8)) = fun e => zSum (wg e) 8 := funext (fun e => zSum_k 8 (Nat.le_refl _))
  have hsc : xSc mean nd wg cd = if mean = 0 then 1 else zPr (fun e => zSum (wg e) 8) cd nd := by
    show (if mean = 0 then 1 else zPr (fun e => zSum (fun k => wg e (zKd (wg e) k)) (zCn (wg e) 8)) cd nd) = _
    rw [hal]
  intro m
  induction m with
  | zero => intro y V D P fo l h1 h2; omega
  | succ m ih =>
    intro y V D P fo l h1 h2 hI hbi
    rw [f_X2_best_31]
    unfold f_X2_best_137
    by_cases hy : y = 4
    · subst hy
      refine ⟨V, D, P, fo, l, ?_, hI, hbi⟩
      rw [if_pos (show iI (4 : Int) ≤ iI ((4 : Nat) : Int) from Int32.le_refl _)]
    · have hy4 : y < 4 := by omega
      have ey : iI (y : Int) + 1 = iI ((y + 1 : Nat) : Int) := by
        rw [j1, i_add]
        rfl
      obtain ⟨w1, w2⟩ := hy2 y hy4
      have hOk := hO.kH (V := V) (D := D) (P := P) hi
      have hLk := hL'.kH (V := V) (D := D) (P := P) hi
      have l0k := hLk.1
      have Ly : uLdR (kH u sa V D P) (la 6) 5 (iI (y : Int)) = some (some (wr y)) := by
        rw [u_ldR (kH_l hi hy1 (by decide) (by decide)) (by omega) (by omega) (by omega)]
        exact congrArg some w1
      have ct := c_cost (N := N) (b := b) (BG := BG) (cd := cd) hOk hLk (kH_l hi c1 (by decide) (by decide)) c2 hng hfl hkd hcd hc w2 hy4 (y4 c y hc hy4 hfr) (by omega)
      have dig : ∀ e, e < nd → zD cd e ≤ zCn (wg e) 8 := fun e he => ((hcan e (by omega)).2 he).1
      obtain ⟨kb, kn0⟩ := x_kb (y := y) (cd := cd) hw hh hn (fun c hc => ⟨(df2 c hc).1, (df2 c hc).2.1⟩) hfl hkd hBG hc hy4 dig
      have ed0 := x_ed0 (w := w) (h := h) (nd := nd) (mean := mean) (cd := cd) (c := c) (y := y) (fl := fl) (dO := dO) (wg := wg) (BG := BG) hy4
      have ed1 := x_ed1 (w := w) (h := h) (nd := nd) (mean := mean) (cd := cd) (c := c) (y := y) (fl := fl) (dO := dO) (wg := wg) (BG := BG) hy4
      rw [n_le (by omega) (by omega) (by omega) (by omega) (by omega), p_bs, Ly, p_bs, if_pos (v_is hOk), ct, q_uc]
      generalize zK w h fl dO (fun e k => zKd (wg e) k) BG cd c y = kk at kb kn0 ed0 ed1 ct ⊢
      by_cases hk0 : kk = 0
      · rw [hk0, if_pos (show iI (cN 0) = -1 from rfl), p_let, ey]
        exact ih (y + 1) V D P fo l (by omega) (by omega) hI (hbi.skip (fun d k q => by rw [ed0 hk0] at q; cases q))
      · obtain ⟨d, hdn, hbes⟩ := kn0 hk0
        have e1 := ed1 hk0
        rw [hbes] at e1
        have e1 : xEd w h nd mean fl dO wg BG cd c y = some (d, xSc mean nd wg cd * kk) := e1
        have ek : iI (cN kk) = iI (kk : Int) := congrArg iI (if_neg hk0)
        obtain ⟨V1, D1, P1, o1, o2⟩ := c_of (N := N) (b := b) (c := d) (cd := cd) (V := V) (D := D) (P := P) hX' hk hgo hm hS hN hcd hcan hdn hI
        have hO1 := hO.kH (V := V1) (D := D1) (P := P1) hi
        rw [ek, j_m1, n_eq (by omega) (by omega) (by omega) (by omega) (by omega), v_gr hOk (k := 0) rfl, p_bs, p_bs, if_pos (v_is l0k), b_X14 l0k rfl rfl w2 hw hh (hn ▸ hc), q_uc, if_pos (v_is hOk), hbes, o1, q_uc, show (9223372036854775807 : Int64) = iL 9223372036854775807 from rfl]
        by_cases hf : Y cd d < 1000000000000000
        · have yb := (y1 d hdn).2 hf
          have pb : xSc mean nd wg cd * kk ≤ 14348907 * 30071 := Nat.mul_le_mul scb kb
          have hJ1 : (mean = 0 ∧ (kH u sa V1 D1 P1).2.2 ja = some (.inr (15, []))) ∨ (mean = 1 ∧ (kH u sa V1 D1 P1).2.2 ja = some (.inr (14, []))) := by
            rcases hJ with ⟨q1, q2⟩ | ⟨q1, q2⟩
            · exact Or.inl ⟨q1, kH_r hi q2⟩
            · exact Or.inr ⟨q1, kH_r hi q2⟩
          have pt := c_pts (N := N) (b := b) (g := g) (sc := xSc mean nd wg cd) (scl := zPr (fun e => zSum (wg e) 8) cd nd) hJ1 hsc kb
          rw [iV_f hf, n_c0 (by omega) (by omega) (by omega) (by omega) (by omega), v_gr hO1 (k := 3) rfl, p_bs, p_bs, pt, q_uc, e_add, show ((xSc mean nd wg cd * kk : Nat) : Int) + (Y cd d : Int) = ((Y cd d + xSc mean nd wg cd * kk : Nat) : Int) from by omega]
          have take : (∀ y' d' k', y' < y → xEd w h nd mean fl dO wg BG cd c y' = some (d', k') → Y cd d' < 1000000000000000 → Y cd d + xSc mean nd wg cd * kk < Y cd d' + k') → zBi (xEd w h nd mean fl dO wg BG cd c) (Y cd) wr (y + 1) (some (wr y)) (iL ((Y cd d + xSc mean nd wg cd * kk : Nat) : Int)) := fun hl => by
            refine Or.inr ⟨y, d, _, by omega, rfl, e1, hf, rfl, by omega, fun y' d' k' a1 a2 a3 => ?_, hl⟩
            by_cases e : y' = y
            · subst e
              rw [e1] at a2
              cases a2
              exact Nat.le_refl _
            · exact Nat.le_of_lt (hl y' d' k' (by omega) a2 a3)
          rcases hbi with ⟨h1', h2', h3'⟩ | ⟨q, dq, kq, h1', h2', h3', h4', h5', h6', h7', h8'⟩
          · rw [h2', p_cl (by omega) (by omega) (by omega) (by omega) (by omega), v_gr hO1 (k := 3) rfl, p_bs, p_bs, pt, q_uc, e_add, show ((xSc mean nd wg cd * kk : Nat) : Int) + (Y cd d : Int) = ((Y cd d + xSc mean nd wg cd * kk : Nat) : Int) from by omega, p_let, p_let, ey]
            exact ih (y + 1) V1 D1 P1 _ _ (by omega) (by omega) o2 (take (fun y' d' k' a1 a2 a3 => absurd a3 (h3' y' d' k' a1 a2)))
          · rw [h5']
            by_cases hlt : Y cd d + xSc mean nd wg cd * kk < Y cd dq + kq
            · rw [p_cl (by omega) (by omega) (by omega) (by omega) (by omega), v_gr hO1 (k := 3) rfl, p_bs, p_bs, pt, q_uc, e_add, show ((xSc mean nd wg cd * kk : Nat) : Int) + (Y cd d : Int) = ((Y cd d + xSc mean nd wg cd * kk : Nat) : Int) from by omega, p_let, p_let, ey]
              exact ih (y + 1) V1 D1 P1 _ _ (by omega) (by omega) o2 (take (fun y' d' k' a1 a2 a3 => Nat.lt_of_lt_of_le hlt (h7' y' d' k' a1 a2 a3)))
            · rw [n_cl (by omega) (by omega) (by omega) (by omega) (by omega), p_let, ey]
              refine ih (y + 1) V1 D1 P1 _ _ (by omega) (by omega) o2 (Or.inr ⟨q, dq, kq, by omega, h2', h3', h4', rfl, h6', fun y' d' k' a1 a2 a3 => ?_, h8'⟩)
              by_cases e : y' = y
              · subst e
                rw [e1] at a2
                cases a2
                omega
              · exact h7' y' d' k' (by omega) a2 a3
        · rw [iV_n hf, p_c0 (by omega) (by omega) (by omega) (by omega) (by omega), p_let, ey]
          exact ih (y + 1) V1 D1 P1 _ _ (by omega) (by omega) o2 (hbi.skip (fun d' k' q => by
            rw [e1] at q
            cases q
            exact hf))
theorem c_best {N b : Nat} {g : uEnv} {u : UH} {la da wa sa : Nat → Nat} {so ja bk : Nat} {v8 v9 v10 : Value} {w h n nd ng go mean cd c : Nat} {hts : Nat → Int} {fl nb : Nat → Nat} {dO kn : Nat → Int} {wg Y : Nat → Nat → Nat} {BG : Nat → Nat → Nat → Nat} {V : Nat → Int64} {D P : Nat → Int32} (hX : cCx u g la da wa sa so ja bk v8 v9 v10 w h n nd ng go mean hts fl nb dO kn wg BG) (hk : kOk b sa) (hgo : go < n) (hm : mean = 0 ∨ mean = 1) (hS : xSol w h n nd go mean fl nb dO kn wg BG Y) (hN : 101 ≤ N) (hcd : cd < 1024) (hcan : yCan nd kn wg cd) (hc : c < n) (hfr : zFr nd nb cd go c) (hI : cInv n Y V D) : ∃ (V' : Nat → Int64) (D' P' : Nat → Int32) (fo : Option Nat), f_X2_best N b g (kH u sa V D P) so (iI c) (iI cd) = some (fo, kH u sa V' D' P') ∧ cInv n Y V' D' ∧ (Y cd c < 1000000000000000 → ∃ r y, fo = some r ∧ uWay g r = some y ∧ y < 4 ∧ y = zWy (Y cd) (Y cd c) (xEd w h nd mean fl dO wg BG cd c) 4 0) ∧ (¬ Y cd c < 1000000000000000 → fo = none) := by
  have hX' := hX
  obtain ⟨hO, hL, hi, -, -, hng, hfl, hkd, hBG, -⟩ := hX
  have hOk := hO.kH (V := V) (D := D) (P := P) hi
  have hLk := hL.kH (V := V) (D := D) (P := P) hi
  have sc := c_scl (N := N) (b := b) (cd := cd) hOk hLk hcd (by omega)
  obtain ⟨l0, hw, hh, hn, hnd, -, -, ⟨df, df1, df2⟩, -, ⟨yf, wr, hy1, hy2⟩, hdd⟩ := hL
  obtain ⟨V', D', P', fo, l', r1, r2, r3⟩ := c_be31 (N := N) (b := b) (cd := cd) (c := c) hX' hk hgo hm hS hN hcd hcan hc hfr hy1 hy2 N 0 V D P none (iL 9223372036854775807) (by omega) (by omega) hI (Or.inl ⟨rfl, rfl, fun y' d k a => by omega⟩)
  obtain ⟨y1, -, y3, -⟩ := hS cd hcd hcan
  have hmn : ∀ e, e < nd → 1 ≤ zCn (wg e) 8 ∧ zCn (wg e) 8 ≤ 3 := fun e he => (hdd e he).2
  have hwt : ∀ e k, e < nd → k < zCn (wg e) 8 → 1 ≤ wg e (zKd (wg e) k) ∧ wg e (zKd (wg e) k) ≤ 9 := fun e k he hk => by
    obtain ⟨⟨-, wf, -, q⟩, -⟩ := hdd e he
    obtain ⟨a, b⟩ := zKd_ok hk
    exact ⟨Nat.pos_of_ne_zero b, (q _ a).2⟩
  have scb : xSc mean nd wg cd ≤ 14348907 := (zSc_b (mean := mean) (cd := cd) hnd hmn hwt).2
  have bdb := zBd_b (mean := mean) (cd := cd) hnd hmn hwt
  have dig : ∀ e, e < nd → zD cd e ≤ zCn (wg e) 8 := fun e he => ((hcan e (by omega)).2 he).1
  have la' := r3.last (ed := xEd w h nd mean fl dO wg BG cd) (y3 c hc hfr) (fun y p q => x_ed4 q) (fun y d k q1 q2 => by
    have hy := x_ed4 q1
    obtain ⟨kb, kn0⟩ := x_kb (y := y) (cd := cd) hw hh hn (fun c hc => ⟨(df2 c hc).1, (df2 c hc).2.1⟩) hfl hkd hBG hc hy dig
    by_cases h0 : zK w h fl dO (fun e k => zKd (wg e) k) BG cd c y = 0
    · rw [x_ed0 hy h0] at q1
      cases q1
    · obtain ⟨d', hd', hb'⟩ := kn0 h0
      rw [x_ed1 hy h0, hb'] at q1
      cases q1
      have yb := (y1 _ hd').2 q2
      have pb : xSc mean nd wg cd * zK w h fl dO (fun e k => zKd (wg e) k) BG cd c y ≤ 14348907 * 30071 := Nat.mul_le_mul scb kb
      show Y cd d' + _ < _
      omega)
  refine ⟨V', D', P', fo, ?_, r2, fun hc' => ?_, la'.2⟩
  · unfold f_X2_best
    rw [if_pos (v_is hOk), sc, q_uc, v_gr hOk (k := 0) rfl, p_bs, p_bs, v_gr hLk.1 (k := 7) rfl, p_bs, p_bs, u_len (kH_l hi hy1 (by decide) (by decide)), p_bs]
    exact r1
  · obtain ⟨q1, q2⟩ := la'.1 hc'
    exact ⟨_, _, q2, (hy2 _ q1).2, q1, rfl⟩
