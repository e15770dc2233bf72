/-! PLAIN: the call spared -/
/-- the most of the first j kinds -/
def zMs (Y : Nat → Nat → Nat) (cd c e : Nat) : Nat → Nat
  | 0 => 0
  | j + 1 => if Y (cd + (j + 1) * 4 ^ e) c ≤ zMs Y cd c e j then zMs Y cd c e j else Y (cd + (j + 1) * 4 ^ e) c
theorem zMs_b {Y : Nat → Nat → Nat} {cd c e B : Nat} : ∀ j, (∀ k, k < j → Y (cd + (k + 1) * 4 ^ e) c ≤ B) → zMs Y cd c e j ≤ B := by
  intro j
  induction j with
  | zero => intro _; exact Nat.zero_le _
  | succ j ih =>
    intro h
    have i := ih (fun k hk => h k (by omega))
    have q := h j (by omega)
    rw [zMs]
    split <;> omega
theorem j_max2 {N b : Nat} {g : uEnv} {u : UH} {x y : Nat} (h1 : x ≤ 1000000000000000) (h2 : y ≤ 1000000000000000) : f_J9_max_2 N b g u (iL x) (iL y) = some (iL ((if y ≤ x then x else y : Nat) : Int), u) := by
  unfold f_J9_max_2 f_J9_max_2_11
  by_cases h : y ≤ x
  · rw [n_cl (by omega) (by omega) (by omega) (by omega) (by omega), if_pos h]
  · rw [p_cl (by omega) (by omega) (by omega) (by omega) (by omega), if_neg h]
theorem m_sp90 {N : Nat} {σ : MS} {B : bBk} {dead : Int} {w h n nd e c v : Nat} {hts : Nat → Int} {fl : Nat → Nat} {dO kn : Nat → Int} {dc : Nat → Nat} {wg : Nat → Nat → Nat} (hB : yBs σ.1 σ.2.1 B dead w h n nd hts fl dO kn dc wg) (hkn : ∀ d, d < nd → kn d ≠ -1 → wg d (kn d).toNat ≠ 0) (hV : ∀ k, k < zCn (wg e) 8 → σ.2.2 (100 * (zBa kn wg nd + (k + 1) * 4 ^ e) + c) = iL (zY σ.2.2 (zBa kn wg nd + (k + 1) * 4 ^ e) c) ∧ zY σ.2.2 (zBa kn wg nd + (k + 1) * 4 ^ e) c ≤ 1000000000000000) (he : e < nd) (hcd : zBa kn wg nd < 1024) (h0 : zD (zBa kn wg nd) e = 0) (hc : c < n) (hN : 9 ≤ N) : ∀ (m k : Nat), k ≤ zCn (wg e) 8 → zCn (wg e) 8 < k + m → f_spared_90 N m σ (iI e) (iI c) (iL v) (iL (zMs (zY σ.2.2) (zBa kn wg nd) c e k)) (iI k) = some ((iL v - iL (zMs (zY σ.2.2) (zBa kn wg nd) c e (zCn (wg e) 8))).toInt32, σ) := by
  have hB' := hB
  obtain ⟨⟨e1, e2, hw, hh, hn, hnd, -⟩, ⟨e3, -, b5, hkk⟩, -, hwt, -⟩ := hB
  have ba := m_base (N := N) (σ := σ) hB'.2.1 hkn (by omega)
  obtain ⟨k1, k2, -⟩ := hkk e he
  have k1 : σ.2.1 53 e = iI (zCn (wg e) 8) := k1
  have k2 : zCn (wg e) 8 ≤ 3 := k2
  have m4 : w * h ≤ 10 * 10 := Nat.mul_le_mul hw.2 hh.2
  obtain ⟨t1, t2⟩ := t_ix (a := (e : Int)) (n := mLen 53) (k := e) rfl (by rw [mL53]; omega) (by rw [mL53]; omega)
  intro m
  induction m with
  | zero => intro k h1 h2; omega
  | succ m ih =>
    intro k h1 h2
    rw [f_spared_90]
    unfold f_spared_142
    rw [if_pos t1, p_let, t2, k1]
    by_cases hk : zCn (wg e) 8 ≤ k
    · have : k = zCn (wg e) 8 := by omega
      subst this
      rw [p_le (by omega) (by omega) (by omega) (by omega) (by omega)]
    · have hk' : k < zCn (wg e) 8 := by omega
      have up := zD_up hcd (by omega : e < 5) (by omega : k < 3) h0
      have p4 : 4 ^ e ≤ 4 ^ 4 := Nat.pow_le_pow_right (by decide) (by omega)
      obtain ⟨i1, i2⟩ := t_ix (a := 100 * ((zBa kn wg nd : Int) + ((k : Int) + 1) * ((4 ^ e : Nat) : Int)) + (c : Int)) (n := 102400) (k := 100 * (zBa kn wg nd + (k + 1) * 4 ^ e) + c) (by
        rw [show ((k : Int) + 1) * ((4 ^ e : Nat) : Int) = (((k + 1) * 4 ^ e : Nat) : Int) from by rw [Int.natCast_mul]; rfl]
        omega) (by omega) (by omega)
      have ek : iI (k : Int) + 1 = iI ((k + 1 : Nat) : Int) := by
        rw [j1, i_add]
        rfl
      obtain ⟨v1, v2⟩ := hV k hk'
      have mb : zMs (zY σ.2.2) (zBa kn wg nd) c e k ≤ 1000000000000000 := zMs_b k (fun j hj => (hV j (by omega)).2)
      have ihh := ih (k + 1) (by omega) (by omega)
      rw [zMs] at ihh
      rw [n_le (by omega) (by omega) (by omega) (by omega) (by omega), ba, q_mc, m_pow (by omega), q_mc, ek, show iI ((k + 1 : Nat) : Int) = iI ((k : Int) + 1) from rfl, i_mul, i_add, j100, i_mul, i_add, if_pos i1, p_let, i2, v1]
      by_cases hle : zY σ.2.2 (zBa kn wg nd + (k + 1) * 4 ^ e) c ≤ zMs (zY σ.2.2) (zBa kn wg nd) c e k
      · rw [if_pos hle] at ihh
        rw [if_pos (show lg_cmp (iL (zY σ.2.2 (zBa kn wg nd + (k + 1) * 4 ^ e) c : Int)) (iL (zMs (zY σ.2.2) (zBa kn wg nd) c e k : Int)) ≤ 0 by rw [e_cle (by omega) (by omega) (by omega) (by omega)]; omega), p_let]
        exact ihh
      · rw [if_neg hle] at ihh
        rw [if_neg (show ¬ lg_cmp (iL (zY σ.2.2 (zBa kn wg nd + (k + 1) * 4 ^ e) c : Int)) (iL (zMs (zY σ.2.2) (zBa kn wg nd) c e k : Int)) ≤ 0 by rw [e_cle (by omega) (by omega) (by omega) (by omega)]; omega), p_let]
        exact ihh
theorem c_sp101 {N b : Nat} {g : uEnv} {ad la da wa sa : Nat → Nat} {so ja a e c cd v : Nat} {u8 u9 u10 : Value} {w h n nd ng go mean : Nat} {hts : Nat → Int} {fl nb : Nat → Nat} {dO kn : Nat → Int} {wg : Nat → Nat → Nat} {BG : Nat → Nat → Nat → Nat} {Y : Nat → Nat → Nat} {U : UH} {d1 d2 : Nat} (hk : kOk b sa) (hgo : go < n) (hm : mean = 0 ∨ mean = 1) (hS : xSol w h n nd go mean fl nb dO kn wg BG Y) (hcd : cd < 1024) (hcan : yCan nd kn wg cd) (he : e < nd) (h0 : zD cd e = 0) (hc : c < n) (hfin : ∀ k, k < zCn (wg e) 8 → Y (cd + (k + 1) * 4 ^ e) c < 1000000000000000) (hN : 101 ≤ N) : ∀ (m q : Nat) (u : UH), q ≤ 8 → 8 < q + m → sS g la da wa sa so ja a u8 u9 u10 w h n nd ng go mean hts fl nb dO kn wg BG Y U u d1 d2 → ∃ u', sS g la da wa sa so ja a u8 u9 u10 w h n nd ng go mean hts fl nb dO kn wg BG Y U u' d1 d2 ∧ f_X1_spared_101 N b g (ad 0) m u (iI e) (iI c) (some (da e)) (some so) (iI cd) (iL v) (iL (zMs Y cd c e (zCn (wg e) q))) (iI q) = if uIs u' (ad 0) 0 = true then ucall (f_X1_done N b g u' (ad 0) ((iL v - iL (zMs Y cd c e (zCn (wg e) 8))).toInt32)) fun r5 u3 => some (r5, u3) else none := by
  intro m
  induction m with
  | zero => intro q u h1 h2; omega
  | succ m ih =>
    intro q u h1 h2 hs
    have hs' := hs
    obtain ⟨⟨hO, hL, -⟩, -⟩ := hs'
    have hnd := hL.2.2.2.2.1
    obtain ⟨⟨dd1, wf, dd2, dd3⟩, dd4, dd5⟩ := hL.2.2.2.2.2.2.2.2.2.2 e he
    rw [f_X1_spared_101]
    unfold f_X1_spared_142
    by_cases hq : q = 8
    · subst hq
      refine ⟨u, hs, ?_⟩
      rw [j8, p_le (by omega) (by omega) (by omega) (by omega) (by omega)]
    · obtain ⟨w1, w2⟩ := dd3 q (by omega)
      have eq : iI (q : Int) + 1 = iI ((q + 1 : Nat) : Int) := by
        rw [j1, i_add]
        rfl
      have L : uLdI u (wa e) 0 (iI (q : Int)) = some (iI (wg e q)) := by
        rw [u_ldI dd2 (by omega) (by omega) (by omega)]
        exact congrArg some w1
      rw [j8, n_le (by omega) (by omega) (by omega) (by omega) (by omega), p_bs, v_gr dd1 (k := 1) rfl, p_bs, p_bs, L, p_bs]
      by_cases hz : wg e q = 0
      · have e2 : zCn (wg e) (q + 1) = zCn (wg e) q := by rw [zCn_s, if_pos hz]; rfl
        rw [if_pos (show iI (wg e q : Int) ≤ 0 by rw [hz]; decide), p_let, eq, ← e2]
        exact ih (q + 1) u (by omega) (by omega) hs
      · have e2 : zCn (wg e) (q + 1) = zCn (wg e) q + 1 := by rw [zCn_s, if_neg hz]
        have lk : zCn (wg e) q < zCn (wg e) 8 := by
          have := zCn_le (f := wg e) (g := q + 1) (8 - (q + 1))
          rw [show q + 1 + (8 - (q + 1)) = 8 from by omega] at this
          omega
        have kq : zKd (wg e) (zCn (wg e) q) = q := zKd_at hz (by omega)
        have kn' := c_knows (N := N) (b := b) (k := zCn (wg e) q) hO hL he hcd lk h0 (by omega)
        rw [kq] at kn'
        have up := zD_up hcd (by omega : e < 5) (by omega : zCn (wg e) q < 3) h0
        obtain ⟨u1, o1, o2⟩ := hs.of (N := N) hk hgo hm hS hN up.1 (zCan_up hcan hcd hnd he dd5 lk h0) hc
        have fi := hfin _ lk
        have mb : zMs Y cd c e (zCn (wg e) q) ≤ 1000000000000000 := zMs_b _ (fun j hj => Nat.le_of_lt (hfin j (by omega)))
        have e3 : (if Y (cd + (zCn (wg e) q + 1) * 4 ^ e) c ≤ zMs Y cd c e (zCn (wg e) q) then zMs Y cd c e (zCn (wg e) q) else Y (cd + (zCn (wg e) q + 1) * 4 ^ e) c) = zMs Y cd c e (zCn (wg e) (q + 1)) := by
          rw [e2]
          rfl
        rw [if_neg (show ¬ iI (wg e q : Int) ≤ 0 by rw [j0, j_le (by omega) (by omega) (by omega) (by omega)]; omega), p_bs, if_pos (v_is hO), kn', q_uc, if_pos (v_is hO), o1, q_uc, iV_f fi, j_max2 mb (by omega), q_uc, e3, p_let, eq]
        exact ih (q + 1) u1 (by omega) (by omega) o2
section C1s
variable {N b : Nat} {g : uEnv} {A : pA} {ad sa : Nat → Nat} {Q : qT} {U : UH} {lab : Nat → Nat} {σ : MS}
theorem k_spared (hQ : qOk Q) (h : xSt b g A ad sa Q U lab σ) (hN : 200000000000000000 ≤ N) (d x y : Int32) : ∃ r U' σ' dc, f_X1_spared N b g U (ad 0) d x y = some (r, U') ∧ f_spared N σ d x y = some (r, σ') ∧ dc ≤ 1 ∧ xStep b g A ad sa Q U lab U' σ' dc 0 := by
  obtain ⟨ar0, ar1, ar2⟩ := k_are (N := N) (b := b) (g := g) (ad := ad) (x := x) (y := y) (k_is h)
  unfold f_X1_spared f_spared f_X1_spared_17 f_spared_28
  rw [if_pos (k_is h), m_good, q_mv]
  obtain ⟨U1, n1, n2⟩ := k_ref (N := N) (t := 1) (by decide) hQ h
  obtain ⟨U5, n5, n6⟩ := k_ref (N := N) (t := 5) (by decide) hQ h
  have m1 : f_spared_47 N (mT σ 0) d x y 1 = some (-1, mT σ 1) := by
    unfold f_spared_47
    rw [if_neg (show ¬ (1 : Int32) ≤ 0 by decide), m_no, q_mc]
  have m5 : f_spared_47 N (mT σ 0) d x y 5 = some (-1, mT σ 5) := by
    unfold f_spared_47
    rw [if_neg (show ¬ (5 : Int32) ≤ 0 by decide), m_no, q_mc]
  rcases k_map (N := N) h with hno | ⟨bkv, ptv, lo, hi, a, al, rv, nm, B, dead, la, da, wa, v8, v9, v10, w, h', n, nd, hts, fl, dO, kn, dc, wg, hx, hI, hbk, vB, h7, h12, h34, hL, hM, hSo, hG, hLl, hce⟩
  · rcases k_mp h with ⟨bkv, ptv, hx, hI, h34⟩ | ⟨bkv, ptv, lo, hi, a, al, rv, nm, B, dead, la, da, wa, v8, v9, v10, w, h', n, nd, hts, fl, dO, kn, dc, wg, hx, hI, hbk, vB, h7, h12, h34, hL, hM, hSo, hG, hLl⟩
    · refine ⟨-1, U1, mT σ 1, 0, ?_, ?_, by omega, n2⟩
      · unfold f_X1_isDoubt f_X1_isDoubt_31 f_X1_isDoubt_32
        rw [x_mpn hx, p_bs, q_cn, if_pos uF0, q_uc, if_pos rfl, if_pos (k_is h), n1, q_uc]
      · unfold f_isDoubt f_isDoubt_25 f_isDoubt_26
        rw [if_pos (show (mT σ 0).1 34 = 0 from h34), if_pos mB0, q_mc, if_pos rfl, m1]
    · rcases k_db (N := N) (b := b) (σ1 := mT σ 0) hx hL h34 hM.2.2.1 d with ⟨c1, c2⟩ | ⟨c1, c2, -⟩
      · refine ⟨-1, U1, mT σ 1, 0, ?_, ?_, by omega, n2⟩
        · rw [c1, q_uc, if_pos rfl, if_pos (k_is h), n1, q_uc]
        · rw [c2, q_mc, if_pos rfl, m1]
      · refine ⟨-1, U1, mT σ 1, 0, ?_, ?_, by omega, n2⟩
        · rw [c1, q_uc, if_neg n10, if_pos (k_is h), ar0 (hno x).1, q_uc, if_pos rfl, if_pos (k_is h), n1, q_uc]
        · rw [c2, q_mc, if_neg n10, (hno x).2, q_mc, if_pos rfl, m1]
  · rcases k_db (N := N) (b := b) (σ1 := mT σ 0) hx hL h34 hM.2.2.1 d with ⟨c1, c2⟩ | ⟨c1, c2, e, c3, c4⟩
    · refine ⟨-1, U1, mT σ 1, 0, ?_, ?_, by omega, n2⟩
      · rw [c1, q_uc, if_pos rfl, if_pos (k_is h), n1, q_uc]
      · rw [c2, q_mc, if_pos rfl, m1]
    · rw [c1, c2, q_uc, q_mc, if_neg n10, if_neg n10, if_pos (k_is h)]
      rcases hce x with q | ⟨f1, f2, fr, f3, f4⟩
      · refine ⟨-1, U1, mT σ 1, 0, ?_, ?_, by omega, n2⟩
        · rw [ar0 q.1, q_uc, if_pos rfl, if_pos (k_is h), n1, q_uc]
        · rw [q.2, q_mc, if_pos rfl, m1]
      · rcases hce y with q | ⟨g1, g2, go, g3, g4⟩
        · refine ⟨-1, U1, mT σ 1, 0, ?_, ?_, by omega, n2⟩
          · rw [ar1 f1 q.1, q_uc, if_pos rfl, if_pos (k_is h), n1, q_uc]
          · rw [f2, q_mc, if_neg n10, q.2, q_mc, if_pos rfl, m1]
        · have hnd := hL.2.2.2.2.1
          have hkn := k_knO (U := U) (g := g) (la := la) (da := da) (wa := wa) (a := a) (v8 := v8) (v9 := v9) (v10 := v10) hM hG
          have sz := c_siz (N := N) (b := b) hL
          have gt := c_get (N := N) (b := b) (e := e) hL c4
          have hdd := hL.2.2.2.2.2.2.2.2.2.2
          obtain ⟨dd1, dd2, dd3⟩ := hdd e c4
          obtain ⟨t1, t2⟩ := t_ix (a := (e : Int)) (n := mLen 45) (k := e) rfl (by rw [mL45]; omega) (by rw [mL45]; omega)
          have k45 : (mT σ 0).2.1 45 e = iI (kn e) := (hM.2.2.2.2.2.1 e c4).2.2.1
          have hk1 := hkn e c4
          rw [ar2 f1 g1, q_uc, if_neg n10, x_mp hx, p_bs, p_bs, v_gr hL.1 (k := 6) rfl, p_bs, p_bs, if_pos sz.2, c3, gt, q_uc, p_bs, if_pos (v_is dd1.1), v_gi dd1.1 (k := 2) rfl, p_bs, f2, q_mc, if_neg n10, g2, q_mc, if_neg n10, if_pos t1, p_let, t2, k45, ← c3]
          by_cases hn1 : kn e = -1
          · rw [if_pos (show iI (kn e) = -1 by rw [hn1]; rfl), if_pos (show iI (kn e) = -1 by rw [hn1]; rfl), if_pos (k_is h)]
            unfold f_spared_47
            rw [if_pos (show (0 : Int32) ≤ 0 from Int32.le_refl 0), f3, g3]
            obtain ⟨ub, u8, u9, u10, σ1, s1, s2, s3, s4, s5, s6, s7, s8, s9, s10, s11⟩ := k_ses (N := N) (mean := 0) hx hI vB h7 hL hM hSo hG hLl (Or.inl rfl) g4 f4 hN
            have kk := k_kOk hI
            have s3' := s3
            obtain ⟨⟨hO, hLb, -⟩, -⟩ := s3'
            have s1' : f_X1_solver N b g U (ad 0) (iI go) 0 = some (some (ad 2), ub) := s1
            have s2' : f_from N (mT σ 0) (iI fr) (iI go) 0 = some (iL (iW (zY σ1.2.2 (zBa kn wg nd) fr)), σ1) := s2
            obtain ⟨u1, o1, o2⟩ := s3.of (N := N) kk g4 (Or.inl rfl) s6 (by omega) s7.1 s7.2 f4
            rw [s1', q_uc, s2', q_mc]
            unfold f_X1_spared_60
            rw [p_bs, if_pos (v_is hO), c_known hO hLb hkn (by omega), q_uc, if_pos (v_is hO), o1, q_uc, show (9223372036854775807 : Int64) = iL 9223372036854775807 from rfl, show (0 : Int64) = iL 0 from rfl]
            by_cases hf : zY σ1.2.2 (zBa kn wg nd) fr < 1000000000000000
            · have z0 : zD (zBa kn wg nd) e = 0 := (zBa_0 (fun e he => (hdd e he).2.2) hkn c4).mpr hn1
              have hwt : ∀ e k, e < nd → k < zCn (wg e) 8 → 1 ≤ wg e (zKd (wg e) k) ∧ wg e (zKd (wg e) k) ≤ 9 := fun e k he hk => by
                obtain ⟨⟨-, wf, -, q⟩, -⟩ := hdd e he
                obtain ⟨a, b⟩ := zKd_ok hk
                exact ⟨Nat.pos_of_ne_zero b, (q _ a).2⟩
              obtain ⟨⟨cx1, cx2, cx3, cx4, cx5, cx6, cx7, cx8, cx9, cx10⟩, -⟩ := s3
              have inf := z_inf s6 hL.2.1 hL.2.2.1 hL.2.2.2.1 hnd (fun e he => (hdd e he).2) hwt (fun c hc => ⟨(hM.2.2.2.2.1 c hc).2.2.2.1, (hM.2.2.2.2.1 c hc).2.2.2.2⟩) cx7 cx8 cx9 (Or.inl rfl) c4 _ (zBa kn wg nd) rfl s7.1 s7.2 z0 _ fr f4 rfl hf
              obtain ⟨i1, i3, -⟩ := inf
              have i3 := zMs_b (zCn (wg e) 8) (i3 rfl)
              have yb2 := ((s6 _ s7.1 s7.2).1 fr f4).2 hf
              have uk := zUk_le (cd := zBa kn wg nd) nd
              have bd : zBd 0 nd (fun e => zCn (wg e) 8) (fun e k => wg e (zKd (wg e) k)) (zBa kn wg nd) ≤ 18042600 := by
                show (zUk (zBa kn wg nd) nd + 1) * (3007100 * 1) ≤ _
                omega
              obtain ⟨u2, p1, p2⟩ := c_sp101 (N := N) (b := b) (ad := ad) (v := zY σ1.2.2 (zBa kn wg nd) fr) kk g4 (Or.inl rfl) s6 s7.1 s7.2 c4 z0 f4 i1 (by omega) N 0 u1 (by omega) (by omega) o2
              obtain ⟨e1, e2, e3⟩ := k_end (N := N) hQ hx hI hbk vB h7 h12 h34 hL hM hG hLl p1 s4 s5
              have mo := m_sp90 (N := N) (σ := σ1) (v := zY σ1.2.2 (zBa kn wg nd) fr) s8 hG.2.2 (fun k hk => by
                have up := zD_up s7.1 (by omega : e < 5) (by omega : k < 3) z0
                exact s9 _ up.1 (zCan_up s7.2 s7.1 hnd c4 dd3 hk z0) fr f4) c4 s7.1 z0 f4 (by omega) N 0 (by omega) (by omega)
              have p2' : f_X1_spared_101 N b g (ad 0) N u1 (iI e) (iI fr) (some (da e)) (some (ad 2)) (iI (zBa kn wg nd)) (iL (zY σ1.2.2 (zBa kn wg nd) fr)) (iL 0) 0 = _ := p2
              have mo' : f_spared_90 N N σ1 (iI e) (iI fr) (iL (zY σ1.2.2 (zBa kn wg nd) fr)) (iL 0) 0 = _ := mo
              obtain ⟨U', r1, r2⟩ := e2 ((iL (zY σ1.2.2 (zBa kn wg nd) fr) - iL (zMs (zY σ1.2.2) (zBa kn wg nd) fr e (zCn (wg e) 8))).toInt32)
              refine ⟨(iL (zY σ1.2.2 (zBa kn wg nd) fr) - iL (zMs (zY σ1.2.2) (zBa kn wg nd) fr e (zCn (wg e) 8))).toInt32, U', σ1, 1, ?_, ?_, by omega, r2⟩
              · rw [iV_f hf, n_c0 (by omega) (by omega) (by omega) (by omega) (by omega), c3, p2', if_pos e1, r1, q_uc]
              · unfold iW
                rw [if_pos hf, p_cg (by omega) (by omega) (by omega) (by omega) (by omega), c3, mo']
            · obtain ⟨e1, e2, e3⟩ := k_end (N := N) hQ hx hI hbk vB h7 h12 h34 hL hM hG hLl o2 s4 s5
              obtain ⟨U', r1, r2⟩ := e3 6 (by decide)
              refine ⟨-1, U', mSet σ1 39 6, 1, ?_, ?_, by omega, r2⟩
              · rw [iV_n hf, p_c0 (by omega) (by omega) (by omega) (by omega) (by omega), if_pos e1, r1, q_uc]
              · unfold iW
                rw [if_neg hf, n_cg (by omega) (by omega) (by omega) (by omega) (by omega), m_no2, q_mc]
          · refine ⟨-1, U5, mT σ 5, 0, ?_, ?_, by omega, n6⟩
            · rw [if_neg (show ¬ iI (kn e) = -1 by rw [j_m1, j_eq (by omega) (by omega) (by omega) (by omega)]; exact hn1), if_pos (k_is h), n5, q_uc]
            · rw [if_neg (show ¬ iI (kn e) = -1 by rw [j_m1, j_eq (by omega) (by omega) (by omega) (by omega)]; exact hn1), m5]
end C1s
