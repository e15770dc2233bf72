/-! PLAIN: common, part, mean -/
theorem e_div {a b : Int} (h1 : 0 ≤ a) (h2 : a ≤ 9223372036854775807) (h3 : 0 < b) (h4 : b ≤ 9223372036854775807) : iL a / iL b = iL (a / b) := by
  apply Int64.toInt_inj.mp
  have d1 : 0 ≤ a / b := Int.ediv_nonneg h1 (by omega)
  have d2 : a / b ≤ a := Int.ediv_le_self b h1
  rw [e_toInt (by omega) (by omega), Int64.toInt_div_of_ne_right _ _ (fun e => by
    have h := congrArg Int64.toInt e
    rw [e_toInt (by omega) (by omega)] at h
    have q : (-1 : Int64).toInt = -1 := rfl
    omega), e_toInt (by omega) (by omega), e_toInt (by omega) (by omega), Int.tdiv_eq_ediv_of_nonneg h1]
theorem e_rem {a b : Nat} (h2 : a ≤ 4000000000000000000) (h3 : 0 < b) (h4 : b ≤ 4000000000000000000) : iL (a : Int) - iL (a : Int) / iL (b : Int) * iL (b : Int) = iL ((a % b : Nat) : Int) := by
  rw [e_div (by omega) (by omega) (by omega) (by omega), ← Int.natCast_ediv, e_mul, ← Int.natCast_mul, e_sub]
  congr 1
  have := Nat.div_add_mod a b
  rw [Nat.mul_comm] at this
  omega
theorem c_gst {N b : Nat} {g : uEnv} {u : UH} {d x y : Nat} (hx : x ≠ 0) (h1 : x ≤ 4000000000000000000) (h2 : y ≤ 4000000000000000000) : rec_common N b g (d + 1) u (iL x) (iL y) = ucall (rec_common N b g d u (iL ((y % x : Nat) : Int)) (iL x)) (fun r5 u3 => some (r5, u3)) := by
  show fo_X1_common N b g (rec_common N b g d) u (iL x) (iL y) = _
  unfold fo_X1_common f_X1_common_17
  rw [show (0 : Int64) = iL 0 from rfl, n_c0 (by omega) (by omega) (by omega) (by omega) (by omega), if_pos (show ¬ iL (x : Int) = iL 0 by rw [e_eq (by omega) (by omega) (by omega) (by omega)]; omega), e_rem h2 (by omega) h1]
theorem c_g0 {N b : Nat} {g : uEnv} {u : UH} {d y : Nat} : rec_common N b g (d + 1) u (iL ((0 : Nat) : Int)) (iL y) = some (iL y, u) := by
  show fo_X1_common N b g (rec_common N b g d) u (iL ((0 : Nat) : Int)) (iL y) = _
  unfold fo_X1_common f_X1_common_17
  rw [show (0 : Int64) = iL 0 from rfl, p_c0 (by omega) (by omega) (by omega) (by omega) (by omega)]
theorem c_gcd {N b : Nat} {g : uEnv} {u : UH} : ∀ (k d x y : Nat), x < 2 ^ k → 2 * k + 1 ≤ d → x ≤ 4000000000000000000 → y ≤ 4000000000000000000 → rec_common N b g d u (iL x) (iL y) = some (iL (Nat.gcd x y), u) := by
  intro k
  induction k with
  | zero =>
    intro d x y h1 h2 h3 h4
    obtain ⟨d, rfl⟩ : ∃ d', d = d' + 1 := ⟨d - 1, by omega⟩
    have : x = 0 := by
      have : 2 ^ 0 = 1 := rfl
      omega
    subst this
    rw [c_g0, Nat.gcd_zero_left]
  | succ k ih =>
    intro d x y h1 h2 h3 h4
    obtain ⟨d, rfl⟩ : ∃ d', d = d' + 2 := ⟨d - 2, by omega⟩
    by_cases hx : x = 0
    · subst hx
      rw [c_g0, Nat.gcd_zero_left]
    · have m1 := Nat.mod_lt y (show x > 0 by omega)
      rw [c_gst hx h3 h4, Nat.gcd_rec]
      by_cases hz : y % x = 0
      · rw [hz, c_g0, q_uc, Nat.gcd_zero_left]
      · have m2 := Nat.mod_lt x (show y % x > 0 by omega)
        have m3 := Nat.div_add_mod x (y % x)
        have m4 : 1 ≤ x / (y % x) := Nat.div_pos (by omega) (by omega)
        have m5 : (y % x) * 1 ≤ (y % x) * (x / (y % x)) := Nat.mul_le_mul_left _ m4
        have p2 : 2 ^ (k + 1) = 2 * 2 ^ k := by rw [Nat.pow_succ, Nat.mul_comm]
        rw [c_gst hz (by omega) h3, ih d (x % (y % x)) (y % x) (by omega) (by omega) (by omega) (by omega), q_uc, q_uc, Nat.gcd_rec (y % x) x]
theorem m_gcd17 {N : Nat} {σ : MS} : ∀ (m x y : Nat), y < m → x ≤ 4000000000000000000 → y ≤ 4000000000000000000 → f_common_17 N m σ (iL x) (iL y) = some (iL (Nat.gcd y x), σ) := by
  intro m
  induction m with
  | zero => intro x y h; omega
  | succ m ih =>
    intro x y h1 h2 h3
    rw [f_common_17, show (0 : Int64) = iL 0 from rfl]
    by_cases hy : y = 0
    · subst hy
      rw [p_c0 (by omega) (by omega) (by omega) (by omega) (by omega), Nat.gcd_zero_left]
    · have m1 := Nat.mod_lt x (show y > 0 by omega)
      rw [n_c0 (by omega) (by omega) (by omega) (by omega) (by omega), if_pos (show ¬ iL (y : Int) = iL 0 by rw [e_eq (by omega) (by omega) (by omega) (by omega)]; omega), e_rem h2 (by omega) h3, p_let, ih y (x % y) (by omega) h3 (by omega), Nat.gcd_rec y x]
theorem m_gcd {N : Nat} {σ : MS} {x y : Nat} (h1 : y < N) (h2 : x ≤ 4000000000000000000) (h3 : y ≤ 4000000000000000000) : f_common N σ (iL x) (iL y) = some (iL (Nat.gcd x y), σ) := by
  unfold f_common f_common_12
  rw [show (0 : Int64) = iL 0 from rfl, p_cg (by omega) (by omega) (by omega) (by omega) (by omega), m_gcd17 N x y h1 h2 h3, Nat.gcd_comm]
theorem c_common {N b : Nat} {g : uEnv} {u : UH} {x y : Nat} (h1 : x < 562949953421312) (h3 : y ≤ 4000000000000000000) : f_X1_common N b g u (iL x) (iL y) = some (iL (Nat.gcd x y), u) := c_gcd 49 100 x y h1 (by omega) (by omega) h3
theorem m_lft {N : Nat} {σ : MS} {B : bBk} {dead : Int} {w h n nd cd : Nat} {hts : Nat → Int} {fl : Nat → Nat} {dO kn : Nat → Int} {dc : Nat → Nat} {wg : Nat → Nat → Nat} (hB : yBs σ.1 σ.2.1 B dead w h n nd hts fl dO kn dc wg) (hcd : cd < 1024) (hN : 200 ≤ N) : f_left N σ (iI cd) = some (iL (zPr (fun e => zSum (wg e) 8) cd nd), σ) ∧ 1 ≤ zPr (fun e => zSum (wg e) 8) cd nd ∧ zPr (fun e => zSum (wg e) 8) cd nd ≤ 14348907 := by
  obtain ⟨hF, ⟨e3, hnd, b5, hkk⟩, hnb, hwt, hmn1, hBG⟩ := hB
  obtain ⟨e1, e2, hw, hh, hn, -, hng, hfl, hkd, hmn3, -⟩ := hF
  have hmw : ∀ e, e < nd → 1 ≤ zCn (wg e) 8 ∧ zCn (wg e) 8 ≤ 3 := fun e he => ⟨hmn1 e he, hmn3 e he⟩
  have hw9 : ∀ e k, e < nd → k < zCn (wg e) 8 → 1 ≤ wg e (zKd (wg e) k) ∧ wg e (zKd (wg e) k) ≤ 9 := fun e k he hk => (hwt e k he hk).2
  have al : ∀ e, zSum (fun k => wg e (zKd (wg e) k)) (zCn (wg e) 8) = zSum (wg e) 8 := fun e => zSum_k 8 (Nat.le_refl _)
  have bd : ∀ e, e < nd → 1 ≤ zSum (wg e) 8 ∧ zSum (wg e) 8 ≤ 27 := fun e he => by
    have := zSum_27 (f := fun k => wg e (zKd (wg e) k)) (hmw e he) (fun k hk => hw9 e k he hk)
    rw [al e] at this
    exact this
  have pb := zPr_b (al := fun e => zSum (wg e) 8) (cd := cd) nd (fun e he => bd e he)
  have p27 : 27 ^ nd ≤ 27 ^ 5 := Nat.pow_le_pow_right (by decide) hnd
  refine ⟨m_left e3 hnd hcd (fun d hd => ⟨?_, bd d hd⟩) (by omega), pb.1, by omega⟩
  obtain ⟨k1, k2, -, -, -, k6⟩ := hkk d hd
  have q := m_all (N := N) (σ := σ) (wt := fun k => wg d (zKd (wg d) k)) k1 k2 (by omega) (fun k hk => ⟨by
    obtain ⟨g1, g2⟩ := k6 k hk
    have kb : zKd (wg d) k < 8 := (zKd_ok hk).1
    exact m_wt (kd := zKd (wg d) k) (by omega) (by have : zCn (wg d) 8 ≤ 3 := k2; have hk' : k < zCn (wg d) 8 := hk; omega) g1 kb (hwt d k hd hk).1, (hw9 d k hd hk).2⟩) (by omega)
  have e : zSum (fun k => wg d (zKd (wg d) k)) ((fun e => zCn (wg e) 8) d) = zSum (wg d) 8 := al d
  rw [e] at q
  exact q
section C5
variable {N b : Nat} {g : uEnv} {A : pA} {ad sa : Nat → Nat} {Q : qT} {U : UH} {lab : Nat → Nat} {σ : MS}
theorem e_min {r : Int32} (h : r = -1) : ((r.toInt64) + (-9223372036854775808)) + 1 = (-9223372036854775808 : Int64) := by
  subst h
  decide
theorem k_lost {t : Int32} (h4 : t ≠ 4) (hQ : qOk Q) (h : xSt b g A ad sa Q U lab σ) : ∃ U', f_X1_lost N b g U (ad 0) t = some (-9223372036854775808, U') ∧ xStep b g A ad sa Q U lab U' (mT σ t) 0 0 := by
  obtain ⟨U', r1, r2⟩ := k_ref (N := N) h4 hQ h
  refine ⟨U', ?_, r2⟩
  unfold f_X1_lost
  rw [if_pos (k_is h), r1, q_uc, e_min rfl]
/-- top and low are parted, of both -/
theorem k_part {u : UH} {x y : Nat} {z : Int32} (h1 : x < 562949953421312) (h2 : 1 ≤ y) (h3 : y ≤ 4000000000000000) (hi : uIs u (ad 0) 0 = true) {U' : UH} (hd : f_X1_done N b g u (ad 0) 0 = some (0, U')) (hN : 200000000000000000 ≤ N) : ∃ r, f_X1_part N b g u (ad 0) (iL x) (iL y) z = some (r, U') ∧ ∀ σ, f_part N σ (iL x) (iL y) z = some (r, σ) := by
  have gp : 0 < Nat.gcd x y := Nat.gcd_pos_of_pos_right x (by omega)
  have gl : Nat.gcd x y ≤ y := Nat.gcd_le_right x (by omega)
  have told : ∀ v : Int64, f_X1_told_2 N b g u (ad 0) v = some (v, U') := fun v => by
    unfold f_X1_told_2
    rw [if_pos hi, hd, q_uc]
    congr 2
    rw [show (0 : Int32).toInt64 = 0 from rfl, Int64.zero_add]
  have gn : ¬ iL ((Nat.gcd x y : Nat) : Int) = 0 := by
    rw [show (0 : Int64) = iL 0 from rfl, e_eq (by omega) (by omega) (by omega) (by omega)]
    omega
  have cm := c_common (N := N) (b := b) (g := g) (u := u) (x := x) (y := y) h1 (by omega)
  have mm : ∀ σ, f_common N σ (iL x) (iL y) = some (iL (Nat.gcd x y), σ) := fun σ => m_gcd (by omega) (by omega) (by omega)
  unfold f_X1_part f_X1_part_18 f_part f_part_23
  by_cases hz : z = 0
  · refine ⟨iL x / iL (Nat.gcd x y), ?_, fun σ => ?_⟩
    · rw [cm, q_uc, if_pos hz, if_pos gn, p_bs, if_pos hi, told, q_uc]
    · rw [mm, q_mc, if_pos hz, if_pos gn]
  · refine ⟨iL y / iL (Nat.gcd x y), ?_, fun σ => ?_⟩
    · rw [cm, q_uc, if_neg hz, if_pos gn, p_bs, if_pos hi, told, q_uc]
    · rw [mm, q_mc, if_neg hz, if_pos gn]
theorem k_mean (hQ : qOk Q) (h : xSt b g A ad sa Q U lab σ) (hN : 200000000000000000 ≤ N) (x y z : Int32) : ∃ r U' σ' dc, f_X1_mean N b g U (ad 0) x y z = some (r, U') ∧ f_mean N σ x y z = some (r, σ') ∧ dc ≤ 1 ∧ xStep b g A ad sa Q U lab U' σ' dc 0 := by
  obtain ⟨ar0, ar1, ar2⟩ := k_are (N := N) (b := b) (g := g) (ad := ad) (x := x) (y := y) (k_is h)
  unfold f_X1_mean f_mean f_mean_20
  rw [if_pos (k_is h), m_good, q_mv]
  obtain ⟨U0, n1, n2⟩ := k_lost (N := N) (t := 1) (by decide) hQ h
  have no2 : mSet (mT σ 0) 39 1 = mT σ 1 := mT_2
  rcases k_map (N := N) h with hno | ⟨bkv, ptv, lo, hi, a, al, rv, nm, B, dead, la, da, wa, v8, v9, v10, w, h', n, nd, hts, fl, dO, kn, dc, wg, hx, hI, hbk, vB, h7, h12, h34, hL, hM, hSo, hG, hLl, hce⟩
  · refine ⟨-9223372036854775808, U0, mT σ 1, 0, ?_, ?_, by omega, n2⟩
    · rw [ar0 (hno x).1, q_uc, if_pos rfl, if_pos (k_is h), n1, q_uc]
    · rw [(hno x).2, q_mc, if_pos rfl, p_let, no2]
  · rcases hce x with q | ⟨c1, c2, fr, c3, c4⟩
    · refine ⟨-9223372036854775808, U0, mT σ 1, 0, ?_, ?_, by omega, n2⟩
      · rw [ar0 q.1, q_uc, if_pos rfl, if_pos (k_is h), n1, q_uc]
      · rw [q.2, q_mc, if_pos rfl, p_let, no2]
    · rcases hce y with q | ⟨d1, d2, go, d3, d4⟩
      · refine ⟨-9223372036854775808, U0, mT σ 1, 0, ?_, ?_, by omega, n2⟩
        · rw [ar1 c1 q.1, q_uc, if_pos rfl, if_pos (k_is h), n1, q_uc]
        · rw [c2, q_mc, if_neg n10, q.2, q_mc, if_pos rfl, p_let, no2]
      · obtain ⟨ub, u8, u9, u10, σ1, s1, s2, s3, s4, s5, s6, s7, s8, -⟩ := k_ses (N := N) (mean := 1) hx hI vB h7 hL hM hSo hG hLl (Or.inr rfl) d4 c4 hN
        have kk := k_kOk hI
        have s3' := s3
        obtain ⟨⟨hO, hLb, -⟩, -⟩ := s3'
        have hkn : ∀ e, e < nd → -1 ≤ kn e ∧ kn e < 8 ∧ (kn e ≠ -1 → wg e (kn e).toNat ≠ 0) := fun e he => by
          have q := hM.2.2.2.2.2.1 e he
          have b5 := hM.1.1.2.2.2.2.2.1
          exact ⟨q.2.2.2.1, by have := q.2.2.2.2; omega, hG.2.2 e he⟩
        obtain ⟨u1, o1, o2⟩ := s3.of (N := N) kk d4 (Or.inr rfl) s6 (by omega) s7.1 s7.2 c4
        have o2' := o2
        obtain ⟨⟨hO1, hL1, -⟩, -⟩ := o2'
        obtain ⟨e1, e2, e3⟩ := k_end (N := N) hQ hx hI hbk vB h7 h12 h34 hL hM hG hLl o2 s4 s5
        have yb := (s6 _ s7.1 s7.2).1 fr c4
        have hnd := hL.2.2.2.2.1
        obtain ⟨lf, lf1, lf2⟩ := m_lft (N := N) s8 s7.1 (by omega)
        have hdd := hL.2.2.2.2.2.2.2.2.2.2
        have bdb := zBd_b (mean := 1) (cd := zBa kn wg nd) (mn := fun e => zCn (wg e) 8) (wt := fun e k => wg e (zKd (wg e) k)) hnd (fun e he => (hdd e he).2) (fun e k he hk => by
          obtain ⟨⟨-, wf, -, q⟩, -⟩ := hdd e he
          obtain ⟨a, b⟩ := zKd_ok hk
          exact ⟨Nat.pos_of_ne_zero b, (q _ a).2⟩)
        have ba := m_base (N := N) (σ := σ1) s8.2.1 hG.2.2 (by omega)
        rw [ar2 c1 d1, q_uc, if_neg n10, if_pos (k_is h), c2, q_mc, if_neg n10, d2, q_mc, if_neg n10, c3, d3]
        have s1' : f_X1_solver N b g U (ad 0) (iI go) 1 = some (some (ad 2), ub) := s1
        have s2' : f_from N (mT σ 0) (iI fr) (iI go) 1 = some (iL (iW (zY σ1.2.2 (zBa kn wg nd) fr)), σ1) := s2
        rw [s1', q_uc, s2', q_mc]
        unfold f_X1_mean_21 f_X1_mean_71
        rw [p_bs, if_pos (v_is hO), c_known hO hLb hkn (by omega), q_uc, if_pos (v_is hO), o1, q_uc, show (9223372036854775807 : Int64) = iL 9223372036854775807 from rfl]
        by_cases hf : zY σ1.2.2 (zBa kn wg nd) fr < 1000000000000000
        · have yb2 := yb.2 hf
          obtain ⟨U', t1, t2⟩ := e2 0
          obtain ⟨r, p1, p2⟩ := k_part (N := N) (b := b) (g := g) (z := z) (x := zY σ1.2.2 (zBa kn wg nd) fr) (y := zPr (fun e => zSum (wg e) 8) (zBa kn wg nd) nd) (by omega) lf1 (by omega) e1 t1 hN
          refine ⟨r, U', σ1, 1, ?_, ?_, by omega, t2⟩
          · rw [iV_f hf, n_c0 (by omega) (by omega) (by omega) (by omega) (by omega), if_pos (v_is hO1), c_known hO1 hL1 hkn (by omega), q_uc, if_pos (v_is hO1), c_scl hO1 hL1 s7.1 (by omega), q_uc, if_pos e1, p1, q_uc]
          · unfold iW
            rw [if_pos hf, show (0 : Int64) = iL 0 from rfl, p_cg (by omega) (by omega) (by omega) (by omega) (by omega), ba, q_mc, lf, q_mc, p2, q_mc]
        · obtain ⟨U', t1, t2⟩ := e3 6 (by decide)
          refine ⟨-9223372036854775808, U', mSet σ1 39 6, 1, ?_, ?_, by omega, t2⟩
          · rw [iV_n hf, p_c0 (by omega) (by omega) (by omega) (by omega) (by omega), if_pos e1]
            unfold f_X1_lost
            rw [if_pos e1, t1, q_uc, e_min rfl, q_uc]
          · unfold iW
            rw [if_neg hf, show (0 : Int64) = iL 0 from rfl, n_cg (by omega) (by omega) (by omega) (by omega) (by omega), p_let]
end C5
