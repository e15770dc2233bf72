/-! PLAIN: the call tryAt -/
theorem z_least {P : Nat → Prop} : ∀ n, P n → ∃ j, j ≤ n ∧ P j ∧ ∀ k, k < j → ¬ P k := by
  intro n
  induction n using Nat.strongRecOn with
  | _ n ih =>
    intro h
    by_cases c : ∃ k, k < n ∧ P k
    · obtain ⟨k, h1, h2⟩ := c
      obtain ⟨j, q1, q2, q3⟩ := ih k h1 h2
      exact ⟨j, by omega, q2, q3⟩
    · exact ⟨n, Nat.le_refl _, h, fun k hk hp => c ⟨k, hk, hp⟩⟩
def hitP (D : Nat → Nat) (ev ov pv : Nat → Int) (w s t wl : Nat) : Prop := D (pNx (ev t) (ov t) wl s w) < pInf ∧ D (pNx (ev t) (ov t) wl s w) + ctC pv t = D s
section H9s
variable {N b : Nat} {g : uEnv} {ad : Nat → Nat} {U : UH} {σ σ1 : MS} {p a li oa w nT : Nat} {ta : Nat → Nat} {ev ov pv : Nat → Int} {D : Nat → Nat} {fo : Nat → Int64} {mpv ptv : Value}
theorem hit_ex {s : Nat} (hD : gJ (5 ^ w) pInf nT w (nxP ev ov w) (ctC pv) D) (hF : gF (5 ^ w) pInf nT w (nxP ev ov w) (ctC pv) D) (h0 : 0 < s) (hs : s < 5 ^ w) (hf : D s < pInf) : ∃ i0, i0 < nT * w ∧ hitP D ev ov pv w s (i0 / w) (i0 % w) ∧ ∀ k, k < i0 → ¬ hitP D ev ov pv w s (k / w) (k % w) := by
  rcases hD.2 s h0 hs with q | ⟨q1, t, wl, q2, q3, q4, q5⟩
  · omega
  · have f1 := hF s t wl h0 hs q2 q3 q4
    have e1 : (t * w + wl) / w = t := by
      rw [Nat.mul_comm, Nat.mul_add_div (by omega), Nat.div_eq_of_lt q3]
      rfl
    have e2 : (t * w + wl) % w = wl := by
      rw [Nat.mul_comm, Nat.mul_add_mod]
      exact Nat.mod_eq_of_lt q3
    obtain ⟨j, z1, z2, z3⟩ := z_least (P := fun k => hitP D ev ov pv w s (k / w) (k % w)) (t * w + wl) (by
      show hitP D ev ov pv w s ((t * w + wl) / w) ((t * w + wl) % w)
      rw [e1, e2]
      exact ⟨q4, Nat.le_antisymm q5 f1⟩)
    refine ⟨j, ?_, z2, z3⟩
    have e3 : (t + 1) * w ≤ nT * w := Nat.mul_le_mul_right _ (by omega)
    have e4 : (t + 1) * w = t * w + w := Nat.succ_mul t w
    omega
theorem c_t63 {k50 : UH → Int32 → Option Nat → Int32 → Int32 → Option (Int32 × UH)} {x1 c : Int32} {s i0 : Nat} (hx : U.2.2 (ad 0) = some (xO ad σ (.ref a) mpv ptv)) (hP : cPx U p a li oa w nT ta ev ov pv) (ho : U.2.2 oa = some (.inl (3, 5 ^ w, .inr (.inl fo)))) (hfo : ∀ s, s < 5 ^ w → fo s = iL ((D s : Nat) : Int)) (hB : ∀ s, s < 5 ^ w → D s = pInf ∨ D s ≤ 2500000000) (hs : s < 5 ^ w) (hi0 : i0 < nT * w) (hit : hitP D ev ov pv w s (i0 / w) (i0 % w)) (hmin : ∀ k, k < i0 → ¬ hitP D ev ov pv w s (k / w) (k % w)) (hN : 10 ≤ N) : ∀ (m i : Nat) (x6 : Int32), i ≤ i0 → i0 + 2 ≤ i + m → f_X1_tryAt_63 N b g (ad 0) k50 m U x1 (some p) (iI s) c (-1) x6 (iI i) = f_X1_tryAt_174 N b g (ad 0) k50 U x1 (some p) c (iI ((10 * (i0 / w) + i0 % w : Nat) : Int)) (iI ((pNx (ev (i0 / w)) (ov (i0 / w)) (i0 % w) s w : Nat) : Int)) := by
  have pI : pInf = 1152921504606846976 := rfl
  have hw := hP.1
  have p6 := (p5_le (k := w) (by omega)).2
  have b1 : nT * w ≤ 6 * 6 := Nat.mul_le_mul hw.2.2 hw.2.1
  have hP2 := hP
  obtain ⟨-, z1, ⟨r0, r2, fs, z2⟩, -, z3⟩ := hP2
  have nz : ¬ iI (w : Int) = 0 := by
    rw [j0, j_eq (by omega) (by omega) (by omega) (by omega)]
    omega
  intro m
  induction m with
  | zero => intro i x6 h1 h2; omega
  | succ m ih =>
    intro i x6 h1 h2
    obtain ⟨a1, a2, a3⟩ := c_att (N := N) (b := b) (g := g) (i := i) hP (by omega)
    have ct := c_cst (N := N) (b := b) (g := g) hP a1
    obtain ⟨⟨nv, z4⟩, z5, z6, z7⟩ := z3 _ a1
    have ek : iI (i : Int) + 1 = iI ((i + 1 : Nat) : Int) := by
      rw [j1, i_add]
      rfl
    have nx := c_next (N := N) (b := b) (g := g) (w := w) (s := s) (wl := i % w) z1 z2 z4 (by omega) (by omega) z5 z6 (by omega) hN
    have nl := pNx_lt (e := ev (i / w)) (o := ov (i / w)) (wl := i % w) (s := s) (w := w)
    have L1 : uLdL U oa 3 (iI ((pNx (ev (i / w)) (ov (i / w)) (i % w) s w : Nat) : Int)) = some (iL ((D (pNx (ev (i / w)) (ov (i / w)) (i % w) s w) : Nat) : Int)) := by
      rw [← hfo _ nl]
      exact u_ldL ho (by omega) (by omega) (by omega)
    have L2 : uLdL U oa 3 (iI (s : Int)) = some (iL ((D s : Nat) : Int)) := by
      rw [← hfo _ hs]
      exact u_ldL ho (by omega) (by omega) (by omega)
    have cC : ctC pv (i / w) = (pv (i / w)).toNat * 1048576 + 1 := rfl
    have bn := hB _ nl
    have bs := hB _ hs
    rw [f_X1_tryAt_63, p_bs, if_pos (v_is z1), c_many hP, q_uc, n_le (by omega) (by omega) (by omega) (by omega) (by omega), if_pos rfl, if_pos (v_is z1), a3, q_uc, x_bk hx, p_bs, p_bs, v_gi z2 (k := 3) rfl, p_bs, if_pos nz, if_pos (v_is z1), i_mdw (by omega) (by omega) (by omega), nx, q_uc, v_gr z1 (k := 1) rfl, p_bs, p_bs, L1, p_bs, show (1152921504606846976 : Int64) = iL 1152921504606846976 from rfl]
    by_cases cI : D (pNx (ev (i / w)) (ov (i / w)) (i % w) s w) = pInf
    · have ni : i ≠ i0 := fun z => by
        subst z
        have := hit.1
        omega
      rw [p_c0 (by omega) (by omega) (by omega) (by omega) (by omega)]
      unfold f_X1_tryAt_168
      rw [ek, p_let]
      exact ih (i + 1) _ (by omega) (by omega)
    · rw [n_c0 (by omega) (by omega) (by omega) (by omega) (by omega), p_bs, p_bs, L1, p_bs, if_pos (v_is z1), a3, q_uc, ct, q_uc, v_gr z1 (k := 1) rfl, p_bs, p_bs, L2, p_bs, e_add]
      by_cases cv : D (pNx (ev (i / w)) (ov (i / w)) (i % w) s w) + ctC pv (i / w) = D s
      · have ei : i = i0 := by
          apply Classical.byContradiction
          intro z
          exact hmin i (by omega) ⟨by omega, cv⟩
        subst ei
        obtain ⟨m', rfl⟩ : ∃ m', m = m' + 1 := ⟨m - 1, by omega⟩
        have e10 : (10 : Int32) * iI ((i / w : Nat) : Int) + iI ((i % w : Nat) : Int) = iI ((10 * (i / w) + i % w : Nat) : Int) := by
          rw [show (10 : Int32) = iI 10 from rfl, i_mul, i_add]
          rfl
        rw [p_c0 (by omega) (by omega) (by omega) (by omega) (by omega), x_bk hx, p_bs, p_bs, v_gi z2 (k := 3) rfl, p_bs, if_pos nz, p_bs, p_bs, v_gi z2 (k := 3) rfl, p_bs, if_pos nz, i_mdw (by omega) (by omega) (by omega), i_dvw (by omega) (by omega) (by omega), e10, p_let]
        unfold f_X1_tryAt_168
        rw [ek, p_let, f_X1_tryAt_63, p_bs, if_pos (v_is z1), c_many hP, q_uc]
        by_cases cm : nT * w ≤ i + 1
        · rw [p_le (by omega) (by omega) (by omega) (by omega) (by omega)]
        · rw [n_le (by omega) (by omega) (by omega) (by omega) (by omega), if_neg (show ¬ iI ((10 * (i / w) + i % w : Nat) : Int) = -1 by
            rw [j_m1, j_eq (by omega) (by omega) (by omega) (by omega)]
            omega)]
      · have ni : i ≠ i0 := fun z => by
          subst z
          exact cv hit.2
        rw [n_c0 (by omega) (by omega) (by omega) (by omega) (by omega)]
        unfold f_X1_tryAt_168
        rw [ek, p_let]
        exact ih (i + 1) _ (by omega) (by omega)
theorem m_hit (hT : mTr σ1 w nT ev ov pv) (hr : ∀ s, s < 5 ^ w → σ1.2.1 68 s = iI (pMo (D s))) (hD : gJ (5 ^ w) pInf nT w (nxP ev ov w) (ctC pv) D) (hF : gF (5 ^ w) pInf nT w (nxP ev ov w) (ctC pv) D) (hB : ∀ s, s < 5 ^ w → D s = pInf ∨ D s ≤ 2500000000) {s t wl : Nat} (hs : s < 5 ^ w) (hf : D s < pInf) (ht : t < nT) (hwl : wl < w) (hN : 10 ≤ N) {k47 : MS → Int32 → Int32 → Int32 → Option (Int32 × MS)} {k57 : MS → Int32 → Int32 → Int32 → Int32 → Int32 → Option (Int32 × MS)} {x1 c : Int32} {m : Nat} : (¬ hitP D ev ov pv w s t wl → f_tryAt_74 N k47 k57 (m + 1) σ1 x1 (iI s) c (-1) (iI t) (iI wl) = f_tryAt_74 N k47 k57 m σ1 x1 (iI s) c (-1) (iI t) (iI ((wl + 1 : Nat) : Int))) ∧ (hitP D ev ov pv w s t wl → f_tryAt_74 N k47 k57 (m + 1) σ1 x1 (iI s) c (-1) (iI t) (iI wl) = f_tryAt_74 N k47 k57 m σ1 x1 (iI s) c (iI ((10 * t + wl : Nat) : Int)) (iI t) (iI ((wl + 1 : Nat) : Int))) := by
  have pI : pInf = 1152921504606846976 := rfl
  have hT' := hT
  obtain ⟨h24, hw, h23, hnT, hrow⟩ := hT'
  obtain ⟨r30, r31, r32, be, bo, bp⟩ := hrow t ht
  have p6 := (p5_le (k := w) (by omega)).2
  have ek : iI (wl : Int) + 1 = iI ((wl + 1 : Nat) : Int) := by
    rw [j1, i_add]
    rfl
  have e10 : (10 : Int32) * iI (t : Int) + iI (wl : Int) = iI ((10 * t + wl : Nat) : Int) := by
    rw [show (10 : Int32) = iI 10 from rfl, i_mul, i_add]
    rfl
  have mb := m_behind (N := N) (σ := σ1) (w := w) (s := s) (t := t) (wl := wl) (e := ev t) (o := ov t) h24 (by omega) (by omega) (by omega) r30 r31 be bo hs hN
  have nl := pNx_lt (e := ev t) (o := ov t) (wl := wl) (s := s) (w := w)
  obtain ⟨t1, t2⟩ := t_ix (a := ((pNx (ev t) (ov t) wl s w : Nat) : Int)) (n := mLen 68) (k := pNx (ev t) (ov t) wl s w) rfl (by rw [show mLen 68 = 15625 from rfl]; omega) (by rw [show mLen 68 = 15625 from rfl]; omega)
  obtain ⟨t3, t4⟩ := t_ix (a := (t : Int)) (n := mLen 32) (k := t) rfl (by rw [show mLen 32 = 6 from rfl]; omega) (by rw [show mLen 32 = 6 from rfl]; omega)
  obtain ⟨t5, t6⟩ := t_ix (a := (s : Int)) (n := mLen 68) (k := s) rfl (by rw [show mLen 68 = 15625 from rfl]; omega) (by rw [show mLen 68 = 15625 from rfl]; omega)
  have hp : ∀ t, t < nT → 1 ≤ pv t ∧ pv t ≤ 99 := fun t ht => (hrow t ht).2.2.2.2.2
  have hB' : ∀ s, s < 5 ^ w → D s < pInf → D s ≤ 2500000000 := fun s hs h => by
    rcases hB s hs with q | q
    · omega
    · exact q
  have ncs := p_nc hD hF hp hB' (D s) s (Nat.le_refl _) hs hf
  have bs := hB' s hs hf
  have es : pMo (D s) = ((10000 * (D s / 1048576) + D s % 1048576 : Nat) : Int) := if_neg (by omega)
  have st : f_tryAt_74 N k47 k57 (m + 1) σ1 x1 (iI s) c (-1) (iI t) (iI wl) = if 2000000000 ≤ iI (pMo (D (pNx (ev t) (ov t) wl s w))) then f_tryAt_74 N k47 k57 m σ1 x1 (iI s) c (-1) (iI t) (iI ((wl + 1 : Nat) : Int)) else if ((iI (pMo (D (pNx (ev t) (ov t) wl s w))) + (10000 * iI (pv t))) + 1) = iI (pMo (D s)) then f_tryAt_74 N k47 k57 m σ1 x1 (iI s) c (iI ((10 * t + wl : Nat) : Int)) (iI t) (iI ((wl + 1 : Nat) : Int)) else f_tryAt_74 N k47 k57 m σ1 x1 (iI s) c (-1) (iI t) (iI ((wl + 1 : Nat) : Int)) := by
    rw [f_tryAt_74, h24, n_le (by omega) (by omega) (by omega) (by omega) (by omega), if_neg (show ¬ (0 : Int32) ≤ -1 by decide), mb, q_mc, if_pos t1, p_let, t2, hr _ nl, if_pos t3, p_let, t4, r32, if_pos t5, p_let, t6, hr _ hs, e10, p_let]
    unfold f_tryAt_147
    rw [ek, p_let, p_let]
  by_cases cI : D (pNx (ev t) (ov t) wl s w) = pInf
  · have e1 : pMo (D (pNx (ev t) (ov t) wl s w)) = 2000000000 := if_pos cI
    refine ⟨fun _ => ?_, fun z => ?_⟩
    · rw [st, e1, if_pos (show (2000000000 : Int32) ≤ iI 2000000000 by decide)]
    · have := z.1
      omega
  · have nf : D (pNx (ev t) (ov t) wl s w) < pInf := by
      have := hD.le nl
      omega
    have ncn := p_nc hD hF hp hB' (D (pNx (ev t) (ov t) wl s w)) _ (Nat.le_refl _) nl nf
    have bn := hB' _ nl nf
    have en : pMo (D (pNx (ev t) (ov t) wl s w)) = ((10000 * (D (pNx (ev t) (ov t) wl s w) / 1048576) + D (pNx (ev t) (ov t) wl s w) % 1048576 : Nat) : Int) := if_neg cI
    obtain ⟨P, hP⟩ : ∃ P : Nat, pv t = (P : Int) := ⟨(pv t).toNat, by omega⟩
    have cC : ctC pv t = P * 1048576 + 1 := by
      unfold ctC
      rw [hP]
      rfl
    have ge : ¬ (2000000000 : Int32) ≤ iI (pMo (D (pNx (ev t) (ov t) wl s w))) := by
      rw [en, show (2000000000 : Int32) = iI 2000000000 from rfl, j_le (by omega) (by omega) (by omega) (by omega)]
      omega
    have ad : (iI (pMo (D (pNx (ev t) (ov t) wl s w))) + (10000 * iI (pv t))) + 1 = iI (pMo (D (pNx (ev t) (ov t) wl s w)) + 10000 * pv t + 1) := by
      rw [show (10000 : Int32) = iI 10000 from rfl, i_mul, i_add, j1, i_add]
    rw [ad, if_neg ge] at st
    have iff : (iI (pMo (D (pNx (ev t) (ov t) wl s w)) + 10000 * pv t + 1) = iI (pMo (D s))) = (D (pNx (ev t) (ov t) wl s w) + ctC pv t = D s) := by
      rw [en, es, hP, j_eq (by omega) (by omega) (by omega) (by omega), cC]
      apply propext
      constructor
      · intro z
        omega
      · intro z
        omega
    refine ⟨fun z => ?_, fun z => ?_⟩
    · rw [st, if_neg (fun y => z ⟨nf, by rw [← iff]; exact y⟩)]
    · rw [st, if_pos (by rw [iff]; exact z.2)]
theorem m_t57 (hT : mTr σ1 w nT ev ov pv) (hr : ∀ s, s < 5 ^ w → σ1.2.1 68 s = iI (pMo (D s))) (hD : gJ (5 ^ w) pInf nT w (nxP ev ov w) (ctC pv) D) (hF : gF (5 ^ w) pInf nT w (nxP ev ov w) (ctC pv) D) (hB : ∀ s, s < 5 ^ w → D s = pInf ∨ D s ≤ 2500000000) {s i0 : Nat} (hs : s < 5 ^ w) (hf : D s < pInf) (hi0 : i0 < nT * w) (hit : hitP D ev ov pv w s (i0 / w) (i0 % w)) (hmin : ∀ k, k < i0 → ¬ hitP D ev ov pv w s (k / w) (k % w)) (hN : 10 ≤ N) {k47 : MS → Int32 → Int32 → Int32 → Option (Int32 × MS)} {x1 c : Int32} : ∀ (m t : Nat), t ≤ i0 / w → i0 / w + 2 ≤ t + m → f_tryAt_57 N k47 m σ1 x1 (iI s) c (-1) (iI t) = f_tryAt_159 N k47 σ1 x1 (iI s) c (iI ((10 * (i0 / w) + i0 % w : Nat) : Int)) := by
  have hT' := hT
  obtain ⟨h24, hw, h23, hnT, hrow⟩ := hT'
  have d1 : i0 / w < nT := Nat.div_lt_of_lt_mul (by rw [Nat.mul_comm]; exact hi0)
  have d2 : i0 % w < w := Nat.mod_lt _ (by omega)
  have d3 : i0 / w * w + i0 % w = i0 := by
    rw [Nat.mul_comm]
    exact Nat.div_add_mod i0 w
  intro m
  induction m with
  | zero => intro t h1 h2; omega
  | succ m ih =>
    intro t h1 h2
    have et : iI (t : Int) + 1 = iI ((t + 1 : Nat) : Int) := by
      rw [j1, i_add]
      rfl
    have nh : ∀ wl, wl < w → t * w + wl < i0 → ¬ hitP D ev ov pv w s t wl := fun wl q1 q2 => by
      have := hmin (t * w + wl) q2
      rw [show (t * w + wl) / w = t by rw [Nat.mul_comm, Nat.mul_add_div (by omega), Nat.div_eq_of_lt q1]; rfl, show (t * w + wl) % w = wl by rw [Nat.mul_comm, Nat.mul_add_mod]; exact Nat.mod_eq_of_lt q1] at this
      exact this
    rw [f_tryAt_57, h23, n_le (by omega) (by omega) (by omega) (by omega) (by omega), if_neg (show ¬ (0 : Int32) ≤ -1 by decide)]
    by_cases c1 : t = i0 / w
    · have go : ∀ (n wl : Nat), wl ≤ i0 % w → i0 % w + 2 ≤ wl + n → f_tryAt_74 N k47 (f_tryAt_57 N k47 m) n σ1 x1 (iI s) c (-1) (iI t) (iI wl) = f_tryAt_57 N k47 m σ1 x1 (iI s) c (iI ((10 * t + i0 % w : Nat) : Int)) (iI ((t + 1 : Nat) : Int)) := by
        intro n
        induction n with
        | zero => intro wl q1 q2; omega
        | succ n ihn =>
          intro wl q1 q2
          obtain ⟨s1, s2⟩ := m_hit (N := N) (m := n) (k47 := k47) (k57 := f_tryAt_57 N k47 m) (x1 := x1) (c := c) (t := t) (wl := wl) hT hr hD hF hB hs hf (by omega) (by omega) hN
          by_cases c2 : wl = i0 % w
          · rw [s2 (by rw [c1, c2]; exact hit)]
            obtain ⟨n', rfl⟩ : ∃ n', n = n' + 1 := ⟨n - 1, by omega⟩
            rw [f_tryAt_74, h24, c2]
            have hx4 : (0 : Int32) ≤ iI ((10 * t + i0 % w : Nat) : Int) := by
              rw [j0, j_le (by omega) (by omega) (by omega) (by omega)]
              omega
            unfold f_tryAt_153
            rw [et, p_let, if_pos hx4]
            split <;> rfl
          · rw [s1 (nh wl (by omega) (by rw [c1]; omega))]
            exact ihn (wl + 1) (by omega) (by omega)
      have g0 : f_tryAt_74 N k47 (f_tryAt_57 N k47 m) N σ1 x1 (iI s) c (-1) (iI t) 0 = _ := go N 0 (by omega) (by omega)
      rw [g0]
      obtain ⟨m', rfl⟩ : ∃ m', m = m' + 1 := ⟨m - 1, by omega⟩
      have hx4 : (0 : Int32) ≤ iI ((10 * t + i0 % w : Nat) : Int) := by
        rw [j0, j_le (by omega) (by omega) (by omega) (by omega)]
        omega
      rw [f_tryAt_57, if_pos hx4, c1]
      split <;> rfl
    · have lt : (t + 1) * w ≤ i0 / w * w := Nat.mul_le_mul_right _ (by omega)
      have e4 : (t + 1) * w = t * w + w := Nat.succ_mul t w
      have go : ∀ (n wl : Nat), wl ≤ w → w < wl + n → f_tryAt_74 N k47 (f_tryAt_57 N k47 m) n σ1 x1 (iI s) c (-1) (iI t) (iI wl) = f_tryAt_57 N k47 m σ1 x1 (iI s) c (-1) (iI ((t + 1 : Nat) : Int)) := by
        intro n
        induction n with
        | zero => intro wl q1 q2; omega
        | succ n ihn =>
          intro wl q1 q2
          by_cases c2 : wl = w
          · rw [f_tryAt_74, h24, c2, p_le (by omega) (by omega) (by omega) (by omega) (by omega)]
            unfold f_tryAt_153
            rw [et, p_let]
          · obtain ⟨s1, s2⟩ := m_hit (N := N) (m := n) (k47 := k47) (k57 := f_tryAt_57 N k47 m) (x1 := x1) (c := c) (t := t) (wl := wl) hT hr hD hF hB hs hf (by omega) (by omega) hN
            rw [s1 (nh wl (by omega) (by omega))]
            exact ihn (wl + 1) (by omega) (by omega)
      have g0 : f_tryAt_74 N k47 (f_tryAt_57 N k47 m) N σ1 x1 (iI s) c (-1) (iI t) 0 = _ := go N 0 (by omega) (by omega)
      rw [g0]
      exact ih (t + 1) (by omega) (by omega)
theorem k_try {x1 : Int32} (hx : U.2.2 (ad 0) = some (xO ad σ (.ref a) mpv ptv)) (ba0 : b ≤ ad 0) (hP : cPx U p a li oa w nT ta ev ov pv) (ho : U.2.2 oa = some (.inl (3, 5 ^ w, .inr (.inl fo)))) (hfo : ∀ s, s < 5 ^ w → fo s = iL ((D s : Nat) : Int)) (hT : mTr σ1 w nT ev ov pv) (hr : ∀ s, s < 5 ^ w → σ1.2.1 68 s = iI (pMo (D s))) (hD : gJ (5 ^ w) pInf nT w (nxP ev ov w) (ctC pv) D) (hF : gF (5 ^ w) pInf nT w (nxP ev ov w) (ctC pv) D) (hB : ∀ s, s < 5 ^ w → D s = pInf ∨ D s ≤ 2500000000) (hN : 100 ≤ N) : ∀ (m s : Nat) (c : Int32), s < 5 ^ w → D s < pInf → D s < m → ∃ r, f_X1_tryAt_50 N b g (ad 0) m U x1 (some p) (iI s) c = some (r, uSet U (ad 0) (xO ad (mT σ 0) (.ref a) mpv ptv)) ∧ f_tryAt_47 N m σ1 x1 (iI s) c = some (r, σ1) := by
  have hw := hP.1
  have p6 := (p5_le (k := w) (by omega)).2
  have b1 : nT * w ≤ 6 * 6 := Nat.mul_le_mul hw.2.2 hw.2.1
  intro m
  induction m with
  | zero => intro s c _ _ h; omega
  | succ m ih =>
    intro s c hs hf hm
    rw [f_X1_tryAt_50, f_tryAt_47]
    by_cases c0 : s = 0
    · subst c0
      refine ⟨-2, ?_, ?_⟩
      · rw [if_pos (show iI ((0 : Nat) : Int) = 0 from rfl), if_pos (x_is hx), x_don hx ba0, q_uc]
      · rw [if_pos (show iI ((0 : Nat) : Int) ≤ 0 by decide)]
    · obtain ⟨i0, hi0, hit, hmin⟩ := hit_ex hD hF (show 0 < s by omega) hs hf
      have d1 : i0 / w < nT := Nat.div_lt_of_lt_mul (by rw [Nat.mul_comm]; exact hi0)
      have d2 : i0 % w < w := Nat.mod_lt _ (by omega)
      have e1 := c_t63 (N := N) (b := b) (g := g) (k50 := f_X1_tryAt_50 N b g (ad 0) m) (x1 := x1) (c := c) hx hP ho hfo hB hs hi0 hit hmin (by omega) N 0 (iI s) (by omega) (by omega)
      have e2 := m_t57 (N := N) (k47 := f_tryAt_47 N m) (x1 := x1) (c := c) hT hr hD hF hB hs hf hi0 hit hmin (by omega) N 0 (Nat.zero_le _) (by omega)
      have e1 : f_X1_tryAt_63 N b g (ad 0) (f_X1_tryAt_50 N b g (ad 0) m) N U x1 (some p) (iI s) c (-1) (iI s) 0 = _ := e1
      have e2 : f_tryAt_57 N (f_tryAt_47 N m) N σ1 x1 (iI s) c (-1) 0 = _ := e2
      rw [j0, n_eq (by omega) (by omega) (by omega) (by omega) (by omega), n_le (by omega) (by omega) (by omega) (by omega) (by omega)]
      rw [← j0, e1, e2]
      unfold f_X1_tryAt_174 f_tryAt_159
      by_cases cx : c = x1
      · refine ⟨iI ((10 * (i0 / w) + i0 % w : Nat) : Int), ?_, ?_⟩
        · rw [if_pos cx, if_pos (x_is hx), x_don hx ba0, q_uc]
        · rw [if_pos cx]
      · obtain ⟨h24, hw', h23, hnT, hrow⟩ := id hT
        obtain ⟨r30, r31, r32, be, bo, bp⟩ := hrow _ d1
        have mb := m_behind (N := N) (σ := σ1) (w := w) (s := s) (t := i0 / w) (wl := i0 % w) (e := ev (i0 / w)) (o := ov (i0 / w)) h24 (by omega) (by omega) (by omega) r30 r31 be bo hs (by omega)
        have q1 : iI ((10 * (i0 / w) + i0 % w : Nat) : Int) / 10 = iI ((i0 / w : Nat) : Int) := by
          rw [show (10 : Int32) = iI 10 from rfl, i_div ⟨by omega, by omega⟩ ⟨by decide, by decide⟩ (Or.inl (by decide))]
          congr 1
          rw [Int.tdiv_eq_ediv_of_nonneg (by omega)]
          omega
        have q2 : iI ((10 * (i0 / w) + i0 % w : Nat) : Int) - iI ((i0 / w : Nat) : Int) * 10 = iI ((i0 % w : Nat) : Int) := by
          rw [show (10 : Int32) = iI 10 from rfl, i_mul, i_sub]
          congr 1
          omega
        have hl := hit.2
        unfold ctC at hl
        obtain ⟨r, i1, i2⟩ := ih (pNx (ev (i0 / w)) (ov (i0 / w)) (i0 % w) s w) (c + 1) pNx_lt hit.1 (by omega)
        refine ⟨r, ?_, ?_⟩
        · rw [if_neg cx, p_let]
          exact i1
        · rw [if_neg cx, q1, q2, mb, q_mc, p_let]
          exact i2
end H9s
section I0s
variable {N b : Nat} {g : uEnv} {A : pA} {ad sa : Nat → Nat} {U : UH} {lab : Nat → Nat} {σ : MS} {ou : Nat} {u0 : UH}
theorem k_tryAt (h : xSt b g A ad sa (qA g (ad 4) b u0 ou) U lab σ) (hN : 40000000000000 ≤ N) (x : Int32) : ∃ r U' σ' dc ds, f_X1_tryAt N b g U (ad 0) x = some (r, U') ∧ f_tryAt N σ x = some (r, σ') ∧ xStep b g A ad sa (qA g (ad 4) b u0 ou) U lab U' σ' dc ds ∧ dc ≤ 2 ∧ ds ≤ 15627 := by
  have hQ : qOk (qA g (ad 4) b u0 ou) := qA_ok
  have pI : pInf = 1152921504606846976 := rfl
  obtain ⟨U1, n1, n2⟩ := k_ref (N := N) (t := 1) (by decide) hQ h
  have hi0 := k_is h
  obtain ⟨bkv, mpv, ptv, hx, hI⟩ := h
  have hI' := hI
  obtain ⟨oU, hb, ⟨hl, hfr⟩, hE, hA, ⟨l0, h1, hS3, h2, h3⟩, hbm, hq⟩ := hI'
  have m1 : f_tryAt_15 N (mT σ 0) = some (-1, mT σ 1) := by
    unfold f_tryAt_15
    rw [m_no, q_mc]
  have c1 : f_X1_tryAt_11 N b g (ad 0) U = some (-1, U1) := by
    unfold f_X1_tryAt_11
    rw [if_pos hi0, n1, q_uc]
  unfold f_X1_tryAt f_tryAt
  rw [m_good, q_mv]
  rcases hbm with ⟨e1, e2, e3, e4, e5⟩ | ⟨lo, hi, a, al, rv, nm, B, dead, q1, q2, -⟩
  · subst e1
    refine ⟨-1, U1, mT σ 1, 0, 0, ?_, ?_, n2, by omega, by omega⟩
    · rw [x_bkn hx, p_bs, q_cn, c1]
    · rw [if_pos (show (mT σ 0).1 12 = 0 from e3), m1]
  · subst q1
    have k12 : ¬ (mT σ 0).1 12 = 0 := by
      show ¬ σ.1 12 = 0
      rw [q2]
      decide
    rw [x_bk hx, p_bs, q_cs, if_neg k12]
    by_cases c0 : 0 ≤ x
    · obtain ⟨U', lab', r', p, li, oa, w, nT, ta, fo, D, dc, ds, g1, g2, hx', sg, hP, ho, hfo, hT, hr, hD, hF, hB, hmo, s1, s2, s3, s4, -, ba0⟩ := k_dug hx hI hN
      obtain ⟨hw, hp, ⟨r0, r2, fs, hbo⟩, -⟩ := id hP
      have p6 := (p5_le (k := w) (by omega)).2
      obtain ⟨-, -, -, -, -, ⟨-, -, -, -, ⟨l6, f, vI, w1, w2⟩⟩, -⟩ := id sg
      obtain ⟨v, hv⟩ : ∃ v : Nat → Nat, v = fun k => (vI k).toNat := ⟨_, rfl⟩
      have hvk : ∀ k, k < 6 → f k = iI (v k) ∧ (mRow (mSet (mT σ 0) 69 1) 68 r').2.1 47 k = iI (v k) ∧ v k ≤ 4 := fun k hk => by
        obtain ⟨p1, p2, p3, p4⟩ := w2 k hk
        have ev : ((v k : Nat) : Int) = vI k := by
          rw [hv]
          show (((vI k).toNat : Nat) : Int) = _
          omega
        rw [ev]
        exact ⟨p1, p2, by omega⟩
      have cs := c_state (N := N) (b := b) (g := g) (w := w) (v := v) hx' hbo w1 (by omega) (fun k hk => ⟨(hvk k hk).1, (hvk k hk).2.2⟩) (by omega)
      have ms := m_state (N := N) (σ := mRow (mSet (mT σ 0) 69 1) 68 r') (w := w) (v := v) hT.1 (by omega) (fun k hk => (hvk k hk).2) (by omega)
      have sl : pSt v w < 5 ^ w := pSt_lt w (fun k hk => (hvk k (by omega)).2.2)
      obtain ⟨s, hs⟩ : ∃ s : Nat, s = pSt v w := ⟨_, rfl⟩
      rw [← hs] at cs ms sl
      obtain ⟨t1, t2⟩ := t_ix (a := (s : Int)) (n := mLen 68) (k := s) rfl (by rw [show mLen 68 = 15625 from rfl]; omega) (by rw [show mLen 68 = 15625 from rfl]; omega)
      have Ld : uLdL U' oa 3 (iI (s : Int)) = some (fo s) := u_ldL ho (by omega) (by omega) (by omega)
      have hT1 : mTr (mRow (mSet (mT σ 0) 69 1) 68 r') w nT (eT σ 30) (eT σ 31) (eT σ 32) := hT
      have fin : xStep b g A ad sa (qA g (ad 4) b u0 ou) U lab (uSet U' (ad 0) (xO ad (mT σ 0) (.ref a) mpv (.ref p))) (mRow (mSet (mT σ 0) 69 1) 68 r') dc ds := k_fins hQ sg hx' l0 hmo s1 s2 rfl ⟨rfl, rfl, rfl, rfl, rfl, rfl, rfl⟩
      unfold f_X1_tryAt_21
      rw [if_pos c0, if_pos c0, if_pos hi0, g1, q_uc, if_pos (x_is hx'), cs, q_uc, p_bs, v_gr hp (k := 1) rfl, p_bs, p_bs, Ld, p_bs, hfo s sl, show (1152921504606846976 : Int64) = iL 1152921504606846976 from rfl, g2, q_mv, ms, q_mc, if_pos t1, p_let, t2, show (mRow (mSet (mT σ 0) 69 1) 68 r').2.1 68 s = r' s from rfl, hr s sl]
      rcases hB s sl with c | c
      · have e1 : iI (pMo (D s)) = 2000000000 := by
          unfold pMo
          rw [if_pos c]
          rfl
        rw [p_c0 (by omega) (by omega) (by omega) (by omega) (by omega), if_pos (x_is hx'), x_don hx' ba0, q_uc, if_pos e1]
        exact ⟨-2, _, _, dc, ds, rfl, rfl, fin, s3, s4⟩
      · have ep : pMo (D s) = ((10000 * (D s / 1048576) + D s % 1048576 : Nat) : Int) := if_neg (by omega)
        have nc := p_nc hD hF (fun t ht => (hT.2.2.2.2 t ht).2.2.2.2.2) (fun s hs h => by
          rcases hB s hs with q | q
          · omega
          · exact q) (D s) s (Nat.le_refl _) sl (by omega)
        have e1 : ¬ iI (pMo (D s)) = 2000000000 := by
          rw [ep, show (2000000000 : Int32) = iI 2000000000 from rfl, j_eq (by omega) (by omega) (by omega) (by omega)]
          omega
        obtain ⟨r, y1, y2⟩ := k_try (N := N) (b := b) (g := g) (σ1 := mRow (mSet (mT σ 0) 69 1) 68 r') (x1 := x) hx' ba0 hP ho hfo hT1 hr hD hF hB (by omega) N s 0 sl (by omega) (by omega)
        rw [n_c0 (by omega) (by omega) (by omega) (by omega) (by omega), y1, if_neg e1, y2]
        exact ⟨r, _, _, dc, ds, rfl, rfl, fin, s3, s4⟩
    · rw [if_neg c0, if_neg c0, c1, m1]
      exact ⟨-1, U1, mT σ 1, 0, 0, rfl, rfl, n2, by omega, by omega⟩
end I0s
