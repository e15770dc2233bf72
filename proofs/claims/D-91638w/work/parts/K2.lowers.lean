/-! PLAIN: the class's rounds over all that may be dug -/
/-- what stands fast in the heap -/
def cPx (U : UH) (p bo li oa w nT : Nat) (ta : Nat → Nat) (ev ov pv : Nat → Int) : Prop := (2 ≤ w ∧ w ≤ 6 ∧ nT ≤ 6) ∧ U.2.2 p = some (.inr (17, [.ref bo, .ref oa])) ∧ (∃ (r0 r2 : Value) (fs : List Value), U.2.2 bo = some (.inr (3, r0 :: .ref li :: r2 :: .int (iI w) :: fs))) ∧ (∃ (arr m : Nat) (mc : Int32) (xs : Nat → Option Nat), vLs U li arr nT m mc xs ∧ ∀ t, t < nT → xs t = some (ta t)) ∧ ∀ t, t < nT → (∃ nv : Value, U.2.2 (ta t) = some (.inr (8, [nv, .int (iI (ev t)), .int (iI (ov t)), .int (iI (pv t))]))) ∧ (-4 ≤ ev t ∧ ev t ≤ 4) ∧ (-4 ≤ ov t ∧ ov t ≤ 4) ∧ 1 ≤ pv t ∧ pv t ≤ 99
theorem cPx.keep {U U' : UH} {p bo li oa w nT : Nat} {ta : Nat → Nat} {ev ov pv : Nat → Int} (h : cPx U p bo li oa w nT ta ev ov pv) {k : Nat} {z : uVs} (ho : U.2.2 oa = some (.inl (3, k, z))) (hk : ∀ x, x ≠ oa → U'.2.2 x = U.2.2 x) : cPx U' p bo li oa w nT ta ev ov pv := by
  obtain ⟨h1, h2, ⟨r0, r2, fs, h3⟩, ⟨arr, m, mc, xs, ⟨h4, h5, h6⟩, h7⟩, h8⟩ := h
  refine ⟨h1, (hk p (Ne.symm (u_nlr ho h2))).trans h2, ⟨r0, r2, fs, (hk bo (Ne.symm (u_nlr ho h3))).trans h3⟩, ⟨arr, m, mc, xs, ⟨(hk li (Ne.symm (u_nlr ho h4))).trans h4, (hk arr (Ne.symm (u_nll ho h5 (Or.inl (by decide))))).trans h5, h6⟩, h7⟩, fun t ht => ?_⟩
  obtain ⟨⟨nv, e1⟩, e2⟩ := h8 t ht
  exact ⟨⟨nv, (hk (ta t) (Ne.symm (u_nlr ho e1))).trans e1⟩, e2⟩
theorem t_c20F : ∀ k : Fin 100, (iL (k.1 : Int) <<< ((20 : Int32).toInt64 &&& 63)) + 1 = iL ((k.1 * 1048576 + 1 : Nat) : Int) := by decide +kernel
theorem t_c20 {x : Int} (h0 : 0 ≤ x) (h1 : x ≤ 99) : (iL x <<< ((20 : Int32).toInt64 &&& 63)) + 1 = iL ((x.toNat * 1048576 + 1 : Nat) : Int) := by
  have := t_c20F ⟨x.toNat, by omega⟩
  have e : ((x.toNat : Nat) : Int) = x := by omega
  have this : (iL ((x.toNat : Nat) : Int) <<< ((20 : Int32).toInt64 &&& 63)) + 1 = iL ((x.toNat * 1048576 + 1 : Nat) : Int) := this
  rw [e] at this
  exact this
theorem i_dvw {i w : Nat} (hw : 1 ≤ w) (hw6 : w ≤ 6) (hi : i ≤ 1000) : iI (i : Int) / iI (w : Int) = iI ((i / w : Nat) : Int) := by
  rw [i_div ⟨by omega, by omega⟩ ⟨by omega, by omega⟩ (Or.inl (by omega))]
  rfl
theorem i_mdw {i w : Nat} (hw : 1 ≤ w) (hw6 : w ≤ 6) (hi : i ≤ 1000) : iI (i : Int) - iI (i : Int) / iI (w : Int) * iI (w : Int) = iI ((i % w : Nat) : Int) := by
  rw [i_dvw hw hw6 hi, i_mul, i_sub]
  congr 1
  have h1 := Nat.div_add_mod i w
  have h2 : ((i / w : Nat) : Int) * (w : Int) = ((w * (i / w) : Nat) : Int) := by
    rw [Nat.mul_comm]
    exact (Int.natCast_mul _ _).symm
  rw [h2]
  omega
section H5s
variable {N b : Nat} {g : uEnv} {U : UH} {p bo li oa w nT : Nat} {ta : Nat → Nat} {ev ov pv : Nat → Int}
theorem c_many (h : cPx U p bo li oa w nT ta ev ov pv) : f_X19_many N b g U p = some (iI ((nT * w : Nat) : Int), U) := by
  obtain ⟨h1, h2, ⟨r0, r2, fs, h3⟩, ⟨arr, m, mc, xs, h4, h7⟩, h8⟩ := h
  have sz : f_J2_size N b g U li = some (iI nT, U) := l_size h4
  unfold f_X19_many
  rw [v_gr h2 (k := 0) rfl, p_bs, p_bs, v_gr h3 (k := 1) rfl, p_bs, p_bs, if_pos (v_is h4.1), sz, q_uc, v_gr h2 (k := 0) rfl, p_bs, p_bs, v_gi h3 (k := 3) rfl, p_bs, i_mul]
  rfl
theorem c_att (h : cPx U p bo li oa w nT ta ev ov pv) {i : Nat} (hi : i < nT * w) : i / w < nT ∧ i % w < w ∧ f_X19_attempt N b g U p (iI i) = some (some (ta (i / w)), U) := by
  obtain ⟨h1, h2, ⟨r0, r2, fs, h3⟩, ⟨arr, m, mc, xs, h4, h7⟩, h8⟩ := h
  have d1 : i / w < nT := Nat.div_lt_of_lt_mul (by rw [Nat.mul_comm]; exact hi)
  have b1 : nT * w ≤ 6 * 6 := Nat.mul_le_mul h1.2.2 h1.2.1
  refine ⟨d1, Nat.mod_lt _ (by omega), ?_⟩
  obtain ⟨⟨nv, e1⟩, e2⟩ := h8 _ d1
  have gt : f_J2_get N b g U li (iI ((i / w : Nat) : Int)) = some (some (ta (i / w)), U) := by
    rw [l_get h4 (Int.natCast_nonneg _) (Int.ofNat_lt.mpr d1)]
    show some (xs (i / w), U) = _
    rw [h7 _ d1]
  unfold f_X19_attempt
  rw [v_gr h2 (k := 0) rfl, p_bs, p_bs, v_gr h3 (k := 1) rfl, p_bs, p_bs, p_bs, v_gi h3 (k := 3) rfl, p_bs, if_pos (show ¬ iI (w : Int) = 0 by
    rw [j0, j_eq (by omega) (by omega) (by omega) (by omega)]
    omega), p_bs, if_pos (v_is h4.1), i_dvw (by omega) (by omega) (by omega), gt, q_uc, p_bs, if_pos (v_is e1)]
theorem c_cst (h : cPx U p bo li oa w nT ta ev ov pv) {t : Nat} (ht : t < nT) : f_X19_cost N b g U (some (ta t)) = some (iL ((ctC pv t : Nat) : Int), U) := by
  obtain ⟨⟨nv, e1⟩, e2, e3, e4⟩ := h.2.2.2.2 t ht
  unfold f_X19_cost f_X10_cost
  rw [p_bs, if_pos (v_is e1), v_gi e1 (k := 3) rfl, p_bs, q_uc, e_i2l (by omega) (by omega), t_c20 (by omega) (by omega)]
  rfl
def rOL (w : Nat) (fo : Nat → Int64) (O : Nat → Nat) : Prop := ∀ x, x < 5 ^ w → fo x = iL ((O x : Nat) : Int) ∧ O x ≤ pInf
def laB (w i s : Nat) : Nat → Nat → Nat → Prop := fun s' t' wl' => t' * w + wl' < i ∨ (t' * w + wl' = i ∧ s' < s)
def uOu (U : UH) (oa w : Nat) (fo : Nat → Int64) : UH := uSet U oa (.inl (3, 5 ^ w, .inr (.inl fo)))
theorem c_lw24 {k4 : UH → Int32 → Int32 → Option (Int32 × UH)} {O1 : Nat → Nat} {fo0 : Nat → Int64} (hP : cPx U p bo li oa w nT ta ev ov pv) (ho : U.2.2 oa = some (.inl (3, 5 ^ w, .inr (.inl fo0)))) (hba : b ≤ oa) (hN : 10 ≤ N) {i : Nat} (hi : i < nT * w) : ∀ (m s fl : Nat) (O : Nat → Nat) (fo : Nat → Int64), 0 < s → s ≤ 5 ^ w → 5 ^ w < s + m → rOL w fo O → gT (5 ^ w) pInf nT w (nxP ev ov w) (ctC pv) O1 O fl (laB w i s) → ∃ (O' : Nat → Nat) (fo' : Nat → Int64) (fl' : Nat), rOL w fo' O' ∧ gT (5 ^ w) pInf nT w (nxP ev ov w) (ctC pv) O1 O' fl' (laB w (i + 1) 1) ∧ f_X19_lowers_24 N b g p k4 m (uOu U oa w fo) (iI fl) (iI i) (iL ((ctC pv (i / w) : Nat) : Int)) (iI s) = k4 (uOu U oa w fo') (iI fl') (iI ((i + 1 : Nat) : Int)) := by
  have pI : pInf = 1152921504606846976 := rfl
  have hw := hP.1
  have p6 := (p5_le (k := w) (by omega)).2
  have b1 : nT * w ≤ 6 * 6 := Nat.mul_le_mul hw.2.2 hw.2.1
  intro m
  induction m with
  | zero => intro s fl O fo h0 h1 h2; omega
  | succ m ih =>
    intro s fl O fo h0 h1 h2 hr hg
    have hP' : cPx (uOu U oa w fo) p bo li oa w nT ta ev ov pv := hP.keep ho (fun x hx => u_sn hx)
    have ho' : (uOu U oa w fo).2.2 oa = some (.inl (3, 5 ^ w, .inr (.inl fo))) := u_ss
    obtain ⟨a1, a2, a3⟩ := c_att (N := N) (b := b) (g := g) hP' hi
    have hP2 := hP'
    obtain ⟨-, z1, ⟨r0, r2, fs, z2⟩, -, z3⟩ := hP2
    obtain ⟨⟨nv, z4⟩, z5, z6, z7⟩ := z3 _ a1
    rw [f_X19_lowers_24, v_gr z1 (k := 1) rfl, p_bs, p_bs, u_len ho', p_bs]
    by_cases hs : s = 5 ^ w
    · refine ⟨O, fo, fl, hr, hg.mono (fun s' t' wl' q1 q2 _ _ q => ?_), ?_⟩
      · unfold laB at q ⊢
        omega
      · rw [hs, p_le (by omega) (by omega) (by omega) (by omega) (by omega), j1, i_add, p_let]
        rfl
    · have ek : iI (s : Int) + 1 = iI ((s + 1 : Nat) : Int) := by
        rw [j1, i_add]
        rfl
      have nx := c_next (N := N) (b := b) (g := g) (w := w) (s := s) (wl := i % w) z1 z2 z4 (by omega) (by omega) z5 z6 (by omega) hN
      have nl := pNx_lt (e := ev (i / w)) (o := ov (i / w)) (wl := i % w) (s := s) (w := w)
      have L1 : uLdL (uOu U oa w fo) oa 3 (iI ((pNx (ev (i / w)) (ov (i / w)) (i % w) s w : Nat) : Int)) = some (fo (pNx (ev (i / w)) (ov (i / w)) (i % w) s w)) := u_ldL ho' (by omega) (by omega) (by omega)
      have L2 : uLdL (uOu U oa w fo) oa 3 (iI (s : Int)) = some (fo s) := u_ldL ho' (by omega) (by omega) (by omega)
      obtain ⟨x1, x2⟩ := hr _ nl
      obtain ⟨x3, x4⟩ := hr s (by omega)
      have ei : i / w * w + i % w = i := by
        rw [Nat.mul_comm]
        exact Nat.div_add_mod i w
      have l1 : ∀ s' t' wl', wl' < w → laB w i (s + 1) s' t' wl' → (laB w i s s' t' wl' ∨ (s' = s ∧ t' = i / w ∧ wl' = i % w)) := fun s' t' wl' hq q => by
        unfold laB at q ⊢
        by_cases c : t' * w + wl' = i ∧ s' = s
        · refine Or.inr ⟨c.2, ?_, ?_⟩
          · rw [← c.1, Nat.mul_comm, Nat.mul_add_div (by omega), Nat.div_eq_of_lt hq]
            rfl
          · rw [← c.1, Nat.mul_comm, Nat.mul_add_mod]
            exact (Nat.mod_eq_of_lt hq).symm
        · left
          omega
      have cC : ctC pv (i / w) = (pv (i / w)).toNat * 1048576 + 1 := rfl
      rw [n_le (by omega) (by omega) (by omega) (by omega) (by omega), p_bs, if_pos (v_is z1), a3, q_uc, v_gr z1 (k := 0) rfl, p_bs, p_bs, v_gi z2 (k := 3) rfl, p_bs, if_pos (show ¬ iI (w : Int) = 0 by
        rw [j0, j_eq (by omega) (by omega) (by omega) (by omega)]
        omega), if_pos (v_is z1), i_mdw (by omega) (by omega) (by omega), nx, q_uc, p_bs, L1, p_bs, x1, show (1152921504606846976 : Int64) = iL 1152921504606846976 from rfl]
      by_cases cI : O (pNx (ev (i / w)) (ov (i / w)) (i % w) s w) = pInf
      · obtain ⟨O', fo', fl', y1, y2, y3⟩ := ih (s + 1) fl O fo (by omega) (by omega) (by omega) hr ((hg.skip (s := s) (t := i / w) (wl := i % w) nl (fun z => by
          have z : O (pNx (ev (i / w)) (ov (i / w)) (i % w) s w) < pInf := z
          omega)).mono (fun s' t' wl' _ _ _ q4 q => l1 s' t' wl' q4 q))
        refine ⟨O', fo', fl', y1, y2, ?_⟩
        rw [p_c0 (by omega) (by omega) (by omega) (by omega) (by omega)]
        unfold f_X19_lowers_101
        rw [ek, p_let]
        exact y3
      · rw [n_c0 (by omega) (by omega) (by omega) (by omega) (by omega), v_gr z1 (k := 1) rfl, p_bs, p_bs, L2, p_bs, x3, e_add]
        by_cases cv : O (pNx (ev (i / w)) (ov (i / w)) (i % w) s w) + ctC pv (i / w) < O s
        · obtain ⟨O', fo', fl', y1, y2, y3⟩ := ih (s + 1) 1 (zU O s (O (pNx (ev (i / w)) (ov (i / w)) (i % w) s w) + ctC pv (i / w))) (zU fo s (iL (((O (pNx (ev (i / w)) (ov (i / w)) (i % w) s w) : Nat) : Int) + ((ctC pv (i / w) : Nat) : Int)))) (by omega) (by omega) (by omega) (fun x hx => by
            by_cases c : x = s
            · subst c
              rw [zU_s, zU_s]
              exact ⟨by rw [Int.natCast_add], by omega⟩
            · rw [zU_n c, zU_n c]
              exact hr x hx) ((hg.upd (s := s) (t := i / w) (wl := i % w) nl h0 (by omega) a1 a2 (by
              show O (pNx (ev (i / w)) (ov (i / w)) (i % w) s w) < pInf
              omega) cv).mono (fun s' t' wl' _ _ _ q4 q => l1 s' t' wl' q4 q))
          have st : uStL b (uOu U oa w fo) oa 3 (iI (s : Int)) (iL (((O (pNx (ev (i / w)) (ov (i / w)) (i % w) s w) : Nat) : Int) + ((ctC pv (i / w) : Nat) : Int))) = some (uSet (uOu U oa w fo) oa (.inl (3, 5 ^ w, .inr (.inl (zU fo s (iL (((O (pNx (ev (i / w)) (ov (i / w)) (i % w) s w) : Nat) : Int) + ((ctC pv (i / w) : Nat) : Int)))))))) := u_stL ho' hba (by omega) (by omega) (by omega)
          refine ⟨O', fo', fl', y1, y2, ?_⟩
          rw [p_cl (by omega) (by omega) (by omega) (by omega) (by omega), p_bs, p_bs, st, p_bs]
          unfold f_X19_lowers_101
          rw [ek, p_let, show uSet (uOu U oa w fo) oa (.inl (3, 5 ^ w, .inr (.inl (zU fo s (iL (((O (pNx (ev (i / w)) (ov (i / w)) (i % w) s w) : Nat) : Int) + ((ctC pv (i / w) : Nat) : Int))))))) = uOu U oa w (zU fo s (iL (((O (pNx (ev (i / w)) (ov (i / w)) (i % w) s w) : Nat) : Int) + ((ctC pv (i / w) : Nat) : Int)))) from u_s2]
          exact y3
        · obtain ⟨O', fo', fl', y1, y2, y3⟩ := ih (s + 1) fl O fo (by omega) (by omega) (by omega) hr ((hg.skip (s := s) (t := i / w) (wl := i % w) nl (fun z => by
            show O s ≤ O (pNx (ev (i / w)) (ov (i / w)) (i % w) s w) + ctC pv (i / w)
            omega)).mono (fun s' t' wl' _ _ _ q4 q => l1 s' t' wl' q4 q))
          refine ⟨O', fo', fl', y1, y2, ?_⟩
          rw [n_cl (by omega) (by omega) (by omega) (by omega) (by omega)]
          unfold f_X19_lowers_101
          rw [ek, p_let]
          exact y3
theorem c_lw4 {O1 : Nat → Nat} {fo0 : Nat → Int64} (hP : cPx U p bo li oa w nT ta ev ov pv) (ho : U.2.2 oa = some (.inl (3, 5 ^ w, .inr (.inl fo0)))) (hba : b ≤ oa) (hN : 20000 ≤ N) : ∀ (m i fl : Nat) (O : Nat → Nat) (fo : Nat → Int64), i ≤ nT * w → nT * w < i + m → rOL w fo O → gT (5 ^ w) pInf nT w (nxP ev ov w) (ctC pv) O1 O fl (laB w i 1) → ∃ (O' : Nat → Nat) (fo' : Nat → Int64) (fl' : Nat), rOL w fo' O' ∧ gT (5 ^ w) pInf nT w (nxP ev ov w) (ctC pv) O1 O' fl' (fun _ _ _ => True) ∧ f_X19_lowers_4 N b g p m (uOu U oa w fo) (iI fl) (iI i) = some (iI fl', uOu U oa w fo') := by
  have hw := hP.1
  have p6 := (p5_le (k := w) (by omega)).2
  have b1 : nT * w ≤ 6 * 6 := Nat.mul_le_mul hw.2.2 hw.2.1
  intro m
  induction m with
  | zero => intro i fl O fo h1 h2; omega
  | succ m ih =>
    intro i fl O fo h1 h2 hr hg
    have hP' : cPx (uOu U oa w fo) p bo li oa w nT ta ev ov pv := hP.keep ho (fun x hx => u_sn hx)
    have z1 := hP'.2.1
    rw [f_X19_lowers_4, if_pos (v_is z1), c_many hP', q_uc]
    by_cases hi : i = nT * w
    · have hfl : fl = 0 ∨ fl = 1 := by
        rcases hg.2.2.1 with q | q
        · exact Or.inr q.1
        · exact Or.inl q.1
      refine ⟨O, fo, fl, hr, hg.mono (fun s' t' wl' q1 _ q3 q4 _ => ?_), ?_⟩
      · have : t' * w + wl' < nT * w := by
          have e1 : (t' + 1) * w ≤ nT * w := Nat.mul_le_mul_right _ (by omega)
          have e2 : (t' + 1) * w = t' * w + w := Nat.succ_mul t' w
          omega
        unfold laB
        omega
      · rw [hi, p_le (by omega) (by omega) (by omega) (by omega) (by omega)]
        rcases hfl with rfl | rfl
        · exact if_pos (by decide)
        · exact if_pos (by decide)
    · obtain ⟨a1, a2, a3⟩ := c_att (N := N) (b := b) (g := g) (i := i) hP' (by omega)
      have ct := c_cst (N := N) (b := b) (g := g) hP' a1
      obtain ⟨O2, fo2, fl2, y1, y2, y3⟩ := c_lw24 (N := N) (b := b) (g := g) (k4 := f_X19_lowers_4 N b g p m) hP ho hba (by omega) (i := i) (by omega) N 1 fl O fo (by omega) (p5_le (k := w) (by omega)).1 (by omega) hr hg
      obtain ⟨O', fo', fl', w1, w2, w3⟩ := ih (i + 1) fl2 O2 fo2 (by omega) (by omega) y1 y2
      refine ⟨O', fo', fl', w1, w2, ?_⟩
      rw [n_le (by omega) (by omega) (by omega) (by omega) (by omega), if_pos (v_is z1), a3, q_uc, ct, q_uc]
      exact y3.trans w3
end H5s
