/-! PLAIN: the class makes a pit -/
theorem u_df19 : uDefs tyX19 2 = [.null, .null] := by rfl
theorem c_fillL6 {N b : Nat} {g : uEnv} {u : UH} {a len : Nat} {v : Int64} (hb : b ≤ a) (hl : len ≤ 100000) : ∀ (m i : Nat) (f : Nat → Int64), i ≤ len → len < i + m → ∃ f' : Nat → Int64, f_J10_fill_3_6 N b g m (uSet u a (.inl (3, len, .inr (.inl f)))) (some a) v (iI i) (iI len) = some (uSet u a (.inl (3, len, .inr (.inl f')))) ∧ (∀ j, i ≤ j → j < len → f' j = v) ∧ ∀ j, j < i → f' j = f j := by
  intro m
  induction m with
  | zero => intro i f h1 h2; omega
  | succ m ih =>
    intro i f h1 h2
    rw [f_J10_fill_3_6]
    by_cases hi : len ≤ i
    · refine ⟨f, ?_, fun j d1 d2 => by omega, fun j _ => rfl⟩
      rw [p_le (by omega) (by omega) (by omega) (by omega) (by omega)]
    · have ei : iI (i : Int) + 1 = iI ((i + 1 : Nat) : Int) := by
        rw [j1, i_add]
        rfl
      obtain ⟨f', a1, a2, a3⟩ := ih (i + 1) (zU f i v) (by omega) (by omega)
      refine ⟨f', ?_, fun j d1 d2 => ?_, fun j d1 => ?_⟩
      · rw [n_le (by omega) (by omega) (by omega) (by omega) (by omega), p_bs, u_stL (i := (i : Int)) u_ss hb (by omega) (by omega) (by omega), p_bs, u_s2, p_let, ei]
        exact a1
      · by_cases x : j = i
        · rw [x, a3 i (by omega)]
          exact if_pos rfl
        · exact a2 j (by omega) d2
      · rw [a3 j (by omega)]
        exact if_neg (by omega)
theorem c_fillL {N b : Nat} {g : uEnv} {u : UH} {a len : Nat} {v : Int64} {f : Nat → Int64} (h : u.2.2 a = some (.inl (3, len, .inr (.inl f)))) (hb : b ≤ a) (hl : len ≤ 100000) (hN : len < N) : ∃ f' : Nat → Int64, f_J10_fill_3 N b g u (some a) v = some (uSet u a (.inl (3, len, .inr (.inl f')))) ∧ ∀ j, j < len → f' j = v := by
  obtain ⟨f', a1, a2, -⟩ := c_fillL6 (N := N) (g := g) (u := u) (v := v) hb hl N 0 f (by omega) (by omega)
  rw [u_se h] at a1
  refine ⟨f', ?_, fun j hj => a2 j (by omega) hj⟩
  unfold f_J10_fill_3
  rw [p_bs, u_len h, p_bs]
  exact a1
theorem g_fin {al I nT w : Nat} {nx : Nat → Nat → Nat → Nat} {ct : Nat → Nat} {D O : Nat → Nat} {r : Nat} (hO : gJ al I nT w nx ct O) (hD : gJ al I nT w nx ct D) (hF : gF al I nT w nx ct D) (hn : ∀ t wl s, nx t wl s < al) (hc : ∀ t, 1 ≤ ct t) (hE : gE D O al I r) (hr : al ≤ r) : ∀ s, s < al → O s = D s := fun s hs => by
  have h1 := g_ge hO hD hF hn hc (O s) s (Nat.le_refl _) hs
  have h2 := hO.le hs
  have h4 := hD.le hs
  by_cases c : D s < I
  · have := hE s hs c (by
      have := gC_le (al := al) (D := D) hs
      omega)
    omega
  · omega
section H6s
variable {N b : Nat} {g : uEnv} {U : UH} {p bo li oa w nT : Nat} {ta : Nat → Nat} {ev ov pv : Nat → Int} {D : Nat → Nat}
theorem c_in60 {fo0 : Nat → Int64} (hP : cPx U p bo li oa w nT ta ev ov pv) (ho : U.2.2 oa = some (.inl (3, 5 ^ w, .inr (.inl fo0)))) (hba : b ≤ oa) (hN : 20000 ≤ N) (hD : gJ (5 ^ w) pInf nT w (nxP ev ov w) (ctC pv) D) (hF : gF (5 ^ w) pInf nT w (nxP ev ov w) (ctC pv) D) : ∀ (m r fl : Nat) (O : Nat → Nat) (fo : Nat → Int64), r ≤ 5 ^ w → 5 ^ w < r + m → rOL w fo O → gJ (5 ^ w) pInf nT w (nxP ev ov w) (ctC pv) O → gE D O (5 ^ w) pInf r → (fl = 1 ∨ (fl = 0 ∧ gF (5 ^ w) pInf nT w (nxP ev ov w) (ctC pv) O)) → ∃ fo' : Nat → Int64, (∀ s, s < 5 ^ w → fo' s = iL ((D s : Nat) : Int)) ∧ f_X19_init_60 N b g p m (uOu U oa w fo) (iI ((5 ^ w : Nat) : Int)) (iI fl) (iI r) = some (uOu U oa w fo') := by
  have hw := hP.1
  have p6 := (p5_le (k := w) (by omega)).2
  have hn : ∀ t wl s, nxP ev ov w t wl s < 5 ^ w := fun _ _ _ => pNx_lt
  have hc : ∀ t, 1 ≤ ctC pv t := fun t => by
    unfold ctC
    omega
  intro m
  induction m with
  | zero => intro r fl O fo h1 h2; omega
  | succ m ih =>
    intro r fl O fo h1 h2 hr hJ hE hfl
    have hP' : cPx (uOu U oa w fo) p bo li oa w nT ta ev ov pv := hP.keep ho (fun x hx => u_sn hx)
    rw [f_X19_init_60]
    by_cases cr : r = 5 ^ w
    · refine ⟨fo, fun s hs => ?_, ?_⟩
      · rw [(hr s hs).1, g_fin hJ hD hF hn hc hE (by omega) s hs]
      · rw [cr, p_le (by omega) (by omega) (by omega) (by omega) (by omega)]
        rfl
    · rw [n_le (by omega) (by omega) (by omega) (by omega) (by omega)]
      rcases hfl with rfl | ⟨rfl, hOF⟩
      · obtain ⟨O', fo', fl', y1, y2, y3⟩ := c_lw4 (N := N) (b := b) (g := g) (O1 := O) hP ho hba hN N 0 0 O fo (by omega) (by
          have b1 : nT * w ≤ 6 * 6 := Nat.mul_le_mul hw.2.2 hw.2.1
          omega) hr ⟨hJ, fun _ _ => Nat.le_refl _, Or.inr ⟨rfl, fun _ _ => rfl⟩, fun s t wl q1 q2 q3 q4 q5 => by
          unfold laB at q5
          omega⟩
        obtain ⟨a1, a2, a3, a4⟩ := y2
        have gr : gR (5 ^ w) pInf nT w (nxP ev ov w) (ctC pv) O O' := ⟨a1, a2, fun s t wl q1 q2 q3 q4 q5 => a4 s t wl q1 q2 q3 q4 trivial q5⟩
        obtain ⟨fo2, w1, w2⟩ := ih (r + 1) fl' O' fo' (by omega) (by omega) y1 a1 (gE_step hD hn hc hE gr) (by
          rcases a3 with ⟨q, -⟩ | ⟨q, q2⟩
          · exact Or.inl q
          · refine Or.inr ⟨q, fun s t wl q1 q3 q4 q5 q6 => ?_⟩
            rw [q2 _ (hn t wl s)] at q6 ⊢
            exact a4 s t wl q1 q3 q4 q5 trivial q6)
        refine ⟨fo2, w1, ?_⟩
        have y3' : f_X19_lowers N b g (uOu U oa w fo) p = some (iI fl', uOu U oa w fo') := y3
        have er : iI (r : Int) + 1 = iI ((r + 1 : Nat) : Int) := by
          rw [j1, i_add]
          rfl
        rw [if_neg (show ¬ iI ((1 : Nat) : Int) = 0 from n10), if_pos (v_is hP'.2.1), y3', q_uc, er, p_let]
        exact w2
      · refine ⟨fo, fun s hs => ?_, ?_⟩
        · rw [(hr s hs).1, g_one hJ hOF hD hF hn hc s hs]
        · rw [if_pos (show iI ((0 : Nat) : Int) = 0 from rfl)]
          rfl
theorem c_pinit {arr mm : Nat} {mc : Int32} {xs : Nat → Option Nat} {r0 r2 : Value} {fs : List Value} (hw : 2 ≤ w ∧ w ≤ 6 ∧ nT ≤ 6) (h3 : U.2.2 bo = some (.inr (3, r0 :: .ref li :: r2 :: .int (iI w) :: fs))) (h4 : vLs U li arr nT mm mc xs) (h7 : ∀ t, t < nT → xs t = some (ta t)) (h8 : ∀ t, t < nT → (∃ nv : Value, U.2.2 (ta t) = some (.inr (8, [nv, .int (iI (ev t)), .int (iI (ov t)), .int (iI (pv t))]))) ∧ (-4 ≤ ev t ∧ ev t ≤ 4) ∧ (-4 ≤ ov t ∧ ov t ≤ 4) ∧ 1 ≤ pv t ∧ pv t ≤ 99) (ho : uOld U) (hb : b ≤ U.1) (hN : 20000 ≤ N) (hD : gJ (5 ^ w) pInf nT w (nxP ev ov w) (ctC pv) D) (hF : gF (5 ^ w) pInf nT w (nxP ev ov w) (ctC pv) D) : ∃ (u' : UH) (fo : Nat → Int64), f_X19_init N b g (uNew U 2 (.inr (17, uDefs tyX19 2))) U.1 (some bo) = some u' ∧ u'.2.2 U.1 = some (.inr (17, [.ref bo, .ref (U.1 + 1)])) ∧ u'.2.2 (U.1 + 1) = some (.inl (3, 5 ^ w, .inr (.inl fo))) ∧ (∀ s, s < 5 ^ w → fo s = iL ((D s : Nat) : Int)) ∧ (∀ x, x < U.1 → u'.2.2 x = U.2.2 x) ∧ uOld u' ∧ u'.1 = U.1 + 2 ∧ u'.2.1 = U.2.1 + (2 + 5 ^ w) := by
  have p6 := (p5_le (k := w) (by omega)).2
  have p1 := (p5_le (k := w) (by omega)).1
  have pI : pInf = 1152921504606846976 := rfl
  obtain ⟨u1, e1, c1, k1, o1, s1, z1⟩ := w_new (u := U) (n := 2) (e := .inr (17, uDefs tyX19 2)) ho
  rw [u_df19] at c1
  obtain ⟨u2, e2, c2, k2, o2, s2, z2⟩ := w_put (b := b) (k := 0) (v := va_rf (some bo)) c1 hb (Nat.le_of_ble_eq_true rfl) o1
  have lb := ho _ _ h3
  have h32 : u2.2.2 bo = some (.inr (3, r0 :: .ref li :: r2 :: .int (iI w) :: fs)) := by
    rw [k2 bo (by omega), k1 bo lb]
    exact h3
  obtain ⟨u3, e3, c3, k3, o3, s3, z3⟩ := w_new (u := u2) (n := 5 ^ w) (e := .inl (3, 5 ^ w, .inr (.inl (fun _ => 0)))) o2
  have lp : ∀ (m k : Nat), k ≤ w → w < k + m → f_X19_init_13 N b g U.1 m u2 (some bo) (iI ((5 ^ k : Nat) : Int)) (iI k) = f_X19_init_35 N b g U.1 u3 (iI ((5 ^ w : Nat) : Int)) (some u2.1) (some U.1) := by
    intro m
    induction m with
    | zero => intro k q1 q2; omega
    | succ m ih =>
      intro k q1 q2
      rw [f_X19_init_13, p_bs, v_gi h32 (k := 3) rfl, p_bs]
      by_cases hk : k = w
      · subst hk
        have zn : (iI ((5 ^ k : Nat) : Int)).toNatClampNeg = 5 ^ k := by
          rw [j_nat (by omega) (by omega)]
          rfl
        rw [p_le (by omega) (by omega) (by omega) (by omega) (by omega), zn, if_pos (show ¬ iI ((5 ^ k : Nat) : Int) < 0 ∧ 5 ^ k ≤ 60000000 by
          rw [j0, j_lt (by omega) (by omega) (by omega) (by omega)]
          omega), p_let, p_let, e3]
      · have ek : iI (k : Int) + 1 = iI ((k + 1 : Nat) : Int) := by
          rw [j1, i_add]
          rfl
        have e5 : iI ((5 ^ k : Nat) : Int) * 5 = iI ((5 ^ (k + 1) : Nat) : Int) := by
          rw [show (5 : Int32) = iI 5 from rfl, i_mul, Nat.pow_succ]
          rfl
        rw [n_le (by omega) (by omega) (by omega) (by omega) (by omega), e5, p_let, ek, p_let]
        exact ih (k + 1) (by omega) (by omega)
  have c2' : u3.2.2 U.1 = some (.inr (17, [.ref bo, .null])) := (k3 U.1 (by omega)).trans c2
  obtain ⟨u4, e4, c4, k4, o4, s4, z4⟩ := w_put (b := b) (k := 1) (v := va_rf (some u2.1)) c2' hb (Nat.le_of_ble_eq_true rfl) o3
  have c4' : u4.2.2 U.1 = some (.inr (17, [.ref bo, .ref u2.1])) := c4
  have oa4 : u4.2.2 u2.1 = some (.inl (3, 5 ^ w, .inr (.inl (fun _ => 0)))) := (k4 u2.1 (by omega)).trans c3
  have lo : ∀ x, x < U.1 → u4.2.2 x = U.2.2 x := fun x hx => by
    rw [k4 x (by omega), k3 x (by omega), k2 x (by omega), k1 x hx]
  obtain ⟨f', q1, q2⟩ := c_fillL (N := N) (b := b) (g := g) (v := 1152921504606846976) oa4 (by omega) (by omega) (by omega)
  have st : uStL b (uSet u4 u2.1 (.inl (3, 5 ^ w, .inr (.inl f')))) u2.1 3 (iI 0) 0 = some (uSet (uSet u4 u2.1 (.inl (3, 5 ^ w, .inr (.inl f')))) u2.1 (.inl (3, 5 ^ w, .inr (.inl (zU f' 0 0))))) := u_stL u_ss (by omega) (by omega) (by omega) (by omega)
  rw [u_s2] at st
  have hP : cPx u4 U.1 bo li u2.1 w nT ta ev ov pv := by
    refine ⟨hw, c4', ⟨r0, r2, fs, (lo bo lb).trans h3⟩, ⟨arr, mm, mc, xs, ⟨(lo _ (ho _ _ h4.1)).trans h4.1, (lo _ (ho _ _ h4.2.1)).trans h4.2.1, h4.2.2⟩, h7⟩, fun t ht => ?_⟩
    obtain ⟨⟨nv, a1⟩, a2⟩ := h8 t ht
    exact ⟨⟨nv, (lo _ (ho _ _ a1)).trans a1⟩, a2⟩
  obtain ⟨fo, w1, w2⟩ := c_in60 (N := N) (b := b) (g := g) (D := D) hP oa4 (by omega) hN hD hF N 0 1 (fun s => if s = 0 then 0 else pInf) (zU f' 0 0) (by omega) (by omega) (fun x hx => by
    by_cases c : x = 0
    · subst c
      exact ⟨zU_s, Nat.zero_le _⟩
    · refine ⟨(zU_n c).trans ((q2 x hx).trans ?_), ?_⟩
      · show _ = iL ((if x = 0 then 0 else pInf : Nat) : Int)
        rw [if_neg c]
        rfl
      · show (if x = 0 then 0 else pInf) ≤ pInf
        rw [if_neg c]
        exact Nat.le_refl _) ⟨if_pos rfl, fun s h0 _ => Or.inl (if_neg (by omega))⟩ (fun s hs d1 d2 => by
    by_cases c : s = 0
    · show (if s = 0 then 0 else pInf) ≤ D s
      rw [if_pos c]
      exact Nat.zero_le _
    · exfalso
      rcases hD.2 s (by omega) hs with q | ⟨-, t, wl, -, -, -, q5⟩
      · omega
      · have := gC_lt (al := 5 ^ w) (D := D) (a := 0) (b := s) (by omega) (by
          rw [hD.1]
          unfold ctC at q5
          omega)
        omega) (Or.inl rfl)
  have k9 : u2.1 = U.1 + 1 := by omega
  rw [← k9]
  have n1 : U.1 ≠ u2.1 := by omega
  refine ⟨uOu u4 u2.1 w fo, fo, ?_, (u_sn n1).trans c4', u_ss, w1, fun x hx => (u_sn (by omega)).trans (lo x hx), o4.set oa4, by
    show u4.1 = _
    omega, by
    show u4.2.1 = _
    omega⟩
  have lp0 : f_X19_init_13 N b g U.1 N u2 (some bo) 1 0 = f_X19_init_35 N b g U.1 u3 (iI ((5 ^ w : Nat) : Int)) (some u2.1) (some U.1) := lp N 0 (by omega) (by omega)
  have st' : uStL b (uSet u4 u2.1 (.inl (3, 5 ^ w, .inr (.inl f')))) u2.1 3 0 0 = some (uOu u4 u2.1 w (zU f' 0 0)) := st
  have g5 : uGR (uSet u4 u2.1 (.inl (3, 5 ^ w, .inr (.inl f')))) U.1 17 1 = some (some u2.1) := v_gr (show (uSet u4 u2.1 (.inl (3, 5 ^ w, .inr (.inl f')))).2.2 U.1 = some (.inr (17, [.ref bo, .ref u2.1])) from (u_sn n1).trans c4') rfl
  unfold f_X19_init
  rw [e1, e2, p_bs, lp0]
  unfold f_X19_init_35
  rw [p_bs, e4, p_bs, v_gr c4' (k := 1) rfl, p_bs, q1, p_bs, g5, p_bs, p_bs, st', p_bs]
  exact w2
end H6s
