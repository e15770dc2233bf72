/-! PLAIN: what the model digs out, whole; one solution for both -/
def eT (σ : MS) (j t : Nat) : Int := (σ.2.1 j t).toInt
theorem pSol_g {w nT : Nat} {ev ov pv : Nat → Int} {D : Nat → Nat} (hD : gJ (5 ^ w) pInf nT w (nxP ev ov w) (ctC pv) D) (hF : gF (5 ^ w) pInf nT w (nxP ev ov w) (ctC pv) D) : pSol w nT ev ov pv D := by
  refine ⟨hD.1, fun s h0 hs => ⟨fun t wl ht hwl hn => ?_, ?_⟩⟩
  · have := hD.le (show pNx (ev t) (ov t) wl s w < 5 ^ w from pNx_lt)
    exact hF s t wl h0 hs ht hwl (by
      show D (pNx (ev t) (ov t) wl s w) < pInf
      omega)
  · rcases hD.2 s h0 hs with q | ⟨q1, t, wl, q2, q3, q4, q5⟩
    · exact Or.inl q
    · have f1 := hF s t wl h0 hs q2 q3 q4
      have q4' : D (pNx (ev t) (ov t) wl s w) < pInf := q4
      exact Or.inr ⟨t, wl, q2, q3, by omega, Nat.le_antisymm f1 q5⟩
theorem g_pSol {w nT : Nat} {ev ov pv : Nat → Int} {D : Nat → Nat} (h : pSol w nT ev ov pv D) (hB : ∀ s, s < 5 ^ w → D s = pInf ∨ D s ≤ 2500000000) : gJ (5 ^ w) pInf nT w (nxP ev ov w) (ctC pv) D ∧ gF (5 ^ w) pInf nT w (nxP ev ov w) (ctC pv) D := by
  have pI : pInf = 1152921504606846976 := rfl
  refine ⟨⟨h.1, fun s h0 hs => ?_⟩, fun s t wl h0 hs ht hwl hn => ?_⟩
  · rcases (h.2 s h0 hs).2 with q | ⟨t, wl, q2, q3, q4, q5⟩
    · exact Or.inl q
    · have b1 := hB s hs
      have b2 := hB _ (show pNx (ev t) (ov t) wl s w < 5 ^ w from pNx_lt)
      rcases b1 with b1 | b1
      · exact Or.inl b1
      · refine Or.inr ⟨by omega, t, wl, q2, q3, ?_, ?_⟩
        · show D (pNx (ev t) (ov t) wl s w) < pInf
          omega
        · show D (pNx (ev t) (ov t) wl s w) + ctC pv t ≤ D s
          unfold ctC
          omega
  · have hn : D (pNx (ev t) (ov t) wl s w) < pInf := hn
    exact (h.2 s h0 hs).1 t wl ht hwl (by omega)
/-- there is one, and it is small -/
theorem p_D {w nT : Nat} {ev ov pv : Nat → Int} (hw : 2 ≤ w ∧ w ≤ 6) (hp : ∀ t, t < nT → 1 ≤ pv t ∧ pv t ≤ 99) : ∃ D : Nat → Nat, gJ (5 ^ w) pInf nT w (nxP ev ov w) (ctC pv) D ∧ gF (5 ^ w) pInf nT w (nxP ev ov w) (ctC pv) D ∧ ∀ s, s < 5 ^ w → D s = pInf ∨ D s ≤ 2500000000 := by
  have pI : pInf = 1152921504606846976 := rfl
  obtain ⟨D, hD, hF⟩ := g_ex (al := 5 ^ w) (I := pInf) (nT := nT) (w := w) (nx := nxP ev ov w) (ct := ctC pv) (by omega)
  obtain ⟨C, hC⟩ : ∃ C : Nat, C = 103809025 := ⟨_, rfl⟩
  have m1 : w * 4 * C ≤ 24 * C := Nat.mul_le_mul_right _ (by omega)
  have ch : ∀ t, t < nT → ctC pv t ≤ C := fun t ht => by
    have h1 := hp t ht
    obtain ⟨P, hP⟩ : ∃ P : Nat, (pv t).toNat = P := ⟨_, rfl⟩
    have h2 : P ≤ 99 := by omega
    unfold ctC
    rw [hP]
    omega
  have bd := p_bound (C := C) hw.1 hD hF (fun t => by
    unfold ctC
    exact Nat.le_add_left _ _) ch (by omega)
  refine ⟨D, hD, hF, fun s hs => ?_⟩
  have := hD.le hs
  by_cases c : D s < pInf
  · have := bd s hs c
    exact Or.inr (by omega)
  · exact Or.inl (by omega)
section H7s
variable {N : Nat} {σ : MS} {w nT : Nat} {ev ov pv : Nat → Int}
theorem m_dg37 (hT : mTr σ w nT ev ov pv) (hN : 40000000000000 ≤ N) : ∀ (m k : Nat) (r : Nat → Int32), k ≤ 5 ^ w → 5 ^ w < k + m → (∀ j, j < k → r j = iI ((if j = 0 then 0 else 2000000000 : Nat) : Int)) → ∃ (D : Nat → Nat) (r' : Nat → Int32), rOk w r' D ∧ gJ (5 ^ w) 2000000000 nT w (nxP ev ov w) (ctM pv) D ∧ gF (5 ^ w) 2000000000 nT w (nxP ev ov w) (ctM pv) D ∧ f_digs_37 N m (mRow σ 68 r) (iI ((5 ^ w : Nat) : Int)) (iI k) = some (mRow σ 68 r') := by
  have hw := hT.2.1
  have p6 := (p5_le (k := w) (by omega)).2
  intro m
  induction m with
  | zero => intro k r h1 h2; omega
  | succ m ih =>
    intro k r h1 h2 h3
    rw [f_digs_37]
    by_cases hk : k = 5 ^ w
    · have sb := zSum_b (X := fun s => if s = 0 then 0 else 2000000000) (M := 2000000000) (5 ^ w) (fun d _ => by
        show (if d = 0 then 0 else 2000000000) ≤ 2000000000
        split <;> omega)
      have sb2 : 5 ^ w * 2000000000 ≤ 15625 * 2000000000 := Nat.mul_le_mul_right _ p6
      obtain ⟨D, r', y1, y2, y3, y4⟩ := m_dg67 (N := N) hT (by omega) N (fun s => if s = 0 then 0 else 2000000000) r (by omega) (fun x hx => ⟨h3 x (by omega), by
        show (if x = 0 then 0 else 2000000000) ≤ 2000000000
        split <;> omega⟩) ⟨if_pos rfl, fun s h0 _ => Or.inl (if_neg (by omega))⟩
      refine ⟨D, r', y1, y2, y3, ?_⟩
      rw [hk, p_le (by omega) (by omega) (by omega) (by omega) (by omega)]
      exact y4
    · have ek : iI (k : Int) + 1 = iI ((k + 1 : Nat) : Int) := by
        rw [j1, i_add]
        rfl
      obtain ⟨t1, t2⟩ := t_ix (a := (k : Int)) (n := mLen 68) (k := k) rfl (by rw [show mLen 68 = 15625 from rfl]; omega) (by rw [show mLen 68 = 15625 from rfl]; omega)
      obtain ⟨D, r', y1, y2, y3, y4⟩ := ih (k + 1) (upd r k (iI ((if k = 0 then 0 else 2000000000 : Nat) : Int))) (by omega) (by omega) (fun j hj => by
        by_cases c : j = k
        · subst c
          rw [upd_s]
        · rw [upd_n c]
          exact h3 j (by omega))
      refine ⟨D, r', y1, y2, y3, ?_⟩
      have go : ∀ x : Int32, x = iI ((if k = 0 then 0 else 2000000000 : Nat) : Int) → f_digs_58 N (f_digs_37 N m) (mRow σ 68 r) (iI ((5 ^ w : Nat) : Int)) (iI k) x (iI k) = some (mRow σ 68 r') := fun x hx => by
        unfold f_digs_58
        rw [if_pos t1, p_let, t2, mRow_a, ek, p_let, hx]
        exact y4
      rw [n_le (by omega) (by omega) (by omega) (by omega) (by omega)]
      by_cases c : k = 0
      · rw [j0, p_eq (by omega) (by omega) (by omega) (by omega) (by omega)]
        exact go _ (by rw [if_pos c]; rfl)
      · rw [j0, n_eq (by omega) (by omega) (by omega) (by omega) (by omega)]
        exact go _ (by rw [if_neg c]; rfl)
theorem m_dg17 : ∀ (m k : Nat) (hT : mTr σ w nT ev ov pv), k ≤ w → w < k + m → f_digs_17 N m σ (iI ((5 ^ k : Nat) : Int)) (iI k) = f_digs_37 N N σ (iI ((5 ^ w : Nat) : Int)) 0 := by
  intro m
  induction m with
  | zero => intro k hT h1 h2; omega
  | succ m ih =>
    intro k hT h1 h2
    have hw := hT.2.1
    rw [f_digs_17, hT.1]
    by_cases hk : k = w
    · rw [hk, p_le (by omega) (by omega) (by omega) (by omega) (by omega)]
    · have ek : iI (k : Int) + 1 = iI ((k + 1 : Nat) : Int) := by
        rw [j1, i_add]
        rfl
      have e5 : iI ((5 ^ k : Nat) : Int) * 5 = iI ((5 ^ (k + 1) : Nat) : Int) := by
        rw [show (5 : Int32) = iI 5 from rfl, i_mul, Nat.pow_succ]
        rfl
      rw [n_le (by omega) (by omega) (by omega) (by omega) (by omega), e5, p_let, ek, p_let]
      exact ih (k + 1) hT (by omega) (by omega)
/-- digs, where nothing was known -/
theorem m_digs {D : Nat → Nat} (hT : mTr σ w nT ev ov pv) (hN : 40000000000000 ≤ N) (h69 : σ.1 69 = 0) (hD : gJ (5 ^ w) pInf nT w (nxP ev ov w) (ctC pv) D) (hF : gF (5 ^ w) pInf nT w (nxP ev ov w) (ctC pv) D) (hB : ∀ s, s < 5 ^ w → D s = pInf ∨ D s ≤ 2500000000) : ∃ r' : Nat → Int32, (∀ s, s < 5 ^ w → r' s = iI (pMo (D s))) ∧ f_digs N σ = some (mRow (mSet σ 69 1) 68 r') := by
  have pI : pInf = 1152921504606846976 := rfl
  have hT1 : mTr (mSet σ 69 1) w nT ev ov pv := hT
  obtain ⟨DM, r', y1, y2, y3, y4⟩ := m_dg37 (N := N) (σ := mSet σ 69 1) hT1 hN N 0 ((mSet σ 69 1).2.1 68) (Nat.zero_le _) (by
    have := (p5_le (k := w) (by have := hT.2.1; omega)).2
    omega) (fun j hj => by omega)
  rw [mRow_id] at y4
  have hp : ∀ t, t < nT → 1 ≤ pv t ∧ pv t ≤ 99 := fun t ht => (hT.2.2.2.2 t ht).2.2.2.2.2
  obtain ⟨c1, c2⟩ := p_conv hD hF hp (fun s hs h => by
    rcases hB s hs with q | q
    · omega
    · exact q)
  refine ⟨r', fun s hs => ?_, ?_⟩
  · rw [(y1 s hs).1, pMo_n, g_one y2 y3 c1 c2 (fun _ _ _ => pNx_lt) (fun t => by
      unfold ctM
      omega) s hs]
  · unfold f_digs
    rw [if_pos h69, p_let]
    have e1 : f_digs_17 N N (mSet σ 69 1) (iI ((5 ^ 0 : Nat) : Int)) (iI ((0 : Nat) : Int)) = _ := m_dg17 (N := N) N 0 hT1 (by omega) (by
      have := hT.2.1
      omega)
    have e1 : f_digs_17 N N (mSet σ 69 1) 1 0 = f_digs_37 N N (mSet σ 69 1) (iI ((5 ^ w : Nat) : Int)) 0 := e1
    rw [e1]
    exact y4
end H7s
theorem pSg_one {σ : MS} {D D' : Nat → Nat} {w : Nat} (h : pSg σ D) (h' : pSg σ D') (hw : σ.1 24 = iI w) (hw6 : w ≤ 6) : ∀ s, s < 5 ^ w → D s = D' s := by
  obtain ⟨w1, n1, a1, a2, a3, a4, a5, a6, a7⟩ := h
  obtain ⟨w2, n2, b1, b2, b3, b4, b5, b6, b7⟩ := h'
  have e1 : iI (w1 : Int) = iI (w : Int) := a1.symm.trans hw
  have e2 : iI (w2 : Int) = iI (w : Int) := b1.symm.trans hw
  have e3 : iI (n2 : Int) = iI (n1 : Int) := b4.symm.trans a4
  rw [j_eq (by omega) (by omega) (by omega) (by omega)] at e1 e2 e3
  have f1 : w1 = w := by omega
  have f2 : w2 = w := by omega
  have f3 : n2 = n1 := by omega
  subst f1
  subst f2
  subst f3
  obtain ⟨g1, g2⟩ := g_pSol a6 a7
  obtain ⟨g3, g4⟩ := g_pSol b6 b7
  exact g_one g1 g2 g3 g4 (fun _ _ _ => pNx_lt) (fun t => by
    unfold ctC
    omega)
theorem t_sr20 {d : Nat} (h : d ≤ 2500000000) : (iL (d : Int) >>> ((20 : Int32).toInt64 &&& 63)).toInt32 = iI ((d / 1048576 : Nat) : Int) := by
  have e : (iL (d : Int) >>> ((20 : Int32).toInt64 &&& 63)).toInt = ((d / 1048576 : Nat) : Int) := by
    show ((iL (d : Int)).toBitVec.sshiftRight' (((20 : Int32).toInt64 &&& 63).toBitVec.smod 64)).toInt = _
    rw [show (((20 : Int32).toInt64 &&& 63).toBitVec.smod 64) = 20#64 from by decide]
    show ((iL (d : Int)).toBitVec.sshiftRight 20).toInt = _
    rw [BitVec.toInt_sshiftRight]
    show (iL (d : Int)).toInt >>> 20 = _
    rw [e_toInt (by omega) (by omega), Int.shiftRight_eq_div_pow]
    omega
  rw [e_of (iL (d : Int) >>> ((20 : Int32).toInt64 &&& 63)), e, e_l2i (by omega) (by omega)]
