/-! PLAIN: a step of a plan: what lies between brackets, its begin and its end -/
section K8s
variable {N b : Nat} {g : uEnv} {lo rd tp n pl bo mp nD nG np : Nat} {T : Nat → Nat} {rp rs ri : roT} {U U' U'' : UH} {σ σ' σ'' : MS} {at' at2 at3 k cs d k2 d2 c s c2 s2 : Nat}
/-- another depth -/
theorem pP.dep (h : pP b g lo rd tp n T pl bo mp nD nG np U σ at' k cs d) {d' : Nat} {v : Value} (hv : v = .int (iI d')) : ∃ U2, uPut b U pl 9 4 v = some U2 ∧ pP b g lo rd tp n T pl bo mp nD nG np U2 σ at' k cs d' ∧ pTo lo rd pl np k2 d2 0 0 U σ at' U2 σ at' := by
  subst hv
  have hn := h.ne
  obtain ⟨hr, hpl, hlp, a1, a2, a3, hO⟩ := h
  have ho : uOld U := hr.2.2.2.2.2.1
  have hlo : b ≤ lo := hr.2.2.2.2.2.2.1
  obtain ⟨U2, e1, e2, e3, e4, e5, e6⟩ := w_put (b := b) (k := 4) (v := .int (iI d')) hpl (by omega) (Nat.le_of_ble_eq_true rfl) ho
  have e2' : U2.2.2 pl = some (.inr (9, [.ref rd, .ref bo, .ref mp, .int (iI cs), .int (iI d')])) := e2
  have kw2 : rKw lo (fun x => x = pl) U U2 := rKw.wr e3 rfl hlp hpl (Or.inl ⟨_, _, rfl, by decide⟩) e4 e5 e6
  exact ⟨U2, e1, ⟨hr.kw kw2 hn, e2', hlp, a1, a2, a3, hO.keep kw2.1 rfl rfl rfl rfl⟩, kw2.mono (fun x _ z => Or.inr (Or.inl z)), Nat.le_refl _, by omega, by omega, mSm.refl, fun _ _ => rfl, fun _ _ => ⟨rfl, rfl, rfl⟩⟩
theorem k_inn (h : pP b g lo rd tp n T pl bo mp nD nG np U σ at' k cs d) (hd : d ≤ 6) (hN : 2000 ≤ N) : (σ.1 6 ≠ 40 → ∃ x U', fo_X11_inner N b g rp rs ri U pl = some (.inl (x, U')) ∧ rEp lo np (4 * (n - at') + 1) (32 * (n - at') + 8) U σ x U' (mEr σ 1 (σ.1 4))) ∧ (σ.1 6 = 40 → d = 6 → ∃ x U', fo_X11_inner N b g rp rs ri U pl = some (.inl (x, U')) ∧ rEp lo np (4 * (n - at') + 1) (32 * (n - at') + 8) U σ x U' (mEr σ 5 (σ.1 4))) ∧ (σ.1 6 = 40 → d < 6 → ∃ U' σ' at2, fo_X11_inner N b g rp rs ri U pl = f_X11_inner_56 N b g rp rs ri pl U' ∧ f_next N σ = some σ' ∧ pP b g lo rd tp n T pl bo mp nD nG np U' σ' at2 k cs (d + 1) ∧ pTo lo rd pl np k2 d2 0 0 U σ at' U' σ' at2 ∧ ∀ j, j ≠ 11 → σ'.2.1 j = σ.2.1 j) := by
  have hh := h
  obtain ⟨hr, hpl, hlp, a1, a2, a3, hO⟩ := hh
  obtain ⟨kr, st, va, wv, sg, c1, -⟩ := k_kind hr
  have sg40 : sgn 40 := by unfold sgn; omega
  obtain ⟨i1, i2⟩ := c_is2 (N := N) hr sg40
  have i1 : σ.1 6 = 40 → f_X5_is_2 N b g U rd 40 = some (1, U) := i1
  have i2 : ¬ σ.1 6 = 40 → f_X5_is_2 N b g U rd 40 = some (0, U) := i2
  have e6 : (6 : Int32) = iI 6 := rfl
  unfold fo_X11_inner
  rw [v_gr hpl (k := 0) rfl, p_bs, p_bs, if_pos (v_is c1)]
  refine ⟨fun q => ?_, fun q q6 => ?_, fun q q6 => ?_⟩
  · obtain ⟨U', f1, f2⟩ := c_fault (N := N) (k := 1) hr
    refine ⟨U.1, U', ?_, f2.pp⟩
    unfold f_X11_inner_20
    rw [i2 q, q_uc, if_pos rfl, v_gr hpl (k := 0) rfl, p_bs, p_bs, if_pos (v_is c1), f1, q_uc, p_bs]
  · obtain ⟨U', f1, f2⟩ := c_fault (N := N) (k := 5) hr
    refine ⟨U.1, U', ?_, f2.pp⟩
    unfold f_X11_inner_38
    rw [i1 q, q_uc, if_neg n10, v_gi hpl (k := 4) rfl, p_bs, e6, p_eq (by omega) (by omega) (by omega) (by omega) (by omega), v_gr hpl (k := 0) rfl, p_bs, p_bs, if_pos (v_is c1), f1, q_uc, p_bs]
  · obtain ⟨U2, g1, g2, g3⟩ := h.dep (k2 := k2) (d2 := d2) (d' := d + 1) (v := .int (iI ((d + 1 : Nat) : Int))) rfl
    obtain ⟨hr2, hpl2, -⟩ := id g2
    obtain ⟨kr2, st2, va2, wv2, sg2, c2, -⟩ := k_kind hr2
    obtain ⟨U3, σ3, at3, v1, v2, v3⟩ := k_go (N := N) hr2 (by
      rw [q]
      decide) hN
    have ec : iI (d : Int) + 1 = iI ((d + 1 : Nat) : Int) := by
      rw [j1, i_add]
      rfl
    refine ⟨U3, σ3, at3, ?_, v2, g2.st v3, g3.trans (pTo.st v3) (Nat.le_refl _) (Nat.le_refl _), fun j hj => v3.r hj⟩
    rw [i1 q, q_uc, if_neg n10, v_gi hpl (k := 4) rfl, p_bs, e6, n_eq (by omega) (by omega) (by omega) (by omega) (by omega), p_bs, ec, g1, p_bs, v_gr hpl2 (k := 0) rfl, p_bs, p_bs, if_pos (v_is c2), v1, p_bs]
/-- other rows of the model -/
theorem pP.sg (h : pP b g lo rd tp n T pl bo mp nD nG np U σ at' k cs d) (hf : ∀ i, i ≠ 58 → σ'.1 i = σ.1 i) (hk : σ'.1 58 = iI k2 ∧ k2 ≤ 2 * cs) (hr' : ∀ j, j = 1 ∨ j = 11 ∨ j = 14 ∨ j = 15 → σ'.2.1 j = σ.2.1 j) : pP b g lo rd tp n T pl bo mp nD nG np U σ' at' k2 cs d := by
  obtain ⟨hr, hpl, hlp, ⟨a1, a1'⟩, a2, ⟨a3, a3'⟩, hO⟩ := h
  exact ⟨hr.sg (fun i hi => hf i (by omega)) (hr' 1 (by decide)) (hr' 11 (by decide)), hpl, hlp, ⟨(hf _ (by decide)).trans a1, a1'⟩, hk, ⟨(hf _ (by decide)).trans a3, a3'⟩, hO.keep (fun _ _ => rfl) (hf _ (by decide)) (hf _ (by decide)) (hr' 14 (by decide)) (hr' 15 (by decide))⟩
theorem mRw_s {j : Nat} {r : Nat → Int32} : (mRow σ j r).2.1 j = r := if_pos rfl
theorem mRw_n {j j' : Nat} {r : Nat → Int32} (h : j' ≠ j) : (mRow σ j r).2.1 j' = σ.2.1 j' := if_neg h
theorem m_thn {dq gr : Nat} (p : pP b g lo rd tp n T pl bo mp nD nG np U σ' at2 k cs (d + 1)) (hd : d < 6) (hk : k + 1 ≤ 2 * cs) (h6 : σ.1 6 = 40) (hn : f_next N σ = some σ') : ∃ σ2, g_opn N σ (iI d) (iI dq) (iI gr) = some (1, σ2) ∧ pP b g lo rd tp n T pl bo mp nD nG np U σ2 at2 (k + 1) cs (d + 1) ∧ pTo lo rd pl np k d 0 0 U σ' at2 U σ2 at2 ∧ σ2.2.1 60 d = iI k ∧ σ2.2.1 62 d = 0 ∧ (np < 8 → σ2.2.1 56 (512 * np + 4 * k) = 1 ∧ σ2.2.1 56 (512 * np + (4 * k + 1)) = iI dq ∧ σ2.2.1 56 (512 * np + (4 * k + 2)) = iI gr) := by
  obtain ⟨hr, hpl, hlp, ⟨a1, a1'⟩, ⟨a2, a2'⟩, ⟨a3, a3'⟩, hO⟩ := id p
  have ho : uOld U := hr.2.2.2.2.2.1
  obtain ⟨r, m1, m2, m3, m4⟩ := m_order (N := N) (σ := σ') (np := np) (k := k) a3 a2 a3' (by omega) 1 (iI dq) (iI gr) 0
  obtain ⟨t1, t2⟩ := t_ix (a := (d : Int)) (n := mLen 60) (k := d) rfl (by rw [show mLen 60 = 8 from rfl]; omega) (by rw [show mLen 60 = 8 from rfl]; omega)
  obtain ⟨t3, t4⟩ := t_ix (a := (d : Int)) (n := 8) (k := d) rfl (by omega) (by omega)
  obtain ⟨s1, hs1⟩ : ∃ s1, s1 = mSet (mRow σ' 56 r) 58 (iI ((k + 1 : Nat) : Int)) := ⟨_, rfl⟩
  have r1 : ∀ j, j ≠ 56 → s1.2.1 j = σ'.2.1 j := fun j hj => by
    rw [hs1]
    exact mRw_n hj
  have r56 : s1.2.1 56 = r := by
    rw [hs1]
    exact mRw_s
  have f1 : ∀ i, i ≠ 58 → s1.1 i = σ'.1 i := fun i hi => by
    rw [hs1]
    exact upd_n hi
  have f58 : s1.1 58 = iI ((k + 1 : Nat) : Int) := by
    rw [hs1]
    rfl
  have sm : mSm pS pRw σ' s1 := by
    rw [hs1]
    have q0 : mSm pS pRw σ' (mRow σ' 56 r) := sOr m2 m4 (by omega)
    exact q0.trans (mSm.set (Or.inr (Or.inl rfl)))
  obtain ⟨s2, hs2⟩ : ∃ s2, s2 = mArr (mArr s1 60 d (iI k)) 62 d 0 := ⟨_, rfl⟩
  have w : ∀ j, j ≠ 60 → j ≠ 62 → s2.2.1 j = s1.2.1 j := fun j j1 j2 => by
    rw [hs2, mArr_n j2, mArr_n j1]
  have w60 : s2.2.1 60 = upd (s1.2.1 60) d (iI k) := by
    rw [hs2, mArr_n (by decide), mArr_s]
  have w62 : s2.2.1 62 = upd (s1.2.1 62) d 0 := by
    rw [hs2, mArr_s, mArr_n (by decide)]
  have fw : s2.1 = s1.1 := by
    rw [hs2]
    rfl
  have sm2 : mSm pS pRw s1 s2 := by
    rw [hs2]
    exact (mSm.arr (Or.inr (Or.inr (Or.inl rfl))) (by rw [show mLen 60 = 8 from rfl]; omega)).trans (mSm.arr (Or.inr (Or.inr (Or.inr (Or.inr rfl)))) (by rw [show mLen 62 = 8 from rfl]; omega))
  refine ⟨s2, ?_, p.sg (fun i hi => by rw [fw]; exact f1 i hi) ⟨by rw [fw]; exact f58, hk⟩ (fun j hj => by rw [w j (by omega) (by omega), r1 j (by omega)]), ⟨rKw.refl ho, Nat.le_refl _, by omega, by omega, sm.trans sm2, fun i hi => ?_, fun i hi => ⟨?_, ?_, ?_⟩⟩, ?_, ?_, fun q => ?_⟩
  · unfold g_opn
    rw [p_let, if_pos h6, show (6 : Int32) = iI 6 from rfl, n_eq (by omega) (by omega) (by omega) (by omega) (by omega), hn, q_mv, m1, q_mc, if_pos t1, p_let, t2, if_pos t3, p_let, ← hs1, show vp_nar .boolean 0 = 0 from rfl, ← hs2]
  · rw [w 56 (by decide) (by decide), r56]
    exact m4 i (by omega)
  · rw [w60, upd_n (by omega), r1 60 (by decide)]
  · rw [w 61 (by decide) (by decide), r1 61 (by decide)]
  · rw [w62, upd_n (by omega), r1 62 (by decide)]
  · rw [w60, upd_s]
  · rw [w62, upd_s]
  · obtain ⟨q0, q1, q2, -⟩ := m3 q
    rw [w 56 (by decide) (by decide), r56]
    exact ⟨q0, q1, q2⟩
/-- behind a closing bracket -/
def g_aft (N : Nat) (k4 : MS → Int32 → Int32 → Option MS) (k35 : MS → Int32 → Int32 → Int32 → Option MS) (σ6 : MS) (y8 : Int32) : Option MS :=
    if mIn y8 8 = true then mlet (σ6.2.1 62 y8.toNatClampNeg) fun y11 =>
    if y11 = 0 then
    mcall (f_word N (pTx 37) σ6) fun r16 σ14 =>
    if r16 = 0 then
    f_reads_82 N k4 k35 σ14 y8 1 1
    else
    f_reads_83 N k4 k35 σ14 y8 1 1 1
    else
    f_reads_82 N k4 k35 σ6 y8 1 1
    else none
theorem k_clo {m n' a : Nat} (h : pP b g lo rd tp n T pl bo mp nD nG np U σ at' k cs (d + 1)) (hd : d < 6) (h59 : σ.1 6 ≠ 59) (hN : 2000 ≤ N) : (∃ (x : Nat) (U' : UH) (σ' : MS), f_X11_inner_60 N b g rp rs ri pl U (some a) = some (.inl (x, U')) ∧ f_reads_35 N (f_reads_4 N (m + 1)) (n' + 1) σ (iI ((d + 1 : Nat) : Int)) 1 1 = some σ' ∧ rEp lo np (4 * (n - at') + 1) (32 * (n - at') + 8) U σ x U' σ') ∨ (∃ U' σ' at2, f_X11_inner_60 N b g rp rs ri pl U (some a) = some (.inr (some a, U')) ∧ f_reads_35 N (f_reads_4 N (m + 1)) (n' + 1) σ (iI ((d + 1 : Nat) : Int)) 1 1 = g_aft N (f_reads_4 N (m + 1)) (f_reads_35 N (f_reads_4 N (m + 1)) n') σ' (iI d) ∧ pP b g lo rd tp n T pl bo mp nD nG np U' σ' at2 k cs d ∧ pTo lo rd pl np k2 d2 0 0 U σ at' U' σ' at2 ∧ ∀ j, j ≠ 11 → σ'.2.1 j = σ.2.1 j) := by
  have hh := h
  obtain ⟨hr, hpl, hlp, a1, a2, a3, hO⟩ := hh
  have h13 : σ.1 13 = 0 := hr.2.2.2.2.2.2.2.2.2.1
  obtain ⟨kr, st, va, wv, sg, c1, -⟩ := k_kind hr
  have sg41 : sgn 41 := by unfold sgn; omega
  obtain ⟨i1, i2⟩ := k_skS (N := N) (j := 29) hr (by decide) (by decide +kernel) sg41 hN
  have ed : iI ((d + 1 : Nat) : Int) + (-1) = iI (d : Int) := by
    rw [j_m1, i_add]
    congr 1
    omega
  have ed2 : iI ((d + 1 : Nat) : Int) - 1 = iI (d : Int) := by
    rw [j1, i_sub]
    congr 1
    omega
  have nd : ¬ iI ((d + 1 : Nat) : Int) ≤ 0 := by
    rw [j0, j_le (by omega) (by omega) (by omega) (by omega)]
    omega
  have pd : 0 < iI ((d + 1 : Nat) : Int) := by
    rw [j0, j_lt (by omega) (by omega) (by omega) (by omega)]
    omega
  unfold f_X11_inner_60 f_X5_needs f_X5_needs_5
  rw [f_reads_35, v_gr hpl (k := 0) rfl, p_bs, p_bs, if_pos (v_is c1), if_pos (v_is c1), if_neg n10, if_neg nd, p_let]
  by_cases h6 : σ.1 6 = 41
  · obtain ⟨U2, σ2, at2, v1, v2, v3⟩ := i1 h6
    have p2 := h.st v3
    obtain ⟨U3, g1, g2, g3⟩ := p2.dep (k2 := k2) (d2 := d2) (d' := d) (v := .int (iI d)) rfl
    right
    refine ⟨U3, σ2, at2, ?_, ?_, g2, (pTo.st v3).trans g3 (Nat.le_refl _) (Nat.le_refl _), fun j hj => v3.r hj⟩
    · unfold f_X11_inner_70
      rw [v1, q_uc, if_neg n10, q_xv2, v_gi p2.2.1 (k := 4) rfl, p_bs, ed2, g1, p_bs]
    · rw [if_pos h6, v2, q_mv, p_let, ed]
      rfl
  · obtain ⟨U', f1, f2⟩ := c_fault (N := N) (k := 1) hr
    left
    refine ⟨U.1, U', mEr σ 1 (σ.1 4), ?_, ?_, f2.pp⟩
    · unfold f_X5_needs_13
      rw [i2 h6, q_uc, if_pos rfl, if_pos (v_is c1), f1, q_uc, p_bs, q_xv1]
    · unfold f_reads_189 f_reads_211 f_reads_220
      rw [if_neg h6, if_neg n10, p_let, if_neg h59, if_pos rfl, f_reads_4, if_pos rfl, if_pos pd]
      unfold f_reads_234 f_reads_244
      rw [p_let, m_wrong h13, q_mc]
end K8s
