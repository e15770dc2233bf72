/-! PLAIN: a step: its head, of both -/
theorem u_df12 : uDefs tyX12 2 = [.null, .int 0] := by rfl
/-- while a plan is read -/
def pP (b : Nat) (g : uEnv) (lo rd tp n : Nat) (T : Nat → Nat) (pl bo mp nD nG np : Nat) (U : UH) (σ : MS) (at' k cs d : Nat) : Prop := rCx b g lo rd tp n T U σ at' ∧ U.2.2 pl = some (.inr (9, [.ref rd, .ref bo, .ref mp, .int (iI cs), .int (iI d)])) ∧ lo ≤ pl ∧ (σ.1 59 = iI cs ∧ cs ≤ 40) ∧ (σ.1 58 = iI k ∧ k ≤ 2 * cs) ∧ (σ.1 40 = iI np ∧ np ≤ 8) ∧ pOld lo U σ bo mp nD nG
def pWr (rd pl hi x : Nat) : Prop := x = rd ∨ x = pl ∨ hi ≤ x
/-- the step is counted and its first word left -/
theorem k_cnt {N b : Nat} {g : uEnv} {lo rd tp n pl bo mp nD nG np : Nat} {T : Nat → Nat} {U : UH} {σ : MS} {at' k cs d : Nat} (h : pP b g lo rd tp n T pl bo mp nD nG np U σ at' k cs d) (h6 : σ.1 6 = 2) (hc : cs < 40) (hN : 2000 ≤ N) : ∃ U2 U3 σ3 at3, uPut b U pl 9 3 (.int (iI ((cs + 1 : Nat) : Int))) = some U2 ∧ uGR U2 pl 9 0 = some (some rd) ∧ uIs U2 rd 4 = true ∧ f_X5_next N b g U2 rd = some U3 ∧ f_next N (mSet σ 59 (iI ((cs + 1 : Nat) : Int))) = some σ3 ∧ pP b g lo rd tp n T pl bo mp nD nG np U3 σ3 at3 k (cs + 1) d ∧ rKw lo (pWr rd pl U.1) U U3 ∧ at' ≤ at3 ∧ U3.1 ≤ U.1 + 4 * (at3 - at') ∧ U3.2.1 ≤ U.2.1 + 32 * (at3 - at') ∧ mSm pS pRw σ σ3 ∧ (∀ j, j ≠ 11 → σ3.2.1 j = σ.2.1 j) := by
  obtain ⟨hr, hpl, hlp, ⟨h59, h59'⟩, ⟨h58, h58'⟩, ⟨h40, h40'⟩, hO⟩ := h
  have ho : uOld U := hr.2.2.2.2.2.1
  have hlo : b ≤ lo := hr.2.2.2.2.2.2.1
  have hlU : lo ≤ U.1 := hr.2.2.2.2.2.2.2.2.1
  obtain ⟨kr, st, va, wv, sg, c1, -⟩ := k_kind hr
  have nrp : rd ≠ pl := u_nrr c1 hpl (by decide)
  obtain ⟨U2, e1, e2, e3, e4, e5, e6⟩ := w_put (b := b) (k := 3) (v := .int (iI ((cs + 1 : Nat) : Int))) hpl (by omega) (Nat.le_of_ble_eq_true rfl) ho
  have e2' : U2.2.2 pl = some (.inr (9, [.ref rd, .ref bo, .ref mp, .int (iI ((cs + 1 : Nat) : Int)), .int (iI d)])) := e2
  have kw2 : rKw lo (fun x => x = pl) U U2 := rKw.wr e3 rfl hlp hpl (Or.inl ⟨_, _, rfl, by decide⟩) e4 e5 e6
  have hr2 : rCx b g lo rd tp n T U2 (mSet σ 59 (iI ((cs + 1 : Nat) : Int))) at' := (hr.kw kw2 nrp).sg (fun k hk => upd_n (by omega)) rfl rfl
  obtain ⟨kr2, st2, va2, wv2, sg2, c2, -⟩ := k_kind hr2
  obtain ⟨U3, σ3, at3, v1, v2, v3⟩ := k_go (N := N) hr2 (by
    show (mSet σ 59 (iI ((cs + 1 : Nat) : Int))).1 6 ≠ 0 ∧ (mSet σ 59 (iI ((cs + 1 : Nat) : Int))).1 6 ≠ 1
    rw [show (mSet σ 59 (iI ((cs + 1 : Nat) : Int))).1 6 = 2 from h6]
    decide) hN
  obtain ⟨-, -, v3c, v3d, v3e, -⟩ := id v3
  have kw3 := v3.kw
  have fs : ∀ k, k ≠ 59 → ¬ (4 ≤ k ∧ k ≤ 10) ∧ k ≠ 13 → σ3.1 k = σ.1 k := fun k k1 k2 => (v3.f k2).trans (upd_n k1)
  have hpl3 : U3.2.2 pl = some (.inr (9, [.ref rd, .ref bo, .ref mp, .int (iI ((cs + 1 : Nat) : Int)), .int (iI d)])) := kw3.at e4 e2' (by decide) (Ne.symm nrp)
  have kk : rKw lo (pWr rd pl U.1) U U3 := (kw2.mono (fun x _ z => Or.inr (Or.inl z))).trans (kw3.mono (fun x _ z => Or.inl (Or.inl z)))
  refine ⟨U2, U3, σ3, at3, e1, v_gr e2' rfl, v_is c2, v1, v2, ⟨v3.1, hpl3, hlp, ⟨(v3.f (by decide)).trans rfl, by omega⟩, ⟨(fs 58 (by decide) (by decide)).trans h58, by omega⟩, ⟨(fs 40 (by decide) (by decide)).trans h40, h40'⟩, hO.keep kk.1 (fs 22 (by decide) (by decide)) (fs 37 (by decide) (by decide)) (v3.r (by decide)) (v3.r (by decide))⟩, kk, v3c, by omega, by omega, ?_, fun j hj => v3.r hj⟩
  exact (mSm.set (Or.inr (Or.inr rfl))).trans (v3.b.mono (fun k z => Or.inl z) (fun j z => Or.inl z))
theorem sOr {σ : MS} {r : Nat → Int32} {np k : Nat} (m2 : np = 8 → r = σ.2.1 56) (m4 : ∀ i, i < 512 * np + 4 * k ∨ 512 * np + 4 * k + 4 ≤ i → r i = σ.2.1 56 i) (hk : np ≤ 8 ∧ k < 128) : mSm pS pRw σ (mRow σ 56 r) := by
  refine ⟨fun _ _ => rfl, fun j hj => if_neg (fun q => hj (Or.inr (Or.inl q))), rfl, fun j _ i hi => ?_⟩
  show (if j = 56 then r else σ.2.1 j) i = σ.2.1 j i
  by_cases cj : j = 56
  · subst cj
    rw [if_pos rfl]
    by_cases c8 : np = 8
    · rw [m2 c8]
    · exact m4 i (by rw [show mLen 56 = 4096 from rfl] at hi; omega)
  · rw [if_neg cj]
/-- a fault while a plan is read -/
def rEp (lo np cc ss : Nat) (U : UH) (σ : MS) (x : Nat) (U' : UH) (σ' : MS) : Prop := rEx lo pS pRw cc ss U σ x U' σ' ∧ ∀ i, i < 512 * np → σ'.2.1 56 i = σ.2.1 56 i
theorem rEp.mo {lo np cc ss cc' ss' : Nat} {U U' : UH} {σ σ' : MS} {x : Nat} (h : rEp lo np cc ss U σ x U' σ') (h1 : cc ≤ cc') (h2 : ss ≤ ss') : rEp lo np cc' ss' U σ x U' σ' := ⟨h.1.mono (fun _ z => z) (fun _ z => z) h1 h2, h.2⟩
theorem rEr.r {lo rd n : Nat} {U U' : UH} {σ σ' : MS} {at' x : Nat} (h : rEr lo rd n U σ at' x U' σ') {j : Nat} (hj : j ≠ 11) : σ'.2.1 j = σ.2.1 j := by
  obtain ⟨k, p, -, -, -, -, e, -⟩ := h
  exact e.2.1 j hj
theorem rEr.ep {lo rd n np cc ss : Nat} {U U' : UH} {σ σ' : MS} {at' x : Nat} (h : rEr lo rd n U σ at' x U' σ') (h1 : 4 * (n - at') + 1 ≤ cc) (h2 : 32 * (n - at') + 8 ≤ ss) : rEp lo np cc ss U σ x U' σ' := ⟨h.x.mono (fun _ z => Or.inl z) (fun _ z => Or.inl z) h1 h2, fun i _ => by rw [h.r (by decide)]⟩
section K6s
variable {N b : Nat} {g : uEnv} {lo rd tp n pl bo mp nD nG np : Nat} {T : Nat → Nat} {rp rs ri : roT}
theorem k_stA {U : UH} {σ : MS} {at' k cs d y wr : Nat} (h : pP b g lo rd tp n T pl bo mp nD nG np U σ at' k cs d) (h6 : σ.1 6 = 2) (hy : y < 4) (hN : 2000 ≤ N) : (∃ (x : Nat) (U' : UH) (σ' : MS) (r : Int32), f_X11_step_53 N b g rp rs ri pl U (some wr) = some (.inl (x, U')) ∧ f_opens_30 N σ (iI d) (iI y) 0 = some (r, σ') ∧ rEp lo np (4 * (n - at') + 2) (32 * (n - at') + 10) U σ x U' σ') ∨ (∃ (U' : UH) (σ' : MS) (at2 ea t : Nat), f_X11_step_53 N b g rp rs ri pl U (some wr) = some (.inr (some ea, U')) ∧ f_opens_30 N σ (iI d) (iI y) 0 = some (0, σ') ∧ pP b g lo rd tp n T pl bo mp nD nG np U' σ' at2 (k + 1) (cs + 1) d ∧ U'.2.2 ea = some (.inr (10, [.ref wr, .int (iI t)])) ∧ (1 ≤ t ∧ t ≤ 9) ∧ U.1 ≤ ea ∧ rKw lo (pWr rd pl U.1) U U' ∧ at' ≤ at2 ∧ U'.1 ≤ U.1 + 4 * (at2 - at') + 1 ∧ U'.2.1 ≤ U.2.1 + 32 * (at2 - at') + 2 ∧ mSm pS pRw σ σ' ∧ (∀ j, j ≠ 11 → j ≠ 56 → σ'.2.1 j = σ.2.1 j) ∧ (np < 8 → σ'.2.1 56 (512 * np + 4 * k) = 0 ∧ σ'.2.1 56 (512 * np + (4 * k + 1)) = iI y ∧ σ'.2.1 56 (512 * np + (4 * k + 2)) = iI t) ∧ ∀ i, i < 512 * np + 4 * k ∨ 512 * np + 4 * k + 4 ≤ i → σ'.2.1 56 i = σ.2.1 56 i) := by
  have hh := h
  obtain ⟨hr, hpl, hlp, ⟨h59, h59'⟩, ⟨h58, h58'⟩, ⟨h40, h40'⟩, hO⟩ := hh
  have h13 : σ.1 13 = 0 := hr.2.2.2.2.2.2.2.2.2.1
  have hal := hr.le
  obtain ⟨kr, st, va, wv, sg, c1, -⟩ := k_kind hr
  have sS : ∀ k, tS k → pS k := fun k z => Or.inl z
  have sR : ∀ k, tR k → pRw k := fun k z => Or.inl z
  unfold f_X11_step_53 f_opens_30
  rw [v_gi hpl (k := 3) rfl, p_bs, p_let, h59]
  by_cases c40 : cs = 40
  · obtain ⟨U', f1, f2⟩ := c_fault (N := N) (k := 5) hr
    left
    refine ⟨U.1, U', mEr σ 5 (σ.1 4), 0, ?_, ?_, f2.ep (by omega) (by omega)⟩
    · unfold f_X11_step_70
      rw [show (40 : Int32) = iI 40 from rfl, p_eq (by omega) (by omega) (by omega) (by omega) (by omega), v_gr hpl (k := 0) rfl, p_bs, p_bs, if_pos (v_is c1), f1, q_uc, p_bs]
    · rw [show (40 : Int32) = iI 40 from rfl, p_eq (by omega) (by omega) (by omega) (by omega) (by omega), p_let, m_wrong h13, q_mc]
      rfl
  · obtain ⟨U2, U3, σ3, at3, e1, e2, e3, e4, e5, e6, e7, e8, e9, e10, e11, e12⟩ := k_cnt (N := N) h h6 (by omega) hN
    have ec : iI (cs : Int) + 1 = iI ((cs + 1 : Nat) : Int) := by
      rw [j1, i_add]
      rfl
    obtain ⟨hr3, hpl3, -, ⟨g59, g59'⟩, ⟨g58, g58'⟩, ⟨g40, g40'⟩, hO3⟩ := id e6
    have al3 := hr3.le
    have o3 : uOld U3 := hr3.2.2.2.2.2.1
    have hlU3 : lo ≤ U3.1 := hr3.2.2.2.2.2.2.2.2.1
    have s13 : σ3.1 13 = 0 := hr3.2.2.2.2.2.2.2.2.2.1
    obtain ⟨u4, d1, d2, d3, d4, d5, d6⟩ := w_new (u := U3) (n := 2) (e := .inr (10, uDefs tyX12 2)) o3
    rw [u_df12] at d2
    have kw4 : rKw lo (fun _ => False) U3 u4 := rKw.nw d3 hlU3 o3 d4 (by omega) (by omega)
    have hr4 : rCx b g lo rd tp n T u4 σ3 at3 := hr3.kw kw4 (fun z => z)
    have hpl4 := kw4.at o3 hpl3 (by decide) (fun z => z)
    obtain ⟨kr4, st4, va4, wv4, sg4, c4, -, -, -, k3, -, -, -⟩ := k_kind hr4
    have lU3 := e7.2.2.2.2.1
    have lZ3 := e7.2.2.2.2.2
    have k4 : rKw lo (pWr rd pl U.1) U u4 := e7.trans (kw4.mono (fun x _ z => z.elim))
    have lpl := o3 _ _ hpl3
    -- what comes in the end
    have fin : ∀ (U5 : UH) (σ5 : MS) (at5 t : Nat), 1 ≤ t → t ≤ 9 → rSt b g lo rd tp n T u4 σ3 at3 U5 σ5 at5 → ∃ (U' : UH) (σ' : MS), f_X12_init N b g U5 U3.1 (some wr) (iI t) = some U' ∧ f_opens_87 N σ5 (iI y) (iI t) = some (0, σ') ∧ pP b g lo rd tp n T pl bo mp nD nG np U' σ' at5 (k + 1) (cs + 1) d ∧ U'.2.2 U3.1 = some (.inr (10, [.ref wr, .int (iI t)])) ∧ rKw lo (pWr rd pl U.1) U U' ∧ at' ≤ at5 ∧ U'.1 ≤ U.1 + 4 * (at5 - at') + 1 ∧ U'.2.1 ≤ U.2.1 + 32 * (at5 - at') + 2 ∧ mSm pS pRw σ σ' ∧ (∀ j, j ≠ 11 → j ≠ 56 → σ'.2.1 j = σ.2.1 j) ∧ (np < 8 → σ'.2.1 56 (512 * np + 4 * k) = 0 ∧ σ'.2.1 56 (512 * np + (4 * k + 1)) = iI y ∧ σ'.2.1 56 (512 * np + (4 * k + 2)) = iI t) ∧ ∀ i, i < 512 * np + 4 * k ∨ 512 * np + 4 * k + 4 ≤ i → σ'.2.1 56 i = σ.2.1 56 i := fun U5 σ5 at5 t t1 t2 z => by
      have al5 := z.1.le
      obtain ⟨-, -, zc, zd, ze, -⟩ := id z
      have o5 : uOld U5 := z.1.2.2.2.2.2.1
      have nrd : U3.1 ≠ rd := by
        obtain ⟨kq, sq, vq, wq, gq, cq, -⟩ := k_kind hr3
        have := o3 _ _ cq
        omega
      have ce : U5.2.2 U3.1 = some (.inr (10, [.null, .int 0])) := z.kw.at d4 d2 (by decide) nrd
      have cp : U5.2.2 pl = some (.inr (9, [.ref rd, .ref bo, .ref mp, .int (iI ((cs + 1 : Nat) : Int)), .int (iI d)])) := z.kw.at d4 hpl4 (by decide) (u_nrr hpl4 c4 (by decide))
      have hlo : b ≤ lo := hr.2.2.2.2.2.2.1
      obtain ⟨p1, a1, a2, a3, a4, a5, a6⟩ := w_put (b := b) (k := 0) (v := va_rf (some wr)) ce (by omega) (Nat.le_of_ble_eq_true rfl) o5
      obtain ⟨p2, b1, b2, b3, b4, b5, b6⟩ := w_put (b := b) (k := 1) (v := .int (iI t)) a2 (by omega) (Nat.le_of_ble_eq_true rfl) a4
      have b2 : p2.2.2 U3.1 = some (.inr (10, [.ref wr, .int (iI t)])) := b2
      have kwP : rKw lo (fun x => x = U3.1) U5 p2 := rKw.wr (fun x hx => (b3 x hx).trans (a3 x hx)) rfl hlU3 ce (Or.inl ⟨_, _, rfl, by decide⟩) b4 (by omega) (by omega)
      have f5 : ∀ k, ¬ (4 ≤ k ∧ k ≤ 10) ∧ k ≠ 13 → σ5.1 k = σ3.1 k := fun k hk => z.f hk
      obtain ⟨r, m1, m2, m3, m4⟩ := m_order (N := N) (σ := σ5) (np := np) (k := k) ((f5 40 (by decide)).trans g40) ((f5 58 (by decide)).trans g58) g40' (by omega) 0 (iI y) (iI t) 0
      have kT : rKw lo (pWr rd pl U.1) U p2 := (k4.trans (z.kw.mono (fun x _ q => Or.inl (Or.inl q)))).trans (kwP.mono (fun x _ q => Or.inr (by omega)))
      refine ⟨p2, mSet (mRow σ5 56 r) 58 (iI ((k + 1 : Nat) : Int)), ?_, ?_, ⟨(z.1.kw kwP (Ne.symm nrd)).sg (fun k hk => upd_n (by omega)) rfl rfl, ?_, hlp, ⟨(f5 59 (by decide)).trans g59, g59'⟩, ⟨rfl, by omega⟩, ⟨(f5 40 (by decide)).trans g40, g40'⟩, hO3.keep (fun q hq => ?_) (f5 22 (by decide)) (f5 37 (by decide)) (z.r (by decide)) (z.r (by decide))⟩, b2, kT, by omega, by omega, by omega, ?_, fun j j1 j2 => ?_, fun q => ?_, fun i hi => ?_⟩
      · unfold f_X12_init f_J17_init
        rw [p_bs, a1, p_bs, b1, p_bs]
      · unfold f_opens_87
        rw [m1, q_mc]
      · rw [b3 _ (by omega), a3 _ (by omega)]
        exact cp
      · rw [kwP.1 q hq, z.kw.1 q hq, kw4.1 q hq]
      · have q0 : mSm pS pRw σ5 (mRow σ5 56 r) := sOr m2 m4 (by omega)
        exact (e11.trans (z.b.mono sS sR)).trans (q0.trans (mSm.set (Or.inr (Or.inl rfl))))
      · show (if j = 56 then r else σ5.2.1 j) = _
        rw [if_neg j2, z.r j1, e12 j j1]
      · obtain ⟨q0, q1, q2, -⟩ := m3 q
        exact ⟨q0, q1, q2⟩
      · show r i = _
        rw [m4 i hi, z.r (by decide), e12 56 (by decide)]
    rw [show (40 : Int32) = iI 40 from rfl, n_eq (by omega) (by omega) (by omega) (by omega) (by omega), n_eq (by omega) (by omega) (by omega) (by omega) (by omega), p_bs, ec, e1, p_bs, e2, p_bs, p_bs, if_pos e3, e4, p_bs, p_let, ec, p_let, e5, q_mv, if_pos rfl, p_let]
    unfold f_X11_step_88 f_X11_step_95 f_X11_step_120 f_X11_step_124
    rw [q_cs, p_let, p_let, d1, v_gr hpl4 (k := 0) rfl, p_bs, p_bs, v_gr c4 (k := 5) rfl, p_bs, p_let]
    by_cases h3 : σ3.1 6 = 3
    · rw [if_pos (k3.mp h3), if_pos h3, p_bs, p_bs, if_pos (v_is c4)]
      rcases k_number (N := N) (a := 1) (c := 9) hr4 (by omega) (by omega) hN with ⟨q, U5, σ5, at5, x0, x0', x1, x2, x3⟩ | ⟨x, U5, σ5, x1, x2, x3⟩
      · have x1 : f_X5_whole N b g u4 rd 1 9 = some (.inr (iI q, U5)) := x1
        have x2 : f_number N σ3 1 9 = some (iI q, σ5) := x2
        obtain ⟨t, rfl⟩ : ∃ t : Nat, q = (t : Int) := ⟨q.toNat, by omega⟩
        obtain ⟨U', σ', w1, w2, w3, w4, w5, w6, w7, w8, w9, w10⟩ := fin U5 σ5 at5 t (by omega) (by omega) x3
        right
        refine ⟨U', σ', at5, U3.1, t, ?_, ?_, w3, w4, ⟨by omega, by omega⟩, lU3, w5, w6, w7, w8, w9, w10⟩
        · rw [x1, q_ux2, p_bs, w1, p_bs]
        · rw [x2, q_mc]
          exact w2
      · have x1 : f_X5_whole N b g u4 rd 1 9 = some (.inl (x, U5)) := x1
        have x2 : f_number N σ3 1 9 = some (1, σ5) := x2
        have f5 := x3.f.2
        obtain ⟨r, m1, m2, m3, m4⟩ := m_order (N := N) (σ := σ5) (np := np) (k := k) ((f5 40 (by decide) (by decide)).trans g40) ((f5 58 (by decide) (by decide)).trans g58) g40' (by omega) 0 (iI y) 1 0
        have q0 : mSm pS pRw σ5 (mRow σ5 56 r) := sOr m2 m4 (by omega)
        left
        refine ⟨x, U5, mSet (mRow σ5 56 r) 58 (iI ((k + 1 : Nat) : Int)), 0, ?_, ?_, ((x3.x.mono sS sR (Nat.le_refl _) (Nat.le_refl _)).aft (cc := 4 * (n - at') + 2) (ss := 32 * (n - at') + 10) e11 k4.1 k4.2.2.2.2.1 (by omega) k4.2.2.2.2.2 (by omega)).er rfl rfl rfl (q0.trans (mSm.set (Or.inr (Or.inl rfl)))), fun i hi => ?_⟩
        · rw [x1, q_ux1]
        · rw [x2, q_mc]
          unfold f_opens_87
          rw [m1, q_mc]
        · show r i = _
          rw [m4 i (by omega), x3.r (by decide), e12 56 (by decide)]
    · obtain ⟨U', σ', w1, w2, w3, w4, w5, w6, w7, w8, w9, w10⟩ := fin u4 σ3 at3 1 (by omega) (by omega) (rSt.refl hr4)
      have w1 : f_X12_init N b g u4 U3.1 (some wr) 1 = some U' := w1
      have w2 : f_opens_87 N σ3 (iI y) 1 = some (0, σ') := w2
      right
      refine ⟨U', σ', at3, U3.1, 1, ?_, ?_, w3, w4, ⟨by omega, by omega⟩, lU3, w5, w6, w7, w8, w9, w10⟩
      · rw [if_neg (fun q => h3 (k3.mpr q)), p_bs, w1, p_bs]
      · rw [if_neg h3]
        exact w2
end K6s
