/-! PLAIN: the calls make, led -/
def mRow (σ : MS) (j : Nat) (r : Nat → Int32) : MS := (σ.1, fun k => if k = j then r else σ.2.1 k, σ.2.2)
theorem mRow_id {σ : MS} {j : Nat} : mRow σ j (σ.2.1 j) = σ := by
  refine Prod.ext rfl (Prod.ext ?_ rfl)
  funext k
  show (if k = j then σ.2.1 j else σ.2.1 k) = _
  by_cases h : k = j
  · rw [if_pos h, h]
  · rw [if_neg h]
theorem mRow_a {σ : MS} {j i : Nat} {r : Nat → Int32} {x : Int32} : mArr (mRow σ j r) j i x = mRow σ j (upd r i x) := by
  refine Prod.ext rfl (Prod.ext ?_ rfl)
  funext k
  show (if k = j then upd (if j = j then r else σ.2.1 j) i x else if k = j then r else σ.2.1 k) = if k = j then upd r i x else σ.2.1 k
  rw [if_pos (show j = j from rfl)]
  by_cases h : k = j
  · rw [if_pos h, if_pos h]
  · rw [if_neg h, if_neg h, if_neg h]
theorem qBk.at {g : uEnv} {U : UH} {lab : Nat → Nat} {σ : MS} {a gl al : Nat} {fs : List Value} (h : qBk g U lab σ (.ref a)) (hv : U.2.2 a = some (.inr (3, .ref gl :: .ref al :: fs))) : lab a = 7 ∧ (∃ (arr nG m : Nat) (mc : Int32) (ga : Nat → Nat) (xs : Nat → Option Nat), qLs g U lab 7 gl arr nG m mc xs ∧ σ.1 22 = iI nG ∧ nG ≤ 8 ∧ ∀ d, d < nG → xs d = some (ga d) ∧ qGn U lab (σ.2.1 14) (σ.2.1 15) d (ga d)) ∧ ∃ (arr nT m : Nat) (mc : Int32) (ta : Nat → Nat) (xs : Nat → Option Nat), qLs g U lab 7 al arr nT m mc xs ∧ σ.1 23 = iI nT ∧ nT ≤ 6 ∧ ∀ t, t < nT → xs t = some (ta t) ∧ qTr U lab (σ.2.1 30) (σ.2.1 31) (σ.2.1 32) t (ta t) := by
  rcases h with h | ⟨a', gl', al', arr, arr2, nG, nT, m, m2, mc, mc2, ga, ta, xs, xs2, fs', h1, h2, h3, ⟨h4, h5, h6, h7⟩, h8, h9, h10, h11⟩
  · cases h
  · injection h1 with h1
    subst h1
    rw [hv] at h3
    injection h3 with h3
    injection h3 with h3
    injection h3 with _ h3
    injection h3 with h3 h3'
    injection h3 with h3
    injection h3' with h3' _
    injection h3' with h3'
    subst h3
    subst h3'
    exact ⟨h2, ⟨arr, nG, m, mc, ga, xs, h4, h5, h6, h7⟩, arr2, nT, m2, mc2, ta, xs2, h8, h9, h10, h11⟩
section G4s
variable {N b : Nat} {g : uEnv} {A : pA} {ad sa : Nat → Nat} {U : UH} {lab : Nat → Nat} {σ : MS} {ou : Nat} {u0 : UH}
theorem c_mk68 {mp pt : Value} {w wl bo ta : Nat} {v : Nat → Nat} {e o : Int} {f0 : Nat → Int32} {nv cv r0 r1 r2 : Value} {fs : List Value} (hx : U.2.2 (ad 0) = some (xO ad σ (.ref bo) mp pt)) (hb : U.2.2 bo = some (.inr (3, r0 :: r1 :: r2 :: .int (iI w) :: fs))) (ha : U.2.2 ta = some (.inr (8, [nv, .int (iI e), .int (iI o), cv]))) (h5 : U.2.2 (ad 5) = some (.inl (0, 6, .inl f0))) (ba0 : b ≤ ad 0) (ba5 : b ≤ ad 5) (hw : w ≤ 6) (hv : ∀ k, k < 6 → v k ≤ 4) (he : -4 ≤ e ∧ e ≤ 4) (ho : -4 ≤ o ∧ o ≤ 4) (hwl : wl < 6) (hN : 10 ≤ N) : ∀ (m k : Nat) (f : Nat → Int32), k ≤ w → w < k + m → (∀ j, j < 6 → f j = iI ((if j < k then pCl ((v j : Int) + (if j = wl then o else e)) else v j : Nat) : Int)) → ∃ f' : Nat → Int32, (∀ j, j < 6 → f' j = iI ((if j < w then pCl ((v j : Int) + (if j = wl then o else e)) else v j : Nat) : Int)) ∧ f_X1_make_68 N b g (ad 0) m (uSet U (ad 5) (.inl (0, 6, .inl f))) (iI wl) (some ta) (iI k) = some (iI ((dMx (fun j => if j < w then pCl ((v j : Int) + (if j = wl then o else e)) else v j) 6 : Nat) : Int), uSet (uSet U (ad 5) (.inl (0, 6, .inl f'))) (ad 0) (xO ad (mT σ 0) (.ref bo) mp pt)) := by
  have n0 : ad 0 ≠ ad 5 := Ne.symm (u_nlr h5 hx)
  intro m
  induction m with
  | zero => intro k f h1 h2; omega
  | succ m ih =>
    intro k f h1 h2 hf
    have hx' : (uSet U (ad 5) (.inl (0, 6, .inl f))).2.2 (ad 0) = some (xO ad σ (.ref bo) mp pt) := (u_sn n0).trans hx
    have hb' : (uSet U (ad 5) (.inl (0, 6, .inl f))).2.2 bo = some (.inr (3, r0 :: r1 :: r2 :: .int (iI w) :: fs)) := (u_sn (Ne.symm (u_nlr h5 hb))).trans hb
    have ha' : (uSet U (ad 5) (.inl (0, 6, .inl f))).2.2 ta = some (.inr (8, [nv, .int (iI e), .int (iI o), cv])) := (u_sn (Ne.symm (u_nlr h5 ha))).trans ha
    have h5' : (uSet U (ad 5) (.inl (0, 6, .inl f))).2.2 (ad 5) = some (.inl (0, 6, .inl f)) := u_ss
    rw [f_X1_make_68, x_bk hx', p_bs, p_bs, v_gi hb' (k := 3) rfl, p_bs]
    by_cases hk : k = w
    · subst hk
      refine ⟨f, hf, ?_⟩
      have dp := c_deep (N := N) (b := b) (g := g) (v := fun j => if j < k then pCl ((v j : Int) + (if j = wl then o else e)) else v j) hx' h5' (fun j hj => ⟨hf j hj, by
        show (if j < k then pCl ((v j : Int) + (if j = wl then o else e)) else v j) ≤ 4
        split
        · exact pCl_le
        · exact hv j hj⟩) hN
      rw [p_le (by omega) (by omega) (by omega) (by omega) (by omega), if_pos (x_is hx'), dp, q_uc, if_pos (x_is hx'), x_don hx' ba0, q_uc]
    · have ek : iI (k : Int) + 1 = iI ((k + 1 : Nat) : Int) := by
        rw [j1, i_add]
        rfl
      have vk := hv k (by omega)
      have fk : f k = iI (v k) := by
        rw [hf k (by omega), if_neg (by omega)]
      have Ld : uLdI (uSet U (ad 5) (.inl (0, 6, .inl f))) (ad 5) 0 (iI (k : Int)) = some (f k) := u_ldI h5' (by omega) (by omega) (by omega)
      have go : ∀ z : Int, z = (if k = wl then o else e) → ∃ f' : Nat → Int32, (∀ j, j < 6 → f' j = iI ((if j < w then pCl ((v j : Int) + (if j = wl then o else e)) else v j : Nat) : Int)) ∧ f_X1_make_112 N b g (ad 0) (f_X1_make_68 N b g (ad 0) m) (uSet U (ad 5) (.inl (0, 6, .inl f))) (iI wl) (some ta) (iI k) (iI z) (iI (v k)) 4 0 (iI k) (some (ad 5)) = some (iI ((dMx (fun j => if j < w then pCl ((v j : Int) + (if j = wl then o else e)) else v j) 6 : Nat) : Int), uSet (uSet U (ad 5) (.inl (0, 6, .inl f'))) (ad 0) (xO ad (mT σ 0) (.ref bo) mp pt)) := by
        intro z hz
        have zb : -4 ≤ z ∧ z ≤ 4 := by
          rw [hz]
          split <;> omega
        obtain ⟨y, y1, y2⟩ := p_clm (x := (v k : Int) + z) (by omega) (N := N) (b := b) (g := g) (u := uSet U (ad 5) (.inl (0, 6, .inl f)))
        have st : uStI b (uSet U (ad 5) (.inl (0, 6, .inl f))) (ad 5) 0 (iI (k : Int)) (iI ((pCl ((v k : Int) + z) : Nat) : Int)) = some (uSet (uSet U (ad 5) (.inl (0, 6, .inl f))) (ad 5) (.inl (0, 6, .inl (upd f k (iI ((pCl ((v k : Int) + z) : Nat) : Int)))))) := u_stI h5' ba5 (by omega) (by omega) (by omega)
        obtain ⟨f', w1, w2⟩ := ih (k + 1) (upd f k (iI ((pCl ((v k : Int) + z) : Nat) : Int))) (by omega) (by omega) (fun j hj => by
          by_cases c : j = k
          · subst c
            rw [upd_s, if_pos (by omega), hz]
          · rw [upd_n c, hf j hj]
            by_cases c2 : j < k
            · rw [if_pos c2, if_pos (show j < k + 1 by omega)]
            · rw [if_neg c2, if_neg (show ¬ j < k + 1 by omega)])
        refine ⟨f', w1, ?_⟩
        unfold f_X1_make_112
        rw [i_add, y1, q_uc, y2, q_uc, p_bs, st, p_bs, u_s2, ek, p_let]
        exact w2
      rw [n_le (by omega) (by omega) (by omega) (by omega) (by omega), v_gr hx' (k := 14) rfl, p_bs, p_bs, p_bs, Ld, p_bs, fk]
      by_cases hq : k = wl
      · rw [if_pos (show iI (k : Int) = iI (wl : Int) by rw [hq]), p_bs, if_pos (v_is ha')]
        unfold f_X10_one
        rw [v_gi ha' (k := 2) rfl, p_bs, q_uc]
        exact go o (if_pos hq).symm
      · rw [if_neg (show ¬ iI (k : Int) = iI (wl : Int) by rw [j_eq (by omega) (by omega) (by omega) (by omega)]; omega), p_bs, if_pos (v_is ha')]
        unfold f_X10_each
        rw [v_gi ha' (k := 1) rfl, p_bs, q_uc]
        exact go e (if_neg hq).symm
theorem m_mk59 {w s : Nat} {v d : Nat → Nat} (h12 : ¬ σ.1 12 = 0) (h24 : σ.1 24 = iI w) (hw : w ≤ 6) (hs : s < 5 ^ w) (hv : ∀ k, k < 6 → v k ≤ 4) (hd : ∀ k, k < w → s / 5 ^ k % 5 = d k) (hN : 10 ≤ N) : ∀ (m k : Nat) (r : Nat → Int32), k ≤ w → w < k + m → (∀ j, j < 6 → r j = iI ((if j < k then d j else v j : Nat) : Int)) → ∃ r' : Nat → Int32, (∀ j, j < 6 → r' j = iI ((if j < w then d j else v j : Nat) : Int)) ∧ f_make_59 N m (mRow σ 47 r) (iI ((s / 5 ^ k : Nat) : Int)) (iI k) = some (iI ((dMx (fun j => if j < w then d j else v j) w : Nat) : Int), mRow σ 47 r') := by
  have p6 := (p5_le hw).2
  intro m
  induction m with
  | zero => intro k r h1 h2; omega
  | succ m ih =>
    intro k r h1 h2 hr
    rw [f_make_59, show (mRow σ 47 r).1 24 = iI w from h24]
    by_cases hk : k = w
    · subst hk
      refine ⟨r, hr, ?_⟩
      have mm := m_most (N := N) (σ := mRow σ 47 r) (v := fun j => if j < k then d j else v j) h12 h24 hw (fun j hj => ⟨hr j hj, by
        show (if j < k then d j else v j) ≤ 4
        split
        · rename_i c
          rw [← hd j c]
          omega
        · exact hv j hj⟩) hN
      rw [p_le (by omega) (by omega) (by omega) (by omega) (by omega), mm, q_mc]
    · have ek : iI (k : Int) + 1 = iI ((k + 1 : Nat) : Int) := by
        rw [j1, i_add]
        rfl
      have sk : s / 5 ^ k ≤ s := Nat.div_le_self _ _
      obtain ⟨t1, t2⟩ := t_ix (a := (k : Int)) (n := mLen 47) (k := k) rfl (by rw [show mLen 47 = 6 from rfl]; omega) (by rw [show mLen 47 = 6 from rfl]; omega)
      obtain ⟨r', w1, w2⟩ := ih (k + 1) (upd r k (iI ((s / 5 ^ k % 5 : Nat) : Int))) (by omega) (by omega) (fun j hj => by
        by_cases c : j = k
        · subst c
          rw [upd_s, if_pos (by omega), hd j (by omega)]
        · rw [upd_n c, hr j hj]
          by_cases c2 : j < k
          · rw [if_pos c2, if_pos (show j < k + 1 by omega)]
          · rw [if_neg c2, if_neg (show ¬ j < k + 1 by omega)])
      refine ⟨r', w1, ?_⟩
      rw [n_le (by omega) (by omega) (by omega) (by omega) (by omega), if_pos t1, p_let, t2, i_md5 (by omega), mRow_a, i_dv5 (by omega), p_let, ek, p_let, p_dv]
      exact w2
theorem k_make (h : xSt b g A ad sa (qA g (ad 4) b u0 ou) U lab σ) (hN : 10 ≤ N) (x y : Int32) : ∃ r U' σ', f_X1_make N b g U (ad 0) x y = some (r, U') ∧ f_make N σ x y = some (r, σ') ∧ xStep b g A ad sa (qA g (ad 4) b u0 ou) U lab U' σ' 0 0 := by
  have hQ : qOk (qA g (ad 4) b u0 ou) := qA_ok
  obtain ⟨U1, n1, n2⟩ := k_ref (N := N) (t := 1) (by decide) hQ h
  unfold f_X1_make f_make f_X1_make_44 f_make_39
  rw [m_good, q_mv]
  have hi0 := k_is h
  obtain ⟨bkv, mpv, ptv, hx, hI⟩ := h
  have hI' := hI
  obtain ⟨oU, hb, ⟨hl, hfr⟩, hE, hA, ⟨l0, h1, hS3, h2, h3⟩, hbm, hq⟩ := hI'
  have ba0 : b ≤ ad 0 := lab_ge hl (by omega)
  have hbm' := hbm
  rcases hbm with ⟨e1, e2, e3, e4, e5⟩ | ⟨lo, hi, a, al, rv, nm, B, dead, q1, q2, q3, q4, q5, q6, q7, q8, q9, q10⟩
  · subst e1
    refine ⟨-1, U1, mT σ 1, ?_, ?_, n2⟩
    · rw [x_bkn hx, p_bs, q_cn, if_pos hi0, n1, q_uc]
    · rw [if_pos (show (mT σ 0).1 12 = 0 from e3), m_no, q_mc]
  · subst q1
    obtain ⟨gl, arr, mm, mc, ga, xs, a1, a2, a3, v1, v2, v3⟩ := q3
    obtain ⟨-, -, arr2, nT, m2, mc2, ta, xs2, y1, y2, y3, y4⟩ := hq.1.at v1
    have hw := q4.1
    obtain ⟨w, hww⟩ : ∃ w : Nat, B.1 0 = (w : Int) := ⟨(B.1 0).toNat, by omega⟩
    rw [hww] at v1 hw
    have ew : iI (w : Int) - 1 = iI ((w : Int) - 1) := by rw [j1, i_sub]
    have eT : iI (nT : Int) - 1 = iI ((nT : Int) - 1) := by rw [j1, i_sub]
    have k24 : (mT σ 0).1 24 = iI (w : Int) := by
      rw [← hww]
      exact q5.1.1
    have k12 : ¬ (mT σ 0).1 12 = 0 := by
      show ¬ σ.1 12 = 0
      rw [q2]
      decide
    have sz : f_J2_size N b g U al = some (iI nT, U) := l_size y1.1
    rw [x_bk hx, p_bs, q_cs, p_bs, p_bs, v_gr v1 (k := 1) rfl, p_bs, p_bs, if_pos (v_is y1.1.1), sz, q_uc, eT, if_neg k12, show (mT σ 0).1 23 = iI nT from y2, eT]
    rcases k_in (N := N) (b := b) (g := g) (lo := 0) (hi := (nT : Int) - 1) ⟨by decide, by decide⟩ ⟨by omega, by omega⟩ x U (mT σ 0) with ⟨f1, f2⟩ | ⟨f1, f2, i, f3, f4, f5⟩
    · have f1' : f_X1_in N b g U x 0 (iI ((nT : Int) - 1)) = some (0, U) := f1
      have f2' : f_within N (mT σ 0) x 0 (iI ((nT : Int) - 1)) = some (0, mT σ 0) := f2
      refine ⟨-1, U1, mT σ 1, ?_, ?_, n2⟩
      · rw [f1', q_uc, if_pos rfl, if_pos hi0, n1, q_uc]
      · rw [f2', q_mc, if_pos rfl, m_no, q_mc]
    · have f1' : f_X1_in N b g U x 0 (iI ((nT : Int) - 1)) = some (1, U) := f1
      have f2' : f_within N (mT σ 0) x 0 (iI ((nT : Int) - 1)) = some (1, mT σ 0) := f2
      rw [f1', f2', q_uc, q_mc, if_neg n10, if_neg n10, x_bk hx, p_bs, p_bs, v_gi v1 (k := 3) rfl, p_bs, ew, k24, ew]
      rcases k_in (N := N) (b := b) (g := g) (lo := 0) (hi := (w : Int) - 1) ⟨by decide, by decide⟩ ⟨by omega, by omega⟩ y U (mT σ 0) with ⟨d1, d2⟩ | ⟨d1, d2, j, d3, d4, d5⟩
      · have d1' : f_X1_in N b g U y 0 (iI ((w : Int) - 1)) = some (0, U) := d1
        have d2' : f_within N (mT σ 0) y 0 (iI ((w : Int) - 1)) = some (0, mT σ 0) := d2
        refine ⟨-1, U1, mT σ 1, ?_, ?_, n2⟩
        · rw [d1', q_uc, if_pos rfl, if_pos hi0, n1, q_uc]
        · rw [d2', q_mc, if_pos rfl, m_no, q_mc]
      · have d1' : f_X1_in N b g U y 0 (iI ((w : Int) - 1)) = some (1, U) := d1
        have d2' : f_within N (mT σ 0) y 0 (iI ((w : Int) - 1)) = some (1, mT σ 0) := d2
        obtain ⟨t, rfl⟩ : ∃ t : Nat, i = (t : Int) := ⟨i.toNat, by omega⟩
        obtain ⟨wl, rfl⟩ : ∃ wl : Nat, j = (wl : Int) := ⟨j.toNat, by omega⟩
        have ht : t < nT := by omega
        obtain ⟨z1, z2, nv, e, o, c, z3, z4, z5, z6, z7, z8, z9⟩ := y4 t ht
        obtain ⟨l6, f, vI, w1, w2⟩ := h3
        obtain ⟨v, hv⟩ : ∃ v : Nat → Nat, v = fun k => (vI k).toNat := ⟨_, rfl⟩
        have hvk : ∀ k, k < 6 → f k = iI (v k) ∧ σ.2.1 47 k = iI (v k) ∧ v k ≤ 4 := fun k hk => by
          obtain ⟨p1, p2, p3, p4⟩ := w2 k hk
          have ev : ((v k : Nat) : Int) = vI k := by
            rw [hv]
            show (((vI k).toNat : Nat) : Int) = _
            omega
          rw [ev]
          exact ⟨p1, p2, by omega⟩
        have gt : f_J2_get N b g U al (iI (t : Int)) = some (some (ta t), U) := by
          rw [l_get y1.1 (by omega) (by omega)]
          show some (xs2 t, U) = _
          rw [z1]
        have id5 : uSet U (ad 5) (.inl (0, 6, .inl f)) = U := u_se w1
        obtain ⟨f', x1, x2⟩ := c_mk68 (N := N) (b := b) (g := g) (w := w) (wl := wl) (v := v) (e := e) (o := o) hx v1 z3 w1 ba0 (lab_ge hl (by omega)) (by omega) (fun k hk => (hvk k hk).2.2) z7 z8 (by omega) hN N 0 f (by omega) (by omega) (fun j hj => by
          rw [if_neg (by omega)]
          exact (hvk j hj).1)
        have ms := m_state (N := N) (σ := mT σ 0) (w := w) (v := v) k24 (by omega) (fun k hk => (hvk k hk).2) hN
        have h4 : ∀ k, k < w → v k ≤ 4 := fun k hk => (hvk k (by omega)).2.2
        have mb := m_behind (N := N) (σ := mT σ 0) (w := w) (s := pSt v w) (t := t) (wl := wl) (e := e) (o := o) k24 (by omega) (by omega) (by omega) z4 z5 z7 z8 (pSt_lt w h4) hN
        obtain ⟨r', x3, x4⟩ := m_mk59 (N := N) (σ := mT σ 0) (w := w) (s := pNx e o wl (pSt v w) w) (v := v) (d := fun j => pCl ((v j : Int) + (if j = wl then o else e))) k12 k24 (by omega) pNx_lt (fun k hk => (hvk k hk).2.2) (fun k hk => by
          rw [pNx_st, pSt_dig w (fun _ _ => pCl_le) hk, pSt_dig w h4 hk]) hN N 0 (σ.2.1 47) (by omega) (by omega) (fun j hj => by
          rw [if_neg (by omega)]
          exact (hvk j hj).2.1)
        rw [show mRow (mT σ 0) 47 (σ.2.1 47) = mT σ 0 from mRow_id, Nat.pow_zero, Nat.div_one] at x4
        have dz : dMx (fun j => if j < w then pCl ((v j : Int) + (if j = wl then o else e)) else v j) 6 = dMx (fun j => if j < w then pCl ((v j : Int) + (if j = wl then o else e)) else v j) w := by
          have := dMx_z (v := fun j => if j < w then pCl ((v j : Int) + (if j = wl then o else e)) else v j) (w := w) (6 - w) (fun k q1 q2' => by
            show (if k < w then _ else v k) = 0
            rw [if_neg (by omega)]
            have zz := hq.2.1.2 w (by
              show σ.1 24 = iI w
              exact k24) (by omega) k (by omega) q1
            have zv := (hvk k (by omega)).2.2
            rw [(hvk k (by omega)).2.1] at zz
            rw [j0, j_eq (by omega) (by omega) (by omega) (by omega)] at zz
            omega)
          rw [show w + (6 - w) = 6 by omega] at this
          exact this
        have nx0 : ad 0 ≠ ad 5 := fun z => by rw [z] at l0; omega
        have hx1 : (uSet U (ad 5) (.inl (0, 6, .inl f'))).2.2 (ad 0) = some (xO ad σ (.ref a) mpv ptv) := (u_sn nx0).trans hx
        have ns : ∀ {p : Nat → Prop}, ¬ p 6 → uLb lab lab U (uSet U (ad 5) (.inl (0, 6, .inl f'))) p := fun hp => uLb.set (by rw [l6]; exact hp)
        have nd : xDg (uSet U (ad 5) (.inl (0, 6, .inl f'))) lab (mRow (mT σ 0) 47 r') (ad 5) := by
          refine ⟨l6, f', fun j => ((if j < w then pCl ((v j : Int) + (if j = wl then o else e)) else v j : Nat) : Int), u_ss, fun q hq => ⟨x1 q hq, x3 q hq, Int.natCast_nonneg _, ?_⟩⟩
          show ((if q < w then pCl ((v q : Int) + (if q = wl then o else e)) else v q : Nat) : Int) ≤ 4
          by_cases c : q < w
          · rw [if_pos c]
            have := pCl_le (x := (v q : Int) + (if q = wl then o else e))
            omega
          · rw [if_neg c]
            have := (hvk q hq).2.2
            omega
        have nq : qA g (ad 4) b u0 ou (uSet U (ad 5) (.inl (0, 6, .inl f'))) lab (mRow (mT σ 0) 47 r') (.ref a) ptv := by
          have hq2 : qA g (ad 4) b u0 ou (uSet U (ad 5) (.inl (0, 6, .inl f'))) lab (mT σ 0) (.ref a) ptv := hQ _ _ _ _ _ _ _ _ (ns (by unfold qLb; decide)) mQ_T hq
          obtain ⟨r1, r2, r3, r4, r5⟩ := hq2
          refine ⟨r1, ?_, r3, r4, r5⟩
          refine ⟨fun z => absurd z k12, fun w' z1 z2 q hq hwq => ?_⟩
          · show r' q = 0
            have z1' : (mT σ 0).1 24 = iI w' := z1
            have e24 : iI (w' : Int) = iI (w : Int) := z1'.symm.trans k24
            rw [j_eq (by omega) (by omega) (by omega) (by omega)] at e24
            rw [x3 q hq, if_neg (by omega), ← (hvk q hq).2.1]
            exact r2.2 w' z1' z2 q hq hwq
        have sg : xSi b g A ad sa (qA g (ad 4) b u0 ou) (uSet U (ad 5) (.inl (0, 6, .inl f'))) lab (mRow (mT σ 0) 47 r') (.ref a) mpv ptv := hI.gen (oU.set w1) (Nat.le_refl _) (fun _ _ => rfl) hfr (fun z hz => u_sn (fun e => by
          have := hl z hz
          rw [e, l6] at this
          omega)) (h1.hp (ns (by decide))) (hS3.hp (ns (by decide))) (h2.hp hl (ns (by decide))) nd (hbm'.hp hl (Nat.le_refl U.1) (ns (by decide))) nq
        refine ⟨iI ((dMx (fun j => if j < w then pCl ((v j : Int) + (if j = wl then o else e)) else v j) w : Nat) : Int), uSet (uSet U (ad 5) (.inl (0, 6, .inl f'))) (ad 0) (xO ad (mT σ 0) (.ref a) mpv ptv), mRow (mT σ 0) 47 r', ?_, ?_, k_fins hQ sg hx1 l0 (fun x q => u_sn (fun z => by rw [z, l6] at q; omega)) rfl rfl rfl ⟨rfl, rfl, rfl, rfl, rfl, rfl, rfl⟩⟩
        · rw [d1', q_uc, if_neg n10, x_bk hx, p_bs, p_bs, v_gr v1 (k := 1) rfl, p_bs, p_bs, if_pos (v_is y1.1.1), f3, d3, gt, q_uc, p_bs, if_pos (v_is z3), ← dz, ← x2, id5]
          rfl
        · rw [d2', q_mc, if_neg n10, ms, q_mc, f3, d3, mb, q_mc]
          exact x4
end G4s
