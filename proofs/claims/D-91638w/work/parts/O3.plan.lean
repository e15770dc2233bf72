/-! PLAIN: a plan is read, whole -/
section L2s
variable {N b : Nat} {g : uEnv} {lo rd tp n pl bo mp nD nG np : Nat} {T : Nat → Nat} {rp rs ri rp' rs' ri' : roT} {d : Nat}
theorem k_stp (hri : ∀ U a, ri U a = fo_X11_inner N b g rp' rs' ri' U a) (hP : d < 6 → plOk N b g lo rd tp n T pl bo mp nD nG np rp' (d + 1)) (hd : d ≤ 6) (hN : 2000 ≤ N) : stOk N b g lo rd tp n T pl bo mp nD nG np (fo_X11_step N b g rp rs ri) d := by
  intro U σ at' k cs m h hm
  have hh := h
  obtain ⟨hr, hpl, hlp, ⟨h59, h59'⟩, ⟨h58, h58'⟩, ⟨h40, h40'⟩, hO⟩ := hh
  have h13 : σ.1 13 = 0 := hr.2.2.2.2.2.2.2.2.2.1
  have hal := hr.le
  have eR : f_reads_4 N (m + 1) σ (iI d) 1 = g_rd N m (iI d) (f_opens N σ (iI d)) := by
    rw [f_reads_4, if_neg n10]
    rfl
  obtain ⟨U1, hr1, kp, u1, u2, hw⟩ := k_wyW (N := N) (rp := rp) (rs := rs) (ri := ri) hr hpl hN
  have p1 := h.kp hr1 kp
  have t1 : pTo lo rd pl np k d 0 0 U σ at' U1 σ at' := ⟨(kp.w (W := fun x => x = rd) rfl).mono (fun x _ z => Or.inl z), Nat.le_refl _, by omega, by omega, mSm.refl, fun _ _ => rfl, fun _ _ => ⟨rfl, rfl, rfl⟩⟩
  obtain ⟨kw1, kw2⟩ := k_word (N := N) (tx := pTx 35) hr1 (by decide +kernel) (by omega)
  have e27 : pTx 35 = pTx 27 := by decide +kernel
  obtain ⟨kr, st, va, wv, sg, c1, -⟩ := k_kind hr1
  rw [eR]
  unfold f_opens
  rcases hw with ⟨y, wr, y4, yw, w1, w2, w3, w4⟩ | ⟨w1, w2⟩
  · have eO : (mcall (f_wayWord N σ) fun r4 σ2 => mcall (f_word N (pTx 35) σ2) fun r8 σ6 => if 0 ≤ r4 then f_opens_30 N σ6 (iI d) r4 r8 else if r8 = 0 then mlet (σ6.1 4) fun y11 => mcall (f_wrong N σ6 1 y11) fun r15 σ13 => if mBit r15 = true then some (r15, σ13) else none else f_opens_30 N σ6 (iI d) r4 r8) = f_opens_30 N σ (iI d) (iI y) 0 := by
      rw [w2, q_mc, kw2 w4, q_mc, if_pos (show 0 ≤ iI (y : Int) by
        rw [j0, j_le (by omega) (by omega) (by omega) (by omega)]
        omega)]
    rw [eO, w1]
    unfold f_X11_step_27
    rw [q_cs]
    rcases k_stA (N := N) (rp := rp) (rs := rs) (ri := ri) (wr := wr) p1 w3 y4 hN with ⟨x, U', σ', r, e1, e2, e3⟩ | ⟨U', σ', at2, ea, t, e1, e2, e3, e4, e5, e6, e7, e8, e9, e10, e11, e12, e13, e14⟩
    · left
      refine ⟨x, U', σ', e1, ?_, t1.ex e3 hal (by omega) (by omega)⟩
      rw [e2]
      exact g_rdE e3.1.e13
    · have s13 : σ'.1 13 = 0 := e3.1.2.2.2.2.2.2.2.2.2.1
      right
      refine ⟨ea, U', σ', at2, k + 1, cs + 1, m, N, 10, _, e1, ?_, e3, ⟨by omega, by omega, by omega, by omega, by omega⟩, by omega, ⟨e4, Or.inl rfl⟩, ?_, fun hp => ?_⟩
      · unfold g_rd
        rw [e2, q_mc, p_let, if_pos s13, if_pos rfl]
      · have t2 : pTo lo rd pl np k d 1 2 U1 σ at' U' σ' at2 := ⟨e7, e8, e9, e10, e11, fun i hi => e14 i (Or.inl hi), fun i _ => ⟨by rw [e12 60 (by decide) (by decide)], by rw [e12 61 (by decide) (by decide)], by rw [e12 62 (by decide) (by decide)]⟩⟩
        exact (t1.trans t2 (Nat.le_refl _) (Nat.le_refl _)).mono (Nat.le_refl _) (Nat.le_refl _) (by omega) (by omega)
      · obtain ⟨q0, q1, q2⟩ := e13 hp
        exact Or.inl ⟨wr, y, t, e4, t_wy hr1.2.2.2.2.1 y4 yw, y4, e5.1, e5.2, q0, q1, q2, rfl⟩
  · obtain ⟨i1, i2⟩ := c_is (N := N) (j := 27) hr1 (by decide) (by omega)
    rw [w1]
    unfold f_X11_step_27
    rw [q_cn, v_gr p1.2.1 (k := 0) rfl, p_bs, p_bs, if_pos (v_is c1)]
    by_cases cI : isW σ (pTx 27)
    · have eO : (mcall (f_wayWord N σ) fun r4 σ2 => mcall (f_word N (pTx 35) σ2) fun r8 σ6 => if 0 ≤ r4 then f_opens_30 N σ6 (iI d) r4 r8 else if r8 = 0 then mlet (σ6.1 4) fun y11 => mcall (f_wrong N σ6 1 y11) fun r15 σ13 => if mBit r15 = true then some (r15, σ13) else none else f_opens_30 N σ6 (iI d) r4 r8) = f_opens_30 N σ (iI d) (-1) 1 := by
        rw [w2, q_mc, kw1 (by rw [e27]; exact cI), q_mc, if_neg (by decide), if_neg n10]
      rw [eO, i1 cI, q_uc, if_neg n10]
      rcases k_stI (N := N) (rp := rp) (rs := rs) (ri := ri) (y := -1) p1 cI.1 hN with ⟨x, U', σ', r, e1, e2, e3⟩ | ⟨U2, σ2, at2, dq, gr, e1, e2, e3, e4, e5, e6⟩
      · left
        refine ⟨x, U', σ', e1, ?_, t1.ex e3 hal (by omega) (by omega)⟩
        rw [e2]
        exact g_rdE e3.1.e13
      · rw [e1, e2]
        have t2 : pTo lo rd pl np k d 0 0 U σ at' U2 σ2 at2 := t1.trans e6 (Nat.le_refl _) (Nat.le_refl _)
        have al2 := e3.1.le
        have cs40 : cs + 1 ≤ 40 := e3.2.2.2.1.2
        have l02 : U.1 ≤ U2.1 := t2.1.2.2.2.2.1
        rcases k_ifT (N := N) (rp := rp) (rs := rs) (ri := ri) (m := m) hri hP e3 hd (by omega) (by omega) e4 e5 hN with ⟨x, U', σ', f1, f2, f3⟩ | ⟨ea, U', σ', at3, k', cs', m', n', th, ot, f1, f2, f3, ⟨a1, a2, a3, a4, a5⟩, f5, f6, f7, f8⟩
        · left
          exact ⟨x, U', σ', f1, f2, t2.ex f3 al2 (by omega) (by omega)⟩
        · right
          refine ⟨ea, U', σ', at3, k', cs', m', n', 11, _, f1, f2, f3, ⟨by omega, by omega, by omega, by omega, by omega⟩, by omega, ⟨f6, Or.inr rfl⟩, (t2.trans f7 (Nat.le_refl _) (Nat.le_refl _)).mono (Nat.le_refl _) (Nat.le_refl _) (by omega) (by omega), fun hp => ?_⟩
          have lea : ea < U'.1 := f3.1.2.2.2.2.2.1 _ _ f6
          exact (f8 hp).p2 (F' := pF U U') ⟨f5, lea⟩ ⟨fun _ _ _ _ z _ => z, fun _ _ _ _ z => z⟩ (fun x q => ⟨by have := q.1; omega, q.2⟩)
    · obtain ⟨U', f1, f2⟩ := c_fault (N := N) (k := 1) hr1
      left
      refine ⟨U1.1, U', mEr σ 1 (σ.1 4), ?_, ?_, t1.ex f2.pp hal (by omega) (by omega)⟩
      · unfold f_X11_step_52
        rw [i2 cI, q_uc, if_pos rfl, v_gr p1.2.1 (k := 0) rfl, p_bs, p_bs, if_pos (v_is c1), f1, q_uc, p_bs]
      · have eO : (mcall (f_wayWord N σ) fun r4 σ2 => mcall (f_word N (pTx 35) σ2) fun r8 σ6 => if 0 ≤ r4 then f_opens_30 N σ6 (iI d) r4 r8 else if r8 = 0 then mlet (σ6.1 4) fun y11 => mcall (f_wrong N σ6 1 y11) fun r15 σ13 => if mBit r15 = true then some (r15, σ13) else none else f_opens_30 N σ6 (iI d) r4 r8) = some (0, mEr σ 1 (σ.1 4)) := by
          rw [w2, q_mc, kw2 (by rw [e27]; exact cI), q_mc, if_neg (by decide), if_pos rfl, p_let, m_wrong h13, q_mc]
          rfl
        rw [eO]
        exact g_rdE rfl
theorem lGr_le {m : Nat} (h : m < 40) : lGr m ≤ 60 := by
  unfold lGr
  split <;> try omega
  split <;> omega
theorem u_ob {U : UH} {x : Nat} {e : Nat × List Value} (h : U.2.2 x = some (.inr e)) : uObj U x = true := by
  unfold uObj
  rw [h]
/-- one more step in the list -/
theorem pLi.add {U0 U1 : UH} {od : Nat → Int32} {np' q a k0 k1 k2 cnt ea c mi : Nat} {fs : List Value} (h : pLi b g U0 U1 od nD nG np' q a k0 k1 cnt) (ho : uOld U1) (hb : b ≤ U0.1) (hlo : lo ≤ U0.1) (h20 : g.1 20 = some mi) (hc : cnt < 40) (ha : a < U1.1) (he : U1.2.2 ea = some (.inr (c, fs)) ∧ (c = 10 ∨ c = 11)) (hF : ∀ arr m mc xs, bLf b (pF U0 U1) g U1 a arr cnt m mc xs → pE U0 U1 a arr ea ∧ (np' < 8 → vEl b (pE U0 U1 a arr) g U1 od nD nG q ea k1 k2)) (hk : k0 ≤ k1 ∧ k1 < k2) : ∃ (U2 : UH) (dc ds : Nat), f_J2_add N b g U1 a (some ea) = some (1, U2) ∧ pLi b g U0 U2 od nD nG np' q a k0 k2 (cnt + 1) ∧ rKw lo (fun x => x = a ∨ (U0.1 ≤ x ∧ ∃ k z, U1.2.2 x = some (.inl (4, k, z)))) U1 U2 ∧ U2.1 = U1.1 + dc ∧ U2.2.1 = U1.2.1 + ds ∧ dc ≤ 1 ∧ ds ≤ 60 := by
  obtain ⟨arr, m, mc, xs, h1, h1', h2⟩ := h
  obtain ⟨F1, F2⟩ := hF arr m mc xs h1
  obtain ⟨v1, v2, v3, v4⟩ := h1
  have lm : cnt ≤ m := v1.2.2.1
  obtain ⟨U2, arr', m', xs', e1, e2, e3, e4, e5, e6, e7, e8⟩ := l_add (N := N) (b := b) (g := g) (v := ea) v1 ho (by have := v2.1; omega) (by have := v2.1; omega) (fun q => by have := (v4 (by omega)).1; omega) (fun q => (v3 q).1) h20 (fun i hi => by
    obtain ⟨e, c, fs, q1, q2, q3, q4⟩ := h1' i hi
    rw [q1]
    exact u_ob q3) (by omega) (u_ob he.1)
  have lU : U1.1 ≤ U2.1 := by
    rcases e8 with ⟨-, -, -, q, -⟩ | ⟨-, -, -, q, -⟩ <;> omega
  have la : arr < U1.1 := ho _ _ v1.2.1
  have kp : ∀ x, x ≠ a → x ≠ arr → x < U1.1 → U2.2.2 x = U1.2.2 x := fun x x1 x2 x3 => e5 x x1 (fun _ => x2) x3
  have nF : ∀ x, pE U0 U1 a arr x → pE U0 U2 a arr' x := fun x q => by
    refine ⟨q.1, by have := q.2.1; omega, q.2.2.1, ?_⟩
    rcases e8 with ⟨-, z, -⟩ | ⟨-, z, -⟩
    · rw [z]
      exact q.2.2.2
    · have := q.2.1
      omega
  have kE : kF b (pE U0 U1 a arr) U1 U2 := by
    refine ⟨fun x c fs hF hx hc => (kp x hF.2.2.1 hF.2.2.2 hF.2.1).trans hx, fun x k z hF hx => ?_⟩
    rcases hF with hF | hF
    · exact (kp x hF.2.2.1 hF.2.2.2 hF.2.1).trans hx
    · refine (e5 x (by have := v2.1; omega) (fun q => ?_) (ho _ _ hx)).trans hx
      have := (v4 (by omega)).1
      omega
  have r1 : ∃ dc ds, U2.1 = U1.1 + dc ∧ U2.2.1 = U1.2.1 + ds ∧ dc ≤ 1 ∧ ds ≤ 60 := by
    rcases e8 with ⟨-, -, -, q, q'⟩ | ⟨z, -, -, q, q'⟩
    · exact ⟨0, 0, q, q', by omega, by omega⟩
    · exact ⟨1, lGr m, q, q', by omega, lGr_le (by omega)⟩
  obtain ⟨dc, ds, d1, d2, d3, d4⟩ := r1
  refine ⟨U2, dc, ds, e1, ⟨arr', m', mc + 1, xs', ⟨e2, ⟨v2.1, by omega⟩, fun q => ?_, fun q => ?_⟩, fun i hi => ?_, fun hp => ?_⟩, ?_, d1, d2, d3, d4⟩
  · exfalso
    have := e2.2.2.1
    omega
  · rcases e8 with ⟨z, z', -, -⟩ | ⟨-, z', -, q2, -⟩
    · have := v4 (by omega)
      rw [z']
      exact ⟨this.1, by have := this.2; omega⟩
    · exact ⟨by rw [z']; have := v2.1; omega, by omega⟩
  · by_cases ci : i < cnt
    · obtain ⟨e, c', fs', q1, q2, q3, q4⟩ := h1' i ci
      exact ⟨e, c', fs', (e3 i ci).trans q1, nF _ q2, (kp e q2.2.2.1 q2.2.2.2 q2.2.1).trans q3, q4⟩
    · have : i = cnt := by omega
      subst this
      exact ⟨ea, c, fs, e4, nF _ F1, (kp ea F1.2.2.1 F1.2.2.2 F1.2.1).trans he.1, he.2⟩
  · obtain ⟨ks, ea', h3, h4, h5⟩ := h2 hp
    refine ⟨fun i => if i ≤ cnt then ks i else k2, fun i => if i < cnt then ea' i else ea, ?_, ?_, fun i hi => ?_⟩
    · show (if 0 ≤ cnt then ks 0 else k2) = k0
      rw [if_pos (Nat.zero_le _)]
      exact h3
    · show (if cnt + 1 ≤ cnt then ks (cnt + 1) else k2) = k2
      rw [if_neg (by omega)]
    · show ((xs' i = some (if i < cnt then ea' i else ea) ∧ pE U0 U2 a arr' (if i < cnt then ea' i else ea) ∧ k0 ≤ (if i ≤ cnt then ks i else k2) ∧ (if i ≤ cnt then ks i else k2) < (if i + 1 ≤ cnt then ks (i + 1) else k2) ∧ (if i + 1 ≤ cnt then ks (i + 1) else k2) ≤ k2) ∧ vEl b (pE U0 U2 a arr') g U2 od nD nG q (if i < cnt then ea' i else ea) (if i ≤ cnt then ks i else k2) (if i + 1 ≤ cnt then ks (i + 1) else k2))
      by_cases ci : i < cnt
      · obtain ⟨⟨q1, q2, q3, q4, q5⟩, q6⟩ := h5 i ci
        rw [if_pos ci, if_pos (show i ≤ cnt by omega), if_pos (show i + 1 ≤ cnt by omega)]
        exact ⟨⟨(e3 i ci).trans q1, nF _ q2, q3, q4, by omega⟩, q6.p2 q2 kE nF⟩
      · have : i = cnt := by omega
        subst this
        rw [if_neg ci, if_pos (Nat.le_refl _), if_neg (by omega), h4]
        exact ⟨⟨e4, nF _ F1, hk.1, hk.2, Nat.le_refl _⟩, (F2 hp).p2 F1 kE nF⟩
  · by_cases cm : m = 0
    · exact rKw.wn (fun x x1 x2 => e5 x x2 (fun q => by omega) x1) (Or.inl rfl) (by have := v2.1; omega) v1.1 (by decide) ho e6 (by have := v2.1; omega) lU (by omega)
    · exact rKw.ad (P := cnt < m) (arr := arr) e5 ⟨Or.inl rfl, Or.inr ⟨(v4 cm).1, _, _, v1.2.1⟩⟩ (by have := v2.1; omega) (fun q => by have := (v4 (by omega)).1; omega) v1.1 v1.2.1 (by decide) ho e6 (by have := v2.1; omega) lU (by omega)
end L2s
