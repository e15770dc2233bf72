/-! PLAIN: the line that says the rover, of both -/
def kK (lo : Nat) (U U' : UH) : Prop := (∀ x c fs, U.2.2 x = some (.inr (c, fs)) → c = 5 ∨ c = 7 ∨ c = 8 ∨ c = 18 → U'.2.2 x = some (.inr (c, fs))) ∧ (∀ x t k z, U.2.2 x = some (.inl (t, k, z)) → U'.2.2 x = some (.inl (t, k, z))) ∧ (∀ a m f, vSt lo U a m f → vSt lo U' a m f) ∧ U.1 ≤ U'.1
theorem kK.wr {lo a c : Nat} {fs : List Value} {U U' : UH} (h : ∀ x, x ≠ a → U'.2.2 x = U.2.2 x) (he : U.2.2 a = some (.inr (c, fs))) (hc : c = 3 ∨ c = 4 ∨ c = 0) (h1 : U'.1 = U.1) : kK lo U U' := by
  refine ⟨fun x c' fs' hx hc' => (h x (u_nrr hx he (by omega))).trans hx, fun x t k z hx => (h x (u_nlr hx he)).trans hx, fun a' m f q => ?_, by omega⟩
  obtain ⟨v, hh, z, e1, e2, e3⟩ := q
  exact ⟨v, hh, z, (h a' (u_nrr e1 he (by omega))).trans e1, (h v (u_nlr e2 he)).trans e2, e3⟩
section J8s
variable {b lo rd : Nat} {g : uEnv} {U U' : UH} {σ σ' : MS}
theorem bNm.kk {r2 r1 : Nat → Int32} {d a : Nat} (h : bNm lo U r2 r1 d a) (hk : kK lo U U') : bNm lo U' r2 r1 d a := by
  obtain ⟨h1, m, f, h2, h3⟩ := h
  exact ⟨h1, m, f, hk.2.2.1 _ _ _ h2, h3⟩
theorem vLi.kk {a n : Nat} {at_ v : Nat → Int} (h : vLi U b lo U.1 a n at_ v) (hk : kK lo U U') : vLi U' b lo U'.1 a n at_ v := by
  obtain ⟨p1, p2, f1, f2, i0, i1, i2, h0, h1, h2, h3⟩ := h
  have up := hk.2.2.2
  exact ⟨p1, p2, f1, f2, i0.up up, i1.up up, i2.up up, hk.1 _ _ _ h0 (by decide), hk.2.1 _ _ _ _ h1, hk.2.1 _ _ _ _ h2, h3⟩
theorem bGd.kk {d ga nm : Nat} {s q : bLn} (h : bGd b lo U σ d ga nm s q) (hk : kK lo U U') : bGd b lo U' σ d ga nm s q := by
  obtain ⟨⟨p, q', i0, h0, h1, h2⟩, h3, h4, h5⟩ := h
  exact ⟨⟨p, q', i0.up hk.2.2.2, hk.1 _ _ _ h0 (by decide), h1.kk hk, h2.kk hk⟩, h3, h4.kk hk, h5⟩
theorem bTr.kk {t ta nm : Nat} (h : bTr lo U σ t ta nm) (hk : kK lo U U') : bTr lo U' σ t ta nm := by
  obtain ⟨h1, h2, e, o, c, h3, h4⟩ := h
  exact ⟨h1, h2.kk hk, e, o, c, hk.1 _ _ _ h3 (by decide), h4⟩
theorem bLs.kk {gl arr n m : Nat} {mc : Int32} {xs : Nat → Option Nat} (h : bLs b lo g U gl arr n m mc xs) (hk : kK lo U U') : bLs b lo g U' gl arr n m mc xs := by
  obtain ⟨⟨h1, h2, h3⟩, h4⟩ := h
  exact ⟨⟨hk.1 _ _ _ h1 (by decide), hk.2.1 _ _ _ _ h2, h3⟩, h4⟩
theorem bOb_set {gl al rv : Nat} {B : Nat → Int} {q : Int} {i : Nat} (hi : i < 5) : (.inr (3, [.ref gl, .ref al, .int (iI rv), .int (iI (B 0)), .int (iI (B 1)), .int (iI (B 2)), .int (iI (B 3)), .int (iI (B 4))].set (3 + i) (.int (iI q))) : uE) = bOb gl al rv (zU B i q) := by
  match i, hi with
  | 0, _ => rfl
  | 1, _ => rfl
  | 2, _ => rfl
  | 3, _ => rfl
  | 4, _ => rfl
/-- a number of the rover is put in -/
theorem bP.put {bo i : Nat} {q : Int} (h : bP b lo g U σ bo) (ho : uOld U) (hlo : b ≤ lo) (hi : i < 5) (hq : ∀ B : Nat → Int, bBd B → bBd (zU B i q)) : ∃ U', uPut b U bo 3 (3 + i) (.int (iI q)) = some U' ∧ bP b lo g U' (mSet σ (24 + i) (iI q)) bo ∧ rKw lo (fun x => x = bo) U U' ∧ uOld U' ∧ U'.1 = U.1 ∧ U'.2.1 = U.2.1 := by
  obtain ⟨gl, al, arr, arr2, nG, nT, m, m2, mc, mc2, xs, xs2, ga, gn, ta, tn, s, q', B, rv, ⟨h1, h1', h1'', h29⟩, ⟨h24, h25, h26, h27, h28⟩, h3, ⟨h4, h5, h6, h7⟩, ⟨h8, h9, h10, h11⟩, h12⟩ := h
  have h1c : U.2.2 bo = some (.inr (3, [.ref gl, .ref al, .int (iI rv), .int (iI (B 0)), .int (iI (B 1)), .int (iI (B 2)), .int (iI (B 3)), .int (iI (B 4))])) := h1
  obtain ⟨U', e1, e2, e3, e4, e5, e6⟩ := w_put (b := b) (k := 3 + i) (v := .int (iI q)) h1c (by omega) (by
    show 3 + i < 8
    omega) ho
  have kk : kK lo U U' := kK.wr e3 h1c (by decide) e5
  have e2' : U'.2.2 bo = some (bOb gl al rv (zU B i q)) := by
    rw [e2]
    exact congrArg some (bOb_set hi)
  have fs : ∀ k, k ≠ 24 + i → (mSet σ (24 + i) (iI q)).1 k = σ.1 k := fun k hk => upd_n hk
  have fb : ∀ j, j < 5 → σ.1 (24 + j) = iI (B j) → (mSet σ (24 + i) (iI q)).1 (24 + j) = iI (zU B i q j) := fun j hj e => by
    by_cases c : j = i
    · subst c
      rw [zU_s]
      exact upd_s
    · rw [zU_n c, fs _ (by omega)]
      exact e
  refine ⟨U', e1, ⟨gl, al, arr, arr2, nG, nT, m, m2, mc, mc2, xs, xs2, ga, gn, ta, tn, s, q', zU B i q, rv, ⟨e2', h1', h1'', (fs 29 (by omega)).trans h29⟩, ⟨fb 0 (by omega) h24, fb 1 (by omega) h25, fb 2 (by omega) h26, fb 3 (by omega) h27, fb 4 (by omega) h28⟩, hq B h3, ⟨h4.kk kk, h5, (fs 22 (by omega)).trans h6, fun d hd => ⟨(h7 d hd).1, (h7 d hd).2.kk kk⟩⟩, ⟨h8.kk kk, h9, (fs 23 (by omega)).trans h10, fun t ht => ⟨(h11 t ht).1, (h11 t ht).2.kk kk⟩⟩, h12⟩, rKw.wr e3 rfl h1' h1c (Or.inl ⟨_, _, rfl, by decide⟩) e4 e5 e6, e4, e5, e6⟩
theorem bP.rov {bo : Nat} (h : bP b lo g U σ bo) (ho : uOld U) (hlo : b ≤ lo) (h29 : σ.1 29 = 0) : uGI U bo 3 2 = some 0 ∧ ∃ U', uPut b U bo 3 2 (.int 1) = some U' ∧ bP b lo g U' (mSet σ 29 1) bo ∧ rKw lo (fun x => x = bo) U U' ∧ uOld U' ∧ U'.1 = U.1 ∧ U'.2.1 = U.2.1 := by
  obtain ⟨gl, al, arr, arr2, nG, nT, m, m2, mc, mc2, xs, xs2, ga, gn, ta, tn, s, q', B, rv, ⟨h1, h1', h1'', h29'⟩, ⟨h24, h25, h26, h27, h28⟩, h3, ⟨h4, h5, h6, h7⟩, ⟨h8, h9, h10, h11⟩, h12⟩ := h
  have h1c : U.2.2 bo = some (.inr (3, [.ref gl, .ref al, .int (iI rv), .int (iI (B 0)), .int (iI (B 1)), .int (iI (B 2)), .int (iI (B 3)), .int (iI (B 4))])) := h1
  have rv0 : rv = 0 := by
    have e : iI (rv : Int) = iI 0 := h29'.symm.trans h29
    rw [j_eq (by omega) (by omega) (by omega) (by omega)] at e
    omega
  subst rv0
  obtain ⟨U', e1, e2, e3, e4, e5, e6⟩ := w_put (b := b) (k := 2) (v := .int 1) h1c (by omega) (Nat.le_of_ble_eq_true rfl) ho
  have kk : kK lo U U' := kK.wr e3 h1c (by decide) e5
  exact ⟨v_gi h1c rfl, U', e1, ⟨gl, al, arr, arr2, nG, nT, m, m2, mc, mc2, xs, xs2, ga, gn, ta, tn, s, q', B, 1, ⟨e2, h1', Or.inr rfl, rfl⟩, ⟨h24, h25, h26, h27, h28⟩, h3, ⟨h4.kk kk, h5, h6, fun d hd => ⟨(h7 d hd).1, (h7 d hd).2.kk kk⟩⟩, ⟨h8.kk kk, h9, h10, fun t ht => ⟨(h11 t ht).1, (h11 t ht).2.kk kk⟩⟩, h12⟩, rKw.wr e3 rfl h1' h1c (Or.inl ⟨_, _, rfl, by decide⟩) e4 e5 e6, e4, e5, e6⟩
theorem bP.rvx {bo : Nat} (h : bP b lo g U σ bo) : ∃ (rv : Nat) (gl al : Nat) (B : Nat → Int), (rv = 0 ∨ rv = 1) ∧ σ.1 29 = iI rv ∧ uGI U bo 3 2 = some (iI rv) ∧ lo ≤ bo ∧ U.2.2 bo = some (.inr (3, [.ref gl, .ref al, .int (iI rv), .int (iI (B 0)), .int (iI (B 1)), .int (iI (B 2)), .int (iI (B 3)), .int (iI (B 4))])) := by
  obtain ⟨gl, al, arr, arr2, nG, nT, m, m2, mc, mc2, xs, xs2, ga, gn, ta, tn, s, q', B, rv, ⟨h1, h1', h1'', h29'⟩, -⟩ := h
  have h1c : U.2.2 bo = some (.inr (3, [.ref gl, .ref al, .int (iI rv), .int (iI (B 0)), .int (iI (B 1)), .int (iI (B 2)), .int (iI (B 3)), .int (iI (B 4))])) := h1
  exact ⟨rv, gl, al, B, h1'', h29', v_gi h1c rfl, h1', h1⟩
end J8s
section J9s
variable {N b : Nat} {g : uEnv} {lo rd tp n bo : Nat} {T : Nat → Nat} {U : UH} {σ : MS} {at' : Nat}
/-- one word and its number -/
theorem k_rv1 {j j' i : Nat} {a c : Int} (h : rCx b g lo rd tp n T U σ at') (hP : bP b lo g U σ bo) (hj : j < 52) (he : pTx j' = pTx j) (hl : 2 ≤ (pTx j).length) (ha : -100000 ≤ a ∧ a ≤ 100000) (hc : -100000 ≤ c ∧ c ≤ 100000) (hi : i < 5) (hB : ∀ (q : Int) (B : Nat → Int), a ≤ q → q ≤ c → bBd B → bBd (zU B i q)) (hN : 2000 ≤ N) : (∃ (x : Nat) (U' : UH) (σ1 σ2 : MS) (r r2 : Int32), (f_X5_needs N b g U rd (some (g.2.1 j)) = some (.inl (x, U')) ∨ ∃ U1, f_X5_needs N b g U rd (some (g.2.1 j)) = some (.inr U1) ∧ uIs U1 rd 4 = true ∧ f_X5_whole N b g U1 rd (iI a) (iI c) = some (.inl (x, U'))) ∧ f_must N (pTx j') σ = some (r, σ1) ∧ f_number N σ1 (iI a) (iI c) = some (r2, σ2) ∧ rEx lo bS bR (4 * (n - at') + 1) (32 * (n - at') + 8) U σ x U' (mSet σ2 (24 + i) r2)) ∨ (∃ (U1 U2 U3 : UH) (σ1 σ2 : MS) (at2 : Nat) (q : Int), f_X5_needs N b g U rd (some (g.2.1 j)) = some (.inr U1) ∧ uIs U1 rd 4 = true ∧ f_X5_whole N b g U1 rd (iI a) (iI c) = some (.inr (iI q, U2)) ∧ uPut b U2 bo 3 (3 + i) (.int (iI q)) = some U3 ∧ f_must N (pTx j') σ = some (1, σ1) ∧ f_number N σ1 (iI a) (iI c) = some (iI q, σ2) ∧ rCx b g lo rd tp n T U3 (mSet σ2 (24 + i) (iI q)) at2 ∧ bP b lo g U3 (mSet σ2 (24 + i) (iI q)) bo ∧ at' ≤ at2 ∧ U.1 ≤ U3.1 ∧ U3.1 ≤ U.1 + 4 * (at2 - at') ∧ U.2.1 ≤ U3.2.1 ∧ U3.2.1 ≤ U.2.1 + 32 * (at2 - at') ∧ (∀ y, y < lo → U3.2.2 y = U.2.2 y) ∧ mSm bS bR σ (mSet σ2 (24 + i) (iI q)) ∧ ∀ k, k = 22 ∨ k = 23 ∨ k = 29 → (mSet σ2 (24 + i) (iI q)).1 k = σ.1 k) := by
  have hlo : b ≤ lo := h.2.2.2.2.2.2.1
  have hal := h.le
  have sS : ∀ k, tS k → bS k := fun k z => Or.inl z
  have sR : ∀ k, tR k → bR k := fun k z => Or.inl z
  have es : ∀ {s : MS} {x : Int32}, mSm bS bR s (mSet s (24 + i) x) := mSm.set (Or.inr (by omega))
  rcases k_must (N := N) (j := j) (j' := j') h hj he hl hN with ⟨U1, σ1, at1, y1, y2, y3⟩ | ⟨x, U1, σ1, y1, y2, y3⟩
  · have al1 := y3.1.le
    obtain ⟨-, -, y3c, y3d, y3e, -⟩ := id y3
    obtain ⟨kr, st, va, wv, sg, c1, -⟩ := k_kind y3.1
    rcases k_number (N := N) (a := a) (c := c) y3.1 ha hc hN with ⟨q, U2, σ2, at2, x0, x0', x1, x2, x3⟩ | ⟨x, U2, σ2, x1, x2, x3⟩
    · have al2 := x3.1.le
      obtain ⟨-, -, x3c, x3d, x3e, -⟩ := id x3
      have hP2 : bP b lo g U2 σ2 bo := (hP.st (N := N) h y3).st (N := N) y3.1 x3
      obtain ⟨U3, z1, z2, z3, z4, z5, z6⟩ := hP2.put (q := q) x3.1.2.2.2.2.2.1 hlo hi (fun B => hB q B x0 x0')
      obtain ⟨rv, gl, al, B, -, -, -, -, hb2⟩ := hP2.rvx
      obtain ⟨kr2, st2, va2, wv2, sg2, c2, -⟩ := k_kind x3.1
      right
      have k1 := y3.kw
      have k2 := x3.kw
      have l1 := k1.2.2.2.2.1
      have l2 := k2.2.2.2.2.1
      have l3 := k1.2.2.2.2.2
      have l4 := k2.2.2.2.2.2
      refine ⟨U1, U2, U3, σ1, σ2, at2, q, y1, v_is c1, x1, z1, y2, x2, (x3.1.kw z3 (u_nrr c2 hb2 (by decide))).sg (fun k hk => upd_n (by omega)) rfl rfl, z2, by omega, by omega, by omega, by omega, by omega, fun y hy => (z3.1 y hy).trans ((k2.1 y hy).trans (k1.1 y hy)), ((y3.b.trans x3.b).mono sS sR).trans es, fun k hk => (upd_n (by omega)).trans ((x3.f (by omega)).trans (y3.f (by omega)))⟩
    · left
      have k1 := y3.kw
      refine ⟨x, U2, σ1, σ2, 1, iI a, Or.inr ⟨U1, y1, v_is c1, x1⟩, y2, x2, ((x3.x.mono sS sR (Nat.le_refl _) (Nat.le_refl _)).aft (y3.b.mono sS sR) k1.1 k1.2.2.2.2.1 (by omega) k1.2.2.2.2.2 (by omega)).er (upd_n (by omega)) (upd_n (by omega)) (upd_n (by omega)) es⟩
  · left
    exact ⟨x, U1, σ1, σ1, 0, iI a, Or.inl y1, y2, m_numE y3.f.1, (y3.x.mono sS sR (Nat.le_refl _) (Nat.le_refl _)).er (upd_n (by omega)) (upd_n (by omega)) (upd_n (by omega)) es⟩
end J9s
