/-! PLAIN: a book while it is read -/
def bS (k : Nat) : Prop := tS k ∨ (22 ≤ k ∧ k ≤ 29)
def bR (j : Nat) : Prop := j = 11 ∨ (14 ≤ j ∧ j ≤ 21) ∨ (30 ≤ j ∧ j ≤ 32)
def bGd (b lo : Nat) (U : UH) (σ : MS) (d ga nm : Nat) (s q : bLn) : Prop := vGr U b lo U.1 ga nm s q ∧ lo ≤ ga ∧ bNm lo U (σ.2.1 15) (σ.2.1 14) d nm ∧ (lnOk s.2.1 s.2.2 s.1 ∧ σ.2.1 18 d = iI s.1 ∧ mLn σ 20 d s.1 s.2.1 s.2.2) ∧ lnOk q.2.1 q.2.2 q.1 ∧ σ.2.1 19 d = iI q.1 ∧ mLn σ 21 d q.1 q.2.1 q.2.2
def bTr (lo : Nat) (U : UH) (σ : MS) (t ta nm : Nat) : Prop := lo ≤ ta ∧ bNm lo U (σ.2.1 17) (σ.2.1 16) t nm ∧ ∃ e o c : Int, U.2.2 ta = some (.inr (8, [.ref nm, .int (iI e), .int (iI o), .int (iI c)])) ∧ σ.2.1 30 t = iI e ∧ σ.2.1 31 t = iI o ∧ σ.2.1 32 t = iI c ∧ (-4 ≤ e ∧ e ≤ 4) ∧ (-4 ≤ o ∧ o ≤ 4) ∧ 1 ≤ c ∧ c ≤ 99
def bLs (b lo : Nat) (g : uEnv) (U : UH) (gl arr n m : Nat) (mc : Int32) (xs : Nat → Option Nat) : Prop := vLs U gl arr n m mc xs ∧ lo ≤ gl ∧ (m = 0 → g.1 10 = some arr ∧ arr < b) ∧ (m ≠ 0 → lo ≤ arr)
def bBd (B : Nat → Int) : Prop := (2 ≤ B 0 ∧ B 0 ≤ 6) ∧ (1 ≤ B 1 ∧ B 1 ≤ 999) ∧ (1 ≤ B 2 ∧ B 2 ≤ 300) ∧ (0 ≤ B 3 ∧ B 3 ≤ 300) ∧ (0 ≤ B 4 ∧ B 4 ≤ 99)
def bOb (gl al rv : Nat) (B : Nat → Int) : uE := .inr (3, [.ref gl, .ref al, .int (iI rv), .int (iI (B 0)), .int (iI (B 1)), .int (iI (B 2)), .int (iI (B 3)), .int (iI (B 4))])
def bP (b lo : Nat) (g : uEnv) (U : UH) (σ : MS) (bo : Nat) : Prop := ∃ (gl al arr arr2 nG nT m m2 : Nat) (mc mc2 : Int32) (xs xs2 : Nat → Option Nat) (ga gn ta tn : Nat → Nat) (s q : Nat → bLn) (B : Nat → Int) (rv : Nat), (U.2.2 bo = some (bOb gl al rv B) ∧ lo ≤ bo ∧ (rv = 0 ∨ rv = 1) ∧ σ.1 29 = iI rv) ∧ (σ.1 24 = iI (B 0) ∧ σ.1 25 = iI (B 1) ∧ σ.1 26 = iI (B 2) ∧ σ.1 27 = iI (B 3) ∧ σ.1 28 = iI (B 4)) ∧ bBd B ∧ (bLs b lo g U gl arr nG m mc xs ∧ nG ≤ 8 ∧ σ.1 22 = iI nG ∧ ∀ d, d < nG → xs d = some (ga d) ∧ bGd b lo U σ d (ga d) (gn d) (s d) (q d)) ∧ (bLs b lo g U al arr2 nT m2 mc2 xs2 ∧ nT ≤ 6 ∧ σ.1 23 = iI nT ∧ ∀ t, t < nT → xs2 t = some (ta t) ∧ bTr lo U σ t (ta t) (tn t)) ∧ gl ≠ al ∧ (m ≠ 0 → m2 ≠ 0 → arr ≠ arr2)
/-- how much a book has -/
def bCn (σ : MS) (c : Nat) : Prop := ∃ nG nT rv : Nat, σ.1 22 = iI nG ∧ σ.1 23 = iI nT ∧ σ.1 29 = iI rv ∧ nG ≤ 8 ∧ nT ≤ 6 ∧ rv ≤ 1 ∧ c = nG + nT + rv
theorem rKw.wn {lo a c : Nat} {W : Nat → Prop} {U U' : UH} {fs : List Value} (h : ∀ x, x < U.1 → x ≠ a → U'.2.2 x = U.2.2 x) (hW : W a) (hl : lo ≤ a) (he : U.2.2 a = some (.inr (c, fs))) (hc : c ≠ 20) (ho : uOld U) (ho' : uOld U') (hlU : lo ≤ U.1) (h1 : U.1 ≤ U'.1) (h2 : U.2.1 ≤ U'.2.1) : rKw lo W U U' := by
  refine ⟨fun x hx => h x (by omega) (by omega), fun x x1 x2 _ => h x x1 (fun z => x2 (by rw [z]; exact hW)), fun a' m f q => ?_, ho', h1, h2⟩
  obtain ⟨v, hh, z, e1, e2, e3⟩ := q
  exact ⟨v, hh, z, (h a' (ho _ _ e1) (u_nrr e1 he (Ne.symm hc))).trans e1, (h v (ho _ _ e2) (u_nlr e2 he)).trans e2, e3⟩
section J5s
variable {b lo rd : Nat} {g : uEnv} {U U' : UH} {σ σ' : MS} {W : Nat → Prop}
theorem bNm.kw {r2 r1 : Nat → Int32} {d a : Nat} (h : bNm lo U r2 r1 d a) (hk : rKw lo W U U') : bNm lo U' r2 r1 d a := by
  obtain ⟨h1, m, f, h2, h3⟩ := h
  exact ⟨h1, m, f, hk.2.2.1 _ _ _ h2, h3⟩
theorem vIn.up {b lo hi hi' x : Nat} (h : vIn b lo hi x) (hh : hi ≤ hi') : vIn b lo hi' x := by
  unfold vIn at h ⊢
  omega
/-- cells that are not the reader's, and old -/
def oW (rd hi x : Nat) : Prop := x = rd ∨ hi ≤ x
theorem vLi.kw {a n : Nat} {at_ v : Nat → Int} {fs : List Value} (h : vLi U b lo U.1 a n at_ v) (hk : rKw lo (oW rd U.1) U U') (hr : U.2.2 rd = some (.inr (4, fs))) (ho : uOld U) : vLi U' b lo U'.1 a n at_ v := by
  obtain ⟨p1, p2, f1, f2, i0, i1, i2, h0, h1, h2, h3⟩ := h
  have up := hk.2.2.2.2.1
  have nW : ∀ {x : Nat} {e : uE}, U.2.2 x = some e → x ≠ rd → ¬ oW rd U.1 x := fun hx hn z => by
    have := ho _ _ hx
    unfold oW at z
    omega
  exact ⟨p1, p2, f1, f2, i0.up up, i1.up up, i2.up up, hk.at ho h0 (by decide) (nW h0 (u_nrr h0 hr (by decide))), hk.ar ho h1 (nW h1 (u_nlr h1 hr)), hk.ar ho h2 (nW h2 (u_nlr h2 hr)), h3⟩
theorem vGr.kw {a nm : Nat} {s q : bLn} {fs : List Value} (h : vGr U b lo U.1 a nm s q) (hk : rKw lo (oW rd U.1) U U') (hr : U.2.2 rd = some (.inr (4, fs))) (ho : uOld U) : vGr U' b lo U'.1 a nm s q := by
  obtain ⟨p, q', i0, h0, h1, h2⟩ := h
  have l0 := ho _ _ h0
  have n0 : a ≠ rd := u_nrr h0 hr (by decide)
  exact ⟨p, q', i0.up hk.2.2.2.2.1, hk.at ho h0 (by decide) (fun z => by unfold oW at z; omega), h1.kw hk hr ho, h2.kw hk hr ho⟩
theorem bLs.kw {gl arr n m : Nat} {mc : Int32} {xs : Nat → Option Nat} {fs : List Value} (h : bLs b lo g U gl arr n m mc xs) (hk : rKw lo (oW rd U.1) U U') (hr : U.2.2 rd = some (.inr (4, fs))) (ho : uOld U) : bLs b lo g U' gl arr n m mc xs := by
  obtain ⟨⟨h1, h2, h3⟩, h4⟩ := h
  have l1 := ho _ _ h1
  have l2 := ho _ _ h2
  have n1 : gl ≠ rd := u_nrr h1 hr (by decide)
  have n2 : arr ≠ rd := u_nlr h2 hr
  exact ⟨⟨hk.at ho h1 (by decide) (fun z => by unfold oW at z; omega), hk.ar ho h2 (fun z => by unfold oW at z; omega), h3⟩, h4⟩
theorem bGd.kw {d ga nm : Nat} {s q : bLn} {fs : List Value} (h : bGd b lo U σ d ga nm s q) (hk : rKw lo (oW rd U.1) U U') (hr : U.2.2 rd = some (.inr (4, fs))) (ho : uOld U) : bGd b lo U' σ d ga nm s q := ⟨h.1.kw hk hr ho, h.2.1, h.2.2.1.kw hk, h.2.2.2⟩
theorem bTr.kw {t ta nm : Nat} {fs : List Value} (h : bTr lo U σ t ta nm) (hk : rKw lo (oW rd U.1) U U') (hr : U.2.2 rd = some (.inr (4, fs))) (ho : uOld U) : bTr lo U' σ t ta nm := by
  obtain ⟨h1, h2, e, o, c, h3, h4⟩ := h
  have l1 := ho _ _ h3
  have n1 : ta ≠ rd := u_nrr h3 hr (by decide)
  exact ⟨h1, h2.kw hk, e, o, c, hk.at ho h3 (by decide) (fun z => by unfold oW at z; omega), h4⟩
theorem bP.kw {bo : Nat} {fs : List Value} (h : bP b lo g U σ bo) (hk : rKw lo (oW rd U.1) U U') (hr : U.2.2 rd = some (.inr (4, fs))) (ho : uOld U) : bP b lo g U' σ bo := by
  obtain ⟨gl, al, arr, arr2, nG, nT, m, m2, mc, mc2, xs, xs2, ga, gn, ta, tn, s, q, B, rv, ⟨h1, h1'⟩, h2, h3, ⟨h4, h5, h6, h7⟩, ⟨h8, h9, h10, h11⟩, h12⟩ := h
  have h1c : U.2.2 bo = some (.inr (3, _)) := h1
  have l1 := ho _ _ h1
  have n1 : bo ≠ rd := u_nrr h1c hr (by decide)
  exact ⟨gl, al, arr, arr2, nG, nT, m, m2, mc, mc2, xs, xs2, ga, gn, ta, tn, s, q, B, rv, ⟨hk.at ho h1c (by decide) (fun z => by unfold oW at z; omega), h1'⟩, h2, h3, ⟨h4.kw hk hr ho, h5, h6, fun d hd => ⟨(h7 d hd).1, (h7 d hd).2.kw hk hr ho⟩⟩, ⟨h8.kw hk hr ho, h9, h10, fun t ht => ⟨(h11 t ht).1, (h11 t ht).2.kw hk hr ho⟩⟩, h12⟩
/-- the model's side: what a ground says -/
theorem bNm.sg {r2 r1 r2' r1' : Nat → Int32} {d a : Nat} (h : bNm lo U r2 r1 d a) (h2 : r2' d = r2 d) (h1 : ∀ i, i < 8 → r1' (8 * d + i) = r1 (8 * d + i)) : bNm lo U r2' r1' d a := by
  obtain ⟨q0, m, f, q1, q2, q3, q4, q5⟩ := h
  exact ⟨q0, m, f, q1, q2, q3, h2.trans q4, fun k hk => ⟨by rw [h1 k (by omega)]; exact (q5 k hk).1, (q5 k hk).2⟩⟩
theorem mLn.sg {j d n : Nat} {at_ v : Nat → Int} (h : mLn σ j d n at_ v) (hn : n ≤ 4) (hi : ∀ i, i < 8 → σ'.2.1 j (8 * d + i) = σ.2.1 j (8 * d + i)) : mLn σ' j d n at_ v := by
  obtain ⟨h1, h2, h3⟩ := h
  refine ⟨h1, h2, fun k hk => ?_⟩
  obtain ⟨q1, q2⟩ := h3 k hk
  rw [hi (2 * k) (by omega), show 8 * d + 2 * k + 1 = 8 * d + (2 * k + 1) by omega, hi (2 * k + 1) (by omega)]
  rw [show 8 * d + 2 * k + 1 = 8 * d + (2 * k + 1) by omega] at q2
  exact ⟨q1, q2⟩
theorem bGd.sg {d ga nm : Nat} {s q : bLn} (h : bGd b lo U σ d ga nm s q) (h15 : σ'.2.1 15 d = σ.2.1 15 d) (h14 : ∀ i, i < 8 → σ'.2.1 14 (8 * d + i) = σ.2.1 14 (8 * d + i)) (h18 : σ'.2.1 18 d = σ.2.1 18 d) (h19 : σ'.2.1 19 d = σ.2.1 19 d) (h20 : ∀ i, i < 8 → σ'.2.1 20 (8 * d + i) = σ.2.1 20 (8 * d + i)) (h21 : ∀ i, i < 8 → σ'.2.1 21 (8 * d + i) = σ.2.1 21 (8 * d + i)) : bGd b lo U σ' d ga nm s q := by
  obtain ⟨q1, q2, q3, ⟨q4, q5, q6⟩, q7, q8, q9⟩ := h
  exact ⟨q1, q2, q3.sg h15 h14, ⟨q4, h18.trans q5, q6.sg q4.2.1 h20⟩, q7, h19.trans q8, q9.sg q7.2.1 h21⟩
theorem bTr.sg {t ta nm : Nat} (h : bTr lo U σ t ta nm) (h17 : σ'.2.1 17 t = σ.2.1 17 t) (h16 : ∀ i, i < 8 → σ'.2.1 16 (8 * t + i) = σ.2.1 16 (8 * t + i)) (h30 : σ'.2.1 30 t = σ.2.1 30 t) (h31 : σ'.2.1 31 t = σ.2.1 31 t) (h32 : σ'.2.1 32 t = σ.2.1 32 t) : bTr lo U σ' t ta nm := by
  obtain ⟨q1, q2, e, o, c, q3, q4, q5, q6, q7⟩ := h
  exact ⟨q1, q2.sg h17 h16, e, o, c, q3, h30.trans q4, h31.trans q5, h32.trans q6, q7⟩
theorem bP.sg {bo : Nat} (h : bP b lo g U σ bo) (hf : ∀ k, 22 ≤ k → k ≤ 29 → σ'.1 k = σ.1 k) (hr : ∀ j, bR j → j ≠ 11 → σ'.2.1 j = σ.2.1 j) : bP b lo g U σ' bo := by
  obtain ⟨gl, al, arr, arr2, nG, nT, m, m2, mc, mc2, xs, xs2, ga, gn, ta, tn, s, q, B, rv, ⟨h1, h1', h1'', h29⟩, ⟨h24, h25, h26, h27, h28⟩, h3, ⟨h4, h5, h6, h7⟩, ⟨h8, h9, h10, h11⟩, h12⟩ := h
  have r : ∀ j, (14 ≤ j ∧ j ≤ 21) ∨ (30 ≤ j ∧ j ≤ 32) → σ'.2.1 j = σ.2.1 j := fun j hj => hr j (Or.inr hj) (by omega)
  have r14 := r 14 (by omega)
  have r15 := r 15 (by omega)
  have r16 := r 16 (by omega)
  have r17 := r 17 (by omega)
  have r18 := r 18 (by omega)
  have r19 := r 19 (by omega)
  have r20 := r 20 (by omega)
  have r21 := r 21 (by omega)
  have r30 := r 30 (by omega)
  have r31 := r 31 (by omega)
  have r32 := r 32 (by omega)
  exact ⟨gl, al, arr, arr2, nG, nT, m, m2, mc, mc2, xs, xs2, ga, gn, ta, tn, s, q, B, rv, ⟨h1, h1', h1'', (hf 29 (by omega) (by omega)).trans h29⟩, ⟨(hf 24 (by omega) (by omega)).trans h24, (hf 25 (by omega) (by omega)).trans h25, (hf 26 (by omega) (by omega)).trans h26, (hf 27 (by omega) (by omega)).trans h27, (hf 28 (by omega) (by omega)).trans h28⟩, h3, ⟨h4, h5, (hf 22 (by omega) (by omega)).trans h6, fun d hd => ⟨(h7 d hd).1, (h7 d hd).2.sg (by rw [r15]) (fun _ _ => by rw [r14]) (by rw [r18]) (by rw [r19]) (fun _ _ => by rw [r20]) (fun _ _ => by rw [r21])⟩⟩, ⟨h8, h9, (hf 23 (by omega) (by omega)).trans h10, fun t ht => ⟨(h11 t ht).1, (h11 t ht).2.sg (by rw [r17]) (fun _ _ => by rw [r16]) (by rw [r30]) (by rw [r31]) (by rw [r32])⟩⟩, h12⟩
/-- behind a step of the reader -/
theorem bP.st {N tp n at' at2 : Nat} {T : Nat → Nat} {bo : Nat} (h : bP b lo g U σ bo) (hc : rCx b g lo rd tp n T U σ at') (hs : rSt b g lo rd tp n T U σ at' U' σ' at2) : bP b lo g U' σ' bo := by
  obtain ⟨kr, st, va, wv, sg, c1, -⟩ := k_kind hc
  have m := hs.b
  exact (h.kw (hs.2.1.w (W := oW rd U.1) (Or.inl rfl)) c1 hc.2.2.2.2.2.1).sg (fun k h1 h2 => m.1 k (fun z => by unfold tS at z; omega)) (fun j _ h2 => m.2.1 j h2)
end J5s
