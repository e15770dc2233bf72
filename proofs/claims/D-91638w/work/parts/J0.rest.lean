/-! PLAIN: the rest: names and tries of the book, plans, the pit, the script -/
/-- a list of ours -/
def qLs (g : uEnv) (U : UH) (lab : Nat → Nat) (L a arr n m : Nat) (mc : Int32) (xs : Nat → Option Nat) : Prop := vLs U a arr n m mc xs ∧ lab a = L ∧ (m = 0 → g.1 10 = some arr ∧ lab arr = 0) ∧ (m ≠ 0 → lab arr = L)
/-- a string of at most eight small letters -/
def qSt (U : UH) (lab : Nat → Nat) (L a n : Nat) (ws : Nat → Int32) : Prop := lab a = L ∧ n ≤ 8 ∧ ∃ (v : Nat) (h z : Int32) (f : Nat → Int32), lab v = L ∧ U.2.2 a = some (.inr (20, [.ref v, .int 0, .int h, .int z])) ∧ U.2.2 v = some (.inl (1, n, .inl f)) ∧ ∀ k, k < n → f k = ws k ∧ ∃ c : Nat, ws k = iI c ∧ 97 ≤ c ∧ c ≤ 122
def qGn (U : UH) (lab : Nat → Nat) (r14 : Nat → Int32) (r15 : Nat → Int32) (d ga : Nat) : Prop := lab ga = 7 ∧ ∃ (nm n : Nat) (s q : Value) (ws : Nat → Int32), U.2.2 ga = some (.inr (5, [.ref nm, s, q])) ∧ qSt U lab 7 nm n ws ∧ r15 d = iI n ∧ ∀ k, k < n → r14 (8 * d + k) = ws k
def qTr (U : UH) (lab : Nat → Nat) (r30 r31 r32 : Nat → Int32) (t ta : Nat) : Prop := lab ta = 7 ∧ ∃ (nv : Value) (e o c : Int), U.2.2 ta = some (.inr (8, [nv, .int (iI e), .int (iI o), .int (iI c)])) ∧ r30 t = iI e ∧ r31 t = iI o ∧ r32 t = iI c ∧ (-4 ≤ e ∧ e ≤ 4) ∧ (-4 ≤ o ∧ o ≤ 4) ∧ 1 ≤ c ∧ c ≤ 99
/-- names and tries of the book -/
def qBk (g : uEnv) (U : UH) (lab : Nat → Nat) (σ : MS) (bkv : Value) : Prop := bkv = .null ∨ ∃ (a gl al arr arr2 nG nT m m2 : Nat) (mc mc2 : Int32) (ga ta : Nat → Nat) (xs xs2 : Nat → Option Nat) (fs : List Value), bkv = .ref a ∧ lab a = 7 ∧ U.2.2 a = some (.inr (3, .ref gl :: .ref al :: fs)) ∧ (qLs g U lab 7 gl arr nG m mc xs ∧ σ.1 22 = iI nG ∧ nG ≤ 8 ∧ ∀ d, d < nG → xs d = some (ga d) ∧ qGn U lab (σ.2.1 14) (σ.2.1 15) d (ga d)) ∧ qLs g U lab 7 al arr2 nT m2 mc2 xs2 ∧ σ.1 23 = iI nT ∧ nT ≤ 6 ∧ ∀ t, t < nT → xs2 t = some (ta t) ∧ qTr U lab (σ.2.1 30) (σ.2.1 31) (σ.2.1 32) t (ta t)
/-- wheels that are not there are not dug in -/
def qDg (σ : MS) : Prop := (σ.1 12 = 0 → ∀ k, k < 6 → σ.2.1 47 k = 0) ∧ ∀ w : Nat, σ.1 24 = iI w → w ≤ 6 → ∀ k, k < 6 → w ≤ k → σ.2.1 47 k = 0
/-- orders of a plan: from k0 to k1 -/
def vPl (g : uEnv) (U : UH) (lab : Nat → Nat) (od : Nat → Int32) (nD nG : Nat) : Nat → Nat → Nat → Nat → Prop
  | 0, _, _, _ => False
  | n + 1, a, k0, k1 => ∃ (arr cnt m : Nat) (mc : Int32) (xs : Nat → Option Nat) (ks ea : Nat → Nat), qLs g U lab 12 a arr cnt m mc xs ∧ ks 0 = k0 ∧ ks cnt = k1 ∧ ∀ i, i < cnt → xs i = some (ea i) ∧ lab (ea i) = 12 ∧ ((∃ (wy y t : Nat), U.2.2 (ea i) = some (.inr (10, [.ref wy, .int (iI t)])) ∧ uWay g wy = some y ∧ y < 4 ∧ 1 ≤ t ∧ t ≤ 9 ∧ od (4 * ks i) = 0 ∧ od (4 * ks i + 1) = iI y ∧ od (4 * ks i + 2) = iI t ∧ ks (i + 1) = ks i + 1) ∨ (∃ (d gr th ot k2 : Nat), U.2.2 (ea i) = some (.inr (11, [.int (iI d), .int (iI gr), .ref th, .ref ot])) ∧ d < nD ∧ gr < nG ∧ od (4 * ks i) = 1 ∧ od (4 * ks i + 1) = iI d ∧ od (4 * ks i + 2) = iI gr ∧ vPl g U lab od nD nG n th (ks i + 1) k2 ∧ ((od (4 * ks i + 3) = iI k2 ∧ ks (i + 1) = k2 ∧ ∃ (arr' m' : Nat) (mc' : Int32) (xs' : Nat → Option Nat), qLs g U lab 12 ot arr' 0 m' mc' xs') ∨ (od (4 * ks i + 3) = iI ((k2 + 1 : Nat) : Int) ∧ od (4 * k2) = 2 ∧ od (4 * k2 + 3) = iI (ks (i + 1)) ∧ vPl g U lab od nD nG n ot (k2 + 1) (ks (i + 1))))))
/-- the plans -/
def qPl (g : uEnv) (U : UH) (lab : Nat → Nat) (σ : MS) (pl : Nat) : Prop := ∃ (arr np m : Nat) (mc : Int32) (xs : Nat → Option Nat) (pa kl : Nat → Nat), qLs g U lab 5 pl arr np m mc xs ∧ σ.1 40 = iI np ∧ np ≤ 8 ∧ (np ≠ 0 → σ.1 34 = 1) ∧ ∀ i, i < np → xs i = some (pa i) ∧ lab (pa i) = 12 ∧ σ.2.1 57 i = iI (kl i) ∧ kl i ≤ 128 ∧ ∃ nD nG : Nat, (∃ n : Nat, σ.1 37 = iI n ∧ nD ≤ n ∧ n ≤ 5) ∧ σ.1 22 = iI nG ∧ nG ≤ 8 ∧ vPl g U lab (fun k => σ.2.1 56 (512 * i + k)) nD nG 8 (pa i) 0 (kl i)
/-- wheels that are dug in, as one number: what comes behind a try -/
def pCl (x : Int) : Nat := if x < 0 then 0 else if 4 < x then 4 else x.toNat
def pNx (e o : Int) (wl s : Nat) : Nat → Nat
  | 0 => 0
  | k + 1 => pNx e o wl s k + 5 ^ k * pCl (((s / 5 ^ k % 5 : Nat) : Int) + (if k = wl then o else e))
def pInf : Nat := 1152921504606846976
/-- the least cost to be out, ahead of how many tries -/
def pSol (w nT : Nat) (ev ov pv : Nat → Int) (D : Nat → Nat) : Prop := D 0 = 0 ∧ ∀ s, 0 < s → s < 5 ^ w → (∀ t wl, t < nT → wl < w → D (pNx (ev t) (ov t) wl s w) ≠ pInf → D s ≤ D (pNx (ev t) (ov t) wl s w) + ((pv t).toNat * 1048576 + 1)) ∧ (D s = pInf ∨ ∃ t wl, t < nT ∧ wl < w ∧ D (pNx (ev t) (ov t) wl s w) ≠ pInf ∧ D s = D (pNx (ev t) (ov t) wl s w) + ((pv t).toNat * 1048576 + 1))
/-- the same, as the model has it -/
def pMo (d : Nat) : Int := if d = pInf then 2000000000 else ((10000 * (d / 1048576) + d % 1048576 : Nat) : Int)
def pSg (σ : MS) (D : Nat → Nat) : Prop := ∃ w nT : Nat, σ.1 24 = iI w ∧ 2 ≤ w ∧ w ≤ 6 ∧ σ.1 23 = iI nT ∧ nT ≤ 6 ∧ pSol w nT (fun t => (σ.2.1 30 t).toInt) (fun t => (σ.2.1 31 t).toInt) (fun t => (σ.2.1 32 t).toInt) D ∧ ∀ s, s < 5 ^ w → D s = pInf ∨ D s ≤ 2500000000
def qPt (U : UH) (lab : Nat → Nat) (σ : MS) (bkv ptv : Value) : Prop := (ptv = .null ∨ ∃ (p bo oa : Nat) (fs : List Value), ptv = .ref p ∧ lab p = 9 ∧ lab oa = 9 ∧ lab bo = 7 ∧ U.2.2 bo = some (.inr (3, fs)) ∧ U.2.2 p = some (.inr (17, [.ref bo, .ref oa])) ∧ (bkv = .ref bo → ∃ (D : Nat → Nat) (w : Nat) (fo : Nat → Int64), pSg σ D ∧ σ.1 24 = iI w ∧ w ≤ 6 ∧ U.2.2 oa = some (.inl (3, 5 ^ w, .inr (.inl fo))) ∧ ∀ s, s < 5 ^ w → fo s = iL ((D s : Nat) : Int))) ∧ (σ.1 69 = 0 ∨ (σ.1 69 = 1 ∧ ∃ (D : Nat → Nat) (w : Nat), pSg σ D ∧ σ.1 24 = iI w ∧ w ≤ 6 ∧ ∀ s, s < 5 ^ w → σ.2.1 68 s = iI (pMo (D s))))
/-- what stood there at the start -/
def qCn (b : Nat) (u0 U : UH) (lab : Nat → Nat) : Prop := ∀ x, x < b → lab x = 0 ∧ U.2.2 x = u0.2.2 x
/-- where a number is put out -/
def qSc (U : UH) (lab : Nat → Nat) (ou : Nat) : Prop := lab ou = 13 ∧ ∃ f : Nat → Int64, U.2.2 ou = some (.inl (3, 1, .inr (.inl f)))
def qA (g : uEnv) (pl b : Nat) (u0 : UH) (ou : Nat) : qT := fun U lab σ bkv ptv => qBk g U lab σ bkv ∧ qDg σ ∧ qPl g U lab σ pl ∧ qPt U lab σ bkv ptv ∧ qCn b u0 U lab ∧ qSc U lab ou
def qSm (P : Nat → Prop) (lab lab' : Nat → Nat) (U U' : UH) : Prop := ∀ x, P (lab x) → U'.2.2 x = U.2.2 x ∧ lab' x = lab x
section G0s
variable {g : uEnv} {U U' : UH} {lab lab' : Nat → Nat} {σ σ' : MS} {P : Nat → Prop}
theorem qSm.c (h : qSm P lab lab' U U') {x L : Nat} (hL : P L) (hx : lab x = L) : U'.2.2 x = U.2.2 x ∧ lab' x = L := by
  obtain ⟨h1, h2⟩ := h x (by rw [hx]; exact hL)
  exact ⟨h1, h2.trans hx⟩
theorem qLs.hp {L a arr n m : Nat} {mc : Int32} {xs : Nat → Option Nat} (h : qLs g U lab L a arr n m mc xs) (hs : qSm P lab lab' U U') (h0 : P 0) (hL : P L) : qLs g U' lab' L a arr n m mc xs := by
  obtain ⟨⟨x1, x2, x3⟩, e1, e2, e3⟩ := h
  obtain ⟨s1, t1⟩ := hs.c hL e1
  by_cases hm : m = 0
  · obtain ⟨s2, t2⟩ := hs.c h0 (e2 hm).2
    exact ⟨⟨s1.trans x1, s2.trans x2, x3⟩, t1, fun z => ⟨(e2 z).1, t2⟩, fun z => absurd hm z⟩
  · obtain ⟨s2, t2⟩ := hs.c hL (e3 hm)
    exact ⟨⟨s1.trans x1, s2.trans x2, x3⟩, t1, fun z => absurd z hm, fun z => t2⟩
theorem qSt.hp {L a n : Nat} {ws : Nat → Int32} (h : qSt U lab L a n ws) (hs : qSm P lab lab' U U') (hL : P L) : qSt U' lab' L a n ws := by
  obtain ⟨e1, e2, v, h, z, f, e3, e4, e5, e6⟩ := h
  obtain ⟨s1, t1⟩ := hs.c hL e1
  obtain ⟨s2, t2⟩ := hs.c hL e3
  exact ⟨t1, e2, v, h, z, f, t2, s1.trans e4, s2.trans e5, e6⟩
theorem qGn.hp {r14 r15 : Nat → Int32} {d ga : Nat} (h : qGn U lab r14 r15 d ga) (hs : qSm P lab lab' U U') (h7 : P 7) : qGn U' lab' r14 r15 d ga := by
  obtain ⟨e1, nm, n, s, q, ws, e2, e3, e4⟩ := h
  obtain ⟨s1, t1⟩ := hs.c h7 e1
  exact ⟨t1, nm, n, s, q, ws, s1.trans e2, e3.hp hs h7, e4⟩
theorem qTr.hp {r30 r31 r32 : Nat → Int32} {t ta : Nat} (h : qTr U lab r30 r31 r32 t ta) (hs : qSm P lab lab' U U') (h7 : P 7) : qTr U' lab' r30 r31 r32 t ta := by
  obtain ⟨e1, nv, e, o, c, e2, e3⟩ := h
  obtain ⟨s1, t1⟩ := hs.c h7 e1
  exact ⟨t1, nv, e, o, c, s1.trans e2, e3⟩
theorem qBk.hp {bkv : Value} (h : qBk g U lab σ bkv) (hs : qSm P lab lab' U U') (h0 : P 0) (hp7 : P 7) (hm : mQ σ σ') : qBk g U' lab' σ' bkv := by
  rcases h with h | ⟨a, gl, al, arr, arr2, nG, nT, m, m2, mc, mc2, ga, ta, xs, xs2, fs, h1, h2, h3, ⟨h4, h5, h6, h7⟩, h8, h9, h10, h11⟩
  · exact Or.inl h
  · obtain ⟨w, r, -⟩ := hm
    obtain ⟨s1, t1⟩ := hs.c hp7 h2
    refine Or.inr ⟨a, gl, al, arr, arr2, nG, nT, m, m2, mc, mc2, ga, ta, xs, xs2, fs, h1, t1, s1.trans h3, ⟨h4.hp hs h0 hp7, (w 22 (by decide)).trans h5, h6, fun d hd => ⟨(h7 d hd).1, ?_⟩⟩, h8.hp hs h0 hp7, (w 23 (by decide)).trans h9, h10, fun t ht => ⟨(h11 t ht).1, ?_⟩⟩
    · rw [r 14 (by decide), r 15 (by decide)]
      exact (h7 d hd).2.hp hs hp7
    · rw [r 30 (by decide), r 31 (by decide), r 32 (by decide)]
      exact (h11 t ht).2.hp hs hp7
theorem vPl.hp {od : Nat → Int32} {nD nG : Nat} (hs : qSm P lab lab' U U') (h0 : P 0) (h12 : P 12) : ∀ (n a k0 k1 : Nat), vPl g U lab od nD nG n a k0 k1 → vPl g U' lab' od nD nG n a k0 k1 := by
  intro n
  induction n with
  | zero => intro a k0 k1 h; exact h
  | succ n ih =>
    intro a k0 k1 h
    obtain ⟨arr, cnt, m, mc, xs, ks, ea, h1, h2, h3, h4⟩ := h
    refine ⟨arr, cnt, m, mc, xs, ks, ea, h1.hp hs h0 h12, h2, h3, fun i hi => ?_⟩
    obtain ⟨e1, e2, e3⟩ := h4 i hi
    obtain ⟨s1, t1⟩ := hs.c h12 e2
    refine ⟨e1, t1, ?_⟩
    rcases e3 with ⟨wy, y, t, f1, f2⟩ | ⟨d, gr, th, ot, k2, f1, f2, f3, f4, f5, f6, f7, f8⟩
    · exact Or.inl ⟨wy, y, t, s1.trans f1, f2⟩
    · refine Or.inr ⟨d, gr, th, ot, k2, s1.trans f1, f2, f3, f4, f5, f6, ih _ _ _ f7, ?_⟩
      rcases f8 with ⟨w1, w2, arr', m', mc', xs', w3⟩ | ⟨w1, w2, w3, w4⟩
      · exact Or.inl ⟨w1, w2, arr', m', mc', xs', w3.hp hs h0 h12⟩
      · exact Or.inr ⟨w1, w2, w3, ih _ _ _ w4⟩
theorem qPl.hp {pl : Nat} (h : qPl g U lab σ pl) (hs : qSm P lab lab' U U') (h0 : P 0) (hp5 : P 5) (h12 : P 12) (hm : mQ σ σ') : qPl g U' lab' σ' pl := by
  obtain ⟨arr, np, m, mc, xs, pa, kl, h1, h2, h3, h4, h5⟩ := h
  obtain ⟨w, r, z⟩ := hm
  refine ⟨arr, np, m, mc, xs, pa, kl, h1.hp hs h0 hp5, (w 40 (by decide)).trans h2, h3, fun q => (w 34 (by decide)).trans (h4 q), fun i hi => ?_⟩
  obtain ⟨e1, e2, e3, e4, nD, nG, ⟨n, e5, e6, e7⟩, e8, e9, e10⟩ := h5 i hi
  refine ⟨e1, (hs.c h12 e2).2, ?_, e4, nD, nG, ?_, (w 22 (by decide)).trans e8, e9, ?_⟩
  · rw [r 57 (by decide)]
    exact e3
  · rcases z with z | ⟨n', z1, z2, z3⟩
    · exact ⟨n, z.trans e5, e6, e7⟩
    · refine ⟨n' + 1, z3, ?_, by omega⟩
      have : iI (n' : Int) = iI (n : Int) := z1.symm.trans e5
      rw [j_eq (by omega) (by omega) (by omega) (by omega)] at this
      omega
  · rw [r 56 (by decide)]
    exact vPl.hp hs h0 h12 _ _ _ _ e10
theorem pSg.hp {D : Nat → Nat} (h : pSg σ D) (hm : mQ σ σ') : pSg σ' D := by
  obtain ⟨w, r, -⟩ := hm
  unfold pSg
  rw [w 24 (by decide), w 23 (by decide), r 30 (by decide), r 31 (by decide), r 32 (by decide)]
  exact h
theorem qPt.hp {bkv ptv : Value} (h : qPt U lab σ bkv ptv) (hs : qSm P lab lab' U U') (h7 : P 7) (h9 : P 9) (hm : mQ σ σ') : qPt U' lab' σ' bkv ptv := by
  obtain ⟨h1, h2⟩ := h
  have hm' := hm
  obtain ⟨w, r, -⟩ := hm'
  constructor
  · rcases h1 with h1 | ⟨p, bo, oa, fs, e1, e2, e3, e4, e5, e6, e7⟩
    · exact Or.inl h1
    · obtain ⟨s1, t1⟩ := hs.c h9 e2
      obtain ⟨s2, t2⟩ := hs.c h9 e3
      obtain ⟨s3, t3⟩ := hs.c h7 e4
      refine Or.inr ⟨p, bo, oa, fs, e1, t1, t2, t3, s3.trans e5, s1.trans e6, fun z => ?_⟩
      obtain ⟨D, wh, fo, d1, d2, d3, d4, d5⟩ := e7 z
      exact ⟨D, wh, fo, d1.hp hm, (w 24 (by decide)).trans d2, d3, s2.trans d4, d5⟩
  · rcases h2 with h2 | ⟨e1, D, wh, d1, d2, d3, d4⟩
    · exact Or.inl ((w 69 (by decide)).trans h2)
    · refine Or.inr ⟨(w 69 (by decide)).trans e1, D, wh, d1.hp hm, (w 24 (by decide)).trans d2, d3, ?_⟩
      rw [r 68 (by decide)]
      exact d4
theorem qCn.hp {b : Nat} {u0 : UH} (h : qCn b u0 U lab) (hs : qSm P lab lab' U U') (h0 : P 0) : qCn b u0 U' lab' := fun x hx => by
  obtain ⟨h1, h2⟩ := h x hx
  obtain ⟨s1, t1⟩ := hs.c h0 h1
  exact ⟨t1, s1.trans h2⟩
theorem qSc.hp {ou : Nat} (h : qSc U lab ou) (hs : qSm P lab lab' U U') (h13 : P 13) : qSc U' lab' ou := by
  obtain ⟨h1, f, h2⟩ := h
  obtain ⟨s1, t1⟩ := hs.c h13 h1
  exact ⟨t1, f, s1.trans h2⟩
theorem mQ_r : mQ σ σ := ⟨fun _ _ => rfl, fun _ _ => rfl, Or.inl rfl⟩
theorem qA_ok {pl b ou : Nat} {u0 : UH} : qOk (qA g pl b u0 ou) := by
  intro U U' lab lab' σ σ' bkv ptv hs hm h
  obtain ⟨h1, h2, h3, h4, h5, h6⟩ := h
  have hs' : qSm qLb lab lab' U U' := hs
  have p0 : qLb 0 := by unfold qLb; decide
  have p5 : qLb 5 := by unfold qLb; decide
  have p7 : qLb 7 := by unfold qLb; decide
  have p9 : qLb 9 := by unfold qLb; decide
  have p12 : qLb 12 := by unfold qLb; decide
  have p13 : qLb 13 := by unfold qLb; decide
  refine ⟨h1.hp hs' p0 p7 hm, ?_, h3.hp hs' p0 p5 p12 hm, h4.hp hs' p7 p9 hm, h5.hp hs' p0, h6.hp hs' p13⟩
  obtain ⟨w, r, -⟩ := hm
  unfold qDg
  rw [w 12 (by decide), w 24 (by decide), r 47 (by decide)]
  exact h2
end G0s
