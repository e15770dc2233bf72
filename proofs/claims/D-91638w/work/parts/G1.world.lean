/-! PLAIN: the class's world: cells have labels (0: not ours, 1 the object, 2 the tape, 3 the solver, 4 the cells that were gone, 5 the plans, 6 what is dug, 7 books, 8 the map, 9 the pit, 10 the model, 11 else, 12 plans' steps) -/
/-- the map's addresses -/
def xLl (b : Nat) (g : uEnv) (U : UH) (lab : Nat → Nat) (la da wa : Nat → Nat) (nd : Nat) : Prop := (lab (la 0) = 8 ∧ lab (la 1) = 8 ∧ lab (la 2) = 8 ∧ lab (la 3) = 8 ∧ lab (la 4) = 8 ∧ lab (la 6) = 8) ∧ (∀ e, e < nd → lab (da e) = 8 ∧ lab (wa e) = 8 ∧ wa e ≠ la 1 ∧ wa e ≠ la 2 ∧ ∀ e', e' < nd → e' ≠ e → wa e' ≠ wa e) ∧ la 1 ≠ la 2 ∧ ∀ m z, U.2.2 (la 5) = some (.inl (4, m, z)) → (m = 0 → g.1 10 = some (la 5) ∧ la 5 < b) ∧ (m ≠ 0 → lab (la 5) = 8)
/-- doubts and their cells -/
def xGe (n nd : Nat) (dO kn : Nat → Int) (dc : Nat → Nat) (wg : Nat → Nat → Nat) : Prop := (∀ c, c < n → dO c ≠ -1 → dc (dO c).toNat = c) ∧ (∀ e, e < nd → dc e < n ∧ dO (dc e) = (e : Int)) ∧ ∀ e, e < nd → kn e ≠ -1 → wg e (kn e).toNat ≠ 0
def xMp (b : Nat) (g : uEnv) (U : UH) (lab : Nat → Nat) (σ : MS) (mpv : Value) (a : Nat) (B : bBk) (dead : Int) : Prop := (mpv = .null ∧ σ.1 34 = 0) ∨ (σ.1 34 = 1 ∧ ∃ (la da wa : Nat → Nat) (v8 v9 v10 : Value) (w h n nd : Nat) (hts : Nat → Int) (fl : Nat → Nat) (dO kn : Nat → Int) (dc : Nat → Nat) (wg : Nat → Nat → Nat), mpv = .ref (la 0) ∧ vLd U g la da wa a v8 v9 v10 w h n nd hts fl dO kn wg ∧ mLand σ B dead w h n nd hts fl dO kn dc wg ∧ mSol σ B dead w h n nd hts fl dO kn dc wg ∧ xGe n nd dO kn dc wg ∧ xLl b g U lab la da wa nd)
/-- book and map -/
def xBM (b : Nat) (g : uEnv) (U : UH) (lab : Nat → Nat) (σ : MS) (bkv mpv : Value) : Prop := (bkv = .null ∧ mpv = .null ∧ σ.1 12 = 0 ∧ σ.1 34 = 0 ∧ σ.1 38 = 0) ∨ ∃ (lo hi a al : Nat) (rv : Int32) (nm : Nat → Nat) (B : bBk) (dead : Int), bkv = .ref a ∧ σ.1 12 = 1 ∧ vBk U b lo hi a al rv nm B ∧ bOk B ∧ mBk σ B ∧ σ.1 38 = iI dead ∧ (0 ≤ dead ∧ dead ≤ 5) ∧ hi ≤ U.1 ∧ (∀ x, lo ≤ x → x < hi → lab x = 7) ∧ xMp b g U lab σ mpv a B dead
/-- the solver -/
def xSo (U : UH) (lab : Nat → Nat) (so : Nat) (sa : Nat → Nat) : Prop := (lab so = 3 ∧ lab (sa 4) = 3 ∧ lab (sa 5) = 3 ∧ lab (sa 6) = 3 ∧ lab (sa 7) = 3 ∧ lab (sa 8) = 3) ∧ kAr U sa ∧ (sa 5 ≠ sa 6) ∧ ∃ f0 f1 f2 f3 : Value, U.2.2 so = some (.inr (1, [f0, f1, f2, f3, .ref (sa 4), .ref (sa 5), .ref (sa 6), .ref (sa 7), .ref (sa 8)]))
/-- the cells that were gone last -/
def xCl (b : Nat) (g : uEnv) (U : UH) (lab : Nat → Nat) (σ : MS) (cl : Nat) : Prop := lab cl = 4 ∧ ∃ (arr np m : Nat) (mc : Int32) (xs : Nat → Option Nat) (p : Nat → Nat), vLs U cl arr np m mc xs ∧ (m = 0 → g.1 10 = some arr ∧ arr < b) ∧ (m ≠ 0 → lab arr = 4) ∧ (∀ j, j < np → xs j = some (g.2.2 (p j + 128)) ∧ σ.2.1 54 j = iI (p j) ∧ p j < 100) ∧ σ.1 55 = iI np ∧ np ≤ 700 ∧ ((σ.1 73 = 0 ∧ np = 0) ∨ σ.1 73 = 1)
/-- the tape -/
def xTp (U : UH) (lab : Nat → Nat) (σ : MS) (tp : Nat) : Prop := lab tp = 2 ∧ ∃ (f : Nat → Int32) (nt : Nat), U.2.2 tp = some (.inl (1, 500, .inl f)) ∧ σ.1 2 = iI nt ∧ nt ≤ 500 ∧ ∀ k, k < 500 → vp_nar .byte (f k) = f k ∧ σ.2.1 1 k = f k &&& 255
/-- what is dug -/
def xDg (U : UH) (lab : Nat → Nat) (σ : MS) (dg : Nat) : Prop := lab dg = 6 ∧ ∃ (f : Nat → Int32) (v : Nat → Int), U.2.2 dg = some (.inl (0, 6, .inl f)) ∧ ∀ k, k < 6 → f k = iI (v k) ∧ σ.2.1 47 k = iI (v k) ∧ 0 ≤ v k ∧ v k ≤ 4
/-- constants -/
def xEn (b : Nat) (g : uEnv) (U : UH) : Prop := (∃ t, g.1 11 = some t) ∧ (∃ mi, g.1 20 = some mi) ∧ (∃ (v : Nat) (f : Nat → Option Nat), g.1 10 = some v ∧ v < b ∧ U.2.2 v = some (.inl (4, 0, .inr (.inr (.inr (.inr f)))))) ∧ zInt g U ∧ ∀ k, k < 256 → g.2.2 k < b
abbrev qT : Type := UH → (Nat → Nat) → MS → Value → Value → Prop
/-- all but the object itself -/
def xSi (b : Nat) (g : uEnv) (A : pA) (ad sa : Nat → Nat) (Q : qT) (U : UH) (lab : Nat → Nat) (σ : MS) (bkv mpv ptv : Value) : Prop := uOld U ∧ b ≤ U.1 ∧ ((∀ x, x < b → lab x = 0) ∧ ∀ x, U.1 ≤ x → lab x = 11) ∧ xEn b g U ∧ (lab A.1 = 10 ∧ ∀ j ∈ mIx, lab (A.2 j) = 10) ∧ (lab (ad 0) = 1 ∧ xTp U lab σ (ad 1) ∧ xSo U lab (ad 2) sa ∧ xCl b g U lab σ (ad 3) ∧ xDg U lab σ (ad 5)) ∧ xBM b g U lab σ bkv mpv ∧ Q U lab σ bkv ptv
def xSt (b : Nat) (g : uEnv) (A : pA) (ad sa : Nat → Nat) (Q : qT) (U : UH) (lab : Nat → Nat) (σ : MS) : Prop := ∃ bkv mpv ptv : Value, U.2.2 (ad 0) = some (xO ad σ bkv mpv ptv) ∧ xSi b g A ad sa Q U lab σ bkv mpv ptv
/-- what the rest rests on -/
def mQ (σ σ' : MS) : Prop := (∀ k, k = 12 ∨ k = 22 ∨ k = 23 ∨ k = 24 ∨ k = 34 ∨ k = 40 ∨ k = 69 → σ'.1 k = σ.1 k) ∧ (∀ j, j = 14 ∨ j = 15 ∨ j = 16 ∨ j = 17 ∨ j = 30 ∨ j = 31 ∨ j = 32 ∨ j = 47 ∨ j = 56 ∨ j = 57 ∨ j = 68 → σ'.2.1 j = σ.2.1 j) ∧ (σ'.1 37 = σ.1 37 ∨ ∃ n : Nat, σ.1 37 = iI n ∧ n < 5 ∧ σ'.1 37 = iI ((n + 1 : Nat) : Int))
def qLb (k : Nat) : Prop := k = 0 ∨ k = 5 ∨ k = 7 ∨ k = 9 ∨ k = 12 ∨ k = 13
def qOk (Q : qT) : Prop := ∀ (U U' : UH) (lab lab' : Nat → Nat) (σ σ' : MS) (bkv ptv : Value), (∀ x, qLb (lab x) → U'.2.2 x = U.2.2 x ∧ lab' x = lab x) → mQ σ σ' → Q U lab σ bkv ptv → Q U' lab' σ' bkv ptv
theorem lab_ge {b x : Nat} {lab : Nat → Nat} (h : ∀ x, x < b → lab x = 0) (hx : lab x ≠ 0) : b ≤ x := by
  apply Classical.byContradiction
  intro z
  exact hx (h x (by omega))
/-- cells with the labels of p are as they were -/
def uLb (lab lab' : Nat → Nat) (U U' : UH) (p : Nat → Prop) : Prop := ∀ x, p (lab x) → U'.2.2 x = U.2.2 x ∧ lab' x = lab x
theorem vLd.adr {u u' : UH} {g : uEnv} {la da wa : Nat → Nat} {bk : Nat} {v8 v9 v10 : Value} {w h n nd : Nat} {hts : Nat → Int} {fl : Nat → Nat} {dO kn : Nat → Int} {wg : Nat → Nat → Nat} (hk : ∀ i, i ≤ 6 → u'.2.2 (la i) = u.2.2 (la i)) (hd : ∀ e, e < nd → u'.2.2 (da e) = u.2.2 (da e) ∧ u'.2.2 (wa e) = u.2.2 (wa e)) (hL : vLd u g la da wa bk v8 v9 v10 w h n nd hts fl dO kn wg) : vLd u' g la da wa bk v8 v9 v10 w h n nd hts fl dO kn wg := by
  obtain ⟨l0, hw, hh, hn, hnd, ⟨hf, a1, a2⟩, ⟨gf, g1, g2⟩, ⟨df, f1, f2⟩, ⟨m, mc, xs, ⟨x1, x2, x3⟩, x4⟩, ⟨yf, wr, y1, y2⟩, hdd⟩ := hL
  refine ⟨(hk 0 (by omega)).trans l0, hw, hh, hn, hnd, ⟨hf, (hk 1 (by omega)).trans a1, a2⟩, ⟨gf, (hk 2 (by omega)).trans g1, g2⟩, ⟨df, (hk 3 (by omega)).trans f1, f2⟩, ⟨m, mc, xs, ⟨(hk 4 (by omega)).trans x1, (hk 5 (by omega)).trans x2, x3⟩, x4⟩, ⟨yf, wr, (hk 6 (by omega)).trans y1, y2⟩, fun e he => ?_⟩
  obtain ⟨⟨d1, wf, d2, d3⟩, d4⟩ := hdd e he
  exact ⟨⟨(hd e he).1.trans d1, wf, (hd e he).2.trans d2, d3⟩, d4⟩
theorem xMp.hp {b : Nat} {g : uEnv} {U U' : UH} {lab lab' : Nat → Nat} {σ : MS} {mpv : Value} {a : Nat} {B : bBk} {dead : Int} (hl : ∀ x, x < b → lab x = 0) (hs : uLb lab lab' U U' (fun k => k = 0 ∨ k = 8)) (h : xMp b g U lab σ mpv a B dead) : xMp b g U' lab' σ mpv a B dead := by
  rcases h with h | ⟨h1, la, da, wa, v8, v9, v10, w, h', n, nd, hts, fl, dO, kn, dc, wg, e1, e2, e3, e4, e5, e6⟩
  · exact Or.inl h
  · obtain ⟨⟨i0, i1, i2, i3, i4, i6⟩, j1, j2, j3⟩ := e6
    have s5 : lab (la 5) = 0 ∨ lab (la 5) = 8 := by
      obtain ⟨-, -, -, -, -, -, -, -, ⟨m, mc, xs, ⟨x1, x2, x3⟩, x4⟩, -⟩ := e2
      obtain ⟨q1, q2⟩ := j3 m _ x2
      by_cases hm : m = 0
      · exact Or.inl (hl _ (q1 hm).2)
      · exact Or.inr (q2 hm)
    have t0 := hs (la 0) (Or.inr i0)
    have t1 := hs (la 1) (Or.inr i1)
    have t2 := hs (la 2) (Or.inr i2)
    have t3 := hs (la 3) (Or.inr i3)
    have t4 := hs (la 4) (Or.inr i4)
    have t5 := hs (la 5) s5
    have t6 := hs (la 6) (Or.inr i6)
    refine Or.inr ⟨h1, la, da, wa, v8, v9, v10, w, h', n, nd, hts, fl, dO, kn, dc, wg, e1, e2.adr (fun i hi => ?_) (fun e he => ⟨(hs (da e) (Or.inr (j1 e he).1)).1, (hs (wa e) (Or.inr (j1 e he).2.1)).1⟩), e3, e4, e5, ⟨t0.2.trans i0, t1.2.trans i1, t2.2.trans i2, t3.2.trans i3, t4.2.trans i4, t6.2.trans i6⟩, fun e he => ?_, j2, fun m z hz => ?_⟩
    · match i, hi with
      | 0, _ => exact t0.1
      | 1, _ => exact t1.1
      | 2, _ => exact t2.1
      | 3, _ => exact t3.1
      | 4, _ => exact t4.1
      | 5, _ => exact t5.1
      | 6, _ => exact t6.1
    · obtain ⟨q1, q2, q3⟩ := j1 e he
      exact ⟨(hs (da e) (Or.inr q1)).2.trans q1, (hs (wa e) (Or.inr q2)).2.trans q2, q3⟩
    · rw [t5.1] at hz
      obtain ⟨q1, q2⟩ := j3 m z hz
      exact ⟨q1, fun hm => t5.2.trans (q2 hm)⟩
theorem xBM.hp {b : Nat} {g : uEnv} {U U' : UH} {lab lab' : Nat → Nat} {σ : MS} {bkv mpv : Value} (hl : ∀ x, x < b → lab x = 0) (hU : U.1 ≤ U'.1) (hs : uLb lab lab' U U' (fun k => k = 0 ∨ k = 7 ∨ k = 8)) (h : xBM b g U lab σ bkv mpv) : xBM b g U' lab' σ bkv mpv := by
  rcases h with h | ⟨lo, hi, a, al, rv, nm, B, dead, h1, h2, h3, h4, h5, h6, h7, h8, h9, h10⟩
  · exact Or.inl h
  · refine Or.inr ⟨lo, hi, a, al, rv, nm, B, dead, h1, h2, h3.same (fun x hx => ?_), h4, h5, h6, h7, by omega, fun x q1 q2 => ?_, h10.hp hl (fun x hx => hs x ?_)⟩
    · rcases hx with q | ⟨q1, q2⟩
      · exact (hs x (Or.inl (hl x q))).1
      · exact (hs x (Or.inr (Or.inl (h9 x q1 q2)))).1
    · exact (hs x (Or.inr (Or.inl (h9 x q1 q2)))).2.trans (h9 x q1 q2)
    · rcases hx with q | q
      · exact Or.inl q
      · exact Or.inr (Or.inr q)
theorem xSo.hp {U U' : UH} {lab lab' : Nat → Nat} {so : Nat} {sa : Nat → Nat} (hs : uLb lab lab' U U' (fun k => k = 3)) (h : xSo U lab so sa) : xSo U' lab' so sa := by
  obtain ⟨⟨l0, l4, l5, l6, l7, l8⟩, ⟨⟨V0, h4⟩, ⟨D0, h5⟩, ⟨P0, h6⟩, ⟨S0, h7⟩, C0, h8⟩, hne, f0, f1, f2, f3, hf⟩ := h
  obtain ⟨s0, t0⟩ := hs _ l0
  obtain ⟨s4, t4⟩ := hs _ l4
  obtain ⟨s5, t5⟩ := hs _ l5
  obtain ⟨s6, t6⟩ := hs _ l6
  obtain ⟨s7, t7⟩ := hs _ l7
  obtain ⟨s8, t8⟩ := hs _ l8
  exact ⟨⟨t0.trans l0, t4.trans l4, t5.trans l5, t6.trans l6, t7.trans l7, t8.trans l8⟩, ⟨⟨V0, s4.trans h4⟩, ⟨D0, s5.trans h5⟩, ⟨P0, s6.trans h6⟩, ⟨S0, s7.trans h7⟩, C0, s8.trans h8⟩, hne, f0, f1, f2, f3, s0.trans hf⟩
theorem xCl.hp {b : Nat} {g : uEnv} {U U' : UH} {lab lab' : Nat → Nat} {σ : MS} {cl : Nat} (hl : ∀ x, x < b → lab x = 0) (hs : uLb lab lab' U U' (fun k => k = 0 ∨ k = 4)) (h : xCl b g U lab σ cl) : xCl b g U' lab' σ cl := by
  obtain ⟨h1, arr, np, m, mc, xs, p, ⟨x1, x2, x3⟩, h3, h4, h5⟩ := h
  obtain ⟨s1, t1⟩ := hs cl (Or.inr h1)
  have sa : lab arr = 0 ∨ lab arr = 4 := by
    by_cases hm : m = 0
    · exact Or.inl (hl _ (h3 hm).2)
    · exact Or.inr (h4 hm)
  obtain ⟨s2, t2⟩ := hs arr sa
  exact ⟨t1.trans h1, arr, np, m, mc, xs, p, ⟨s1.trans x1, s2.trans x2, x3⟩, h3, fun hm => t2.trans (h4 hm), h5⟩
theorem xTp.hp {U U' : UH} {lab lab' : Nat → Nat} {σ : MS} {tp : Nat} (hs : uLb lab lab' U U' (fun k => k = 2)) (h : xTp U lab σ tp) : xTp U' lab' σ tp := by
  obtain ⟨h1, f, nt, h2, h3⟩ := h
  obtain ⟨s1, t1⟩ := hs tp h1
  exact ⟨t1.trans h1, f, nt, s1.trans h2, h3⟩
theorem xDg.hp {U U' : UH} {lab lab' : Nat → Nat} {σ : MS} {dg : Nat} (hs : uLb lab lab' U U' (fun k => k = 6)) (h : xDg U lab σ dg) : xDg U' lab' σ dg := by
  obtain ⟨h1, f, v, h2, h3⟩ := h
  obtain ⟨s1, t1⟩ := hs dg h1
  exact ⟨t1.trans h1, f, v, s1.trans h2, h3⟩
theorem xEn.hp {b : Nat} {g : uEnv} {U U' : UH} (hs : ∀ x, x < b → U'.2.2 x = U.2.2 x) (h : xEn b g U) : xEn b g U' := by
  obtain ⟨h1, h2, ⟨v, f, h3, h4, h5⟩, h6, h7⟩ := h
  exact ⟨h1, h2, ⟨v, f, h3, h4, (hs v h4).trans h5⟩, fun k hk => (hs _ (h7 k hk)).trans (h6 k hk), h7⟩
