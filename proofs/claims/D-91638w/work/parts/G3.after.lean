/-! PLAIN: the calls that solve: before and behind -/
theorem xO_eq {ad : Nat → Nat} {σ σ' : MS} {bk mp pt : Value} (h : σ'.1 39 = σ.1 39 ∧ σ'.1 10 = σ.1 10 ∧ σ'.1 38 = σ.1 38 ∧ σ'.1 2 = σ.1 2 ∧ σ'.1 9 = σ.1 9 ∧ σ'.1 63 = σ.1 63 ∧ σ'.1 64 = σ.1 64 ∧ σ'.1 65 = σ.1 65) : xO ad σ' bk mp pt = xO ad σ bk mp pt := by
  obtain ⟨a, b, c, d, e, f, g, h⟩ := h
  unfold xO
  rw [a, b, c, d, e, f, g, h]
theorem lab_out {lo hi x : Nat} {lab : Nat → Nat} (h : ∀ x, lo ≤ x → x < hi → lab x = 7) (hx : lab x ≠ 7) : x < lo ∨ hi ≤ x := by
  apply Classical.byContradiction
  intro z
  exact hx (h x (by omega) (by omega))
section C3
variable {N b : Nat} {g : uEnv} {A : pA} {ad sa : Nat → Nat} {Q : qT} {U : UH} {lab : Nat → Nat} {σ : MS}
/-- a map is there, or not -/
theorem k_map (h : xSt b g A ad sa Q U lab σ) : (∀ x, f_X1_isCell N b g U (ad 0) x = some (0, U) ∧ f_isCell N (mT σ 0) x = some (0, mT σ 0)) ∨ ∃ (bkv ptv : Value) (lo hi a al : Nat) (rv : Int32) (nm : Nat → Nat) (B : bBk) (dead : Int) (la da wa : Nat → Nat) (v8 v9 v10 : Value) (w h n nd : Nat) (hts : Nat → Int) (fl : Nat → Nat) (dO kn : Nat → Int) (dc : Nat → Nat) (wg : Nat → Nat → Nat), U.2.2 (ad 0) = some (xO ad σ bkv (.ref (la 0)) ptv) ∧ xSi b g A ad sa Q U lab σ bkv (.ref (la 0)) ptv ∧ bkv = .ref a ∧ vBk U b lo hi a al rv nm B ∧ (hi ≤ U.1 ∧ ∀ x, lo ≤ x → x < hi → lab x = 7) ∧ σ.1 12 = 1 ∧ σ.1 34 = 1 ∧ vLd U g la da wa a v8 v9 v10 w h n nd hts fl dO kn wg ∧ mLand σ B dead w h n nd hts fl dO kn dc wg ∧ mSol σ B dead w h n nd hts fl dO kn dc wg ∧ xGe n nd dO kn dc wg ∧ xLl b g U lab la da wa nd ∧ ∀ x, (f_X1_isCell N b g U (ad 0) x = some (0, U) ∧ f_isCell N (mT σ 0) x = some (0, mT σ 0)) ∨ (f_X1_isCell N b g U (ad 0) x = some (1, U) ∧ f_isCell N (mT σ 0) x = some (1, mT σ 0) ∧ ∃ c : Nat, x = iI c ∧ c < n) := by
  obtain ⟨bkv, mpv, ptv, hx, hi⟩ := h
  have hbm := hi.2.2.2.2.2.2.1
  have none : mpv = .null → σ.1 34 = 0 → (∀ x, f_X1_isCell N b g U (ad 0) x = some (0, U) ∧ f_isCell N (mT σ 0) x = some (0, mT σ 0)) := fun e1 e2 x => by
    subst e1
    exact ⟨x_ceN hx, m_ceN e2⟩
  rcases hbm with ⟨e1, e2, e3, e4, e5⟩ | ⟨lo, hi', a, al, rv, nm, B, dead, h1, h2, h3, h4, h5, h6, h7, h8, h9, h10⟩
  · exact Or.inl (none e2 e4)
  · rcases h10 with ⟨e1, e2⟩ | ⟨q1, la, da, wa, v8, v9, v10, w, h, n, nd, hts, fl, dO, kn, dc, wg, q2, q3, q4, q5, q6, q7⟩
    · exact Or.inl (none e1 e2)
    · subst q2
      refine Or.inr ⟨bkv, ptv, lo, hi', a, al, rv, nm, B, dead, la, da, wa, v8, v9, v10, w, h, n, nd, hts, fl, dO, kn, dc, wg, hx, hi, h1, h3, ⟨h8, h9⟩, h2, q1, q3, q4, q5, q6, q7, fun x => ?_⟩
      have q3' := q3
      obtain ⟨l0, hw, hh, hn, -⟩ := q3'
      have h34 : ¬ (mT σ 0).1 34 = 0 := by
        show ¬ σ.1 34 = 0
        rw [q1]
        decide
      have c := x_ce (N := N) (b := b) (g := g) hx l0 rfl rfl hw hh (i_S x)
      have d := m_ce (N := N) (σ := mT σ 0) (x := x.toInt) h34 q4.1.2.2.2.2.1 q4.1.2.2.2.2.2.1 hw hh (i_S x)
      rw [← i_of x] at c d
      have en : (w : Int) * (h : Int) = (n : Int) := by
        rw [hn]
        exact (Int.natCast_mul w h).symm
      rw [en] at c d
      by_cases q : 0 ≤ x.toInt ∧ x.toInt ≤ (n : Int) - 1
      · rw [iB_1 q] at c d
        refine Or.inr ⟨c, d, x.toInt.toNat, ?_, by omega⟩
        conv => lhs; rw [i_of x]
        congr 1
        omega
      · rw [iB_0 q] at c d
        exact Or.inl ⟨c, d⟩
theorem k_kOk {bkv mpv ptv : Value} (hi : xSi b g A ad sa Q U lab σ bkv mpv ptv) : kOk b sa := by
  obtain ⟨-, -, ⟨hl, -⟩, -, -, ⟨-, -, ⟨⟨l0, l4, l5, l6, l7, l8⟩, ⟨⟨V0, h4⟩, ⟨D0, h5⟩, ⟨P0, h6⟩, -⟩, hne, -⟩, -⟩, -⟩ := hi
  exact ⟨⟨lab_ge hl (by omega), lab_ge hl (by omega), lab_ge hl (by omega)⟩, u_nll h4 h5 (Or.inl (by decide)), u_nll h4 h6 (Or.inl (by decide)), hne⟩
theorem k_bOk {bkv mpv ptv : Value} {lo hi nd : Nat} {la da wa : Nat → Nat} (hi' : xSi b g A ad sa Q U lab σ bkv mpv ptv) (h7 : ∀ x, lo ≤ x → x < hi → lab x = 7) (hL : xLl b g U lab la da wa nd) : bOk2 b lo hi la sa := by
  obtain ⟨-, -, ⟨hl, -⟩, -, -, ⟨-, -, ⟨⟨l0, l4, l5, l6, l7, l8⟩, ⟨-, -, -, ⟨S0, h7'⟩, C0, h8⟩, -, -⟩, -⟩, -⟩ := hi'
  obtain ⟨⟨i0, i1, i2, -⟩, -⟩ := hL
  have ne : ∀ {x y : Nat}, lab x = 8 → lab y = 3 → x ≠ y := fun a b z => by rw [z, b] at a; omega
  exact ⟨⟨lab_ge hl (by omega), lab_ge hl (by omega), lab_ge hl (by omega)⟩, ⟨ne i0 l7, ne i0 l8, u_nll h7' h8 (Or.inr (by decide))⟩, ⟨ne i1 l7, ne i2 l7⟩, lab_out h7 (by omega), lab_out h7 (by omega), lab_out h7 (by omega)⟩
/-- the solver is set up -/
theorem k_solver {bkv ptv : Value} {lo hi a al : Nat} {rv : Int32} {nm : Nat → Nat} {B : bBk} {dead : Int} {la da wa : Nat → Nat} {v8 v9 v10 : Value} {w h n nd go mean : Nat} {hts : Nat → Int} {fl : Nat → Nat} {dO kn : Nat → Int} {dc : Nat → Nat} {wg : Nat → Nat → Nat} (hx : U.2.2 (ad 0) = some (xO ad σ bkv (.ref (la 0)) ptv)) (hI : xSi b g A ad sa Q U lab σ bkv (.ref (la 0)) ptv) (vB : vBk U b lo hi a al rv nm B) (h7 : hi ≤ U.1 ∧ ∀ x, lo ≤ x → x < hi → lab x = 7) (hL : vLd U g la da wa a v8 v9 v10 w h n nd hts fl dO kn wg) (hM : mLand σ B dead w h n nd hts fl dO kn dc wg) (hG : xGe n nd dO kn dc wg) (hLl : xLl b g U lab la da wa nd) (hm : mean = 0 ∨ mean = 1) (hN : 1025 ≤ N) : ∃ (ub : UH) (V : Nat → Int64) (D P : Nat → Int32) (u8 u9 u10 : Value), f_X1_solver N b g U (ad 0) (iI go) (iI mean) = some (some (ad 2), ub) ∧ cCx ub g la da wa sa (ad 2) U.1 a u8 u9 u10 w h n nd B.2.1 go mean hts fl (fun c => zNb w h dc c nd) dO kn wg (zBG B dead hts w h) ∧ (∀ cd, cd < 1024 → D cd = 0) ∧ kH ub sa V D P = ub ∧ (∀ x, ¬ kFp (ad 2) la sa x → x < U.1 → ub.2.2 x = U.2.2 x) ∧ uOld ub ∧ ub.1 = U.1 + 1 ∧ ub.2.1 = U.2.1 := by
  have k1 := k_kOk hI
  have k2 := k_bOk hI h7.2 hLl
  obtain ⟨ho, hb, ⟨hl, -⟩, -, -, ⟨-, -, ⟨⟨l0, l4, l5, l6, l7, l8⟩, hA, -, f0, f1, f2, f3, hso⟩, -⟩, -⟩ := hI
  obtain ⟨⟨hB, -, hde, hdr, -⟩, -, -, -, h4, -, h6⟩ := hM
  exact x_solver hx hde ho hb h7.1 hm hso (lab_ge hl (by omega)) k1 k2 hA ⟨lab_out h7.2 (by omega), lab_out h7.2 (by omega)⟩ hL vB hB hdr hG.1 hG.2.1 (fun c hc => (h4 c hc).2.1) (fun e g he hg hw => ((h6 e he).1 g hg).2.2 hw) hN
theorem kFp_lab {so : Nat} {la : Nat → Nat} {x : Nat} (h0 : lab (la 0) = 8) (h3 : lab so = 3 ∧ lab (sa 4) = 3 ∧ lab (sa 5) = 3 ∧ lab (sa 6) = 3 ∧ lab (sa 7) = 3 ∧ lab (sa 8) = 3) (hx : lab x ≠ 3) (hx' : lab x ≠ 8) : ¬ kFp so la sa x := fun q => by
  obtain ⟨a0, a4, a5, a6, a7, a8⟩ := h3
  rcases q with q | q | q | q | q | q | q
  · rw [q] at hx; exact hx a0
  · rw [q] at hx'; exact hx' h0
  · rw [q] at hx; exact hx a4
  · rw [q] at hx; exact hx a5
  · rw [q] at hx; exact hx a6
  · rw [q] at hx; exact hx a7
  · rw [q] at hx; exact hx a8
/-- behind the solver's work: u1 -/
theorem k_after {bkv ptv : Value} {lo hi a al : Nat} {rv : Int32} {nm : Nat → Nat} {B : bBk} {dead : Int} {la da wa : Nat → Nat} {v8 v9 v10 u8 u9 u10 : Value} {w h n nd go mean ja : Nat} {hts : Nat → Int} {fl : Nat → Nat} {dO kn : Nat → Int} {dc : Nat → Nat} {wg : Nat → Nat → Nat} {u1 : UH} {V : Nat → Int64} {D P : Nat → Int32} {σ1 : MS} (hQ : qOk Q) (hI : xSi b g A ad sa Q U lab σ bkv (.ref (la 0)) ptv) (hbk : bkv = .ref a) (vB : vBk U b lo hi a al rv nm B) (h7 : hi ≤ U.1 ∧ ∀ x, lo ≤ x → x < hi → lab x = 7) (h12 : σ.1 12 = 1) (h34 : σ.1 34 = 1) (hL : vLd U g la da wa a v8 v9 v10 w h n nd hts fl dO kn wg) (hM : mLand σ B dead w h n nd hts fl dO kn dc wg) (hG : xGe n nd dO kn dc wg) (hLl : xLl b g U lab la da wa nd) (hX : cCx u1 g la da wa sa (ad 2) ja a u8 u9 u10 w h n nd B.2.1 go mean hts fl (fun c => zNb w h dc c nd) dO kn wg (zBG B dead hts w h)) (kid : kH u1 sa V D P = u1) (hfr : ∀ x, ¬ kFp (ad 2) la sa x → x < U.1 → u1.2.2 x = U.2.2 x) (ho : uOld u1) (hU : U.1 ≤ u1.1) (hK : mKeep (mT σ 0) σ1) (hS : mSol σ1 B dead w h n nd hts fl dO kn dc wg) : xSi b g A ad sa Q u1 lab σ1 bkv (.ref (la 0)) ptv := by
  have kk := k_kOk hI
  have hM1 : mLand σ1 B dead w h n nd hts fl dO kn dc wg := hK.land hM
  obtain ⟨k1, k2⟩ := hK
  obtain ⟨oU, hb, ⟨hl, hf⟩, hE, hA, ⟨l0, h1, ⟨hS3, -, hne, -⟩, h2, h3⟩, -, hq⟩ := hI
  have hLl' := hLl
  obtain ⟨⟨i0, i1, i2, i3, i4, i6⟩, j1, j2, j3⟩ := hLl'
  have nf : ∀ {x}, lab x ≠ 3 → lab x ≠ 8 → ¬ kFp (ad 2) la sa x := fun q1 q2 => kFp_lab i0 hS3 q1 q2
  have lt : ∀ {x}, lab x ≠ 11 → x < U.1 := fun {x} q => by
    apply Classical.byContradiction
    intro z
    exact q (hf x (by omega))
  have ns : ∀ {p : Nat → Prop}, ¬ p 3 → ¬ p 8 → ¬ p 11 → uLb lab lab U u1 p := fun p3 p8 p11 x hx => ⟨hfr x (nf (fun z => p3 (by rw [← z]; exact hx)) (fun z => p8 (by rw [← z]; exact hx))) (lt (fun z => p11 (by rw [← z]; exact hx))), rfl⟩
  have kw : ∀ k, k ≠ 0 → k ≠ 39 → k ≠ 49 → k ≠ 50 → k ≠ 51 → σ1.1 k = σ.1 k := fun k q0 q39 q49 q50 q51 => by
    rw [k1 k q49 q50 q51]
    show upd (upd σ.1 0 0) 39 0 k = σ.1 k
    rw [upd_n q39, upd_n q0]
  have ka : ∀ j, j ≠ 52 → j ≠ 53 → j ≠ 70 → j ≠ 71 → j ≠ 72 → σ1.2.1 j = σ.2.1 j := fun j a b c d e => k2 j a b c d e
  have hl0 := hL.1
  have hl5 : u1.2.2 (la 5) = U.2.2 (la 5) := by
    obtain ⟨-, -, -, -, -, -, -, -, ⟨m, mc, xs, ⟨x1, x2, x3⟩, x4⟩, -⟩ := hL
    by_cases hm : m = 0
    · have q := ((j3 m _ x2).1 hm).2
      exact hfr _ (nf (by rw [hl _ q]; decide) (by rw [hl _ q]; decide)) (by omega)
    · have q := (j3 m _ x2).2 hm
      refine hfr _ (fun z => ?_) (oU _ _ x2)
      obtain ⟨a0, a4, a5, a6, a7, a8⟩ := hS3
      rcases z with z | z | z | z | z | z | z
      · rw [z] at q; omega
      · exact u_nlr x2 hl0 z
      · rw [z] at q; omega
      · rw [z] at q; omega
      · rw [z] at q; omega
      · rw [z] at q; omega
      · rw [z] at q; omega
  have k4 : u1.2.2 (sa 4) = some (.inl (3, 102400, .inr (.inl V))) := by
    rw [← kid]
    exact kH_4
  have k5 : u1.2.2 (sa 5) = some (.inl (2, 1024, .inl D)) := by
    rw [← kid]
    exact kH_5 kk
  have k6 : u1.2.2 (sa 6) = some (.inl (2, 100, .inl P)) := by
    rw [← kid]
    exact kH_6 kk
  obtain ⟨hO, hL1, -, ⟨cf, c1, c2⟩, ⟨sf, f1, f2⟩, -⟩ := hX
  have t1 : xTp U lab σ1 (ad 1) := by
    unfold xTp at h1 ⊢
    rw [kw 2 (by decide) (by decide) (by decide) (by decide) (by decide), ka 1 (by decide) (by decide) (by decide) (by decide) (by decide)]
    exact h1
  have t2 : xCl b g U lab σ1 (ad 3) := by
    unfold xCl at h2 ⊢
    rw [kw 55 (by decide) (by decide) (by decide) (by decide) (by decide), kw 73 (by decide) (by decide) (by decide) (by decide) (by decide), ka 54 (by decide) (by decide) (by decide) (by decide) (by decide)]
    exact h2
  have t3 : xDg U lab σ1 (ad 5) := by
    unfold xDg at h3 ⊢
    rw [ka 47 (by decide) (by decide) (by decide) (by decide) (by decide)]
    exact h3
  refine ⟨ho, by omega, ⟨hl, fun x hx => hf x (by omega)⟩, hE.hp (fun x hx => hfr x (nf (by rw [hl x hx]; decide) (by rw [hl x hx]; decide)) (by omega)), hA, ⟨l0, t1.hp (ns (by decide) (by decide) (by decide)), ⟨hS3, ⟨⟨V, k4⟩, ⟨D, k5⟩, ⟨P, k6⟩, ⟨sf, f1⟩, cf, c1⟩, hne, _, _, _, _, hO⟩, t2.hp hl (ns (by decide) (by decide) (by decide)), t3.hp (ns (by decide) (by decide) (by decide))⟩, Or.inr ⟨lo, hi, a, al, rv, nm, B, dead, hbk, ?_, vB.same (fun x hx => ?_), hM1.1.1, hM1.1.2.1, hM1.1.2.2.1, hM1.1.2.2.2.1, by omega, h7.2, Or.inr ⟨?_, la, da, wa, u8, u9, u10, w, h, n, nd, hts, fl, dO, kn, dc, wg, rfl, hL1, hM1, hS, hG, ⟨i0, i1, i2, i3, i4, i6⟩, j1, j2, fun m z hz => j3 m z (hl5 ▸ hz)⟩⟩, hQ _ _ _ _ _ _ _ _ (ns (by unfold qLb; decide) (by unfold qLb; decide) (by unfold qLb; decide)) ⟨fun k hk => ?_, fun j hj => ?_, Or.inl (kw 37 (by decide) (by decide) (by decide) (by decide) (by decide))⟩ hq⟩
  · exact (kw 12 (by decide) (by decide) (by decide) (by decide) (by decide)).trans h12
  · rcases hx with q | ⟨q1, q2⟩
    · exact hfr x (nf (by rw [hl x q]; decide) (by rw [hl x q]; decide)) (by omega)
    · have := h7.2 x q1 q2
      exact hfr x (nf (by omega) (by omega)) (by omega)
  · exact (kw 34 (by decide) (by decide) (by decide) (by decide) (by decide)).trans h34
  · exact kw k (by omega) (by omega) (by omega) (by omega) (by omega)
  · exact ka j (by omega) (by omega) (by omega) (by omega) (by omega)
end C3
