/-! PLAIN: behind a way that was gone -/
theorem l_cl27 {N b : Nat} {g : uEnv} {a0 arr n m : Nat} (hb : 0 < n → b ≤ arr) (hm : n ≤ m) (hm2 : m ≤ 1000000) : ∀ (k i : Nat) (u : UH) (xs : Nat → Option Nat), i ≤ n → n < i + k → u.2.2 arr = some (.inl (4, m, .inr (.inr (.inr (.inr xs))))) → ∃ xs' : Nat → Option Nat, f_J2_clear_27 N b g a0 k u (some arr) (iI n) (iI i) = some (uSet u arr (.inl (4, m, .inr (.inr (.inr (.inr xs')))))) ∧ (n ≤ i → xs' = xs) := by
  intro k
  induction k with
  | zero => intro i u xs h1 h2; omega
  | succ k ih =>
    intro i u xs h1 h2 ha
    rw [f_J2_clear_27]
    by_cases hi : n ≤ i
    · refine ⟨xs, ?_, fun _ => rfl⟩
      rw [p_le (by omega) (by omega) (by omega) (by omega) (by omega), u_se ha]
    · have ei : iI (i : Int) + 1 = iI ((i + 1 : Nat) : Int) := by
        rw [j1, i_add]
        rfl
      obtain ⟨xs', r1, -⟩ := ih (i + 1) (uSet u arr (.inl (4, m, .inr (.inr (.inr (.inr (va_up xs i none))))))) (va_up xs i none) (by omega) (by omega) u_ss
      rw [u_s2] at r1
      refine ⟨xs', ?_, fun q => absurd q hi⟩
      rw [n_le (by omega) (by omega) (by omega) (by omega) (by omega), p_bs, u_stR ha (hb (by omega)) (by omega) (by omega) (by omega), p_bs, p_let, ei]
      exact r1
theorem l_clear {N b : Nat} {g : uEnv} {u : UH} {a arr n m : Nat} {mc : Int32} {xs : Nat → Option Nat} (h : vLs u a arr n m mc xs) (ho : uOld u) (hb : b ≤ a) (hba : 0 < n → b ≤ arr) (hN : n < N) : ∃ (u' : UH) (xs' : Nat → Option Nat), f_J2_clear N b g u a = some u' ∧ vLs u' a arr 0 m (mc + 1) xs' ∧ (∀ x, x ≠ a → (0 < n → x ≠ arr) → u'.2.2 x = u.2.2 x) ∧ uOld u' ∧ u'.1 = u.1 ∧ u'.2.1 = u.2.1 := by
  obtain ⟨e1, e2, e3, e4⟩ := h
  have na : arr ≠ a := u_nlr e2 e1
  have f2 : (uSet u a (.inr (18, [.int (mc + 1), .ref arr, .int 0]))).2.2 arr = some (.inl (4, m, .inr (.inr (.inr (.inr xs))))) := (u_sn na).trans e2
  obtain ⟨xs', r1, r2⟩ := l_cl27 (N := N) (b := b) (g := g) (a0 := a) hba e3 e4 N 0 _ xs (by omega) (by omega) f2
  refine ⟨uSet (uSet u a (.inr (18, [.int (mc + 1), .ref arr, .int 0]))) arr (.inl (4, m, .inr (.inr (.inr (.inr xs'))))), xs', ?_, ⟨(u_sn (Ne.symm na)).trans u_ss, u_ss, by omega, e4⟩, fun x h1 h2 => ?_, (ho.set e1).set f2, rfl, rfl⟩
  · unfold f_J2_clear
    rw [v_gi e1 (k := 0) rfl, p_bs, u_pw e1 hb (Nat.le_of_ble_eq_true rfl), p_bs, v_gr u_ss (k := 1) rfl, p_bs, v_gi u_ss (k := 2) rfl, p_bs, u_pw u_ss hb (Nat.le_of_ble_eq_true rfl), p_bs, u_s2]
    exact r1
  · by_cases hz : 0 < n
    · rw [u_sn (h2 hz), u_sn h1]
    · rw [r2 (by omega), u_se f2, u_sn h1]
section D2
variable {N b : Nat} {g : uEnv} {A : pA} {ad sa : Nat → Nat} {Q : qT} {U : UH} {lab : Nat → Nat} {σ : MS}
/-- behind the solver's work, where the cells that were gone have changed -/
theorem k_after2 {bkv ptv : Value} {lo hi a al : Nat} {rv : Int32} {nm : Nat → Nat} {B : bBk} {dead : Int} {la da wa : Nat → Nat} {v8 v9 v10 u8 u9 u10 : Value} {w h n nd go mean ja : Nat} {hts : Nat → Int} {fl : Nat → Nat} {dO kn : Nat → Int} {dc : Nat → Nat} {wg : Nat → Nat → Nat} {u1 : UH} {V : Nat → Int64} {D P : Nat → Int32} {σ1 : MS} {lab1 : Nat → Nat} (hQ : qOk Q) (hI : xSi b g A ad sa Q U lab σ bkv (.ref (la 0)) ptv) (hbk : bkv = .ref a) (vB : vBk U b lo hi a al rv nm B) (h7 : hi ≤ U.1 ∧ ∀ x, lo ≤ x → x < hi → lab x = 7) (h12 : σ.1 12 = 1) (h34 : σ.1 34 = 1) (hL : vLd U g la da wa a v8 v9 v10 w h n nd hts fl dO kn wg) (hG : xGe n nd dO kn dc wg) (hLl : xLl b g U lab la da wa nd) (hX : cCx u1 g la da wa sa (ad 2) ja a u8 u9 u10 w h n nd B.2.1 go mean hts fl (fun c => zNb w h dc c nd) dO kn wg (zBG B dead hts w h)) (kid : kH u1 sa V D P = u1) (hfr : ∀ x, ¬ kFp (ad 2) la sa x → lab x ≠ 4 → x < U.1 → u1.2.2 x = U.2.2 x) (ho : uOld u1) (hU : U.1 ≤ u1.1) (hlb : ∀ x, lab1 x = lab x ∨ (U.1 ≤ x ∧ lab1 x = 4)) (hfe : ∀ x, u1.1 ≤ x → lab1 x = 11) (hCl : xCl b g u1 lab1 σ1 (ad 3)) (hM1 : mLand σ1 B dead w h n nd hts fl dO kn dc wg) (hS : mSol σ1 B dead w h n nd hts fl dO kn dc wg) (kw : ∀ k, k ≠ 0 → k ≠ 39 → k ≠ 49 → k ≠ 50 → k ≠ 51 → k ≠ 55 → k ≠ 73 → σ1.1 k = σ.1 k) (ka : ∀ j, j ≠ 52 → j ≠ 53 → j ≠ 54 → j ≠ 70 → j ≠ 71 → j ≠ 72 → j ≠ 74 → σ1.2.1 j = σ.2.1 j) : xSi b g A ad sa Q u1 lab1 σ1 bkv (.ref (la 0)) ptv := by
  have kk := k_kOk hI
  obtain ⟨oU, hb, ⟨hl, hf⟩, hE, hA, ⟨l0, h1, ⟨hS3, -, hne, -⟩, -, h3⟩, -, hq⟩ := hI
  have hLl' := hLl
  obtain ⟨⟨i0, i1, i2, i3, i4, i6⟩, j1, j2, j3⟩ := hLl'
  have nf : ∀ {x}, lab x ≠ 3 → lab x ≠ 8 → ¬ kFp (ad 2) la sa x := fun q1 q2 => kFp_lab i0 hS3 q1 q2
  have lt : ∀ {x}, lab x ≠ 11 → x < U.1 := fun {x} q => by
    apply Classical.byContradiction
    intro z
    exact q (hf x (by omega))
  have lbe : ∀ {x}, x < U.1 → lab1 x = lab x := fun {x} q => by
    rcases hlb x with z | z
    · exact z
    · omega
  have ns : ∀ {p : Nat → Prop}, ¬ p 3 → ¬ p 8 → ¬ p 11 → ¬ p 4 → uLb lab lab1 U u1 p := fun p3 p8 p11 p4 x hx => ⟨hfr x (nf (fun z => p3 (by rw [← z]; exact hx)) (fun z => p8 (by rw [← z]; exact hx))) (fun z => p4 (by rw [← z]; exact hx)) (lt (fun z => p11 (by rw [← z]; exact hx))), lbe (lt (fun z => p11 (by rw [← z]; exact hx)))⟩
  have l8 : ∀ {x}, lab x = 8 → lab1 x = 8 := fun {x} q => (lbe (lt (by omega))).trans q
  have l3 : ∀ {x}, lab x = 3 → lab1 x = 3 := fun {x} q => (lbe (lt (by omega))).trans q
  have hl0 := hL.1
  have hl5 : u1.2.2 (la 5) = U.2.2 (la 5) := by
    obtain ⟨-, -, -, -, -, -, -, -, ⟨m, mc, xs, ⟨x1, x2, x3⟩, x4⟩, -⟩ := hL
    by_cases hm : m = 0
    · have q := ((j3 m _ x2).1 hm).2
      exact hfr _ (nf (by rw [hl _ q]; decide) (by rw [hl _ q]; decide)) (by rw [hl _ q]; decide) (by omega)
    · have q := (j3 m _ x2).2 hm
      refine hfr _ (fun z => ?_) (by omega) (oU _ _ x2)
      obtain ⟨a0, a4, a5, a6, a7, a8⟩ := hS3
      rcases z with z | z | z | z | z | z | z
      · rw [z] at q; omega
      · exact u_nlr x2 hl0 z
      · rw [z] at q; omega
      · rw [z] at q; omega
      · rw [z] at q; omega
      · rw [z] at q; omega
      · rw [z] at q; omega
  have k4 : u1.2.2 (sa 4) = some (.inl (3, 102400, .inr (.inl V))) := by
    rw [← kid]
    exact kH_4
  have k5 : u1.2.2 (sa 5) = some (.inl (2, 1024, .inl D)) := by
    rw [← kid]
    exact kH_5 kk
  have k6 : u1.2.2 (sa 6) = some (.inl (2, 100, .inl P)) := by
    rw [← kid]
    exact kH_6 kk
  obtain ⟨hO, hL1, -, ⟨cf, c1, c2⟩, ⟨sf, f1, f2⟩, -⟩ := hX
  have t1 : xTp U lab σ1 (ad 1) := by
    unfold xTp at h1 ⊢
    rw [kw 2 (by decide) (by decide) (by decide) (by decide) (by decide) (by decide) (by decide), ka 1 (by decide) (by decide) (by decide) (by decide) (by decide) (by decide) (by decide)]
    exact h1
  have t3 : xDg U lab σ1 (ad 5) := by
    unfold xDg at h3 ⊢
    rw [ka 47 (by decide) (by decide) (by decide) (by decide) (by decide) (by decide) (by decide)]
    exact h3
  have s3 := hS3
  obtain ⟨a0, a4, a5, a6, a7, a8⟩ := s3
  refine ⟨ho, by omega, ⟨fun x hx => (lbe (by omega)).trans (hl x hx), hfe⟩, hE.hp (fun x hx => hfr x (nf (by rw [hl x hx]; decide) (by rw [hl x hx]; decide)) (by rw [hl x hx]; decide) (by omega)), ⟨(lbe (lt (by rw [hA.1]; decide))).trans hA.1, fun j hj => (lbe (lt (by rw [hA.2 j hj]; decide))).trans (hA.2 j hj)⟩, ⟨(lbe (lt (by omega))).trans l0, t1.hp (ns (by decide) (by decide) (by decide) (by decide)), ⟨⟨l3 a0, l3 a4, l3 a5, l3 a6, l3 a7, l3 a8⟩, ⟨⟨V, k4⟩, ⟨D, k5⟩, ⟨P, k6⟩, ⟨sf, f1⟩, cf, c1⟩, hne, _, _, _, _, hO⟩, hCl, t3.hp (ns (by decide) (by decide) (by decide) (by decide))⟩, Or.inr ⟨lo, hi, a, al, rv, nm, B, dead, hbk, ?_, vB.same (fun x hx => ?_), hM1.1.1, hM1.1.2.1, hM1.1.2.2.1, hM1.1.2.2.2.1, by omega, fun x q1 q2 => (lbe (by omega)).trans (h7.2 x q1 q2), Or.inr ⟨?_, la, da, wa, u8, u9, u10, w, h, n, nd, hts, fl, dO, kn, dc, wg, rfl, hL1, hM1, hS, hG, ⟨l8 i0, l8 i1, l8 i2, l8 i3, l8 i4, l8 i6⟩, fun e he => ⟨l8 (j1 e he).1, l8 (j1 e he).2.1, (j1 e he).2.2⟩, j2, fun m z hz => ⟨((j3 m z (hl5 ▸ hz)).1), fun hm => l8 ((j3 m z (hl5 ▸ hz)).2 hm)⟩⟩⟩, hQ U u1 lab lab1 σ σ1 bkv ptv (ns (by unfold qLb; decide) (by unfold qLb; decide) (by unfold qLb; decide) (by unfold qLb; decide)) ⟨fun k hk => ?_, fun j hj => ?_, Or.inl (kw 37 (by decide) (by decide) (by decide) (by decide) (by decide) (by decide) (by decide))⟩ hq⟩
  · exact (kw 12 (by decide) (by decide) (by decide) (by decide) (by decide) (by decide) (by decide)).trans h12
  · rcases hx with q | ⟨q1, q2⟩
    · exact hfr x (nf (by rw [hl x q]; decide) (by rw [hl x q]; decide)) (by rw [hl x q]; decide) (by omega)
    · have := h7.2 x q1 q2
      exact hfr x (nf (by omega) (by omega)) (by omega) (by omega)
  · exact (kw 34 (by decide) (by decide) (by decide) (by decide) (by decide) (by decide) (by decide)).trans h34
  · exact kw k (by omega) (by omega) (by omega) (by omega) (by omega) (by omega) (by omega)
  · exact ka j (by omega) (by omega) (by omega) (by omega) (by omega) (by omega) (by omega)
/-- a session, the model being at sm -/
theorem k_ses2 {bkv ptv : Value} {lo hi a al : Nat} {rv : Int32} {nm : Nat → Nat} {B : bBk} {dead : Int} {la da wa : Nat → Nat} {v8 v9 v10 : Value} {w h n nd go mean fr : Nat} {hts : Nat → Int} {fl : Nat → Nat} {dO kn : Nat → Int} {dc : Nat → Nat} {wg : Nat → Nat → Nat} {sm : MS} (hx : U.2.2 (ad 0) = some (xO ad σ bkv (.ref (la 0)) ptv)) (hI : xSi b g A ad sa Q U lab σ bkv (.ref (la 0)) ptv) (vB : vBk U b lo hi a al rv nm B) (h7 : hi ≤ U.1 ∧ ∀ x, lo ≤ x → x < hi → lab x = 7) (hL : vLd U g la da wa a v8 v9 v10 w h n nd hts fl dO kn wg) (hM : mLand σ B dead w h n nd hts fl dO kn dc wg) (hMm : mLand sm B dead w h n nd hts fl dO kn dc wg) (hSm : mSol sm B dead w h n nd hts fl dO kn dc wg) (hG : xGe n nd dO kn dc wg) (hLl : xLl b g U lab la da wa nd) (hm : mean = 0 ∨ mean = 1) (hgo : go < n) (hfr : fr < n) (hN : 200000000000000000 ≤ N) : ∃ (ub : UH) (u8 u9 u10 : Value) (σ1 : MS), f_X1_solver N b g U (ad 0) (iI go) (iI mean) = some (some (ad 2), ub) ∧ f_from N sm (iI fr) (iI go) (iI mean) = some (iL (iW (zY σ1.2.2 (zBa kn wg nd) fr)), σ1) ∧ sS g la da wa sa (ad 2) U.1 a u8 u9 u10 w h n nd B.2.1 go mean hts fl (fun c => zNb w h dc c nd) dO kn wg (zBG B dead hts w h) (zY σ1.2.2) U ub 1 0 ∧ mKeep sm σ1 ∧ mSol σ1 B dead w h n nd hts fl dO kn dc wg ∧ xSol w h n nd go mean fl (fun c => zNb w h dc c nd) dO kn wg (zBG B dead hts w h) (zY σ1.2.2) ∧ (zBa kn wg nd < 1024 ∧ yCan nd kn wg (zBa kn wg nd)) ∧ yBs σ1.1 σ1.2.1 B dead w h n nd hts fl dO kn dc wg ∧ (∀ cd, cd < 1024 → yCan nd kn wg cd → zVs σ1.2.2 cd n (zY σ1.2.2 cd)) ∧ σ1.1 49 = iI go ∧ σ1.1 50 = iI mean := by
  obtain ⟨ub, V, D, P, u8, u9, u10, r1, r2, r3, r4, r5, r6, r7, r8⟩ := k_solver (N := N) (go := go) hx hI vB h7 hL hM hG hLl hm (by omega)
  obtain ⟨σ1, q1, q2, q3, q4, q5, q6, q7, q8⟩ := m_from (N := N) hMm hSm hG.2.2 hgo hfr hm hN
  obtain ⟨-, hw, hh, hn, hnd, -⟩ := hL
  refine ⟨ub, u8, u9, u10, σ1, r1, q1, ⟨r2, ⟨V, D, P, r4, fun cd hcd => ⟨Or.inl (r3 cd hcd), fun z => ?_⟩⟩, r5, r6, r7, r8⟩, q2, fun _ => ⟨q3, go, mean, hgo, hm, q4, q5, q6, q7⟩, x_sol (fun c hc => ⟨(hM.2.2.2.2.1 c hc).2.2.2.1, (hM.2.2.2.2.1 c hc).2.2.2.2⟩) hG.1 hw hh hn hnd q7, q8, q6, fun cd h1 h2 => ?_, q4, q5⟩
  · rw [r3 cd hcd] at z
    exact absurd z (by decide)
  · obtain ⟨X, x1, -⟩ := q7 cd h1 h2
    intro d hd
    rw [zY_v x1 hd]
    exact x1 d hd
end D2
