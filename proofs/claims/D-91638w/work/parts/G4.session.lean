/-! PLAIN: while the solver is in use -/
/-- the heap u of a session that began at U -/
def sS (g : uEnv) (la da wa sa : Nat → Nat) (so ja a : Nat) (u8 u9 u10 : Value) (w h n nd ng go mean : Nat) (hts : Nat → Int) (fl nb : Nat → Nat) (dO kn : Nat → Int) (wg : Nat → Nat → Nat) (BG : Nat → Nat → Nat → Nat) (Y : Nat → Nat → Nat) (U u : UH) (dc ds : Nat) : Prop := cCx u g la da wa sa so ja a u8 u9 u10 w h n nd ng go mean hts fl nb dO kn wg BG ∧ (∃ (V : Nat → Int64) (D P : Nat → Int32), kH u sa V D P = u ∧ cInv n Y V D) ∧ (∀ x, ¬ kFp so la sa x → x < U.1 → u.2.2 x = U.2.2 x) ∧ uOld u ∧ u.1 = U.1 + dc ∧ u.2.1 = U.2.1 + ds
theorem kFp_n {so : Nat} {la sa : Nat → Nat} {x : Nat} (h : ¬ kFp so la sa x) : x ≠ sa 4 ∧ x ≠ sa 5 ∧ x ≠ sa 6 := ⟨fun z => h (Or.inr (Or.inr (Or.inl z))), fun z => h (Or.inr (Or.inr (Or.inr (Or.inl z)))), fun z => h (Or.inr (Or.inr (Or.inr (Or.inr (Or.inl z)))))⟩
theorem sS.of {N b : Nat} {g : uEnv} {la da wa sa : Nat → Nat} {so ja a : Nat} {u8 u9 u10 : Value} {w h n nd ng go mean cd c : Nat} {hts : Nat → Int} {fl nb : Nat → Nat} {dO kn : Nat → Int} {wg : Nat → Nat → Nat} {BG : Nat → Nat → Nat → Nat} {Y : Nat → Nat → Nat} {U u : UH} {dc ds : Nat} (hk : kOk b sa) (hgo : go < n) (hm : mean = 0 ∨ mean = 1) (hS : xSol w h n nd go mean fl nb dO kn wg BG Y) (hN : 101 ≤ N) (hcd : cd < 1024) (hcan : yCan nd kn wg cd) (hc : c < n) (hs0 : sS g la da wa sa so ja a u8 u9 u10 w h n nd ng go mean hts fl nb dO kn wg BG Y U u dc ds) : ∃ u', f_X2_of N b g u so (iI c) (iI cd) = some (iV (Y cd c), u') ∧ sS g la da wa sa so ja a u8 u9 u10 w h n nd ng go mean hts fl nb dO kn wg BG Y U u' dc ds := by
  obtain ⟨hX, ⟨V, D, P, kid, hI⟩, hf, ho, h1, h2⟩ := hs0
  obtain ⟨V', D', P', r1, r2⟩ := c_of (N := N) (b := b) (V := V) (D := D) (P := P) hX hk hgo hm hS hN hcd hcan hc hI
  rw [kid] at r1
  refine ⟨_, r1, hX.kH hk, ⟨V', D', P', kH_id kH_4 (kH_5 hk) (kH_6 hk), r2⟩, fun x q1 q2 => ?_, ho.kH hX.2.2.1, h1, h2⟩
  obtain ⟨n4, n5, n6⟩ := kFp_n q1
  rw [kH_n n4 n5 n6]
  exact hf x q1 q2
section C4
variable {N b : Nat} {g : uEnv} {A : pA} {ad sa : Nat → Nat} {Q : qT} {U : UH} {lab : Nat → Nat} {σ : MS}
theorem k_ses {bkv ptv : Value} {lo hi a al : Nat} {rv : Int32} {nm : Nat → Nat} {B : bBk} {dead : Int} {la da wa : Nat → Nat} {v8 v9 v10 : Value} {w h n nd go mean fr : Nat} {hts : Nat → Int} {fl : Nat → Nat} {dO kn : Nat → Int} {dc : Nat → Nat} {wg : Nat → Nat → Nat} (hx : U.2.2 (ad 0) = some (xO ad σ bkv (.ref (la 0)) ptv)) (hI : xSi b g A ad sa Q U lab σ bkv (.ref (la 0)) ptv) (vB : vBk U b lo hi a al rv nm B) (h7 : hi ≤ U.1 ∧ ∀ x, lo ≤ x → x < hi → lab x = 7) (hL : vLd U g la da wa a v8 v9 v10 w h n nd hts fl dO kn wg) (hM : mLand σ B dead w h n nd hts fl dO kn dc wg) (hSo : mSol σ B dead w h n nd hts fl dO kn dc wg) (hG : xGe n nd dO kn dc wg) (hLl : xLl b g U lab la da wa nd) (hm : mean = 0 ∨ mean = 1) (hgo : go < n) (hfr : fr < n) (hN : 200000000000000000 ≤ N) : ∃ (ub : UH) (u8 u9 u10 : Value) (σ1 : MS), f_X1_solver N b g U (ad 0) (iI go) (iI mean) = some (some (ad 2), ub) ∧ f_from N (mT σ 0) (iI fr) (iI go) (iI mean) = some (iL (iW (zY σ1.2.2 (zBa kn wg nd) fr)), σ1) ∧ sS g la da wa sa (ad 2) U.1 a u8 u9 u10 w h n nd B.2.1 go mean hts fl (fun c => zNb w h dc c nd) dO kn wg (zBG B dead hts w h) (zY σ1.2.2) U ub 1 0 ∧ mKeep (mT σ 0) σ1 ∧ mSol σ1 B dead w h n nd hts fl dO kn dc wg ∧ xSol w h n nd go mean fl (fun c => zNb w h dc c nd) dO kn wg (zBG B dead hts w h) (zY σ1.2.2) ∧ (zBa kn wg nd < 1024 ∧ yCan nd kn wg (zBa kn wg nd)) ∧ yBs σ1.1 σ1.2.1 B dead w h n nd hts fl dO kn dc wg ∧ (∀ cd, cd < 1024 → yCan nd kn wg cd → zVs σ1.2.2 cd n (zY σ1.2.2 cd)) ∧ σ1.1 49 = iI go ∧ σ1.1 50 = iI mean := by
  obtain ⟨ub, V, D, P, u8, u9, u10, r1, r2, r3, r4, r5, r6, r7, r8⟩ := k_solver (N := N) (go := go) hx hI vB h7 hL hM hG hLl hm (by omega)
  have hM0 : mLand (mT σ 0) B dead w h n nd hts fl dO kn dc wg := hM
  have hS0 : mSol (mT σ 0) B dead w h n nd hts fl dO kn dc wg := hSo
  obtain ⟨σ1, q1, q2, q3, q4, q5, q6, q7, q8⟩ := m_from (N := N) hM0 hS0 hG.2.2 hgo hfr hm hN
  obtain ⟨-, hw, hh, hn, hnd, -⟩ := hL
  refine ⟨ub, u8, u9, u10, σ1, r1, q1, ⟨r2, ⟨V, D, P, r4, fun cd hcd => ⟨Or.inl (r3 cd hcd), fun z => ?_⟩⟩, r5, r6, r7, r8⟩, q2, fun _ => ⟨q3, go, mean, hgo, hm, q4, q5, q6, q7⟩, x_sol (fun c hc => ⟨(hM.2.2.2.2.1 c hc).2.2.2.1, (hM.2.2.2.2.1 c hc).2.2.2.2⟩) hG.1 hw hh hn hnd q7, q8, q6, fun cd h1 h2 => ?_, q4, q5⟩
  · rw [r3 cd hcd] at z
    exact absurd z (by decide)
  · obtain ⟨X, x1, -⟩ := q7 cd h1 h2
    intro d hd
    rw [zY_v x1 hd]
    exact x1 d hd
/-- areCells -/
theorem k_are {x y : Int32} (hi : uIs U (ad 0) 0 = true) : (f_X1_isCell N b g U (ad 0) x = some (0, U) → f_X1_areCells N b g U (ad 0) x y = some (0, U)) ∧ (f_X1_isCell N b g U (ad 0) x = some (1, U) → f_X1_isCell N b g U (ad 0) y = some (0, U) → f_X1_areCells N b g U (ad 0) x y = some (0, U)) ∧ (f_X1_isCell N b g U (ad 0) x = some (1, U) → f_X1_isCell N b g U (ad 0) y = some (1, U) → f_X1_areCells N b g U (ad 0) x y = some (1, U)) := by
  unfold f_X1_areCells f_X1_areCells_20 f_X1_areCells_21
  refine ⟨fun h1 => ?_, fun h1 h2 => ?_, fun h1 h2 => ?_⟩
  · rw [if_pos hi, h1, q_uc, if_pos rfl, if_pos uF0]
  · rw [if_pos hi, h1, q_uc, if_neg n10, if_pos hi, h2, q_uc, if_pos rfl, if_pos uF0]
  · rw [if_pos hi, h1, q_uc, if_neg n10, if_pos hi, h2, q_uc, if_neg n10, if_pos uF1]
/-- a session that ends: what is done or refused -/
theorem k_end {bkv ptv : Value} {lo hi a al : Nat} {rv : Int32} {nm : Nat → Nat} {B : bBk} {dead : Int} {la da wa : Nat → Nat} {v8 v9 v10 u8 u9 u10 : Value} {w h n nd go mean ja d1 d2 : Nat} {hts : Nat → Int} {fl : Nat → Nat} {dO kn : Nat → Int} {dc : Nat → Nat} {wg : Nat → Nat → Nat} {u1 : UH} {σ1 : MS} {Y : Nat → Nat → Nat} (hQ : qOk Q) (hx : U.2.2 (ad 0) = some (xO ad σ bkv (.ref (la 0)) ptv)) (hI : xSi b g A ad sa Q U lab σ bkv (.ref (la 0)) ptv) (hbk : bkv = .ref a) (vB : vBk U b lo hi a al rv nm B) (h7 : hi ≤ U.1 ∧ ∀ x, lo ≤ x → x < hi → lab x = 7) (h12 : σ.1 12 = 1) (h34 : σ.1 34 = 1) (hL : vLd U g la da wa a v8 v9 v10 w h n nd hts fl dO kn wg) (hM : mLand σ B dead w h n nd hts fl dO kn dc wg) (hG : xGe n nd dO kn dc wg) (hLl : xLl b g U lab la da wa nd) (hs : sS g la da wa sa (ad 2) ja a u8 u9 u10 w h n nd B.2.1 go mean hts fl (fun c => zNb w h dc c nd) dO kn wg (zBG B dead hts w h) Y U u1 d1 d2) (hK : mKeep (mT σ 0) σ1) (hS : mSol σ1 B dead w h n nd hts fl dO kn dc wg) : uIs u1 (ad 0) 0 = true ∧ (∀ r : Int32, ∃ U', f_X1_done N b g u1 (ad 0) r = some (r, U') ∧ xStep b g A ad sa Q U lab U' σ1 d1 d2) ∧ ∀ t : Int32, t ≠ 4 → ∃ U', f_X1_refused N b g u1 (ad 0) t = some (-1, U') ∧ xStep b g A ad sa Q U lab U' (mSet σ1 39 t) d1 d2 := by
  obtain ⟨hX, ⟨V, D, P, kid, -⟩, hf, ho, s1, s2⟩ := hs
  have aft := k_after hQ hI hbk vB h7 h12 h34 hL hM hG hLl hX kid hf ho (by omega) hK hS
  obtain ⟨oU, -, ⟨hl, hfr⟩, -, hA, ⟨l0, -, ⟨hS3, -⟩, -⟩, -⟩ := hI
  have nf : ∀ {x}, lab x ≠ 3 → lab x ≠ 8 → ¬ kFp (ad 2) la sa x := fun q1 q2 => kFp_lab hLl.1.1 hS3 q1 q2
  have hx1 : u1.2.2 (ad 0) = some (xO ad σ bkv (.ref (la 0)) ptv) := (hf _ (nf (by omega) (by omega)) (oU _ _ hx)).trans hx
  have hmo : ∀ x, lab x = 10 → u1.2.2 x = U.2.2 x := fun x q => hf x (nf (by omega) (by omega)) (by
    apply Classical.byContradiction
    intro z
    have := hfr x (by omega)
    omega)
  obtain ⟨k1, k2⟩ := hK
  have kw : ∀ k, k ≠ 49 → k ≠ 50 → k ≠ 51 → σ1.1 k = (mT σ 0).1 k := fun k a b c => k1 k a b c
  have ba : b ≤ ad 0 := lab_ge hl (by omega)
  refine ⟨v_is hx1, fun r => ⟨_, x_don hx1 ba, ?_⟩, fun t h4 => ⟨_, x_ref h4 hx1 ba, ?_⟩⟩
  · rw [← xO_eq (σ := mT σ 0) (σ' := σ1) ⟨kw 39 (by decide) (by decide) (by decide), kw 10 (by decide) (by decide) (by decide), kw 38 (by decide) (by decide) (by decide), kw 2 (by decide) (by decide) (by decide), kw 9 (by decide) (by decide) (by decide), kw 63 (by decide) (by decide) (by decide), kw 64 (by decide) (by decide) (by decide), kw 65 (by decide) (by decide) (by decide)⟩]
    exact aft.fin hQ hx1 l0 hmo s1 s2
  · have e : xO ad (mSet σ1 39 t) bkv (.ref (la 0)) ptv = xO ad (mT σ t) bkv (.ref (la 0)) ptv := xO_eq (σ := mT σ t) (σ' := mSet σ1 39 t) ⟨rfl, kw 10 (by decide) (by decide) (by decide), kw 38 (by decide) (by decide) (by decide), kw 2 (by decide) (by decide) (by decide), kw 9 (by decide) (by decide) (by decide), kw 63 (by decide) (by decide) (by decide), kw 64 (by decide) (by decide) (by decide), kw 65 (by decide) (by decide) (by decide)⟩
    rw [← e]
    have aft' : xSi b g A ad sa Q u1 lab (mSet σ1 39 t) bkv (.ref (la 0)) ptv := by
      obtain ⟨a1, a2, a3, a4, a5, ⟨a6, a7, a8, a9, a10⟩, a11, a12⟩ := aft
      exact ⟨a1, a2, a3, a4, a5, ⟨a6, a7, a8, a9, a10⟩, a11, hQ u1 u1 lab lab σ1 (mSet σ1 39 t) bkv ptv (fun x _ => ⟨rfl, rfl⟩) ⟨fun k hk => by rcases hk with rfl | rfl | rfl | rfl | rfl | rfl | rfl <;> rfl, fun j _ => rfl, Or.inl rfl⟩ a12⟩
    exact aft'.fin hQ hx1 l0 hmo s1 s2
theorem m_no2 {σ : MS} {t : Int32} : f_no N σ t = some (-1, mSet σ 39 t) := rfl
theorem k_worst (hQ : qOk Q) (h : xSt b g A ad sa Q U lab σ) (hN : 200000000000000000 ≤ N) (x y : Int32) : ∃ r U' σ' dc, f_X1_worst N b g U (ad 0) x y = some (r, U') ∧ f_worst N σ x y = some (r, σ') ∧ dc ≤ 1 ∧ xStep b g A ad sa Q U lab U' σ' dc 0 := by
  obtain ⟨ar0, ar1, ar2⟩ := k_are (N := N) (b := b) (g := g) (ad := ad) (x := x) (y := y) (k_is h)
  unfold f_X1_worst f_worst f_worst_20 f_worst_51
  rw [if_pos (k_is h), m_good, q_mv]
  have no0 : f_X1_isCell N b g U (ad 0) x = some (0, U) ∧ f_isCell N (mT σ 0) x = some (0, mT σ 0) → ∃ r U' σ' dc, (ucall (f_X1_areCells N b g U (ad 0) x y) fun r4 u2 => if r4 = 0 then if uIs u2 (ad 0) 0 = true then ucall (f_X1_refused N b g u2 (ad 0) 1) fun r13 u11 => some (r13, u11) else none else if uIs u2 (ad 0) 0 = true then ucall (f_X1_solver N b g u2 (ad 0) y 0) fun o9 u7 => f_X1_worst_21 N b g (ad 0) u7 x o9 else none) = some (r, U') ∧ (mcall (f_isCell N (mT σ 0) x) fun r5 σ3 => if r5 = 0 then mcall (f_no N σ3 1) fun r3 σ1 => some (r3, σ1) else mcall (f_isCell N σ3 y) fun r9 σ7 => if r9 = 0 then mcall (f_no N σ7 1) fun r3 σ1 => some (r3, σ1) else mcall (f_from N σ7 x y 0) fun r13 σ11 => if 0 ≤ (lg_cmp r13 0) then some (r13.toInt32, σ11) else mcall (f_no N σ11 6) fun r17 σ15 => some (r17, σ15)) = some (r, σ') ∧ dc ≤ 1 ∧ xStep b g A ad sa Q U lab U' σ' dc 0 := fun q => by
    obtain ⟨U', r1, r2⟩ := k_ref (N := N) (t := 1) (by decide) hQ h
    refine ⟨-1, U', mT σ 1, 0, ?_, ?_, by omega, r2⟩
    · rw [ar0 q.1, q_uc, if_pos rfl, if_pos (k_is h), r1, q_uc]
    · rw [q.2, q_mc, if_pos rfl, m_no, q_mc]
  rcases k_map (N := N) h with hno | ⟨bkv, ptv, lo, hi, a, al, rv, nm, B, dead, la, da, wa, v8, v9, v10, w, h', n, nd, hts, fl, dO, kn, dc, wg, hx, hI, hbk, vB, h7, h12, h34, hL, hM, hSo, hG, hLl, hce⟩
  · exact no0 (hno x)
  · rcases hce x with q | ⟨c1, c2, fr, c3, c4⟩
    · exact no0 q
    · rcases hce y with q | ⟨d1, d2, go, d3, d4⟩
      · obtain ⟨U', r1, r2⟩ := k_ref (N := N) (t := 1) (by decide) hQ h
        refine ⟨-1, U', mT σ 1, 0, ?_, ?_, by omega, r2⟩
        · rw [ar1 c1 q.1, q_uc, if_pos rfl, if_pos (k_is h), r1, q_uc]
        · rw [c2, q_mc, if_neg n10, q.2, q_mc, if_pos rfl, m_no, q_mc]
      · obtain ⟨ub, u8, u9, u10, σ1, s1, s2, s3, s4, s5, s6, s7, -⟩ := k_ses (N := N) (mean := 0) hx hI vB h7 hL hM hSo hG hLl (Or.inl rfl) d4 c4 hN
        have kk := k_kOk hI
        have s3' := s3
        obtain ⟨⟨hO, hLb, -⟩, -⟩ := s3'
        have hkn : ∀ e, e < nd → -1 ≤ kn e ∧ kn e < 8 ∧ (kn e ≠ -1 → wg e (kn e).toNat ≠ 0) := fun e he => by
          have q := hM.2.2.2.2.2.1 e he
          have b5 := hM.1.1.2.2.2.2.2.1
          exact ⟨q.2.2.2.1, by have := q.2.2.2.2; omega, hG.2.2 e he⟩
        obtain ⟨u1, o1, o2⟩ := s3.of (N := N) kk d4 (Or.inl rfl) s6 (by omega) s7.1 s7.2 c4
        obtain ⟨e1, e2, e3⟩ := k_end (N := N) hQ hx hI hbk vB h7 h12 h34 hL hM hG hLl o2 s4 s5
        have yb := (s6 _ s7.1 s7.2).1 fr c4
        have uk := zUk_le (cd := zBa kn wg nd) nd
        have hnd := hL.2.2.2.2.1
        have bd : zBd 0 nd (fun e => zCn (wg e) 8) (fun e k => wg e (zKd (wg e) k)) (zBa kn wg nd) ≤ 18042600 := by
          show (zUk (zBa kn wg nd) nd + 1) * (3007100 * 1) ≤ _
          omega
        rw [ar2 c1 d1, q_uc, if_neg n10, if_pos (k_is h), c2, q_mc, if_neg n10, d2, q_mc, if_neg n10, c3, d3]
        have s1' : f_X1_solver N b g U (ad 0) (iI go) 0 = some (some (ad 2), ub) := s1
        have s2' : f_from N (mT σ 0) (iI fr) (iI go) 0 = some (iL (iW (zY σ1.2.2 (zBa kn wg nd) fr)), σ1) := s2
        rw [s1', q_uc, s2', q_mc]
        unfold f_X1_worst_21 f_X1_worst_58
        rw [p_bs, if_pos (v_is hO), c_known hO hLb hkn (by omega), q_uc, if_pos (v_is hO), o1, q_uc, show (9223372036854775807 : Int64) = iL 9223372036854775807 from rfl, show (0 : Int64) = iL 0 from rfl]
        by_cases hf : zY σ1.2.2 (zBa kn wg nd) fr < 1000000000000000
        · have yb2 := yb.2 hf
          obtain ⟨U', t1, t2⟩ := e2 (iI (zY σ1.2.2 (zBa kn wg nd) fr))
          refine ⟨iI (zY σ1.2.2 (zBa kn wg nd) fr), U', σ1, 1, ?_, ?_, by omega, t2⟩
          · rw [iV_f hf, n_c0 (by omega) (by omega) (by omega) (by omega) (by omega), if_pos e1, e_l2i (by omega) (by omega), t1, q_uc]
          · unfold iW
            rw [if_pos hf, p_cg (by omega) (by omega) (by omega) (by omega) (by omega), e_l2i (by omega) (by omega)]
        · obtain ⟨U', t1, t2⟩ := e3 6 (by decide)
          refine ⟨-1, U', mSet σ1 39 6, 1, ?_, ?_, by omega, t2⟩
          · rw [iV_n hf, p_c0 (by omega) (by omega) (by omega) (by omega) (by omega), if_pos e1, t1, q_uc]
          · unfold iW
            rw [if_neg hf, n_cg (by omega) (by omega) (by omega) (by omega) (by omega), m_no2, q_mc]
end C4
