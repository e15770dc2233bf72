/-! PLAIN: the calls failing and costs -/
def mG3 (σ : MS) (x y z : Int32) : MS := mSet (mSet (mSet σ 63 x) 64 y) 65 z
theorem mG3_2 {σ : MS} {x y z x' y' z' : Int32} : mG3 (mG3 σ x y z) x' y' z' = mG3 σ x' y' z' := by
  refine Prod.ext (funext fun k => ?_) rfl
  show upd (upd (upd (upd (upd (upd σ.1 63 x) 64 y) 65 z) 63 x') 64 y') 65 z' k = upd (upd (upd σ.1 63 x') 64 y') 65 z' k
  by_cases c1 : k = 65
  · subst c1
    rw [upd_s, upd_s]
  · by_cases c2 : k = 64
    · subst c2
      rw [upd_n (by decide), upd_s, upd_n (by decide), upd_s]
    · by_cases c3 : k = 63
      · subst c3
        rw [upd_n (by decide), upd_n (by decide), upd_s, upd_n (by decide), upd_n (by decide), upd_s]
      · rw [upd_n c1, upd_n c2, upd_n c3, upd_n c1, upd_n c2, upd_n c3, upd_n c1, upd_n c2, upd_n c3]
theorem mW_G3 {σ : MS} {x y z x' y' z' s q : Int32} : mSet (mSet (mSet (mW (mG3 σ x y z) s q) 63 x') 64 y') 65 z' = mW (mG3 σ x' y' z') s q := by
  refine Prod.ext (funext fun k => ?_) rfl
  show upd (upd (upd (upd (upd (upd (upd (upd σ.1 63 x) 64 y) 65 z) 66 s) 67 q) 63 x') 64 y') 65 z' k = upd (upd (upd (upd (upd σ.1 63 x') 64 y') 65 z') 66 s) 67 q k
  by_cases c1 : k = 65
  · subst c1
    rw [upd_s, upd_n (by decide), upd_n (by decide), upd_s]
  · by_cases c2 : k = 64
    · subst c2
      rw [upd_n (by decide), upd_s, upd_n (by decide), upd_n (by decide), upd_n (by decide), upd_s]
    · by_cases c3 : k = 63
      · subst c3
        rw [upd_n (by decide), upd_n (by decide), upd_s, upd_n (by decide), upd_n (by decide), upd_n (by decide), upd_n (by decide), upd_s]
      · by_cases c4 : k = 67
        · subst c4
          rw [upd_n (by decide), upd_n (by decide), upd_n (by decide), upd_s, upd_s]
        · by_cases c5 : k = 66
          · subst c5
            rw [upd_n (by decide), upd_n (by decide), upd_n (by decide), upd_n (by decide), upd_s, upd_n (by decide), upd_s]
          · rw [upd_n c1, upd_n c2, upd_n c3, upd_n c4, upd_n c5, upd_n c1, upd_n c2, upd_n c3, upd_n c4, upd_n c5, upd_n c1, upd_n c2, upd_n c3]
theorem mW_2 {σ : MS} {s q s' q' : Int32} : mW (mW σ s q) s' q' = mW σ s' q' := by
  refine Prod.ext (funext fun k => ?_) rfl
  show upd (upd (upd (upd σ.1 66 s) 67 q) 66 s') 67 q' k = upd (upd σ.1 66 s') 67 q' k
  by_cases c1 : k = 67
  · subst c1
    rw [upd_s, upd_s]
  · by_cases c2 : k = 66
    · subst c2
      rw [upd_n (by decide), upd_s, upd_n (by decide), upd_s]
    · rw [upd_n c1, upd_n c2, upd_n c1, upd_n c2, upd_n c1, upd_n c2]
theorem mW_id {σ : MS} : mW σ (σ.1 66) (σ.1 67) = σ := by
  refine Prod.ext (funext fun k => ?_) rfl
  show upd (upd σ.1 66 (σ.1 66)) 67 (σ.1 67) k = σ.1 k
  by_cases c1 : k = 67
  · subst c1
    rw [upd_s]
  · by_cases c2 : k = 66
    · subst c2
      rw [upd_n (by decide), upd_s]
    · rw [upd_n c1, upd_n c2]
section M5s
variable {N b : Nat} {g : uEnv} {A : pA} {ad sa : Nat → Nat} {U : UH} {lab : Nat → Nat} {σ : MS} {ou : Nat} {u0 : UH}
/-- a plan's number -/
theorem k_isp (h : xSt b g A ad sa (qA g (ad 4) b u0 ou) U lab σ) : ∃ np : Nat, σ.1 40 = iI np ∧ np ≤ 8 ∧ (np ≠ 0 → σ.1 34 = 1) ∧ ∀ x : Int32, (f_X1_isPlan N b g U (ad 0) x = some (0, U) ∧ f_within N (mT σ 0) x 0 (iI np - 1) = some (0, mT σ 0)) ∨ (f_X1_isPlan N b g U (ad 0) x = some (1, U) ∧ f_within N (mT σ 0) x 0 (iI np - 1) = some (1, mT σ 0) ∧ ∃ p : Nat, x = iI p ∧ p < np) := by
  obtain ⟨bkv, mpv, ptv, hx, hI⟩ := h
  obtain ⟨-, -, hpl, -⟩ := hI.2.2.2.2.2.2.2
  obtain ⟨arr, np, mm, mc, xs, pa, kl, ql1, ql2, ql3, ql4, ql5⟩ := hpl
  refine ⟨np, ql2, ql3, ql4, fun x => ?_⟩
  have e1 : iI (np : Int) - 1 = iI ((np : Int) - 1) := by rw [j1, i_sub]
  unfold f_X1_isPlan
  rw [v_gr hx (k := 10) rfl, p_bs, p_bs, if_pos (v_is ql1.1.1), l_size ql1.1, q_uc, e1]
  rcases k_in (N := N) (b := b) (g := g) (lo := 0) (hi := (np : Int) - 1) ⟨by decide, by decide⟩ ⟨by omega, by omega⟩ x U (mT σ 0) with ⟨f1, f2⟩ | ⟨f1, f2, i, f3, f4, f5⟩
  · have f1' : f_X1_in N b g U x 0 (iI ((np : Int) - 1)) = some (0, U) := f1
    have f2' : f_within N (mT σ 0) x 0 (iI ((np : Int) - 1)) = some (0, mT σ 0) := f2
    left
    rw [f1', q_uc, if_pos uF0, f2']
    exact ⟨rfl, rfl⟩
  · have f1' : f_X1_in N b g U x 0 (iI ((np : Int) - 1)) = some (1, U) := f1
    have f2' : f_within N (mT σ 0) x 0 (iI ((np : Int) - 1)) = some (1, mT σ 0) := f2
    right
    rw [f1', q_uc, if_pos uF1, f2']
    refine ⟨rfl, rfl, i.toNat, ?_, by omega⟩
    rw [f3]
    congr 1
    omega
/-- behind the walks -/
theorem k_aft3 {bkv ptv : Value} {lo hi a al : Nat} {rv : Int32} {nm : Nat → Nat} {B : bBk} {dead : Int} {la da wa : Nat → Nat} {w h n nd : Nat} {hts : Nat → Int} {fl : Nat → Nat} {dO kn : Nat → Int} {dc : Nat → Nat} {wg : Nat → Nat → Nat} {u : UH} {t : Nat} {σo σ1 : MS} {v8 v9 v10 : Value} (hI : xSi b g A ad sa (qA g (ad 4) b u0 ou) U lab σ bkv (.ref (la 0)) ptv) (hbk : bkv = .ref a) (vB : vBk U b lo hi a al rv nm B) (h7 : hi ≤ U.1 ∧ ∀ x, lo ≤ x → x < hi → lab x = 7) (h12 : σ.1 12 = 1) (h34 : σ.1 34 = 1) (hL : vLd U g la da wa a v8 v9 v10 w h n nd hts fl dO kn wg) (hG : xGe n nd dO kn dc wg) (hLl : xLl b g U lab la da wa nd) (hW : wW g U ad la da wa a w h n nd hts fl dO kn wg bkv ptv u t σo) (hM1 : mLand σ1 B dead w h n nd hts fl dO kn dc wg) (hS : mSol σ1 B dead w h n nd hts fl dO kn dc wg) (kw : ∀ k, k = 2 ∨ k = 55 ∨ k = 73 ∨ k = 12 ∨ k = 34 ∨ k = 37 ∨ k = 22 ∨ k = 23 ∨ k = 24 ∨ k = 40 ∨ k = 69 → σ1.1 k = σ.1 k) (ka : ∀ j, j ≠ 52 → j ≠ 53 → j ≠ 70 → j ≠ 71 → j ≠ 72 → σ1.2.1 j = σ.2.1 j) : xSi b g A ad sa (qA g (ad 4) b u0 ou) u lab σ1 bkv (.ref (la 0)) ptv := by
  have hQ : qOk (qA g (ad 4) b u0 ou) := qA_ok
  obtain ⟨oU, hb, ⟨hl, hfe⟩, hE, hA, ⟨l0, h1, hso, hcl, hdg⟩, -, hq⟩ := id hI
  obtain ⟨⟨w8, w9, w10, hLu⟩, hx, hsm, ho, z1, z2⟩ := hW
  have la8 : lab (la 0) = 8 := hLl.1.1
  have ns : ∀ {p : Nat → Prop}, ¬ p 11 → ¬ p 8 → ¬ p 1 → uLb lab lab U u p := fun p11 p8 p1 => hI.lb (fun _ _ => rfl) (fun x q1 q2 => hsm x q1 (fun z => by rw [z, la8] at q2; exact p8 q2) (fun z => by rw [z, l0] at q2; exact p1 q2)) p11
  have t1 : xTp U lab σ1 (ad 1) := by
    unfold xTp at h1 ⊢
    rw [kw 2 (by decide), ka 1 (by decide) (by decide) (by decide) (by decide) (by decide)]
    exact h1
  have t2 : xCl b g U lab σ1 (ad 3) := by
    unfold xCl at hcl ⊢
    rw [kw 55 (by decide), kw 73 (by decide), ka 54 (by decide) (by decide) (by decide) (by decide) (by decide)]
    exact hcl
  have t3 : xDg U lab σ1 (ad 5) := by
    unfold xDg at hdg ⊢
    rw [ka 47 (by decide) (by decide) (by decide) (by decide) (by decide)]
    exact hdg
  obtain ⟨⟨i0, i1, i2, i3, i4, i6⟩, j1, j2, j3⟩ := id hLl
  have hl5 : u.2.2 (la 5) = U.2.2 (la 5) := by
    obtain ⟨l00, -, -, -, -, -, -, -, ⟨m, mc, xs, ⟨x1, x2, x3⟩, x4⟩, -⟩ := hL
    refine hsm _ (oU _ _ x2) (u_nlr x2 l00) (fun z => ?_)
    by_cases hm : m = 0
    · have q := ((j3 m _ x2).1 hm).2
      have := lab_ge hl (x := ad 0) (by omega)
      omega
    · have q := (j3 m _ x2).2 hm
      rw [z] at q
      omega
  refine hI.gen ho (by omega) (fun _ _ => rfl) (fun x q => hfe x (by omega)) (fun x q => hsm x (by omega) (fun z => by have := lab_ge hl (x := la 0) (by omega); omega) (fun z => by have := lab_ge hl (x := ad 0) (by omega); omega)) (t1.hp (ns (by decide) (by decide) (by decide))) (hso.hp (ns (by decide) (by decide) (by decide))) (t2.hp hl (ns (by decide) (by decide) (by decide))) (t3.hp (ns (by decide) (by decide) (by decide))) (Or.inr ⟨lo, hi, a, al, rv, nm, B, dead, hbk, (kw 12 (by decide)).trans h12, vB.same (fun x q => ?_), hM1.1.1, hM1.1.2.1, hM1.1.2.2.1, hM1.1.2.2.2.1, by omega, h7.2, Or.inr ⟨(kw 34 (by decide)).trans h34, la, da, wa, w8, w9, w10, w, h, n, nd, hts, fl, dO, kn, dc, wg, rfl, hLu, hM1, hS, hG, ⟨i0, i1, i2, i3, i4, i6⟩, j1, j2, fun m z hz => j3 m z (hl5 ▸ hz)⟩⟩) (hQ U u lab lab σ σ1 bkv ptv (ns (by unfold qLb; decide) (by unfold qLb; decide) (by unfold qLb; decide)) ⟨fun k hk => kw k (by omega), fun j hj => ka j (by omega) (by omega) (by omega) (by omega) (by omega), Or.inl (kw 37 (by decide))⟩ hq)
  rcases q with q | ⟨q1, q2⟩
  · exact hsm x (by omega) (fun z => by have := lab_ge hl (x := la 0) (by omega); omega) (fun z => by have := lab_ge hl (x := ad 0) (by omega); omega)
  · have := h7.2 x q1 q2
    exact hsm x (by omega) (fun z => by rw [z] at this; omega) (fun z => by rw [z] at this; omega)
theorem k_costs (h : xSt b g A ad sa (qA g (ad 4) b u0 ou) U lab σ) (hN : 300 ≤ N) (x y z : Int32) : ∃ r U' σ' dc ds, f_X1_costs N b g U (ad 0) x y z = some (r, U') ∧ f_costs N σ x y z = some (r, σ') ∧ xStep b g A ad sa (qA g (ad 4) b u0 ou) U lab U' σ' dc ds ∧ dc ≤ 486 ∧ ds ≤ 3159 := by
  have hQ : qOk (qA g (ad 4) b u0 ou) := qA_ok
  obtain ⟨ar0, ar1, ar2⟩ := k_are (N := N) (b := b) (g := g) (ad := ad) (x := y) (y := z) (k_is h)
  obtain ⟨U0, n1, n2⟩ := k_ref (N := N) (t := 1) (by decide) hQ h
  obtain ⟨np, h40, hnp, hn34, isp⟩ := k_isp (N := N) h
  have h40' : (mT σ 0).1 40 = iI np := h40
  unfold f_X1_costs f_costs f_X1_costs_17 f_costs_41
  rw [if_pos (k_is h), m_good, q_mv, h40']
  rcases isp x with ⟨p1, p2⟩ | ⟨p1, p2, p, rfl, p3⟩
  · refine ⟨-1, U0, mT σ 1, 0, 0, ?_, ?_, n2, by omega, by omega⟩
    · rw [p1, q_uc, if_pos rfl, if_pos (k_is h), n1, q_uc]
    · rw [p2, q_mc, if_pos rfl, m_no, q_mc]
      split <;> rfl
  · have h34' : ¬ (mT σ 0).1 34 = 0 := by
      show ¬ σ.1 34 = 0
      rw [hn34 (by omega)]
      decide
    rw [p1, q_uc, if_neg n10, if_pos (k_is h), if_neg h34', p2, q_mc, if_neg n10]
    rcases k_map (N := N) h with hno | ⟨bkv, ptv, lo, hi, a, al, rv, nm, B, dead, la, da, wa, v8, v9, v10, w, h', n, nd, hts, fl, dO, kn, dc, wg, hx, hI, hbk, vB, h7, h12, h34, hL, hM, hSo, hG, hLl, hce⟩
    · refine ⟨-1, U0, mT σ 1, 0, 0, ?_, ?_, n2, by omega, by omega⟩
      · rw [ar0 (hno y).1, q_uc, if_pos rfl, if_pos (k_is h), n1, q_uc]
      · rw [(hno y).2, q_mc, if_pos rfl, m_no, q_mc]
    · rcases hce y with q | ⟨c1, c2, fr, rfl, c4⟩
      · refine ⟨-1, U0, mT σ 1, 0, 0, ?_, ?_, n2, by omega, by omega⟩
        · rw [ar0 q.1, q_uc, if_pos rfl, if_pos (k_is h), n1, q_uc]
        · rw [q.2, q_mc, if_pos rfl, m_no, q_mc]
      · rcases hce z with q | ⟨d1, d2, go, rfl, d4⟩
        · refine ⟨-1, U0, mT σ 1, 0, 0, ?_, ?_, n2, by omega, by omega⟩
          · rw [ar1 c1 q.1, q_uc, if_pos rfl, if_pos (k_is h), n1, q_uc]
          · rw [c2, q_mc, if_neg n10, q.2, q_mc, if_pos rfl, m_no, q_mc]
        · have hnd := hL.2.2.2.2.1
          have hn := hL.2.2.2.1
          have m4 : w * h' ≤ 10 * 10 := Nat.mul_le_mul hL.2.1.2 hL.2.2.1.2
          have hdd := hL.2.2.2.2.2.2.2.2.2.2
          have hkn := k_knO (U := U) (g := g) (la := la) (da := da) (wa := wa) (a := a) (v8 := v8) (v9 := v9) (v10 := v10) hM hG
          have h3 : ∀ e, e < nd → 1 ≤ zCn (wg e) 8 ∧ zCn (wg e) 8 ≤ 3 := fun e he => (hdd e he).2
          have hM0 : mLand (mT σ 0) B dead w h' n nd hts fl dO kn dc wg := hM
          have hS0 : mSol (mT σ 0) B dead w h' n nd hts fl dO kn dc wg := hSo
          obtain ⟨σ2, l1, l2, l3, l4, l5, l6, l7⟩ := m_lsts (N := N) hM0 hS0 (by omega)
          have tb := zTm_b (kn := kn) (wg := wg) nd h3
          have p3' : 3 ^ nd ≤ 3 ^ 5 := Nat.pow_le_pow_right (by decide) hnd
          have l0 := hI.2.2.2.2.2.1.1
          have ba0 : b ≤ ad 0 := lab_ge hI.2.2.1.1 (by omega)
          have h38 : σ.1 38 = iI dead := hM.1.2.2.1
          rw [ar2 c1 d1, q_uc, if_neg n10, c2, q_mc, if_neg n10, d2, q_mc, if_neg n10, l1, q_mv]
          have kw2 : ∀ k, k ≠ 0 → k ≠ 39 → σ2.1 k = σ.1 k := fun k q0 q39 => by
            rw [l6]
            show upd (upd σ.1 0 0) 39 0 k = σ.1 k
            rw [upd_n q39, upd_n q0]
          have ka2 : ∀ j, j ≠ 52 → j ≠ 53 → j ≠ 70 → j ≠ 71 → j ≠ 72 → σ2.2.1 j = σ.2.1 j := fun j a b c d e => l2.2 j a b c d e
          have k39 : σ2.1 39 = 0 := by
            rw [l6]
            exact upd_s (f := upd σ.1 0 0) (k := 39) (a := 0)
          have lp : ∀ (r t m1 m2 : Nat) (most : Int32) (u : UH) (s q : Int32), t + r = zTm kn wg nd → r < m1 → r < m2 → wW g U ad la da wa a w h' n nd hts fl dO kn wg bkv ptv u t σ → ∃ (u' : UH) (t' : Nat) (s' q' : Int32), t' ≤ zTm kn wg nd ∧ wW g U ad la da wa a w h' n nd hts fl dO kn wg bkv ptv u' t' σ ∧ ((∃ res, f_X1_costs_29 N b g (ad 0) m1 u (iI p) (iI fr) (iI go) most (iI t) = some (res, uSet u' (ad 0) (xO ad (mT σ 0) bkv (.ref (la 0)) ptv)) ∧ f_costs_57 N m2 (mW σ2 s q) (iI p) (iI fr) (iI go) most (iI t) = some (res, mW σ2 s' q')) ∨ (f_X1_costs_29 N b g (ad 0) m1 u (iI p) (iI fr) (iI go) most (iI t) = some (-1, uSet u' (ad 0) (xO ad (mT σ 6) bkv (.ref (la 0)) ptv)) ∧ f_costs_57 N m2 (mW σ2 s q) (iI p) (iI fr) (iI go) most (iI t) = some (-1, mSet (mW σ2 s' q') 39 6))) := by
            intro r
            induction r with
            | zero =>
              intro t m1 m2 most u s q ht h1 h2 hW
              obtain ⟨m1', rfl⟩ : ∃ z, m1 = z + 1 := ⟨m1 - 1, by omega⟩
              obtain ⟨m2', rfl⟩ : ∃ z, m2 = z + 1 := ⟨m2 - 1, by omega⟩
              obtain ⟨⟨w8, w9, w10, hLu⟩, hxu, -⟩ := id hW
              have hKw : zKn (mW σ2 s q).1 (mW σ2 s q).2.1 nd B.2.1 (fun e => zCn (wg e) 8) kn (fun e k => zKd (wg e) k) := l5
              refine ⟨u, t, s, q, by omega, hW, Or.inl ⟨most, ?_, ?_⟩⟩
              · rw [f_X1_costs_29, x_mp hxu, p_bs, p_bs, if_pos (v_is hLu.1), c_trs (N := N) (b := b) hLu (fun e he => ⟨(hkn e he).1, (hkn e he).2.1⟩) (by omega), q_uc, p_le (by omega) (by omega) (by omega) (by omega) (by omega), if_pos (v_is hxu), x_don hxu ba0, q_uc]
              · rw [f_costs_57, m_many hKw (by omega), q_mc, p_le (by omega) (by omega) (by omega) (by omega) (by omega)]
            | succ r ih =>
              intro t m1 m2 most u s q ht h1 h2 hW
              obtain ⟨m1', rfl⟩ : ∃ z, m1 = z + 1 := ⟨m1 - 1, by omega⟩
              obtain ⟨m2', rfl⟩ : ∃ z, m2 = z + 1 := ⟨m2 - 1, by omega⟩
              obtain ⟨⟨w8, w9, w10, hLu⟩, hxu, -⟩ := id hW
              have hKw : zKn (mW σ2 s q).1 (mW σ2 s q).2.1 nd B.2.1 (fun e => zCn (wg e) 8) kn (fun e k => zKd (wg e) k) := l5
              have hMw : mLand (mW σ2 s q) B dead w h' n nd hts fl dO kn dc wg := l3
              obtain ⟨u1, f, fw, c, yb, q1, s1, g1, g2, g3, g4, g5, g6⟩ := k_walk (N := N) (u0 := u0) (ou := ou) (t := t) (p1 := p) (fr := fr) (go := go) (np := np) hI vB h7 hM.1.1 hM.1.2.2.2.1 hG hLl hW h38 hMw hKw hM.2.2.1 (ka2 56 (by decide) (by decide) (by decide) (by decide) (by decide)) (ka2 57 (by decide) (by decide) (by decide) (by decide) (by decide)) h40 p3 hnp c4 d4 (by omega) (by omega)
              rw [mW_2] at g4
              obtain ⟨⟨y8, y9, y10, hL1⟩, hx1, -⟩ := id g2
              have fa := c_fails (N := N) (b := b) (g := g) (n := n) (bd := 2147483647) g3 g5 (by omega) (by omega)
              have g3' : u1.2.2 u.1 = some (.inr (16, [.ref (la 0), .int (iI dead), .ref (u.1 + 1), .int (iI c), .int (iI ((yb : Int) - 32)), .int q1, .int s1, .int (iI fw)])) := g3
              have et : iI (t : Int) + 1 = iI ((t + 1 : Nat) : Int) := by
                rw [j1, i_add]
                rfl
              have le : q1 ≤ 2147483647 := Int32.le_iff_toInt_le.mpr (by
                have := Int32.toInt_lt q1
                have e : (2147483647 : Int32).toInt = 2147483647 := by decide
                omega)
              have q67 : (mW σ2 s1 q1).1 67 = q1 := rfl
              rw [f_X1_costs_29, f_costs_57]
              unfold f_X1_costs_49 f_costs_103
              rw [x_mp hxu, p_bs, p_bs, if_pos (v_is hLu.1), c_trs (N := N) (b := b) hLu (fun e he => ⟨(hkn e he).1, (hkn e he).2.1⟩) (by omega), q_uc, n_le (by omega) (by omega) (by omega) (by omega) (by omega), if_pos (v_is hxu), g1, q_uc, p_bs, if_pos (v_is g3'), fa, q_uc, m_many hKw (by omega), q_mc, n_le (by omega) (by omega) (by omega) (by omega) (by omega), g4, q_mc]
              by_cases f0 : f = 0
              · subst f0
                rw [if_pos rfl, if_pos le, if_pos rfl, v_gi g3' (k := 5) rfl, p_bs, if_pos (show iI ((0 : Nat) : Int) ≤ 0 by decide), q67]
                unfold f_J9_max f_J9_max_10
                by_cases cm : most < q1
                · have cn : ¬ q1 ≤ most := Int32.not_le.mpr cm
                  rw [if_pos cm, q_uc, p_let, et, if_neg cn, p_let]
                  exact ih (t + 1) m1' m2' q1 u1 s1 q1 (by omega) (by omega) (by omega) g2
                · have cn : q1 ≤ most := Int32.not_lt.mp cm
                  rw [if_neg cm, q_uc, p_let, et, if_pos cn, p_let]
                  exact ih (t + 1) m1' m2' most u1 s1 q1 (by omega) (by omega) (by omega) g2
              · have fb : 1 ≤ f ∧ f ≤ 6 := by
                  rcases g5 with q | q | q <;> omega
                refine ⟨u1, t + 1, s1, q1, by omega, g2, Or.inr ⟨?_, ?_⟩⟩
                · rw [if_neg f0, if_neg (show ¬ iI (f : Int) = 0 by rw [j0, j_eq (by omega) (by omega) (by omega) (by omega)]; omega), if_pos (v_is hx1), x_ref (by decide) hx1 ba0, q_uc]
                · rw [if_neg (show ¬ iI (f : Int) ≤ 0 by rw [j0, j_le (by omega) (by omega) (by omega) (by omega)]; omega), m_no2, q_mc]
          have hW0 : wW g U ad la da wa a w h' n nd hts fl dO kn wg bkv ptv U 0 σ := ⟨⟨_, _, _, hL⟩, hx, fun _ _ _ _ => rfl, hI.1, by omega, by omega⟩
          obtain ⟨u', t', s', q', e1, e2, e3⟩ := lp (zTm kn wg nd) 0 N N 0 U (σ2.1 66) (σ2.1 67) (by omega) (by omega) (by omega) hW0
          rw [mW_id] at e3
          obtain ⟨-, hx', hsm', -, sz1, sz2⟩ := id e2
          have lm : ∀ x, lab x = 10 → u'.2.2 x = U.2.2 x := fun x q => hsm' x (hI.lt q (by decide)) (fun z => by have := hLl.1.1; rw [z] at q; omega) (fun z => by rw [z] at q; omega)
          rcases e3 with ⟨res, e4, e5⟩ | ⟨e4, e5⟩
          · have aft := k_aft3 (σ1 := mW σ2 s' q') hI hbk vB h7 h12 h34 hL hG hLl e2 l3 l4 (fun k q => by
              show upd (upd σ2.1 66 s') 67 q' k = σ.1 k
              rw [upd_n (by omega), upd_n (by omega)]
              exact kw2 k (by omega) (by omega)) ka2
            have e : xO ad (mW σ2 s' q') bkv (.ref (la 0)) ptv = xO ad (mT σ 0) bkv (.ref (la 0)) ptv := xO_eq ⟨k39, kw2 10 (by decide) (by decide), kw2 38 (by decide) (by decide), kw2 2 (by decide) (by decide), kw2 9 (by decide) (by decide), kw2 63 (by decide) (by decide), kw2 64 (by decide) (by decide), kw2 65 (by decide) (by decide)⟩
            refine ⟨res, uSet u' (ad 0) (xO ad (mT σ 0) bkv (.ref (la 0)) ptv), mW σ2 s' q', 2 * t', 13 * t', e4, e5, ?_, by omega, by omega⟩
            rw [← e]
            exact aft.fin hQ hx' l0 lm sz1 sz2
          · have aft := k_aft3 (σ1 := mSet (mW σ2 s' q') 39 6) hI hbk vB h7 h12 h34 hL hG hLl e2 l3 l4 (fun k q => by
              show upd (upd (upd σ2.1 66 s') 67 q') 39 6 k = σ.1 k
              rw [upd_n (by omega), upd_n (by omega), upd_n (by omega)]
              exact kw2 k (by omega) (by omega)) ka2
            have e : xO ad (mSet (mW σ2 s' q') 39 6) bkv (.ref (la 0)) ptv = xO ad (mT σ 6) bkv (.ref (la 0)) ptv := xO_eq ⟨rfl, kw2 10 (by decide) (by decide), kw2 38 (by decide) (by decide), kw2 2 (by decide) (by decide), kw2 9 (by decide) (by decide), kw2 63 (by decide) (by decide), kw2 64 (by decide) (by decide), kw2 65 (by decide) (by decide)⟩
            refine ⟨-1, uSet u' (ad 0) (xO ad (mT σ 6) bkv (.ref (la 0)) ptv), mSet (mW σ2 s' q') 39 6, 2 * t', 13 * t', e4, e5, ?_, by omega, by omega⟩
            rw [← e]
            exact aft.fin hQ hx' l0 lm sz1 sz2
end M5s
