/-! PLAIN: the calls truths, truth -/
theorem m_lsts {N : Nat} {σ : MS} {B : bBk} {dead : Int} {w h n nd : Nat} {hts : Nat → Int} {fl : Nat → Nat} {dO kn : Nat → Int} {dc : Nat → Nat} {wg : Nat → Nat → Nat} (hL : mLand σ B dead w h n nd hts fl dO kn dc wg) (hS : mSol σ B dead w h n nd hts fl dO kn dc wg) (hN : 9 ≤ N) : ∃ σ2 : MS, f_lists N σ = some σ2 ∧ mKeep σ σ2 ∧ mLand σ2 B dead w h n nd hts fl dO kn dc wg ∧ mSol σ2 B dead w h n nd hts fl dO kn dc wg ∧ zKn σ2.1 σ2.2.1 nd B.2.1 (fun e => zCn (wg e) 8) kn (fun e k => zKd (wg e) k) ∧ σ2.1 = σ.1 ∧ σ2.2.2 = σ.2.2 := by
  have hL' := hL
  obtain ⟨hM, hn, e3, hnd, h4, h5, h6⟩ := hL
  have b5 := hM.1.2.2.2.2.2.1
  obtain ⟨R2, R3, a1, a2⟩ := m_lists (N := N) (s1 := σ.1) (s2 := σ.2.1) (V := σ.2.2) (wg := wg) e3 hnd (fun d g hd hg => ⟨((h6 d hd).1 g hg).1, ((h6 d hd).1 g hg).2.1⟩) (fun d hd => (h6 d hd).2.2) hN
  have kk : ∀ e k, e < nd → k < zCn (wg e) 8 → zKd (wg e) k < B.2.1 := fun e k he hk => by
    obtain ⟨q1, q2⟩ := zKd_ok hk
    exact ((h6 e he).1 _ q1).2.2 q2
  have hK : mKeep σ (σ.1, zRow (zRow σ.2.1 52 R2) 53 R3, σ.2.2) := ⟨fun _ _ _ _ => rfl, fun j j1 j2 _ _ _ => by
    show zRow (zRow σ.2.1 52 R2) 53 R3 j = σ.2.1 j
    rw [zRow_n j2, zRow_n j1]⟩
  have hkn : zKn σ.1 (zRow (zRow σ.2.1 52 R2) 53 R3) nd B.2.1 (fun e => zCn (wg e) 8) kn (fun e k => zKd (wg e) k) := ⟨e3, hnd, b5, fun e he => ⟨(a2 e he).1, (h6 e he).2.2, (h5 e he).2.2.1, (h5 e he).2.2.2.1, (h5 e he).2.2.2.2, fun k hk => ⟨(a2 e he).2 k hk, kk e k he hk⟩⟩⟩
  refine ⟨(σ.1, zRow (zRow σ.2.1 52 R2) 53 R3, σ.2.2), a1, hK, hK.land hL', fun hs => ?_, hkn, rfl, rfl⟩
  obtain ⟨s1, go, mean, s2, s3, s4, s5, s6, s7⟩ := hS hs
  refine ⟨s1, go, mean, s2, s3, s4, s5, ?_, s7⟩
  obtain ⟨⟨z1, z2, z3, z4, z5, z6, z7, z8, -, z10, z11⟩, -, y2, y3, y4, y5⟩ := s6
  exact ⟨⟨z1, z2, z3, z4, z5, z6, z7, z8, fun e k he hk => ⟨(a2 e he).2 k hk, kk e k he hk⟩, z10, z11⟩, hkn, y2, y3, y4, y5⟩
section C8
variable {N b : Nat} {g : uEnv} {A : pA} {ad sa : Nat → Nat} {Q : qT} {U : UH} {lab : Nat → Nat} {σ : MS}
/-- a map is there, or not -/
theorem k_mp (h : xSt b g A ad sa Q U lab σ) : (∃ bkv ptv, U.2.2 (ad 0) = some (xO ad σ bkv .null ptv) ∧ xSi b g A ad sa Q U lab σ bkv .null ptv ∧ σ.1 34 = 0) ∨ ∃ (bkv ptv : Value) (lo hi a al : Nat) (rv : Int32) (nm : Nat → Nat) (B : bBk) (dead : Int) (la da wa : Nat → Nat) (v8 v9 v10 : Value) (w h n nd : Nat) (hts : Nat → Int) (fl : Nat → Nat) (dO kn : Nat → Int) (dc : Nat → Nat) (wg : Nat → Nat → Nat), U.2.2 (ad 0) = some (xO ad σ bkv (.ref (la 0)) ptv) ∧ xSi b g A ad sa Q U lab σ bkv (.ref (la 0)) ptv ∧ bkv = .ref a ∧ vBk U b lo hi a al rv nm B ∧ (hi ≤ U.1 ∧ ∀ x, lo ≤ x → x < hi → lab x = 7) ∧ σ.1 12 = 1 ∧ σ.1 34 = 1 ∧ vLd U g la da wa a v8 v9 v10 w h n nd hts fl dO kn wg ∧ mLand σ B dead w h n nd hts fl dO kn dc wg ∧ mSol σ B dead w h n nd hts fl dO kn dc wg ∧ xGe n nd dO kn dc wg ∧ xLl b g U lab la da wa nd := by
  obtain ⟨bkv, mpv, ptv, hx, hi⟩ := h
  have hbm := hi.2.2.2.2.2.2.1
  rcases hbm with ⟨e1, e2, e3, e4, e5⟩ | ⟨lo, hi', a, al, rv, nm, B, dead, h1, h2, h3, h4, h5, h6, h7, h8, h9, h10⟩
  · subst e2
    exact Or.inl ⟨bkv, ptv, hx, hi, e4⟩
  · rcases h10 with ⟨e1, e2⟩ | ⟨q1, la, da, wa, v8, v9, v10, w, h, n, nd, hts, fl, dO, kn, dc, wg, q2, q3, q4, q5, q6, q7⟩
    · subst e1
      exact Or.inl ⟨bkv, ptv, hx, hi, e2⟩
    · subst q2
      exact Or.inr ⟨bkv, ptv, lo, hi', a, al, rv, nm, B, dead, la, da, wa, v8, v9, v10, w, h, n, nd, hts, fl, dO, kn, dc, wg, hx, hi, h1, h3, ⟨h8, h9⟩, h2, q1, q3, q4, q5, q6, q7⟩
/-- the model's own numbers have changed, no more -/
theorem k_sig {bkv ptv : Value} {lo hi a al : Nat} {rv : Int32} {nm : Nat → Nat} {B : bBk} {dead : Int} {la da wa : Nat → Nat} {v8 v9 v10 : Value} {w h n nd : Nat} {hts : Nat → Int} {fl : Nat → Nat} {dO kn : Nat → Int} {dc : Nat → Nat} {wg : Nat → Nat → Nat} {σ1 : MS} (hQ : qOk Q) (hI : xSi b g A ad sa Q U lab σ bkv (.ref (la 0)) ptv) (hbk : bkv = .ref a) (vB : vBk U b lo hi a al rv nm B) (h7 : hi ≤ U.1 ∧ ∀ x, lo ≤ x → x < hi → lab x = 7) (h12 : σ.1 12 = 1) (h34 : σ.1 34 = 1) (hL : vLd U g la da wa a v8 v9 v10 w h n nd hts fl dO kn wg) (hG : xGe n nd dO kn dc wg) (hLl : xLl b g U lab la da wa nd) (hM1 : mLand σ1 B dead w h n nd hts fl dO kn dc wg) (hS : mSol σ1 B dead w h n nd hts fl dO kn dc wg) (kw : ∀ k, k ≠ 0 → k ≠ 39 → k ≠ 49 → k ≠ 50 → k ≠ 51 → σ1.1 k = σ.1 k) (ka : ∀ j, j ≠ 52 → j ≠ 53 → j ≠ 70 → j ≠ 71 → j ≠ 72 → σ1.2.1 j = σ.2.1 j) : xSi b g A ad sa Q U lab σ1 bkv (.ref (la 0)) ptv := by
  obtain ⟨oU, hb, hl, hE, hA, ⟨l0, h1, hS3, h2, h3⟩, -, hq⟩ := hI
  have t1 : xTp U lab σ1 (ad 1) := by
    unfold xTp at h1 ⊢
    rw [kw 2 (by decide) (by decide) (by decide) (by decide) (by decide), ka 1 (by decide) (by decide) (by decide) (by decide) (by decide)]
    exact h1
  have t2 : xCl b g U lab σ1 (ad 3) := by
    unfold xCl at h2 ⊢
    rw [kw 55 (by decide) (by decide) (by decide) (by decide) (by decide), kw 73 (by decide) (by decide) (by decide) (by decide) (by decide), ka 54 (by decide) (by decide) (by decide) (by decide) (by decide)]
    exact h2
  have t3 : xDg U lab σ1 (ad 5) := by
    unfold xDg at h3 ⊢
    rw [ka 47 (by decide) (by decide) (by decide) (by decide) (by decide)]
    exact h3
  refine ⟨oU, hb, hl, hE, hA, ⟨l0, t1, hS3, t2, t3⟩, Or.inr ⟨lo, hi, a, al, rv, nm, B, dead, hbk, (kw 12 (by decide) (by decide) (by decide) (by decide) (by decide)).trans h12, vB, hM1.1.1, hM1.1.2.1, hM1.1.2.2.1, hM1.1.2.2.2.1, h7.1, h7.2, Or.inr ⟨(kw 34 (by decide) (by decide) (by decide) (by decide) (by decide)).trans h34, la, da, wa, v8, v9, v10, w, h, n, nd, hts, fl, dO, kn, dc, wg, rfl, hL, hM1, hS, hG, hLl⟩⟩, hQ U U lab lab σ σ1 bkv ptv (fun x _ => ⟨rfl, rfl⟩) ⟨fun k hk => kw k (by omega) (by omega) (by omega) (by omega) (by omega), fun j hj => ka j (by omega) (by omega) (by omega) (by omega) (by omega), Or.inl (kw 37 (by decide) (by decide) (by decide) (by decide) (by decide))⟩ hq⟩
theorem k_knO {U : UH} {g : uEnv} {la da wa : Nat → Nat} {a : Nat} {v8 v9 v10 : Value} {B : bBk} {dead : Int} {w h n nd : Nat} {hts : Nat → Int} {fl : Nat → Nat} {dO kn : Nat → Int} {dc : Nat → Nat} {wg : Nat → Nat → Nat} (hM : mLand σ B dead w h n nd hts fl dO kn dc wg) (hG : xGe n nd dO kn dc wg) : ∀ e, e < nd → -1 ≤ kn e ∧ kn e < 8 ∧ (kn e ≠ -1 → wg e (kn e).toNat ≠ 0) := fun e he => by
  have q := hM.2.2.2.2.2.1 e he
  have b5 := hM.1.1.2.2.2.2.2.1
  exact ⟨q.2.2.2.1, by have := q.2.2.2.2; omega, hG.2.2 e he⟩
/-- isDoubt, of both -/
theorem k_db {bkv ptv : Value} {la da wa : Nat → Nat} {a : Nat} {v8 v9 v10 : Value} {w h n nd : Nat} {hts : Nat → Int} {fl : Nat → Nat} {dO kn : Nat → Int} {wg : Nat → Nat → Nat} {σ1 : MS} (hx : U.2.2 (ad 0) = some (xO ad σ bkv (.ref (la 0)) ptv)) (hL : vLd U g la da wa a v8 v9 v10 w h n nd hts fl dO kn wg) (h34 : σ1.1 34 = 1) (h37 : σ1.1 37 = iI nd) (x : Int32) : (f_X1_isDoubt N b g U (ad 0) x = some (0, U) ∧ f_isDoubt N σ1 x = some (0, σ1)) ∨ (f_X1_isDoubt N b g U (ad 0) x = some (1, U) ∧ f_isDoubt N σ1 x = some (1, σ1) ∧ ∃ e : Nat, x = iI e ∧ e < nd) := by
  have hnd := hL.2.2.2.2.1
  have sz := c_siz (N := N) (b := b) hL
  unfold f_X1_isDoubt f_X1_isDoubt_31 f_X1_isDoubt_32 f_isDoubt f_isDoubt_25 f_isDoubt_26
  rw [x_mp hx, p_bs, q_cs, p_bs, p_bs, v_gr hL.1 (k := 6) rfl, p_bs, p_bs, if_pos sz.2, sz.1, q_uc, h34, h37, if_neg (show ¬ (1 : Int32) = 0 by decide)]
  have e1 : iI (nd : Int) - 1 = iI ((nd : Int) - 1) := by rw [j1, i_sub]
  rw [e1]
  rcases k_in (N := N) (b := b) (g := g) (lo := 0) (hi := (nd : Int) - 1) ⟨by decide, by decide⟩ ⟨by omega, by omega⟩ x U σ1 with ⟨f1, f2⟩ | ⟨f1, f2, i, f3, f4, f5⟩
  · left
    have f1' : f_X1_in N b g U x 0 (iI ((nd : Int) - 1)) = some (0, U) := f1
    have f2' : f_within N σ1 x 0 (iI ((nd : Int) - 1)) = some (0, σ1) := f2
    rw [f1', f2', q_uc, q_mc, if_pos rfl, if_pos rfl, if_pos uF0, if_pos mB0]
    exact ⟨rfl, rfl⟩
  · right
    have f1' : f_X1_in N b g U x 0 (iI ((nd : Int) - 1)) = some (1, U) := f1
    have f2' : f_within N σ1 x 0 (iI ((nd : Int) - 1)) = some (1, σ1) := f2
    rw [f1', f2', q_uc, q_mc, if_neg n10, if_neg n10, if_pos uF1, if_pos mB1]
    refine ⟨rfl, rfl, i.toNat, ?_, by omega⟩
    rw [f3]
    congr 1
    omega
theorem k_truths (hQ : qOk Q) (h : xSt b g A ad sa Q U lab σ) (hN : 20 ≤ N) : ∃ r U' σ', f_X1_truths N b g U (ad 0) = some (r, U') ∧ f_truths N σ = some (r, σ') ∧ xStep b g A ad sa Q U lab U' σ' 0 0 := by
  unfold f_X1_truths f_X1_truths_18 f_truths
  rcases k_mp h with ⟨bkv, ptv, hx, hI, h34⟩ | ⟨bkv, ptv, lo, hi, a, al, rv, nm, B, dead, la, da, wa, v8, v9, v10, w, h', n, nd, hts, fl, dO, kn, dc, wg, hx, hI, hbk, vB, h7, h12, h34, hL, hM, hSo, hG, hLl⟩
  · refine ⟨0, U, mSet σ 0 0, ?_, ?_, h.th hQ⟩
    · rw [x_mpn hx, p_bs, q_cn]
    · rw [p_let]
      exact if_pos h34
  · have hM0 : mLand (mSet σ 0 0) B dead w h' n nd hts fl dO kn dc wg := hM
    have hS0 : mSol (mSet σ 0 0) B dead w h' n nd hts fl dO kn dc wg := hSo
    obtain ⟨σ2, l1, l2, l3, l4, l5, l6, l7⟩ := m_lsts (N := N) hM0 hS0 (by omega)
    have hkn := k_knO (U := U) (g := g) (la := la) (da := da) (wa := wa) (a := a) (v8 := v8) (v9 := v9) (v10 := v10) hM hG
    have kw : ∀ k, k ≠ 0 → σ2.1 k = σ.1 k := fun k q0 => by
      rw [l6]
      exact upd_n q0
    have sg := k_sig (σ1 := σ2) hQ hI hbk vB h7 h12 h34 hL hG hLl l3 l4 (fun k q0 _ _ _ _ => kw k q0) (fun j a b c d e => l2.2 j a b c d e)
    refine ⟨iI (zTm kn wg nd), U, σ2, ?_, ?_, lab, ⟨bkv, _, ptv, ?_, sg⟩, fun _ _ => rfl, rfl, rfl⟩
    · rw [x_mp hx, p_bs, q_cs, p_bs, p_bs, if_pos (v_is hL.1), c_trs hL (fun e he => ⟨(hkn e he).1, (hkn e he).2.1⟩) (by omega), q_uc]
    · rw [p_let, if_neg (show ¬ (mSet σ 0 0).1 34 = 0 by
        show ¬ σ.1 34 = 0
        rw [h34]
        decide), l1, q_mv, m_many l5 (by omega), q_mc]
    · rw [xO_eq (σ := σ) (σ' := σ2) ⟨kw 39 (by decide), kw 10 (by decide), kw 38 (by decide), kw 2 (by decide), kw 9 (by decide), kw 63 (by decide), kw 64 (by decide), kw 65 (by decide)⟩]
      exact hx
theorem k_truth (hQ : qOk Q) (h : xSt b g A ad sa Q U lab σ) (hN : 20 ≤ N) (x y : Int32) : ∃ r U' σ' dc ds, f_X1_truth N b g U (ad 0) x y = some (r, U') ∧ f_truth N σ x y = some (r, σ') ∧ dc ≤ 1 ∧ ds ≤ 5 ∧ xStep b g A ad sa Q U lab U' σ' dc ds := by
  unfold f_X1_truth f_X1_truth_38 f_X1_truth_33 f_X1_truth_39 f_truth
  rw [if_pos (k_is h), p_let]
  rcases k_mp h with ⟨bkv, ptv, hx, hI, h34⟩ | ⟨bkv, ptv, lo, hi, a, al, rv, nm, B, dead, la, da, wa, v8, v9, v10, w, h', n, nd, hts, fl, dO, kn, dc, wg, hx, hI, hbk, vB, h7, h12, h34, hL, hM, hSo, hG, hLl⟩
  · refine ⟨-1, U, mSet σ 0 0, 0, 0, ?_, ?_, by omega, by omega, h.th hQ⟩
    · unfold f_X1_isDoubt f_X1_isDoubt_31 f_X1_isDoubt_32
      rw [x_mpn hx, p_bs, q_cn, if_pos uF0, q_uc, if_pos rfl]
    · unfold f_isDoubt f_isDoubt_25 f_isDoubt_26
      rw [if_pos (show (mSet σ 0 0).1 34 = 0 from h34), if_pos mB0, q_mc, if_pos rfl]
  · have hM0 : mLand (mSet σ 0 0) B dead w h' n nd hts fl dO kn dc wg := hM
    have hS0 : mSol (mSet σ 0 0) B dead w h' n nd hts fl dO kn dc wg := hSo
    have hnd := hL.2.2.2.2.1
    rcases k_db (N := N) (b := b) (σ1 := mSet σ 0 0) hx hL h34 hM.2.2.1 y with ⟨c1, c2⟩ | ⟨c1, c2, e, c3, c4⟩
    · refine ⟨-1, U, mSet σ 0 0, 0, 0, ?_, ?_, by omega, by omega, h.th hQ⟩
      · rw [c1, q_uc, if_pos rfl]
      · rw [c2, q_mc, if_pos rfl]
    · obtain ⟨σ2, l1, l2, l3, l4, l5, l6, l7⟩ := m_lsts (N := N) hM0 hS0 (by omega)
      have hkn := k_knO (U := U) (g := g) (la := la) (da := da) (wa := wa) (a := a) (v8 := v8) (v9 := v9) (v10 := v10) hM hG
      have kw : ∀ k, k ≠ 0 → σ2.1 k = σ.1 k := fun k q0 => by
        rw [l6]
        exact upd_n q0
      have ka : ∀ j, j ≠ 52 → j ≠ 53 → j ≠ 70 → j ≠ 71 → j ≠ 72 → σ2.2.1 j = σ.2.1 j := fun j a b c d e => l2.2 j a b c d e
      have sg := k_sig (σ1 := σ2) hQ hI hbk vB h7 h12 h34 hL hG hLl l3 l4 (fun k q0 _ _ _ _ => kw k q0) ka
      have hx2 : U.2.2 (ad 0) = some (xO ad σ2 bkv (.ref (la 0)) ptv) := by
        rw [xO_eq (σ := σ) (σ' := σ2) ⟨kw 39 (by decide), kw 10 (by decide), kw 38 (by decide), kw 2 (by decide), kw 9 (by decide), kw 63 (by decide), kw 64 (by decide), kw 65 (by decide)⟩]
        exact hx
      have tr := c_trs (N := N) (b := b) hL (fun e he => ⟨(hkn e he).1, (hkn e he).2.1⟩) (by omega)
      have h3 : ∀ e, e < nd → 1 ≤ zCn (wg e) 8 ∧ zCn (wg e) 8 ≤ 3 := fun e he => (hL.2.2.2.2.2.2.2.2.2.2 e he).2
      have tb := zTm_b (kn := kn) (wg := wg) nd h3
      have p3 : 3 ^ nd ≤ 3 ^ 5 := Nat.pow_le_pow_right (by decide) hnd
      have e1 : iI (zTm kn wg nd : Int) - 1 = iI ((zTm kn wg nd : Int) - 1) := by rw [j1, i_sub]
      rw [c1, c2, q_uc, q_mc, if_neg n10, if_neg n10, x_mp hx, p_bs, p_bs, if_pos (v_is hL.1), tr, q_uc, l1, q_mv, m_many l5 (by omega), q_mc, e1]
      rcases k_in (N := N) (b := b) (g := g) (lo := 0) (hi := (zTm kn wg nd : Int) - 1) ⟨by decide, by decide⟩ ⟨by omega, by omega⟩ x U σ2 with ⟨f1, f2⟩ | ⟨f1, f2, i, f3, f4, f5⟩
      · have f1' : f_X1_in N b g U x 0 (iI ((zTm kn wg nd : Int) - 1)) = some (0, U) := f1
        have f2' : f_within N σ2 x 0 (iI ((zTm kn wg nd : Int) - 1)) = some (0, σ2) := f2
        refine ⟨-1, U, σ2, 0, 0, ?_, ?_, by omega, by omega, lab, ⟨bkv, _, ptv, hx2, sg⟩, fun _ _ => rfl, rfl, rfl⟩
        · rw [f1', q_uc, if_pos rfl]
        · rw [f2', q_mc, if_pos rfl]
      · have f1' : f_X1_in N b g U x 0 (iI ((zTm kn wg nd : Int) - 1)) = some (1, U) := f1
        have f2' : f_within N σ2 x 0 (iI ((zTm kn wg nd : Int) - 1)) = some (1, σ2) := f2
        obtain ⟨t, rfl⟩ : ∃ t : Nat, i = (t : Int) := ⟨i.toNat, by omega⟩
        have ho := hI.1
        obtain ⟨f, r1, r2⟩ := c_truth (N := N) (b := b) (t := t) hL ho hkn hI.2.1 (by omega) (by omega)
        obtain ⟨q1, q2, q3⟩ := zFc_can (t := t) (kn := kn) (wg := wg) hnd h3 hkn
        have fu := m_full (N := N) (σ := σ2) (t := t) l5 (fun e he => (h3 e he).1) hG.2.2 (by omega) (by omega)
        have dl : zD (zFc nd kn wg t nd) e ≤ zCn (wg e) 8 := ((q2 e (by omega)).2 c4).1
        have d0 := q3 e c4
        have m3 := (h3 e c4).2
        have k52 := (l5.2.2.2 e c4).2.2.2.2.2 (zD (zFc nd kn wg t nd) e - 1) (show zD (zFc nd kn wg t nd) e - 1 < zCn (wg e) 8 by omega)
        obtain ⟨i1, i2⟩ := t_ix (a := 4 * (e : Int) + (zD (zFc nd kn wg t nd) e : Int) - 1) (n := mLen 52) (k := 4 * e + (zD (zFc nd kn wg t nd) e - 1)) (by omega) (by rw [mL52]; omega) (by rw [mL52]; omega)
        have Lt : uLdI (uNew U 5 (.inl (0, 5, .inl f))) U.1 0 (iI (e : Int)) = some (iI (zTg wg (zFc nd kn wg t nd) e)) := by
          rw [u_ldI u_nn (by omega) (by omega) (by omega)]
          exact congrArg some (r2 e c4)
        have fre := hI.2.2.1.2
        refine ⟨iI (zTg wg (zFc nd kn wg t nd) e), uNew U 5 (.inl (0, 5, .inl f)), σ2, 1, 5, ?_, ?_, by omega, by omega, lab, ⟨bkv, _, ptv, u_no ho hx2, ?_⟩, fun x hx => u_nx (fun z => ?_), rfl, rfl⟩
        · rw [f1', q_uc, if_neg n10, x_mp hx, p_bs, p_bs, if_pos (v_is hL.1), f3, r1, q_uc, p_bs, c3, Lt, p_bs]
        · rw [f2', q_mc, if_neg n10, f3, fu, q_mc, c3, m_dig q1 (by omega), q_mc, j4, i_mul, i_add, j1, i_sub, if_pos i1, p_let, i2, k52.1]
          rfl
        · obtain ⟨oU, hb, hl, hE, hA, ⟨l0, h1, hS3, h2, h3'⟩, hbm, hq⟩ := sg
          have ns : ∀ {p : Nat → Prop}, ¬ p 11 → uLb lab lab U (uNew U 5 (.inl (0, 5, .inl f))) p := fun hp x hx => ⟨u_nx (fun z => hp (by rw [z, hl.2 U.1 (Nat.le_refl _)] at hx; exact hx)), rfl⟩
          exact ⟨oU.new, Nat.le_trans hb (Nat.le_succ _), ⟨hl.1, fun x hx => hl.2 x (Nat.le_of_succ_le hx)⟩, hE.hp (fun x hx => u_nx (by omega)), hA, ⟨l0, h1.hp (ns (by decide)), hS3.hp (ns (by decide)), h2.hp hl.1 (ns (by decide)), h3'.hp (ns (by decide))⟩, hbm.hp hl.1 (Nat.le_succ _) (ns (by decide)), hQ U _ lab lab σ2 σ2 bkv ptv (ns (by unfold qLb; decide)) ⟨fun _ _ => rfl, fun _ _ => rfl, Or.inl rfl⟩ hq⟩
        · rw [z, fre U.1 (Nat.le_refl _)] at hx
          omega
end C8
