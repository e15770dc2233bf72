/-! PLAIN: the calls: fault, where, trouble, sink, grip, dead -/
theorem mQ_T {σ : MS} {t : Int32} : mQ σ (mT σ t) := ⟨fun k hk => by rcases hk with rfl | rfl | rfl | rfl | rfl | rfl | rfl <;> rfl, fun j _ => rfl, Or.inl rfl⟩
theorem mQ_0 {σ : MS} : mQ σ (mSet σ 0 0) := ⟨fun k hk => by rcases hk with rfl | rfl | rfl | rfl | rfl | rfl | rfl <;> rfl, fun j _ => rfl, Or.inl rfl⟩
/-- behind a call of the class -/
def xStep (b : Nat) (g : uEnv) (A : pA) (ad sa : Nat → Nat) (Q : qT) (U : UH) (lab : Nat → Nat) (U' : UH) (σ' : MS) (dc ds : Nat) : Prop := ∃ lab' : Nat → Nat, xSt b g A ad sa Q U' lab' σ' ∧ (∀ x, lab x = 10 → U'.2.2 x = U.2.2 x) ∧ U'.1 = U.1 + dc ∧ U'.2.1 = U.2.1 + ds
theorem uLb.set {lab : Nat → Nat} {U : UH} {a : Nat} {e : uE} {p : Nat → Prop} (h : ¬ p (lab a)) : uLb lab lab U (uSet U a e) p := fun x hx => ⟨u_sn (fun z => h (by rw [← z]; exact hx)), rfl⟩
/-- the object is written -/
theorem xSi.put {b : Nat} {g : uEnv} {A : pA} {ad sa : Nat → Nat} {Q : qT} {U : UH} {lab : Nat → Nat} {σ : MS} {bkv mpv ptv : Value} {e e' : uE} (hQ : qOk Q) (h : xSi b g A ad sa Q U lab σ bkv mpv ptv) (hx : U.2.2 (ad 0) = some e) : xSi b g A ad sa Q (uSet U (ad 0) e') lab σ bkv mpv ptv := by
  obtain ⟨ho, hb, ⟨hl, hf⟩, hE, hA, ⟨l0, h1, hS, h2, h3⟩, hbm, hq⟩ := h
  have ba : b ≤ ad 0 := lab_ge hl (by omega)
  have ns : ∀ {p : Nat → Prop}, ¬ p 1 → uLb lab lab U (uSet U (ad 0) e') p := fun hp => uLb.set (by rw [l0]; exact hp)
  exact ⟨ho.set hx, hb, ⟨hl, hf⟩, hE.hp (fun x hx => u_sn (by omega)), hA, ⟨l0, h1.hp (ns (by decide)), hS.hp (ns (by decide)), h2.hp hl (ns (by decide)), h3.hp (ns (by decide))⟩, hbm.hp hl (show U.1 ≤ (uSet U (ad 0) e').1 from Nat.le_refl _) (ns (by decide)), hQ _ _ _ _ _ _ _ _ (ns (by unfold qLb; decide)) ⟨fun _ _ => rfl, fun _ _ => rfl, Or.inl rfl⟩ hq⟩
theorem xSi.fin {b : Nat} {g : uEnv} {A : pA} {ad sa : Nat → Nat} {Q : qT} {U0 U : UH} {lab0 lab : Nat → Nat} {σ : MS} {bkv mpv ptv : Value} {e : uE} {dc ds : Nat} (hQ : qOk Q) (h : xSi b g A ad sa Q U lab σ bkv mpv ptv) (hx : U.2.2 (ad 0) = some e) (h0 : lab0 (ad 0) = 1) (hm : ∀ x, lab0 x = 10 → U.2.2 x = U0.2.2 x) (h1 : U.1 = U0.1 + dc) (h2 : U.2.1 = U0.2.1 + ds) : xStep b g A ad sa Q U0 lab0 (uSet U (ad 0) (xO ad σ bkv mpv ptv)) σ dc ds :=
  ⟨lab, ⟨bkv, mpv, ptv, u_ss, h.put hQ hx⟩, fun x q => (u_sn (fun z => by rw [z, h0] at q; omega)).trans (hm x q), h1, h2⟩
/-- the model says another trouble -/
theorem xSi.tr {b : Nat} {g : uEnv} {A : pA} {ad sa : Nat → Nat} {Q : qT} {U : UH} {lab : Nat → Nat} {σ : MS} {bkv mpv ptv : Value} {t : Int32} (hQ : qOk Q) (h : xSi b g A ad sa Q U lab σ bkv mpv ptv) : xSi b g A ad sa Q U lab (mT σ t) bkv mpv ptv := by
  obtain ⟨ho, hb, hl, hE, hA, ⟨l0, h1, hS, h2, h3⟩, hbm, hq⟩ := h
  exact ⟨ho, hb, hl, hE, hA, ⟨l0, h1, hS, h2, h3⟩, hbm, hQ _ _ _ _ _ _ _ _ (fun x _ => ⟨rfl, rfl⟩) mQ_T hq⟩
theorem xSt.tr {b : Nat} {g : uEnv} {A : pA} {ad sa : Nat → Nat} {Q : qT} {U : UH} {lab : Nat → Nat} {σ : MS} {bkv mpv ptv : Value} {t : Int32} (hQ : qOk Q) (hx : U.2.2 (ad 0) = some (xO ad σ bkv mpv ptv)) (h : xSi b g A ad sa Q U lab σ bkv mpv ptv) : xStep b g A ad sa Q U lab (uSet U (ad 0) (xO ad (mT σ t) bkv mpv ptv)) (mT σ t) 0 0 := (h.tr hQ).fin hQ hx h.2.2.2.2.2.1.1 (fun _ _ => rfl) rfl rfl
theorem xSt.th {b : Nat} {g : uEnv} {A : pA} {ad sa : Nat → Nat} {Q : qT} {U : UH} {lab : Nat → Nat} {σ : MS} (hQ : qOk Q) (h : xSt b g A ad sa Q U lab σ) : xStep b g A ad sa Q U lab U (mSet σ 0 0) 0 0 := by
  obtain ⟨bkv, mpv, ptv, hx, ho, hb, hl, hE, hA, ⟨l0, h1, hS, h2, h3⟩, hbm, hq⟩ := h
  exact ⟨lab, ⟨bkv, mpv, ptv, hx, ho, hb, hl, hE, hA, ⟨l0, h1, hS, h2, h3⟩, hbm, hQ _ _ _ _ _ _ _ _ (fun x _ => ⟨rfl, rfl⟩) mQ_0 hq⟩, fun x _ => rfl, rfl, rfl⟩
section C1
variable {N b : Nat} {g : uEnv} {A : pA} {ad sa : Nat → Nat} {Q : qT} {U : UH} {lab : Nat → Nat} {σ : MS}
theorem k_fault (hQ : qOk Q) (h : xSt b g A ad sa Q U lab σ) : ∃ r U' σ', f_X1_fault N b g U (ad 0) = some (r, U') ∧ f_fault N σ = some (r, σ') ∧ xStep b g A ad sa Q U lab U' σ' 0 0 := by
  have h' := h
  obtain ⟨bkv, mpv, ptv, hx, -⟩ := h'
  refine ⟨σ.1 9, U, mSet σ 0 0, ?_, rfl, h.th hQ⟩
  unfold f_X1_fault
  rw [v_gi hx (k := 6) rfl, p_bs]
theorem k_trouble (hQ : qOk Q) (h : xSt b g A ad sa Q U lab σ) : ∃ r U' σ', f_X1_trouble N b g U (ad 0) = some (r, U') ∧ f_trouble N σ = some (r, σ') ∧ xStep b g A ad sa Q U lab U' σ' 0 0 := by
  have h' := h
  obtain ⟨bkv, mpv, ptv, hx, -⟩ := h'
  refine ⟨σ.1 39, U, mSet σ 0 0, ?_, rfl, h.th hQ⟩
  unfold f_X1_trouble
  rw [v_gi hx (k := 0) rfl, p_bs]
theorem k_where (hQ : qOk Q) (h : xSt b g A ad sa Q U lab σ) : ∃ r U' σ', f_X1_where N b g U (ad 0) = some (r, U') ∧ f_where N σ = some (r, σ') ∧ xStep b g A ad sa Q U lab U' σ' 0 0 := by
  have h' := h
  obtain ⟨bkv, mpv, ptv, hx, -⟩ := h'
  refine ⟨if σ.1 39 = 4 then σ.1 10 else -1, U, mSet σ 0 0, ?_, ?_, h.th hQ⟩
  · unfold f_X1_where
    rw [v_gi hx (k := 1) rfl, p_bs]
  · unfold f_where f_where_21
    rw [p_let]
    show (if σ.1 39 = 4 then some (σ.1 10, mSet σ 0 0) else some (-1, mSet σ 0 0)) = _
    split <;> rfl
/-- what a refused call leaves -/
theorem k_ref {t : Int32} (h4 : t ≠ 4) (hQ : qOk Q) (h : xSt b g A ad sa Q U lab σ) : ∃ U', f_X1_refused N b g U (ad 0) t = some (-1, U') ∧ xStep b g A ad sa Q U lab U' (mT σ t) 0 0 := by
  have h' := h
  obtain ⟨bkv, mpv, ptv, hx, hi⟩ := h'
  have hl := hi.2.2.1.1
  have l0 := hi.2.2.2.2.2.1.1
  exact ⟨_, x_ref h4 hx (lab_ge hl (by omega)), xSt.tr hQ hx hi⟩
theorem k_don {r : Int32} (hQ : qOk Q) (h : xSt b g A ad sa Q U lab σ) : ∃ U', f_X1_done N b g U (ad 0) r = some (r, U') ∧ xStep b g A ad sa Q U lab U' (mT σ 0) 0 0 := by
  have h' := h
  obtain ⟨bkv, mpv, ptv, hx, hi⟩ := h'
  have hl := hi.2.2.1.1
  have l0 := hi.2.2.2.2.2.1.1
  exact ⟨_, x_don hx (lab_ge hl (by omega)), xSt.tr hQ hx hi⟩
theorem k_den {t : Int32} (h4 : t ≠ 4) (hQ : qOk Q) (h : xSt b g A ad sa Q U lab σ) : ∃ U', f_X1_denied N b g U (ad 0) t = some (0, U') ∧ xStep b g A ad sa Q U lab U' (mT σ t) 0 0 := by
  have h' := h
  obtain ⟨bkv, mpv, ptv, hx, hi⟩ := h'
  have hl := hi.2.2.1.1
  have l0 := hi.2.2.2.2.2.1.1
  exact ⟨_, x_den h4 hx (lab_ge hl (by omega)), xSt.tr hQ hx hi⟩
theorem k_gra (hQ : qOk Q) (h : xSt b g A ad sa Q U lab σ) : ∃ U', f_X1_granted N b g U (ad 0) = some (1, U') ∧ xStep b g A ad sa Q U lab U' (mT σ 0) 0 0 := by
  have h' := h
  obtain ⟨bkv, mpv, ptv, hx, hi⟩ := h'
  have hl := hi.2.2.1.1
  have l0 := hi.2.2.2.2.2.1.1
  exact ⟨_, x_gra hx (lab_ge hl (by omega)), xSt.tr hQ hx hi⟩
theorem k_is (h : xSt b g A ad sa Q U lab σ) : uIs U (ad 0) 0 = true := by
  obtain ⟨bkv, mpv, ptv, hx, -⟩ := h
  exact x_is hx
/-- isGround, of both -/
theorem k_gd (h : xSt b g A ad sa Q U lab σ) (x : Int32) : (f_X1_isGround N b g U (ad 0) x = some (0, U) ∧ f_isGround N (mT σ 0) x = some (0, mT σ 0)) ∨ (f_X1_isGround N b g U (ad 0) x = some (1, U) ∧ f_isGround N (mT σ 0) x = some (1, mT σ 0) ∧ ∃ (d lo hi a al : Nat) (rv : Int32) (nm : Nat → Nat) (B : bBk) (mpv ptv : Value), x = iI d ∧ d < B.2.1 ∧ U.2.2 (ad 0) = some (xO ad σ (.ref a) mpv ptv) ∧ vBk U b lo hi a al rv nm B ∧ bOk B ∧ mBk σ B) := by
  obtain ⟨bkv, mpv, ptv, hx, -, -, -, -, -, -, hbm, -⟩ := h
  rcases hbm with ⟨e1, e2, e3, e4, e5⟩ | ⟨lo, hi, a, al, rv, nm, B, dead, h1, h2, h3, h4, h5, h6, h7, h8, h9, h10⟩
  · subst e1
    exact Or.inl ⟨x_gdN hx, m_gdN e3⟩
  · subst h1
    have h12 : ¬ (mT σ 0).1 12 = 0 := by
      show ¬ σ.1 12 = 0
      rw [h2]
      decide
    have c := x_gd (N := N) (b := b) (g := g) hx h3 h4 (i_S x)
    have d := m_gd (N := N) (σ := mT σ 0) (x := x.toInt) h12 h5 h4 (i_S x)
    rw [← i_of x] at c d
    by_cases q : 0 ≤ x.toInt ∧ x.toInt ≤ (B.2.1 : Int) - 1
    · rw [iB_1 q] at c d
      refine Or.inr ⟨c, d, x.toInt.toNat, lo, hi, a, al, rv, nm, B, mpv, ptv, ?_, by omega, hx, h3, h4, h5⟩
      conv => lhs; rw [i_of x]
      congr 1
      omega
    · rw [iB_0 q] at c d
      exact Or.inl ⟨c, d⟩
/-- a number between bounds, of both -/
theorem k_in {lo hi : Int} (h1 : -2147483648 ≤ lo ∧ lo ≤ 2147483647) (h2 : -2147483648 ≤ hi ∧ hi ≤ 2147483647) (x : Int32) (U : UH) (σ : MS) : (f_X1_in N b g U x (iI lo) (iI hi) = some (0, U) ∧ f_within N σ x (iI lo) (iI hi) = some (0, σ)) ∨ (f_X1_in N b g U x (iI lo) (iI hi) = some (1, U) ∧ f_within N σ x (iI lo) (iI hi) = some (1, σ) ∧ ∃ i : Int, x = iI i ∧ lo ≤ i ∧ i ≤ hi) := by
  have c := x_in (N := N) (b := b) (g := g) (u := U) (i_S x) h1 h2
  have d := m_in (N := N) (σ := σ) (i_S x) h1 h2
  rw [← i_of x] at c d
  by_cases q : lo ≤ x.toInt ∧ x.toInt ≤ hi
  · rw [iB_1 q] at c d
    exact Or.inr ⟨c, d, x.toInt, i_of x, q⟩
  · rw [iB_0 q] at c d
    exact Or.inl ⟨c, d⟩
theorem k_sink (hQ : qOk Q) (h : xSt b g A ad sa Q U lab σ) (hN : 5 ≤ N) (x y : Int32) : ∃ r U' σ', f_X1_sink N b g U (ad 0) x y = some (r, U') ∧ f_sink N σ x y = some (r, σ') ∧ xStep b g A ad sa Q U lab U' σ' 0 0 := by
  unfold f_X1_sink f_sink f_X1_sink_58 f_sink_52
  rw [if_pos (k_is h), m_good, q_mv]
  rcases k_gd (N := N) h x with ⟨c, d⟩ | ⟨c, d, k, lo, hi, a, al, rv, nm, B, mpv, ptv, e1, e2, e3, e4, e5, e6⟩
  · obtain ⟨U', r1, r2⟩ := k_ref (N := N) (t := 1) (by decide) hQ h
    refine ⟨-1, U', mT σ 1, ?_, ?_, r2⟩
    · rw [c, q_uc, if_pos rfl, if_pos (k_is h), r1, q_uc]
    · rw [d, q_mc, if_pos rfl, m_no, q_mc]
  · rcases k_in (N := N) (b := b) (g := g) (lo := 0) (hi := 999) ⟨by decide, by decide⟩ ⟨by decide, by decide⟩ y U (mT σ 0) with ⟨f1, f2⟩ | ⟨f1, f2, i, f3, f4, f5⟩
    · obtain ⟨U', r1, r2⟩ := k_ref (N := N) (t := 2) (by decide) hQ h
      refine ⟨-1, U', mT σ 2, ?_, ?_, r2⟩
      · rw [c, q_uc, if_neg n10]
        show ucall (f_X1_in N b g U y (iI 0) (iI 999)) _ = _
        rw [f1, q_uc, if_pos rfl, if_pos (k_is h), r1, q_uc]
      · rw [d, q_mc, if_neg n10]
        show mcall (f_within N (mT σ 0) y (iI 0) (iI 999)) _ = _
        rw [f2, q_mc, if_pos rfl, m_no, q_mc]
    · have b5 := e5.2.2.2.2.2.1
      obtain ⟨o1, o2⟩ := e5.2.2.2.2.2.2 k e2
      obtain ⟨⟨k1, k2⟩, -⟩ := e6.2 k e2
      obtain ⟨gl, arr, mm, mc, ga, xs, a1, a2, a3, v1, v2, v3⟩ := e4
      obtain ⟨g1, p, q, g2, g3, g4, g5⟩ := v3 k e2
      have bt := ln_between (N := N) (σ := mT σ 0) k2 o1 (x := i) ⟨by omega, by omega⟩ hN
      have vl := ln_value (N := N) (b := b) (g := g) g4.ln o1 (x := i) ⟨by omega, by omega⟩ hN
      obtain ⟨U', r1, r2⟩ := k_don (N := N) (r := iI (lnV (B.2.2.1 k).2.1 (B.2.2.1 k).2.2 (B.2.2.1 k).1 i)) hQ h
      obtain ⟨i1, i2⟩ := t_ix (a := (k : Int)) (n := mLen 18) (k := k) rfl (by rw [mL18]; omega) (by rw [mL18]; omega)
      obtain ⟨p1, p2, f1', f2', -, -, -, z1, -⟩ := g4
      refine ⟨iI (lnV (B.2.2.1 k).2.1 (B.2.2.1 k).2.2 (B.2.2.1 k).1 i), U', mT σ 0, ?_, ?_, r2⟩
      · rw [c, q_uc, if_neg n10]
        show ucall (f_X1_in N b g U y (iI 0) (iI 999)) _ = _
        rw [f1, q_uc, if_neg n10, x_bk e3, p_bs, p_bs, v_gr v1 (k := 0) rfl, p_bs, p_bs, if_pos (v_is v2.1), e1, l_get v2 (by omega) (by omega), q_uc, show xs (k : Int).toNat = some (ga k) from g1, p_bs, if_pos (v_is g3), v_gr g3 (k := 1) rfl, p_bs, p_bs, if_pos (v_is z1), f3, vl, q_uc, if_pos (k_is h), r1, q_uc]
      · rw [d, q_mc, if_neg n10]
        show mcall (f_within N (mT σ 0) y (iI 0) (iI 999)) _ = _
        rw [f2, q_mc, if_neg n10, e1, if_pos i1, p_let, i2]
        have k1' : (mT σ 0).2.1 18 k = iI (B.2.2.1 k).1 := k1
        rw [k1', f3, bt, q_mc]
theorem k_grip (hQ : qOk Q) (h : xSt b g A ad sa Q U lab σ) (hN : 5 ≤ N) (x y : Int32) : ∃ r U' σ', f_X1_grip N b g U (ad 0) x y = some (r, U') ∧ f_grip N σ x y = some (r, σ') ∧ xStep b g A ad sa Q U lab U' σ' 0 0 := by
  unfold f_X1_grip f_grip f_X1_grip_57 f_grip_51
  rw [if_pos (k_is h), m_good, q_mv]
  rcases k_gd (N := N) h x with ⟨c, d⟩ | ⟨c, d, k, lo, hi, a, al, rv, nm, B, mpv, ptv, e1, e2, e3, e4, e5, e6⟩
  · obtain ⟨U', r1, r2⟩ := k_ref (N := N) (t := 1) (by decide) hQ h
    refine ⟨-1, U', mT σ 1, ?_, ?_, r2⟩
    · rw [c, q_uc, if_pos rfl, if_pos (k_is h), r1, q_uc]
    · rw [d, q_mc, if_pos rfl, m_no, q_mc]
  · rcases k_in (N := N) (b := b) (g := g) (lo := 0) (hi := 90) ⟨by decide, by decide⟩ ⟨by decide, by decide⟩ y U (mT σ 0) with ⟨f1, f2⟩ | ⟨f1, f2, i, f3, f4, f5⟩
    · obtain ⟨U', r1, r2⟩ := k_ref (N := N) (t := 2) (by decide) hQ h
      refine ⟨-1, U', mT σ 2, ?_, ?_, r2⟩
      · rw [c, q_uc, if_neg n10]
        show ucall (f_X1_in N b g U y (iI 0) (iI 90)) _ = _
        rw [f1, q_uc, if_pos rfl, if_pos (k_is h), r1, q_uc]
      · rw [d, q_mc, if_neg n10]
        show mcall (f_within N (mT σ 0) y (iI 0) (iI 90)) _ = _
        rw [f2, q_mc, if_pos rfl, m_no, q_mc]
    · have b5 := e5.2.2.2.2.2.1
      obtain ⟨o1, o2⟩ := e5.2.2.2.2.2.2 k e2
      obtain ⟨-, k1, k2⟩ := e6.2 k e2
      obtain ⟨gl, arr, mm, mc, ga, xs, a1, a2, a3, v1, v2, v3⟩ := e4
      obtain ⟨g1, p, q, g2, g3, g4, g5⟩ := v3 k e2
      have bt := ln_between (N := N) (σ := mT σ 0) k2 o2 (x := i) ⟨by omega, by omega⟩ hN
      have vl := ln_value (N := N) (b := b) (g := g) g5.ln o2 (x := i) ⟨by omega, by omega⟩ hN
      obtain ⟨U', r1, r2⟩ := k_don (N := N) (r := iI (lnV (B.2.2.2 k).2.1 (B.2.2.2 k).2.2 (B.2.2.2 k).1 i)) hQ h
      obtain ⟨i1, i2⟩ := t_ix (a := (k : Int)) (n := mLen 19) (k := k) rfl (by rw [mL19]; omega) (by rw [mL19]; omega)
      obtain ⟨p1, p2, f1', f2', -, -, -, z1, -⟩ := g5
      refine ⟨iI (lnV (B.2.2.2 k).2.1 (B.2.2.2 k).2.2 (B.2.2.2 k).1 i), U', mT σ 0, ?_, ?_, r2⟩
      · rw [c, q_uc, if_neg n10]
        show ucall (f_X1_in N b g U y (iI 0) (iI 90)) _ = _
        rw [f1, q_uc, if_neg n10, x_bk e3, p_bs, p_bs, v_gr v1 (k := 0) rfl, p_bs, p_bs, if_pos (v_is v2.1), e1, l_get v2 (by omega) (by omega), q_uc, show xs (k : Int).toNat = some (ga k) from g1, p_bs, if_pos (v_is g3), v_gr g3 (k := 2) rfl, p_bs, p_bs, if_pos (v_is z1), f3, vl, q_uc, if_pos (k_is h), r1, q_uc]
      · rw [d, q_mc, if_neg n10]
        show mcall (f_within N (mT σ 0) y (iI 0) (iI 90)) _ = _
        rw [f2, q_mc, if_neg n10, e1, if_pos i1, p_let, i2]
        have k1' : (mT σ 0).2.1 19 k = iI (B.2.2.2 k).1 := k1
        rw [k1', f3, bt, q_mc]
end C1
