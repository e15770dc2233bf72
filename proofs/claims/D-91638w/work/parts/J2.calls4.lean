/-! PLAIN: the calls first, led, dig, make -/
def dMx (v : Nat → Nat) : Nat → Nat
  | 0 => 0
  | k + 1 => if dMx v k < v k then v k else dMx v k
theorem dMx_le {v : Nat → Nat} : ∀ w, (∀ k, k < w → v k ≤ 4) → dMx v w ≤ 4 := by
  intro w
  induction w with
  | zero => intro _; exact Nat.zero_le _
  | succ w ih =>
    intro h
    have h1 := ih (fun k hk => h k (by omega))
    have h2 := h w (by omega)
    show (if dMx v w < v w then v w else dMx v w) ≤ 4
    split <;> omega
theorem dMx_z {v : Nat → Nat} {w : Nat} : ∀ j, (∀ k, w ≤ k → k < w + j → v k = 0) → dMx v (w + j) = dMx v w := by
  intro j
  induction j with
  | zero => intro _; rfl
  | succ j ih =>
    intro h
    have h1 := ih (fun k q1 q2 => h k q1 (by omega))
    show (if dMx v (w + j) < v (w + j) then v (w + j) else dMx v (w + j)) = _
    rw [h1, h (w + j) (by omega) (by omega), if_neg (by omega)]
theorem c_deep {N b : Nat} {g : uEnv} {u : UH} {ad : Nat → Nat} {σ : MS} {bk mp pt : Value} {v : Nat → Nat} {f : Nat → Int32} (hx : u.2.2 (ad 0) = some (xO ad σ bk mp pt)) (hd : u.2.2 (ad 5) = some (.inl (0, 6, .inl f))) (hv : ∀ k, k < 6 → f k = iI (v k) ∧ v k ≤ 4) (hN : 10 ≤ N) : f_X1_deepest N b g u (ad 0) = some (iI ((dMx v 6 : Nat) : Int), u) := by
  have lp : ∀ (m k : Nat), k ≤ 6 → 6 < k + m → f_X1_deepest_13 N b g (ad 0) m u (iI ((dMx v k : Nat) : Int)) (some (ad 5)) (iI ((6 : Nat) : Int)) (iI k) = some (iI ((dMx v 6 : Nat) : Int), u) := by
    intro m
    induction m with
    | zero => intro k h1 h2; omega
    | succ m ih =>
      intro k h1 h2
      rw [f_X1_deepest_13]
      by_cases hk : k = 6
      · subst hk
        rw [p_le (by omega) (by omega) (by omega) (by omega) (by omega)]
      · have ek : iI (k : Int) + 1 = iI ((k + 1 : Nat) : Int) := by
          rw [j1, i_add]
          rfl
        have d4 := dMx_le (v := v) k (fun j hj => (hv j (by omega)).2)
        obtain ⟨v1, v2⟩ := hv k (by omega)
        have Ld : uLdI u (ad 5) 0 (iI (k : Int)) = some (f k) := u_ldI hd (by omega) (by omega) (by omega)
        rw [n_le (by omega) (by omega) (by omega) (by omega) (by omega), p_bs, Ld, p_bs, v1, j_max (by omega) (by omega) (by omega) (by omega), q_uc, ek, p_let]
        have := ih (k + 1) (by omega) (by omega)
        rw [← this]
        have q : (if ((dMx v k : Nat) : Int) < (v k : Int) then (v k : Int) else ((dMx v k : Nat) : Int)) = ((dMx v (k + 1) : Nat) : Int) := by
          show _ = (((if dMx v k < v k then v k else dMx v k) : Nat) : Int)
          split <;> split <;> omega
        rw [q]
  have := lp N 0 (by omega) (by omega)
  unfold f_X1_deepest
  rw [v_gr hx (k := 14) rfl, p_bs, p_bs, u_len hd, p_bs]
  exact this
theorem m_most {N : Nat} {σ : MS} {w : Nat} {v : Nat → Nat} (h12 : ¬ σ.1 12 = 0) (h24 : σ.1 24 = iI w) (hw : w ≤ 6) (hv : ∀ k, k < 6 → σ.2.1 47 k = iI (v k) ∧ v k ≤ 4) (hN : 10 ≤ N) : f_mostDug N σ = some (iI ((dMx v w : Nat) : Int), σ) := by
  have lp : ∀ (m k : Nat), k ≤ w → w < k + m → f_mostDug_4 N m σ (iI ((dMx v k : Nat) : Int)) (iI k) = some (iI ((dMx v w : Nat) : Int), σ) := by
    intro m
    induction m with
    | zero => intro k h1 h2; omega
    | succ m ih =>
      intro k h1 h2
      rw [f_mostDug_4, h24]
      by_cases hk : k = w
      · subst hk
        rw [p_le (by omega) (by omega) (by omega) (by omega) (by omega)]
        rfl
      · have ek : iI (k : Int) + 1 = iI ((k + 1 : Nat) : Int) := by
          rw [j1, i_add]
          rfl
        have d4 := dMx_le (v := v) k (fun j hj => (hv j (by omega)).2)
        obtain ⟨v1, v2⟩ := hv k (by omega)
        obtain ⟨t1, t2⟩ := t_ix (a := (k : Int)) (n := mLen 47) (k := k) rfl (by rw [show mLen 47 = 6 from rfl]; omega) (by rw [show mLen 47 = 6 from rfl]; omega)
        have ihh := ih (k + 1) (by omega) (by omega)
        have q : dMx v (k + 1) = (if dMx v k < v k then v k else dMx v k) := rfl
        unfold f_mostDug_39
        rw [n_le (by omega) (by omega) (by omega) (by omega) (by omega), if_neg h12, if_pos t1, p_let, t2, v1]
        by_cases c : v k ≤ dMx v k
        · rw [p_le (by omega) (by omega) (by omega) (by omega) (by omega), ek, p_let]
          rw [q, if_neg (by omega)] at ihh
          exact ihh
        · rw [n_le (by omega) (by omega) (by omega) (by omega) (by omega), if_pos t1, p_let, ek, p_let]
          rw [q, if_pos (by omega)] at ihh
          exact ihh
  exact lp N 0 (by omega) (by omega)
theorem m_most0 {N : Nat} {σ : MS} (h12 : σ.1 12 = 0) (hN : 10 ≤ N) : f_mostDug N σ = some (0, σ) := by
  obtain ⟨m, rfl⟩ : ∃ m, N = m + 1 := ⟨N - 1, by omega⟩
  unfold f_mostDug
  rw [f_mostDug_4, if_pos h12]
  unfold f_mostDug_46
  split <;> rfl
section G2s
variable {N b : Nat} {g : uEnv} {A : pA} {ad sa : Nat → Nat} {Q : qT} {U U' : UH} {lab lab' : Nat → Nat} {σ σ' : MS}
theorem xSi.gen {bkv mpv ptv bkv' mpv' ptv' : Value} (hI : xSi b g A ad sa Q U lab σ bkv mpv ptv) (ho : uOld U') (hU : U.1 ≤ U'.1) (hlb : ∀ x, x < U.1 → lab' x = lab x) (hfe : ∀ x, U'.1 ≤ x → lab' x = 11) (hc : ∀ x, x < b → U'.2.2 x = U.2.2 x) (h1 : xTp U' lab' σ' (ad 1)) (h2 : xSo U' lab' (ad 2) sa) (h3 : xCl b g U' lab' σ' (ad 3)) (h4 : xDg U' lab' σ' (ad 5)) (h5 : xBM b g U' lab' σ' bkv' mpv') (h6 : Q U' lab' σ' bkv' ptv') : xSi b g A ad sa Q U' lab' σ' bkv' mpv' ptv' := by
  obtain ⟨-, hb, ⟨hl, hf⟩, hE, hA, ⟨l0, -⟩, -⟩ := hI
  have lt : ∀ {x L}, lab x = L → L ≠ 11 → lab' x = L := fun {x L} q z => (hlb x (by
    apply Classical.byContradiction
    intro y
    have := hf x (by omega)
    omega)).trans q
  exact ⟨ho, by omega, ⟨fun x hx => (hlb x (by omega)).trans (hl x hx), hfe⟩, hE.hp hc, ⟨lt hA.1 (by decide), fun j hj => lt (hA.2 j hj) (by decide)⟩, ⟨lt l0 (by decide), h1, h2, h3, h4⟩, h5, h6⟩
theorem xSi.lb {bkv mpv ptv : Value} {p : Nat → Prop} (hI : xSi b g A ad sa Q U lab σ bkv mpv ptv) (hlb : ∀ x, x < U.1 → lab' x = lab x) (hfr : ∀ x, x < U.1 → p (lab x) → U'.2.2 x = U.2.2 x) (h11 : ¬ p 11) : uLb lab lab' U U' p := fun x hx => by
  have lt : x < U.1 := by
    apply Classical.byContradiction
    intro y
    have := hI.2.2.1.2 x (by omega)
    rw [this] at hx
    exact h11 hx
  exact ⟨hfr x lt hx, hlb x lt⟩
theorem xSi.lt {bkv mpv ptv : Value} {x L : Nat} (hI : xSi b g A ad sa Q U lab σ bkv mpv ptv) (h : lab x = L) (hL : L ≠ 11) : x < U.1 := by
  apply Classical.byContradiction
  intro y
  have := hI.2.2.1.2 x (by omega)
  omega
/-- a cell that nobody asks for -/
theorem xSi.junk {bkv mpv ptv : Value} {k : Nat} {e : uE} (hQ : qOk Q) (hI : xSi b g A ad sa Q U lab σ bkv mpv ptv) : xSi b g A ad sa Q (uNew U k e) lab σ bkv mpv ptv := by
  have hI' := hI
  obtain ⟨ho, hb, ⟨hl, hf⟩, hE, hA, ⟨l0, h1, hS, h2, h3⟩, hbm, hq⟩ := hI'
  have ns : ∀ {p : Nat → Prop}, ¬ p 11 → uLb lab lab U (uNew U k e) p := fun hp => hI.lb (fun _ _ => rfl) (fun x hx _ => u_nx (by omega)) hp
  exact hI.gen ho.new (Nat.le_succ _) (fun _ _ => rfl) (fun x hx => hf x (by
    have : U.1 + 1 ≤ x := hx
    omega)) (fun x hx => u_nx (by omega)) (h1.hp (ns (by decide))) (hS.hp (ns (by decide))) (h2.hp hl (ns (by decide))) (h3.hp (ns (by decide))) (hbm.hp hl (Nat.le_succ _) (ns (by decide))) (hQ _ _ _ _ _ _ _ _ (ns (by unfold qLb; decide)) ⟨fun _ _ => rfl, fun _ _ => rfl, Or.inl rfl⟩ hq)
theorem k_first (hQ : qOk Q) (h : xSt b g A ad sa Q U lab σ) (x : Int32) : ∃ r U' σ', f_X1_first N b g U (ad 0) x = some (r, U') ∧ f_first N σ x = some (r, σ') ∧ xStep b g A ad sa Q U lab U' σ' 0 0 := by
  have h' := h
  obtain ⟨bkv, mpv, ptv, hx, -⟩ := h'
  unfold f_X1_first f_first f_X1_first_36 f_first_41
  rw [p_let, v_gi hx (k := 11) rfl, v_gi hx (k := 12) rfl, v_gi hx (k := 13) rfl, p_bs, p_bs, p_bs]
  refine ⟨if x = 0 then σ.1 63 else if x = 1 then σ.1 64 else if x = 2 then σ.1 65 else -1, U, mSet σ 0 0, ?_, ?_, h.th hQ⟩
  · split
    · rfl
    · split
      · rfl
      · split <;> rfl
  · split
    · rfl
    · split
      · rfl
      · split <;> rfl
end G2s
section G3s
variable {N b : Nat} {g : uEnv} {A : pA} {ad sa : Nat → Nat} {U : UH} {lab : Nat → Nat} {σ : MS} {ou : Nat} {u0 : UH}
theorem k_dig (h : xSt b g A ad sa (qA g (ad 4) b u0 ou) U lab σ) (x y : Int32) : ∃ r U' σ', f_X1_dig N b g U (ad 0) x y = some (r, U') ∧ f_dig N σ x y = some (r, σ') ∧ xStep b g A ad sa (qA g (ad 4) b u0 ou) U lab U' σ' 0 0 := by
  have hQ : qOk (qA g (ad 4) b u0 ou) := qA_ok
  obtain ⟨U1, n1, n2⟩ := k_den (N := N) (t := 1) (by decide) hQ h
  obtain ⟨U2, n3, n4⟩ := k_den (N := N) (t := 2) (by decide) hQ h
  unfold f_X1_dig f_dig f_X1_dig_24 f_dig_25
  rw [m_good, q_mv]
  have hi0 := k_is h
  obtain ⟨bkv, mpv, ptv, hx, hI⟩ := h
  have hI' := hI
  obtain ⟨oU, hb, ⟨hl, hfr⟩, hE, hA, ⟨l0, h1, hS3, h2, h3⟩, hbm, hq⟩ := hI'
  have ba0 : b ≤ ad 0 := lab_ge hl (by omega)
  have hbm' := hbm
  rcases hbm with ⟨e1, e2, e3, e4, e5⟩ | ⟨lo, hi, a, al, rv, nm, B, dead, q1, q2, q3, q4, q5, q6, q7, q8, q9, q10⟩
  · subst e1
    refine ⟨0, U1, mT σ 1, ?_, ?_, n2⟩
    · rw [x_bkn hx, p_bs, q_cn, if_pos hi0, n1, q_uc, if_pos uF0]
    · rw [if_pos (show (mT σ 0).1 12 = 0 from e3), m_not, q_mc, if_pos mB0]
  · subst q1
    obtain ⟨gl, arr, mm, mc, ga, xs, a1, a2, a3, v1, v2, v3⟩ := q3
    have hw := q4.1
    have ew : iI (B.1 0) - 1 = iI (B.1 0 - 1) := by rw [j1, i_sub]
    have k24 : (mT σ 0).1 24 = iI (B.1 0) := q5.1.1
    rw [x_bk hx, p_bs, q_cs, p_bs, p_bs, v_gi v1 (k := 3) rfl, p_bs, ew, if_neg (show ¬ (mT σ 0).1 12 = 0 by
      show ¬ σ.1 12 = 0
      rw [q2]
      decide), k24, ew]
    rcases k_in (N := N) (b := b) (g := g) (lo := 0) (hi := B.1 0 - 1) ⟨by decide, by decide⟩ ⟨by omega, by omega⟩ x U (mT σ 0) with ⟨f1, f2⟩ | ⟨f1, f2, i, f3, f4, f5⟩
    · have f1' : f_X1_in N b g U x 0 (iI (B.1 0 - 1)) = some (0, U) := f1
      have f2' : f_within N (mT σ 0) x 0 (iI (B.1 0 - 1)) = some (0, mT σ 0) := f2
      refine ⟨0, U1, mT σ 1, ?_, ?_, n2⟩
      · rw [f1', q_uc, if_pos rfl, if_pos hi0, n1, q_uc, if_pos uF0]
      · rw [f2', q_mc, if_pos rfl, m_not, q_mc, if_pos mB0]
    · have f1' : f_X1_in N b g U x 0 (iI (B.1 0 - 1)) = some (1, U) := f1
      have f2' : f_within N (mT σ 0) x 0 (iI (B.1 0 - 1)) = some (1, mT σ 0) := f2
      rw [f1', f2', q_uc, q_mc, if_neg n10, if_neg n10]
      rcases k_in (N := N) (b := b) (g := g) (lo := 0) (hi := 4) ⟨by decide, by decide⟩ ⟨by decide, by decide⟩ y U (mT σ 0) with ⟨d1, d2⟩ | ⟨d1, d2, j, d3, d4, d5⟩
      · have d1' : f_X1_in N b g U y 0 4 = some (0, U) := d1
        have d2' : f_within N (mT σ 0) y 0 4 = some (0, mT σ 0) := d2
        refine ⟨0, U2, mT σ 2, ?_, ?_, n4⟩
        · rw [d1', q_uc, if_pos rfl, if_pos hi0, n3, q_uc, if_pos uF0]
        · rw [d2', q_mc, if_pos rfl, m_not, q_mc, if_pos mB0]
      · have d1' : f_X1_in N b g U y 0 4 = some (1, U) := d1
        have d2' : f_within N (mT σ 0) y 0 4 = some (1, mT σ 0) := d2
        obtain ⟨k, rfl⟩ : ∃ k : Nat, i = (k : Int) := ⟨i.toNat, by omega⟩
        have hw1 : B.1 0 ≤ 6 := by omega
        have hk6 : k < 6 := by omega
        obtain ⟨l6, f, v, w1, w2⟩ := h3
        have st : uStI b U (ad 5) 0 (iI (k : Int)) (iI j) = some (uSet U (ad 5) (.inl (0, 6, .inl (upd f k (iI j))))) := u_stI w1 (lab_ge hl (by omega)) (by omega) (by omega) (by omega)
        obtain ⟨t1, t2⟩ := t_ix (a := (k : Int)) (n := mLen 47) (k := k) rfl (by rw [show mLen 47 = 6 from rfl]; omega) (by rw [show mLen 47 = 6 from rfl]; omega)
        have nx0 : ad 0 ≠ ad 5 := fun z => by rw [z] at l0; omega
        have hx1 : (uSet U (ad 5) (.inl (0, 6, .inl (upd f k (iI j))))).2.2 (ad 0) = some (xO ad σ (.ref a) mpv ptv) := (u_sn nx0).trans hx
        have ns : ∀ {p : Nat → Prop}, ¬ p 6 → uLb lab lab U (uSet U (ad 5) (.inl (0, 6, .inl (upd f k (iI j))))) p := fun hp => uLb.set (by rw [l6]; exact hp)
        have nd : xDg (uSet U (ad 5) (.inl (0, 6, .inl (upd f k (iI j))))) lab (mArr (mT σ 0) 47 k (iI j)) (ad 5) := by
          refine ⟨l6, _, zU v k j, u_ss, fun q hq => ?_⟩
          show upd f k (iI j) q = _ ∧ upd (σ.2.1 47) k (iI j) q = _ ∧ _
          by_cases c : q = k
          · subst c
            rw [upd_s, upd_s, zU_s]
            exact ⟨rfl, rfl, d4, d5⟩
          · rw [upd_n c, upd_n c, zU_n c]
            exact w2 q hq
        have nq : qA g (ad 4) b u0 ou (uSet U (ad 5) (.inl (0, 6, .inl (upd f k (iI j))))) lab (mArr (mT σ 0) 47 k (iI j)) (.ref a) ptv := by
          have hq2 : qA g (ad 4) b u0 ou (uSet U (ad 5) (.inl (0, 6, .inl (upd f k (iI j))))) lab (mT σ 0) (.ref a) ptv := hQ _ _ _ _ _ _ _ _ (ns (by unfold qLb; decide)) mQ_T hq
          obtain ⟨r1, r2, r3, r4, r5⟩ := hq2
          refine ⟨r1, ?_, r3, r4, r5⟩
          refine ⟨fun z => ?_, fun w' z1 z2 q hq hwq => ?_⟩
          · exfalso
            have z' : σ.1 12 = 0 := z
            rw [q2] at z'
            exact absurd z' (by decide)
          · show upd (σ.2.1 47) k (iI j) q = 0
            have z1' : σ.1 24 = iI w' := z1
            have e24 : iI (w' : Int) = iI (B.1 0) := z1'.symm.trans k24
            rw [j_eq (by omega) (by omega) (by omega) (by omega)] at e24
            rw [upd_n (by omega)]
            exact r2.2 w' z1' z2 q hq hwq
        have sg : xSi b g A ad sa (qA g (ad 4) b u0 ou) (uSet U (ad 5) (.inl (0, 6, .inl (upd f k (iI j))))) lab (mArr (mT σ 0) 47 k (iI j)) (.ref a) mpv ptv := hI.gen (oU.set w1) (Nat.le_refl _) (fun _ _ => rfl) hfr (fun z hz => u_sn (fun e => by
          have := hl z hz
          rw [e, l6] at this
          omega)) (h1.hp (ns (by decide))) (hS3.hp (ns (by decide))) (h2.hp hl (ns (by decide))) nd (hbm'.hp hl (Nat.le_refl U.1) (ns (by decide))) nq
        refine ⟨1, uSet (uSet U (ad 5) (.inl (0, 6, .inl (upd f k (iI j))))) (ad 0) (xO ad (mT σ 0) (.ref a) mpv ptv), mArr (mT σ 0) 47 k (iI j), ?_, ?_, k_fins hQ sg hx1 l0 (fun x q => u_sn (fun z => by rw [z, l6] at q; omega)) rfl rfl rfl ⟨rfl, rfl, rfl, rfl, rfl, rfl, rfl⟩⟩
        · rw [d1', q_uc, if_neg n10, v_gr hx (k := 14) rfl, p_bs, p_bs, f3, d3, st, p_bs, if_pos (v_is hx1), x_gra hx1 ba0, q_uc, if_pos uF1]
        · rw [d2', q_mc, if_neg n10, f3, d3, if_pos t1, p_let, t2]
end G3s
